/-! PURE LAW 47: a man is told -/
set_option maxRecDepth 100000
section MA
variable {n0 g txa : Nat} {Xp : Jr} {F N : Nat} {P E : Nat → Nat} {a : Nat} {Q J : Ji} {K : Jl} {T : Th}
theorem FM.man118 {x : Int32} (h : FM J) : M_tellMan_B118 F x J K = some (J, K) := by
  unfold M_tellMan_B118
  rw [h.must, Option.bind_some, if_neg h.n0.2.1]
theorem FM.man114 {x y : Int32} {i : Nat} (h : FM J) (hi : i < 12) : M_tellMan_B114 F x y 0 (iN i) J K = some (uJ J 32 i 0, K) := by
  unfold M_tellMan_B114
  rw [h.bounded, Option.bind_some]
  show (stI J 32 12 (iN i) 0 fun J14 => M_tellMan_B118 F x J14 K) = _
  rw [stI_n (by omega) (by omega), (h.u (by omega)).man118]
theorem FT.man114 {x y v : Int32} {i : Nat} {J1 : Ji} (h : FT Q J1) (hi : i < 12) (hb : M_bounded 0 y J = some (v, J1)) : M_tellMan_B114 F x y 0 (iN i) J K = some (uJ J1 32 i v, K) := by
  unfold M_tellMan_B114
  rw [hb, Option.bind_some]
  show (stI J1 32 12 (iN i) v fun J14 => M_tellMan_B118 F x J14 K) = _
  rw [stI_n (by omega) (by omega), (h.fm.u (by omega)).man118]
/-- "man" name room ("left" task int)? ";" -/
theorem p_man (hF : 2100 ≤ F) (h : IVx n0 g txa Xp N P E a Q J K T) (hk : Q 5 a = iN 3) : StO n0 g txa Xp N P E a Q J K T (xb (R_told_B24 F Xp 8 Q T) fun r => R_sign Xp 59 r.1 r.2) (ldI J 29 2 (J 0 19) fun x2 => (M_roomFor x2 6 J).bind fun r3 => if (r3 0 13) = 0 then (M_tellMan F r3 K).bind fun r4 => some (r4.1, r4.2) else some (r3, K)) := by
  obtain ⟨Y, b, ar, e, nl, Nn, sg, id_, nm, nb, nc, hI⟩ := h
  have hI0 := hI
  obtain ⟨h1, h2, h3, h4, h5, ⟨h6, h6b⟩, h7, h8, ⟨h9, h10⟩, h11⟩ := hI
  have hNN := h1.n
  have ha := h1.2.1
  have hl0 := h3
  obtain ⟨l1, l2, l3, l4, l5⟩ := h3
  have g2 := (h4.2.1 4 (Or.inl (by omega))).1
  have hdR : ∀ {α : Type} (T' : Th) (j : Nat) (hj : j < 5) (hb : BdH n0 T' txa (xk Y) Y b ar e nl) (f : Option Nat → Option α), dR T' txa 4 j f = f (some (b j)) := fun T' j hj hb f => by rw [dR_p hb.1.1, hb.1.2.2.1 j hj]
  obtain ⟨⟨j1, j2⟩, ⟨j3, j4⟩, j5, j6, j7⟩ := h7
  have j17 : J 29 g = iN (xm Y) := j4.2.2.2.1
  rw [show (ldI J 29 2 (J 0 19) fun x2 => (M_roomFor x2 6 J).bind fun r3 => if (r3 0 13) = 0 then (M_tellMan F r3 K).bind fun r4 => some (r4.1, r4.2) else some (r3, K)) = (M_roomFor (iN (xm Y)) 6 J).bind fun r3 => if (r3 0 13) = 0 then (M_tellMan F r3 K).bind fun r4 => some (r4.1, r4.2) else some (r3, K) by rw [j2, ldI_n (by omega) (by omega), j17]]
  have hxT : R_told_B24 F Xp 8 Q T = xb (R_man F Xp Q T) fun r56 => some (.inr (r56.1, r56.2)) := by
    unfold R_told_B24
    rw [if_neg (by decide), if_neg (by decide), if_neg (by decide), if_neg (by decide), if_neg (by decide), if_pos rfl]
  rw [hxT, xb_et]
  have hxC : R_man F Xp Q T = xb (R_begins Xp (iN (xm Y)) 6 Q T) fun r5 => nO r5.2 14 5 fun T6 => xb (R_name F Xp r5.1 T6) fun r7 => (r7.1).bind fun b8 => (A_Man (tN r5.2) b8 r7.2.2).bind fun r9 => dR r9 txa 4 0 fun x11 => (x11).bind fun b12 => xb (R_known F Xp b12 r7.2.1 r9) fun r13 => pI r13.2.2 (tN r5.2) 14 1 r13.1 fun T14 => xb (R_isWord Xp 9 r13.2.1 T14) fun r15 => if r15.1 = 0 then R_man_B103 F Xp (tN r5.2) r15.2.1 r15.2.2 else xb (R_pass Xp r15.2.1 r15.2.2) fun r16 => dR r16.2 txa 4 3 fun x18 => (x18).bind fun b19 => xb (R_known F Xp b19 r16.1 r16.2) fun r20 => pI r20.2.2 (tN r5.2) 14 2 r20.1 fun T21 => if 0 ≤ r20.1 then dR T21 txa 4 3 fun x23 => (x23).bind fun b24 => dC T21 b24 19 <| (L_get T21 b24 r20.1).bind fun r25 => (r25).bind fun b26 => dC T21 b26 12 <| R_man_B97 F Xp (tN r5.2) (some b26) (tN r5.2) r20.2.1 T21 else R_man_B97 F Xp (tN r5.2) none (tN r5.2) r20.2.1 T21 := by
    unfold R_man
    rw [h2, Option.bind_some, hdR T 4 (by omega) h4, Option.bind_some, g2.ls.sz]
    simp only [Option.bind_some]
  rw [hxC]
  have hid : ∀ x : Option (Ji × Jl), (x.bind fun r => some (r.1, r.2)) = x := fun x => by cases x <;> rfl
  have e6 : 6 * iN g + iN (xm Y) = iN (6 * g + Y.1 4) := by rw [i_6, iN_mul, iN_add]
  have hm9 := h4.2.2.2.2.2
  rcases p_begins (Xp := Xp) (T := T) h1 hk (x := iN (xm Y)) (y := 6) with ⟨Q1, J1, a1, a2, a3, a4, a5, a6, a7⟩ | ⟨Q1, J1, a1, a2, a3, a4, a5⟩
  · have hx6 : Y.1 4 ≠ 6 := fun hh => begins_ne a1 (by show iN (Y.1 4) = 6; rw [hh]; rfl)
    have hx7 : Y.1 4 ≤ 6 := hm9.2.2.2.2.1
    have hj13 : J1 0 13 = 0 := a3.2.2.2.2.1
    have q19 : J1 0 19 = iN g := by rw [a5.2 19 (by omega)]; exact j2
    have r17 : J1 29 g = iN (xm Y) := by rw [a5.1 29 (by omega)]; exact j17
    let T2 := tNew T (.inl 14) 5
    have x2 : ExN T T2 := ExN.new
    have hS2 : RwS T2 txa b e (fun s => Y.1 (rw_ s)) nm := (h4.ex l1 x2).rws (h5.sm h4 (ExN.sm l1 x2))
    have hM2 : NtM J1 K Nn sg id_ nm (fun s => Y.1 (rw_ s)) := h6.fr (a5.1 9 (by omega)) (a5.1 10 (by omega)) (a5.2 20 (by omega))
    have hnO : ∀ {α : Type} (f : Th → Option α), nO T 14 5 f = f T2 := fun f => nO_p (by omega) (by omega)
    obtain ⟨ix_, hix⟩ : ∃ ix_, ix_ = 6 * g + Y.1 4 := ⟨_, rfl⟩
    have hixl : ix_ < 12 := by omega
    have hw30 : wr_ g 30 ix_ = true := by simp [wr_, lv_]; omega
    have hw31 : wr_ g 31 ix_ = true := by simp [wr_, lv_]; omega
    have hw32 : wr_ g 32 ix_ = true := by simp [wr_, lv_]; omega
    have hMa : ∀ x2 J2 v J3, M_named F K J1 = some (x2, J2) → M_known F K 0 J2 = some (v, J3) → ((M_roomFor (iN (xm Y)) 6 J).bind fun r3 => if (r3 0 13) = 0 then (M_tellMan F r3 K).bind fun r4 => some (r4.1, r4.2) else some (r3, K)) = lt_ (uJ (uJ (uJ J3 30 ix_ v) 31 ix_ (-1)) 32 ix_ (-1)) fun J7 => if (J7 0 13) = 0 then (M_is J7 29).bind fun r8 => if r8 = 0 then M_tellMan_B118 F x2 J7 K else (M_goesOn J7).bind fun r9 => (M_known F K 2 r9).bind fun r10 => stI r10.2 31 12 (iN ix_) r10.1 fun J11 => if 0 ≤ r10.1 then ldI J11 22 12 ((6 * (J11 0 19)) + r10.1) fun x12 => M_tellMan_B114 F x2 (x12 - 1) 0 (iN ix_) J11 K else M_tellMan_B114 F x2 9999 0 (iN ix_) J11 K else M_tellMan_B118 F x2 J7 K := fun x2 J2 v J3 n2 n3 => by
      rw [a2, Option.bind_some, if_pos hj13, hid]
      unfold M_tellMan
      rw [q19, ldI_n (by omega) (by omega), r17, lt_e, e6, n2, Option.bind_some]
      show ((M_known F K 0 J2).bind fun r4 => stI r4.2 30 12 (iN (6 * g + Y.1 4)) r4.1 fun J5 => _) = _
      rw [n3, Option.bind_some, ← hix]
      show (stI J3 30 12 (iN ix_) v fun J5 => stI J5 31 12 (iN ix_) (-1) fun J6 => stI J6 32 12 (iN ix_) (-1) fun J7 => _) = _
      rw [stI_n (by omega) (by omega), stI_n (by omega) (by omega), stI_n (by omega) (by omega), lt_e]
    rcases p_name (T := T2) hF a3 (x2.2.2.2 l1) h2 hS2 hM2 (show (tL T).2.2.1 ≤ tN T + 1 by omega) (show tN T + 1 + 4 ≤ (tL T).1 by omega) (show tZ T + 5 + 32 ≤ (tL T).2.1 by omega) with ⟨t, Q2, T3, J2, L, n1, n2, n3, n4, n5, n6, n7, n8, n9, n10, n11, n12, n13, n14⟩ | ⟨Q2, J2, n1, ⟨v, n2⟩, n3, n4, n5⟩
    · have hl3 : tL T3 = tL T := n11.2.1
      have hn3 : tN T3 = tN T + 5 := n12
      have hz3 : tZ T3 ≤ tZ T + 37 := n13
      have k1 : T3.1 (tN T) = some (.inl 14) := by
        rw [(n11.2.2.1 (tN T) (show tN T < tN T + 1 by omega)).1]
        show (tNew T (.inl 14) 5).1 (tN T) = _
        rw [tNew_1, if_pos rfl]
      have kr : T3.2.2.1 (tN T) 4 = none := by
        rw [(n11.2.2.1 (tN T) (show tN T < tN T + 1 by omega)).2.2]
        show (tNew T (.inl 14) 5).2.2.1 (tN T) 4 = _
        rw [tNew_3, if_pos rfl]
      let T4 := tI (tI (tR T3 (tN T) 0 (some t)) (tN T) 2 (-2)) (tN T) 3 (-2)
      have y2 : ExN T T4 := ((((x2.tr n11).wR (Nat.le_refl _)).wI (Nat.le_refl _)).wI (Nat.le_refl _))
      have hl4 : tL T4 = tL T := hl3
      have hMan : A_Man (tN T) t T3 = some T4 := by
        have e1 : ∀ g : Th → Option Th, pR T3 (tN T) 14 0 (some t) g = g (tR T3 (tN T) 0 (some t)) := fun g => pR_p k1 (by rw [hl3]; omega)
        have e2 : ∀ g : Th → Option Th, pI (tR T3 (tN T) 0 (some t)) (tN T) 14 2 (-2) g = g (tI (tR T3 (tN T) 0 (some t)) (tN T) 2 (-2)) := fun g => pI_p k1 (by show (tL T3).2.2.1 ≤ _; rw [hl3]; omega)
        have e3 : ∀ g : Th → Option Th, pI (tI (tR T3 (tN T) 0 (some t)) (tN T) 2 (-2)) (tN T) 14 3 (-2) g = g T4 := fun g => pI_p k1 (by show (tL T3).2.2.1 ≤ _; rw [hl3]; omega)
        simp only [A_Man, A_Named_X15, e1, Option.bind_some, e2, e3]
      have y3 : T4.1 (tN T) = some (.inl 14) := k1
      have y4 : T4.2.2.1 (tN T) 0 = some t := by
        show (tR T3 (tN T) 0 (some t)).2.2.1 (tN T) 0 = _
        rw [tR_3, if_pos ⟨rfl, rfl⟩]
      have y5 : T4.2.2.1 (tN T) 4 = none := by
        show (tR T3 (tN T) 0 (some t)).2.2.1 (tN T) 4 = _
        rw [tR_3, if_neg (by omega)]; exact kr
      have y6 : T4.2.1 (tN T) 2 = -2 := by
        show (tI (tI (tR T3 (tN T) 0 (some t)) (tN T) 2 (-2)) (tN T) 3 (-2)).2.1 (tN T) 2 = _
        rw [tI_2, if_neg (by omega), tI_2, if_pos ⟨rfl, rfl⟩]
      have y7 : T4.2.1 (tN T) 3 = -2 := by
        show (tI (tI (tR T3 (tN T) 0 (some t)) (tN T) 2 (-2)) (tN T) 3 (-2)).2.1 (tN T) 3 = _
        rw [tI_2, if_pos ⟨rfl, rfl⟩]
      have wr4 : ∀ {T' : Th} {i : Nat} {v : Int32}, T'.1 (tN T) = some (.inl 14) → StT T' t L → StT (tI T' (tN T) i v) t L := fun {T'} {i} {v} hk' hs => by
        obtain ⟨u1, u2, aa, u3, u4, u5⟩ := hs
        have htx : t ≠ tN T := fun hh => by rw [hh, hk'] at u1; exact absurd u1 (by decide)
        have hax : aa ≠ tN T := fun hh => by rw [hh, hk'] at u4; cases u4
        refine ⟨u1, ?_, aa, u3, u4, fun i c hc => ?_⟩
        · rw [tI_2, if_neg (by omega)]; exact u2
        · rw [tI_2, if_neg (by omega)]; exact u5 i c hc
      have y9 : StT T4 t L := by
        have : StT (tR T3 (tN T) 0 (some t)) t L := by
          obtain ⟨u1, u2, aa, u3, u4, u5⟩ := n4
          have htt : tN T + 1 ≤ t := n3
          refine ⟨u1, u2, aa, ?_, u4, u5⟩
          rw [tR_3, if_neg (by omega)]
          exact u3
        exact wr4 (T' := tI (tR T3 (tN T) 0 (some t)) (tN T) 2 (-2)) k1 (wr4 (T' := tR T3 (tN T) 0 (some t)) k1 this)
      have hb4 := h4.ex l1 y2
      have hnm4 := h5.sm h4 (ExN.sm l1 y2)
      have hM4 : NtM J2 K Nn sg id_ nm (fun s => Y.1 (rw_ s)) := hM2.fr (n10.1 9 (by omega)) (n10.1 10 (by omega)) (n10.2 20 (by omega))
      have hn4 : tN T4 = tN T + 5 := hn3
      have hz4 : tZ T4 ≤ tZ T + 37 := hz3
      rcases p_known2 (Xp := Xp) (T := T4) (s := 0) hF n8 (y2.2.2.2 l1) (hb4.rws hnm4) hM4 (by omega) (by rw [hl4]; omega) (by rw [hl4]; omega) (by rw [hl4]; omega) with ⟨v, Q3, T5, J3, p1, p2, p3, p4, p5, p6, p7, p8, p9⟩ | ⟨Q3, J3, p1, p2, p3, p4, p5⟩
      · let T6 := tI T5 (tN T) 1 v
        have x6 : ExN T T6 := (y2.tr p7).wI (Nat.le_refl _)
        have d5 := p7.2.2.1 (tN T) (by omega)
        have k5 : T5.1 (tN T) = some (.inl 14) := by rw [d5.1]; exact y3
        have hl5 : tL T5 = tL T := p7.2.1.trans hl4
        have hpI : ∀ {α : Type} (f : Th → Option α), pI T5 (tN T) 14 1 v f = f T6 := fun f => pI_p k5 (by rw [hl5]; omega)
        have p1' : R_known F Xp (b 0) Q2 T4 = some (.inr (v, Q3, T5)) := p1
        have p2' : M_known F K 0 J2 = some (v, J3) := p2
        have hs6 : StT T6 t L := wr4 k5 (y9.ex (y2.2.2.2 l1) p7)
        have f60 : T6.2.2.1 (tN T) 0 = some t := by show T5.2.2.1 (tN T) 0 = _; rw [d5.2.2]; exact y4
        have f64 : T6.2.2.1 (tN T) 4 = none := by show T5.2.2.1 (tN T) 4 = _; rw [d5.2.2]; exact y5
        have f61 : T6.2.1 (tN T) 1 = v := by show (tI T5 (tN T) 1 v).2.1 (tN T) 1 = _; rw [tI_2, if_pos ⟨rfl, rfl⟩]
        have f62 : T6.2.1 (tN T) 2 = -2 := by show (tI T5 (tN T) 1 v).2.1 (tN T) 2 = _; rw [tI_2, if_neg (by omega), d5.2.1]; exact y6
        have f63 : T6.2.1 (tN T) 3 = -2 := by show (tI T5 (tN T) 1 v).2.1 (tN T) 3 = _; rw [tI_2, if_neg (by omega), d5.2.1]; exact y7
        have hn6 : tN T6 = tN T + 9 := by show tN T5 = _; omega
        have hz6 : tZ T6 ≤ tZ T + 69 := by show tZ T5 ≤ _; omega
        have hl6 : tL T6 = tL T := hl5
        obtain ⟨iv, hiv⟩ : ∃ iv, Q3 9 5 = iN 0 → v = iN iv ∧ iv < Y.1 0 ∧ Q2 9 5 = iN 0 := by
          rcases p3 with ⟨i, i1, i2, i3⟩ | ⟨i2, i3⟩
          · exact ⟨i, fun hh => ⟨i2, i1, by rw [← i3]; exact hh⟩⟩
          · exact ⟨0, fun hh => absurd hh i3⟩
        have hQ0 : Q2 9 5 = iN 0 → Q 9 5 = iN 0 := fun hh => by
          have := n14 hh
          rw [a6, uJ_sn (by omega)] at this
          exact this
        rw [hMa _ _ _ _ n2 p2', lt_e]
        obtain ⟨J7, hJ7⟩ : ∃ J7, J7 = uJ (uJ (uJ J3 30 ix_ v) 31 ix_ (-1)) 32 ix_ (-1) := ⟨_, rfl⟩
        rw [← hJ7]
        have jt0 : jF J J3 := (a5.tr n10).tr p6
        have qt0 : qF Q Q3 := (a4.tr n9).tr p5
        have o7 : ∀ p, p ≠ 30 → p ≠ 31 → p ≠ 32 → J7 p = J3 p := fun p c1 c2 c3 => by rw [hJ7, uJ_o c3, uJ_o c2, uJ_o c1]
        have hpt : PT N P E (a + 1 + 1 + 1) 0 Q3 J7 K := p4.mo (fun p p1 p2 => o7 p (by omega) (by omega) (by omega)) (fun i _ _ => by rw [o7 0 (by omega) (by omega) (by omega)]) (fun _ _ => rfl)
        have hfr7 : FrJ g J J7 := by
          rw [hJ7]
          exact jt0.w.tr ((FrJ.u hw30).tr ((FrJ.u hw31).tr (FrJ.u hw32)))
        have z30 : J7 30 ix_ = v := by rw [hJ7, uJ_o (by omega), uJ_o (by omega), uJ_ss]
        have z31 : J7 31 ix_ = -1 := by rw [hJ7, uJ_o (by omega), uJ_ss]
        have z32 : J7 32 ix_ = -1 := by rw [hJ7, uJ_ss]
        have z3 : ∀ p i, 30 ≤ p → p ≤ 32 → i ≠ ix_ → J7 p i = J p i := fun p i p1 p2 hi => by
          rw [hJ7, uJ_ap, if_neg (by omega), uJ_ap, if_neg (by omega), uJ_ap, if_neg (by omega), jt0.1 p (by omega)]
        have hj137 : J7 0 13 = 0 := hpt.2.2.2.2.1
        rw [if_pos hj137]
        rcases p_isw (Xp := Xp) (T := T6) hpt (w := 9) (by omega) with ⟨w1, w2, w3⟩ | ⟨w1, w2⟩
        · have w1' : R_isWord Xp 9 Q3 T6 = some (.inr (1, Q3, T6)) := w1
          have w2' : M_is J7 29 = some 1 := w2
          rw [w2', Option.bind_some, if_neg (show ¬ (1 : Int32) = 0 by decide)]
          have hb6 := h4.ex l1 x6
          rcases p_pass (Xp := Xp) (T := T6) hpt ⟨by rw [w3]; decide, by rw [w3]; decide⟩ with ⟨Q5, J8, s1, s2, s3, s4, s5, s6, s7⟩ | ⟨Q5, J8, s1, s2, s3, s4, s5, s6⟩
          · rw [s2, Option.bind_some]
            have hM8 : NtM J8 K Nn sg id_ nm (fun s => Y.1 (rw_ s)) := hM4.fr (by rw [s5.1 9 (by omega), o7 9 (by omega) (by omega) (by omega), p6.1 9 (by omega)]) (by rw [s5.1 10 (by omega), o7 10 (by omega) (by omega) (by omega), p6.1 10 (by omega)]) (by rw [s5.2 20 (by omega), o7 0 (by omega) (by omega) (by omega), p6.2 20 (by omega)])
            have hnm6 := h5.sm h4 (ExN.sm l1 x6)
            rcases p_known2 (Xp := Xp) (T := T6) (s := 2) hF s3 (x6.2.2.2 l1) (hb6.rws hnm6) hM8 (by omega) (by rw [hl6]; omega) (by rw [hl6]; omega) (by rw [hl6]; omega) with ⟨u, Q6, T7, J9, u1, u2, u3, u4, u5, u6, u7, u8, u9⟩ | ⟨Q6, J9, u1, u2, u3, u4, u5⟩
            · have u1' : R_known F Xp (b 3) Q5 T6 = some (.inr (u, Q6, T7)) := u1
              have u2' : M_known F K 2 J8 = some (u, J9) := u2
              let T8 := tI T7 (tN T) 2 u
              have x8 : ExN T T8 := (x6.tr u7).wI (Nat.le_refl _)
              have d7 := u7.2.2.1 (tN T) (by omega)
              have k7 : T7.1 (tN T) = some (.inl 14) := by rw [d7.1]; exact k5
              have hl7 : tL T7 = tL T := u7.2.1.trans hl6
              have hl8 : tL T8 = tL T := hl7
              have hpI8 : ∀ {α : Type} (f : Th → Option α), pI T7 (tN T) 14 2 u f = f T8 := fun f => pI_p k7 (by rw [hl7]; omega)
              have hb8 := h4.ex l1 x8
              rw [u2', Option.bind_some]
              have hst : ∀ {α : Type} (f : Ji → Option α), stI J9 31 12 (iN ix_) u f = f (uJ J9 31 ix_ u) := fun f => stI_n (by omega) (by omega)
              rw [hst]
              obtain ⟨J11, hJ11⟩ : ∃ J11, J11 = uJ J9 31 ix_ u := ⟨_, rfl⟩
              rw [← hJ11]
              have hpt11 : PT N P E (a + 1 + 1 + 1 + 1 + 1) 0 Q6 J11 K := u4.mo (fun p p1 p2 => by rw [hJ11, uJ_o (by omega)]) (fun i _ _ => by rw [hJ11, uJ_o (by omega)]) (fun _ _ => rfl)
              have c19 : J11 0 19 = iN g := by rw [hJ11, uJ_o (by omega), u6.2 19 (by omega), s5.2 19 (by omega), o7 0 (by omega) (by omega) (by omega), jt0.2 19 (by omega)]; exact j2
              have c22 : J11 22 = J 22 := by rw [hJ11, uJ_o (by omega), u6.1 22 (by omega), s5.1 22 (by omega), o7 22 (by omega) (by omega) (by omega), jt0.1 22 (by omega)]
              have hfr11 : FrJ g J J11 := by
                rw [hJ11]
                exact ((hfr7.tr s5.w).tr u6.w).tr (FrJ.u hw31)
              have qt6 : qF Q Q6 := (qt0.tr s4).tr u5
              have hs8 : StT T8 t L := wr4 k7 (hs6.ex (x6.2.2.2 l1) u7)
              have hn8 : tN T8 = tN T + 13 := by show tN T7 = _; omega
              have hz8 : tZ T8 ≤ tZ T + 101 := by show tZ T7 ≤ _; omega
              -- what follows, once the task is looked up
              have tail : ∀ (ot : Option Nat) (hi : Int32) (n : Nat) (k : Nat), n ≤ 6 → ((ot = none ∧ hi = 9999) ∨ ∃ xa lb f, ot = some xa ∧ T8.1 xa = some (.inl 12) ∧ T8.2.2.1 xa 3 = some lb ∧ LsT T8 lb n f ∧ hi = iN n - 1) → (Q6 9 5 = iN 0 → ot ≠ none ∧ u = iN k ∧ k < xk Y ∧ n = xs Y k) → StO n0 g txa Xp N P E a Q J K T (xb (R_man_B97 F Xp (tN T) ot (tN T) Q6 T8) fun r => R_sign Xp 59 r.1 r.2) (M_tellMan_B114 F (iN (a + 1)) hi 0 (iN ix_) J11 K) := fun ot hi n k hn hO hq6 => by
                rcases p_stepOf (Xp := Xp) (T := T8) hF hpt11 hn hO with ⟨z, Q7, J12, z1, z2, z4, z5, z6, z7, z8⟩ | ⟨Q7, J12, z1, ⟨z, z2⟩, z5, z6, z7⟩
                · let T9 := tI T8 (tN T) 3 (iN z)
                  have x9 : ExN T T9 := x8.wI (Nat.le_refl _)
                  have hpI9 : ∀ {α : Type} (f : Th → Option α), pI T8 (tN T) 14 3 (iN z) f = f T9 := fun f => pI_p k7 (by show (tL T7).2.2.1 ≤ _; rw [hl7]; omega)
                  have hx : R_man_B97 F Xp (tN T) ot (tN T) Q6 T8 = R_man_B103 F Xp (tN T) Q7 T9 := by
                    simp only [R_man_B97, xb, z1, Option.bind_some, hpI9]
                  have hy : M_tellMan_B114 F (iN (a + 1)) hi 0 (iN ix_) J11 K = M_tellMan_B118 F (iN (a + 1)) (uJ J12 32 ix_ (iN z)) K := by
                    unfold M_tellMan_B114
                    rw [z2, Option.bind_some]
                    exact stI_n (by omega) (by omega)
                  rw [hx, hy]
                  have hbud := bud_ (n1 := tN T9) (z1 := tZ T9) h9 h10 (Nat.le_of_eq hn8) hz8 (a1 := a + 1 + 1 + 1 + 1 + 1 + 1) (by have := z5.2.1; omega) (by omega) (by omega) (by omega)
                  refine man_fin (F := F) hI0 hx6 (by omega) (z5.mo (fun p p1 p2 => uJ_o (by omega)) (fun i _ _ => by rw [uJ_o (by omega)]) (fun _ _ => rfl)) x9 (by show tN T < tN T8; omega) k7 ?_ (wr4 k7 hs8) ?_ n5 n6 n7 hbud.1 hbud.2 (qt6.tr z6) (fun i hi => ?_) (fun i hi => ?_) (fun p c0 c1 c2 c3 => ?_) (fun p i c1 c2 hi => ?_) (fun hq => ?_)
                  · show T7.2.2.1 (tN T) 0 = _; rw [d7.2.2]; exact f60
                  · show T7.2.2.1 (tN T) 4 = _; rw [d7.2.2]; exact f64
                  · rw [uJ_o (by omega), z7.2 i (by omega), hJ11, uJ_o (by omega), u6.2 i (by omega), s5.2 i (by omega), o7 0 (by omega) (by omega) (by omega), jt0.2 i (by omega)]
                  · rw [uJ_o (by omega), z7.2 i (by omega), hJ11, uJ_o (by omega), u6.2 i (by omega), s5.2 i (by omega), o7 0 (by omega) (by omega) (by omega), jt0.2 i (by omega)]
                  · rw [uJ_o c3, z7.1 p c0, hJ11, uJ_o c2, u6.1 p c0, s5.1 p c0, o7 p c1 c2 c3, jt0.1 p c0]
                  · rw [uJ_ap, if_neg (by omega), z7.1 p (by omega), hJ11, uJ_ap, if_neg (by omega), u6.1 p (by omega), s5.1 p (by omega)]
                    exact z3 p i c1 c2 (by omega)
                  · obtain ⟨r1, r2⟩ := z8 hq
                    obtain ⟨r3, r4, r5, r6⟩ := hq6 r1
                    have r7 := r2 r3
                    have hu : Q5 9 5 = iN 0 := by
                      rcases u3 with ⟨i, i1, i2, i3⟩ | ⟨i2, i3⟩
                      · rw [← i3]; exact r1
                      · exact absurd r1 i3
                    have hQ3 : Q3 9 5 = iN 0 := by rw [s6, uJ_sn (by omega)] at hu; exact hu
                    obtain ⟨r8, r9, r10⟩ := hiv hQ3
                    refine ⟨hQ0 r10, iv, k + 1, z + 1, r9, ?_, ?_, ?_, ?_, ?_, ?_, Or.inr ⟨k, z, rfl, rfl, r5, by rw [← r6]; exact r7⟩⟩
                    · show (tI (tI T7 (tN T) 2 u) (tN T) 3 (iN z)).2.1 (tN T) 1 = _
                      rw [tI_2, if_neg (by omega), tI_2, if_neg (by omega), d7.2.1, f61]; exact r8
                    · show (tI (tI T7 (tN T) 2 u) (tN T) 3 (iN z)).2.1 (tN T) 2 = _
                      rw [tI_2, if_neg (by omega), tI_2, if_pos ⟨rfl, rfl⟩, r4]; rfl
                    · show (tI (tI T7 (tN T) 2 u) (tN T) 3 (iN z)).2.1 (tN T) 3 = _
                      rw [tI_2, if_pos ⟨rfl, rfl⟩]; rfl
                    · rw [uJ_o (by omega), z7.1 30 (by omega), hJ11, uJ_o (by omega), u6.1 30 (by omega), s5.1 30 (by omega), ← hix, z30]; exact r8
                    · rw [uJ_o (by omega), z7.1 31 (by omega), hJ11, ← hix, uJ_ss, r4]; rfl
                    · rw [← hix, uJ_ss]; rfl
                · right
                  refine ⟨Q7, T8, uJ J12 32 ix_ z, K, ?_, z5.man114 hixl z2, z5.u (by omega), qt6.tr z6, (hfr11.tr z7.w).tr (FrJ.u hw32), fun _ _ => rfl, x8.bl l3, hl8, x8.1⟩
                  simp only [R_man_B97, xb, z1, Option.bind_some]
              have hC : ∀ (X : Option ((Ji × Jr × Th) ⊕ (Ji × Th))), (if 0 ≤ u then dR T8 txa 4 3 fun x23 => (x23).bind fun b24 => dC T8 b24 19 <| (L_get T8 b24 u).bind fun r25 => (r25).bind fun b26 => dC T8 b26 12 <| R_man_B97 F Xp (tN T) (some b26) (tN T) Q6 T8 else R_man_B97 F Xp (tN T) none (tN T) Q6 T8) = X → (xb (R_begins Xp (iN (xm Y)) 6 Q T) fun r5 => nO r5.2 14 5 fun T6 => xb (R_name F Xp r5.1 T6) fun r7 => (r7.1).bind fun b8 => (A_Man (tN r5.2) b8 r7.2.2).bind fun r9 => dR r9 txa 4 0 fun x11 => (x11).bind fun b12 => xb (R_known F Xp b12 r7.2.1 r9) fun r13 => pI r13.2.2 (tN r5.2) 14 1 r13.1 fun T14 => xb (R_isWord Xp 9 r13.2.1 T14) fun r15 => if r15.1 = 0 then R_man_B103 F Xp (tN r5.2) r15.2.1 r15.2.2 else xb (R_pass Xp r15.2.1 r15.2.2) fun r16 => dR r16.2 txa 4 3 fun x18 => (x18).bind fun b19 => xb (R_known F Xp b19 r16.1 r16.2) fun r20 => pI r20.2.2 (tN r5.2) 14 2 r20.1 fun T21 => if 0 ≤ r20.1 then dR T21 txa 4 3 fun x23 => (x23).bind fun b24 => dC T21 b24 19 <| (L_get T21 b24 r20.1).bind fun r25 => (r25).bind fun b26 => dC T21 b26 12 <| R_man_B97 F Xp (tN r5.2) (some b26) (tN r5.2) r20.2.1 T21 else R_man_B97 F Xp (tN r5.2) none (tN r5.2) r20.2.1 T21) = X := fun X hX => by
                rw [← hX]
                simp only [xb, a1, Option.bind_some, hnO, n1, hMan, hdR T4 0 (by omega) hb4, p1', hpI, w1', if_neg (show ¬ (1 : Int32) = 0 by decide), s1, hdR T6 3 (by omega) hb6, u1', hpI8]
              rcases u3 with ⟨i, i1, i2, i3⟩ | ⟨i2, i3⟩
              · have i1' : i < Y.1 3 := i1
                have hb3 : Y.1 3 ≤ 6 := hm9.2.2.2.1
                have hu0 : (0 : Int32) ≤ u := by rw [i2, i_0, iN_le (by omega) (by omega)]; omega
                have hel := hb8.2.2.1 3 i (Or.inl (by omega)) i1'
                have hkd : T8.1 (e 3 i) = some (.inl 12) := hel.1
                have hgl := (hb8.2.1 (10 + i) (Or.inr ⟨by omega, by show 10 + i < 10 + Y.1 3; omega⟩)).1
                have hX : (if 0 ≤ u then dR T8 txa 4 3 fun x23 => (x23).bind fun b24 => dC T8 b24 19 <| (L_get T8 b24 u).bind fun r25 => (r25).bind fun b26 => dC T8 b26 12 <| R_man_B97 F Xp (tN T) (some b26) (tN T) Q6 T8 else R_man_B97 F Xp (tN T) none (tN T) Q6 T8) = R_man_B97 F Xp (tN T) (some (e 3 i)) (tN T) Q6 T8 := by
                  rw [if_pos hu0, hdR T8 3 (by omega) hb8, Option.bind_some, i2, (hb8.2.1 3 (Or.inl (by omega))).1.ls.gt i1', Option.bind_some, dC_p hkd]
                rw [hC _ hX, if_pos hu0]
                have e22 : 6 * J11 0 19 + u = iN (6 * g + i) := by rw [c19, i2, i_6, iN_mul, iN_add]
                rw [e22, ldI_n (by omega) (by omega), c22, j5 i i1']
                have hx6' : Y.1 (10 + i) ≤ 6 := hm9.2.2.2.2.2.2.1 i i1'
                exact tail (some (e 3 i)) (iN (xs Y i) - 1) (xs Y i) i hx6' (Or.inr ⟨e 3 i, b (10 + i), e (10 + i), rfl, hkd, hb8.2.2.2.1 i i1', hgl.ls, rfl⟩) (fun _ => ⟨fun hh => (by cases hh), i2, i1', rfl⟩)
              · have hu0 : ¬ (0 : Int32) ≤ u := by rw [i2]; decide
                rw [hC _ (if_neg hu0), if_neg hu0]
                exact tail none 9999 0 0 (by omega) (Or.inl ⟨rfl, rfl⟩) (fun hh => absurd hh i3)
            · right
              have u2' : M_known F K 2 J8 = some (-1, J9) := u2
              have u1' : R_known F Xp (b 3) Q5 T6 = some (.inl (Q6, Xp, T6)) := u1
              refine ⟨Q6, T6, uJ (uJ J9 31 ix_ (-1)) 32 ix_ 0, K, ?_, ?_, (u3.u (by omega)).u (by omega), (qt0.tr s4).tr u4, ((hfr7.tr s5.w).tr u5.w).tr ((FrJ.u hw31).tr (FrJ.u hw32)), fun _ _ => rfl, x6.bl l3, hl6, x6.1⟩
              · simp only [xb, a1, Option.bind_some, hnO, n1, hMan, hdR T4 0 (by omega) hb4, p1', hpI, w1', if_neg (show ¬ (1 : Int32) = 0 by decide), s1, hdR T6 3 (by omega) hb6, u1']
              · rw [u2', Option.bind_some]
                have hst : ∀ {α : Type} (f : Ji → Option α), stI J9 31 12 (iN ix_) (-1) f = f (uJ J9 31 ix_ (-1)) := fun f => stI_n (by omega) (by omega)
                rw [hst, if_neg (show ¬ (0 : Int32) ≤ -1 by decide), (u3.fm.u (by omega)).man114 hixl]
          · right
            have hf : FT Q5 J8 := ⟨_, _, s3⟩
            refine ⟨Q5, T6, uJ (uJ J8 31 ix_ (-1)) 32 ix_ 0, K, ?_, ?_, (hf.u (by omega)).u (by omega), qt0.tr s4, (hfr7.tr s5.w).tr ((FrJ.u hw31).tr (FrJ.u hw32)), fun _ _ => rfl, x6.bl l3, hl6, x6.1⟩
            · simp only [xb, a1, Option.bind_some, hnO, n1, hMan, hdR T4 0 (by omega) hb4, p1', hpI, w1', if_neg (show ¬ (1 : Int32) = 0 by decide), s1]
            · rw [s2, Option.bind_some, hf.fm.known, Option.bind_some]
              have hst : ∀ {α : Type} (f : Ji → Option α), stI J8 31 12 (iN ix_) (-1) f = f (uJ J8 31 ix_ (-1)) := fun f => stI_n (by omega) (by omega)
              rw [hst, if_neg (show ¬ (0 : Int32) ≤ -1 by decide), (hf.fm.u (by omega)).man114 hixl]
        · have w1' : R_isWord Xp 9 Q3 T6 = some (.inr (0, Q3, T6)) := w1
          have w2' : M_is J7 29 = some 0 := w2
          rw [w2', Option.bind_some, if_pos rfl]
          have hC : (xb (R_begins Xp (iN (xm Y)) 6 Q T) fun r5 => nO r5.2 14 5 fun T6 => xb (R_name F Xp r5.1 T6) fun r7 => (r7.1).bind fun b8 => (A_Man (tN r5.2) b8 r7.2.2).bind fun r9 => dR r9 txa 4 0 fun x11 => (x11).bind fun b12 => xb (R_known F Xp b12 r7.2.1 r9) fun r13 => pI r13.2.2 (tN r5.2) 14 1 r13.1 fun T14 => xb (R_isWord Xp 9 r13.2.1 T14) fun r15 => if r15.1 = 0 then R_man_B103 F Xp (tN r5.2) r15.2.1 r15.2.2 else xb (R_pass Xp r15.2.1 r15.2.2) fun r16 => dR r16.2 txa 4 3 fun x18 => (x18).bind fun b19 => xb (R_known F Xp b19 r16.1 r16.2) fun r20 => pI r20.2.2 (tN r5.2) 14 2 r20.1 fun T21 => if 0 ≤ r20.1 then dR T21 txa 4 3 fun x23 => (x23).bind fun b24 => dC T21 b24 19 <| (L_get T21 b24 r20.1).bind fun r25 => (r25).bind fun b26 => dC T21 b26 12 <| R_man_B97 F Xp (tN r5.2) (some b26) (tN r5.2) r20.2.1 T21 else R_man_B97 F Xp (tN r5.2) none (tN r5.2) r20.2.1 T21) = R_man_B103 F Xp (tN T) Q3 T6 := by
            simp only [xb, a1, Option.bind_some, hnO, n1, hMan, hdR T4 0 (by omega) hb4, p1', hpI, w1', if_true]
          rw [hC]
          have hbud := bud_ (n1 := tN T6) (z1 := tZ T6) h9 h10 (Nat.le_of_eq hn6) hz6 (a1 := a + 1 + 1 + 1) (by have := hpt.2.1; omega) (by omega) (by omega) (by omega)
          refine man_fin (F := F) hI0 hx6 (by omega) hpt x6 (by omega) k5 f60 hs6 f64 n5 n6 n7 hbud.1 hbud.2 qt0 (fun i hi => ?_) (fun i hi => ?_) (fun p c0 c1 c2 c3 => ?_) (fun p i c1 c2 hi => z3 p i c1 c2 (by omega)) (fun hq => ?_)
          · rw [o7 0 (by omega) (by omega) (by omega), jt0.2 i (by omega)]
          · rw [o7 0 (by omega) (by omega) (by omega), jt0.2 i (by omega)]
          · rw [o7 p c1 c2 c3, jt0.1 p c0]
          · obtain ⟨r8, r9, r10⟩ := hiv hq
            refine ⟨hQ0 r10, iv, 0, 0, r9, by rw [f61]; exact r8, by rw [f62]; rfl, by rw [f63]; rfl, by rw [← hix, z30]; exact r8, by rw [← hix, z31]; rfl, by rw [← hix, z32]; rfl, Or.inl ⟨rfl, rfl⟩⟩
      · right
        have p2' : M_known F K 0 J2 = some (-1, J3) := p2
        have hf := ((p3.u (o := 30) (i := ix_) (v := -1) (by omega)).u (o := 31) (i := ix_) (v := -1) (by omega)).u (o := 32) (i := ix_) (v := -1) (by omega)
        refine ⟨Q3, T4, uJ (uJ (uJ J3 30 ix_ (-1)) 31 ix_ (-1)) 32 ix_ (-1), K, ?_, ?_, hf, (a4.tr n9).tr p4, (((a5.tr n10).tr p5).w.tr (FrJ.u hw30)).tr ((FrJ.u hw31).tr (FrJ.u hw32)), fun _ _ => rfl, y2.bl l3, hl4, y2.1⟩
        · have p1' : R_known F Xp (b 0) Q2 T4 = some (.inl (Q3, Xp, T4)) := p1
          simp only [xb, a1, Option.bind_some, hnO, n1, hMan, hdR T4 0 (by omega) hb4, p1']
        · rw [hMa _ _ _ _ n2 p2', lt_e, if_neg hf.n0.1, hf.fm.man118]
    · right
      have hf := ((n3.u (o := 30) (i := ix_) (v := -1) (by omega)).u (o := 31) (i := ix_) (v := -1) (by omega)).u (o := 32) (i := ix_) (v := -1) (by omega)
      refine ⟨Q2, T2, uJ (uJ (uJ J2 30 ix_ (-1)) 31 ix_ (-1)) 32 ix_ (-1), K, ?_, ?_, hf, a4.tr n4, ((a5.tr n5).w.tr (FrJ.u hw30)).tr ((FrJ.u hw31).tr (FrJ.u hw32)), fun _ _ => rfl, x2.bl l3, rfl, x2.1⟩
      · simp only [xb, a1, Option.bind_some, hnO, n1]
      · rw [hMa _ _ _ _ n2 n3.fm.known, lt_e, if_neg hf.n0.1, hf.fm.man118]
  · right
    refine ⟨Q1, T, J1, K, ?_, ?_, a3, a4, a5.w, fun _ _ => rfl, fun c hc => ⟨rfl, rfl, rfl⟩, rfl, Nat.le_refl _⟩
    · simp only [xb, a1, Option.bind_some]
    · rw [a2, Option.bind_some, if_neg a3.n0.1]
end MA
