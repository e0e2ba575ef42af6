/-! PURE LAW 39: a tool is told -/
set_option maxRecDepth 100000
section TL
variable {n0 g txa : Nat} {Xp : Jr} {F N : Nat} {P E : Nat → Nat} {a : Nat} {Q J : Ji} {K : Jl} {T : Th}
/-- "tool" name room ";" -/
theorem p_tool (hF : 2100 ≤ F) (h : IVx n0 g txa Xp N P E a Q J K T) (hk : Q 5 a = iN 3) : StO n0 g txa Xp N P E a Q J K T (xb (R_told_B24 F Xp 3 Q T) fun r => R_sign Xp 59 r.1 r.2) (ldI J 17 2 (J 0 19) fun x2 => (M_roomFor x2 6 J).bind fun r3 => if (r3 0 13) = 0 then (M_tellTool F r3 K).bind fun r4 => some (r4.1, r4.2) else some (r3, K)) := by
  obtain ⟨Y, b, ar, e, nl, Nn, sg, id_, nm, nb, nc, h1, h2, h3, h4, h5, ⟨h6, h6b⟩, h7, h8, ⟨h9, h10⟩, h11⟩ := h
  have hNN := h1.n
  have ha := h1.2.1
  have hl0 := h3
  obtain ⟨l1, l2, l3, l4, l5⟩ := h3
  have g2 := (h4.2.1 2 (Or.inl (by omega))).1
  have hdR : ∀ {α : Type} (T' : Th) (j : Nat) (hj : j < 5) (hb : BdH n0 T' txa (xk Y) Y b ar e nl) (f : Option Nat → Option α), dR T' txa 4 j f = f (some (b j)) := fun T' j hj hb f => by rw [dR_p hb.1.1, hb.1.2.2.1 j hj]
  obtain ⟨⟨j1, j2⟩, ⟨j3, j4⟩, j5, j6, j7⟩ := h7
  have j17 : J 17 g = iN (xt Y) := j4.2.1
  rw [show (ldI J 17 2 (J 0 19) fun x2 => (M_roomFor x2 6 J).bind fun r3 => if (r3 0 13) = 0 then (M_tellTool F r3 K).bind fun r4 => some (r4.1, r4.2) else some (r3, K)) = (M_roomFor (iN (xt Y)) 6 J).bind fun r3 => if (r3 0 13) = 0 then (M_tellTool F r3 K).bind fun r4 => some (r4.1, r4.2) else some (r3, K) by rw [j2, ldI_n (by omega) (by omega), j17]]
  have hxC : R_told_B24 F Xp 3 Q T = xb (R_begins Xp (iN (xt Y)) 6 Q T) fun r21 => nO r21.2 11 2 fun T22 => xb (R_name F Xp r21.1 T22) fun r23 => (r23.1).bind fun b24 => (A_Tool (tN r21.2) b24 r23.2.2).bind fun r25 => dR r25 txa 4 0 fun x27 => (x27).bind fun b28 => xb (R_known F Xp b28 r23.2.1 r25) fun r29 => pI r29.2.2 (tN r21.2) 11 1 r29.1 fun T30 => dR T30 txa 4 2 fun x32 => (x32).bind fun b33 => dC T30 b33 19 <| (A_L_add b33 (tN r21.2) T30).bind fun r34 => some (.inr (r29.2.1, r34.2)) := by
    unfold R_told_B24
    rw [if_neg (by decide), if_neg (by decide), if_pos rfl, h2, Option.bind_some, hdR T 2 (by omega) h4, Option.bind_some, g2.ls.sz]
    simp only [Option.bind_some]
  rw [hxC]
  rcases p_begins (Xp := Xp) (T := T) h1 hk (x := iN (xt Y)) (y := 6) with ⟨Q1, J1, a1, a2, a3, a4, a5, a6, a7⟩ | ⟨Q1, J1, a1, a2, a3, a4, a5⟩
  · have hx6 : Y.1 2 ≠ 6 := fun hh => begins_ne a1 (by show iN (Y.1 2) = 6; rw [hh]; rfl)
    have hx7 : Y.1 2 ≤ 6 := h4.2.2.2.2.2.2.2.1
    have hj13 : J1 0 13 = 0 := a3.2.2.2.2.1
    have q19 : J1 0 19 = iN g := by rw [a5.2 19 (by omega)]; exact j2
    let T2 := tNew T (.inl 11) 2
    have x2 : ExN T T2 := ExN.new
    have hS2 : RwS T2 txa b e (fun s => Y.1 (rw_ s)) nm := (h4.ex l1 x2).rws (h5.sm h4 (ExN.sm l1 x2))
    have hM2 : NtM J1 K Nn sg id_ nm (fun s => Y.1 (rw_ s)) := h6.fr (a5.1 9 (by omega)) (a5.1 10 (by omega)) (a5.2 20 (by omega))
    have hnO : ∀ {α : Type} (f : Th → Option α), nO T 11 2 f = f T2 := fun f => nO_p (by omega) (by omega)
    have hid : ∀ x : Option (Ji × Jl), (x.bind fun r => some (r.1, r.2)) = x := fun x => by cases x <;> rfl
    have e6 : 6 * iN g + iN (xt Y) = iN (6 * g + Y.1 2) := by rw [i_6, iN_mul, iN_add]
    rcases p_name (T := T2) hF a3 (x2.2.2.2 l1) h2 hS2 hM2 (show (tL T).2.2.1 ≤ tN T + 1 by omega) (show tN T + 1 + 4 ≤ (tL T).1 by omega) (show tZ T + 2 + 32 ≤ (tL T).2.1 by omega) with ⟨t, Q2, T3, J2, L, n1, n2, n3, n4, n5, n6, n7, n8, n9, n10, n11, n12, n13, n14⟩ | ⟨Q2, J2, n1, ⟨v, n2⟩, n3, n4, n5⟩
    · let T4 := tR T3 (tN T) 0 (some t)
      have x4 : ExN T T4 := (x2.tr n11).wR (Nat.le_refl _)
      have k1 : T3.1 (tN T) = some (.inl 11) := by
        rw [(n11.2.2.1 (tN T) (show tN T < tN T + 1 by omega)).1]
        show (tNew T (.inl 11) 2).1 (tN T) = _
        rw [tNew_1, if_pos rfl]
      have hl3 : tL T3 = tL T := n11.2.1
      have hn4 : tN T4 = tN T + 5 := n12
      have hz4 : tZ T4 ≤ tZ T + 34 := n13
      have hl4 : tL T4 = tL T := hl3
      have hTool : A_Tool (tN T) t T3 = some T4 := by
        unfold A_Tool A_Named_X12
        rw [pR_p k1 (by rw [hl3]; omega), Option.bind_some]
      have hb4 := h4.ex l1 x4
      have htt : tN T + 1 ≤ t := n3
      have hs4 : StT T4 t L := by
        obtain ⟨u1, u2, aa, u3, u4, u5⟩ := n4
        refine ⟨u1, u2, aa, ?_, u4, u5⟩
        show (tR T3 (tN T) 0 (some t)).2.2.1 t 0 = _
        rw [tR_3, if_neg (by omega)]
        exact u3
      have hnm4 := h5.sm h4 (ExN.sm l1 x4)
      have hM4 : NtM J2 K Nn sg id_ nm (fun s => Y.1 (rw_ s)) := hM2.fr (n10.1 9 (by omega)) (n10.1 10 (by omega)) (n10.2 20 (by omega))
      have r19 : J2 0 19 = iN g := by rw [n10.2 19 (by omega)]; exact q19
      have r17 : J2 17 g = iN (xt Y) := by rw [n10.1 17 (by omega), a5.1 17 (by omega)]; exact j17
      have hw : wr_ g 18 (6 * g + Y.1 2) = true := by simp [wr_, lv_]; omega
      have hM1 : ((M_roomFor (iN (xt Y)) 6 J).bind fun r3 => if (r3 0 13) = 0 then (M_tellTool F r3 K).bind fun r4 => some (r4.1, r4.2) else some (r3, K)) = (M_known F K (iN 0) J2).bind fun r3 => stI r3.2 18 12 (iN (6 * g + Y.1 2)) r3.1 fun J4 => (M_must 4 J4).bind fun r5 => if (r5 0 13) ≤ 0 then ldI r5 17 2 (r5 0 19) fun x6 => (M_notes (iN (a + 1)) (iN 1) x6 r5 K).bind fun r7 => ldI r7.1 17 2 (r7.1 0 19) fun x8 => stI r7.1 17 2 (r7.1 0 19) (x8 + 1) fun J9 => some (J9, r7.2) else some (r5, K) := by
        rw [a2, Option.bind_some, if_pos hj13, hid]
        unfold M_tellTool
        rw [n2, Option.bind_some]
        show (ldI J2 17 2 (J2 0 19) fun x2 => (M_known F K (iN 0) J2).bind fun r3 => stI r3.2 18 12 (6 * (J2 0 19) + x2) r3.1 fun J4 => (M_must 4 J4).bind fun r5 => _) = _
        rw [r19, ldI_n (by omega) (by omega), r17, e6]
        rfl
      rw [hM1]
      rcases p_known (Xp := Xp) (T := T4) (s := 0) hF n8 (x4.2.2.2 l1) (hb4.rws hnm4) hM4 (by omega) (by rw [hl4, hn4]; omega) (by rw [hl4, hn4]; omega) (by rw [hl4]; omega) with ⟨v, Q3, T5, J3, p1, p2, p3, p4, p5, p6, p7, p8, p9⟩ | ⟨Q3, J3, p1, ⟨v, p2⟩, p3, p4, p5⟩
      · let T6 := tI T5 (tN T) 1 v
        have x6 : ExN T T6 := (x4.tr p7).wI (Nat.le_refl _)
        have x46 : ExN T T6 := x6
        have k6 : T5.1 (tN T) = some (.inl 11) := by
          rw [(p7.2.2.1 (tN T) (by omega)).1]; exact k1
        have hl6 : tL T6 = tL T := x6.2.1
        have hn6 : tN T6 = tN T + 9 := by show tN T5 = _; omega
        have hz6 : tZ T6 ≤ tZ T + 66 := by show tZ T5 ≤ _; omega
        obtain ⟨iv, hiv⟩ : ∃ iv, Q3 9 5 = iN 0 → v = iN iv ∧ iv < Y.1 0 ∧ Q2 9 5 = iN 0 := by
          rcases p3 with ⟨i, i1, i2, i3⟩ | ⟨i2, i3⟩
          · exact ⟨i, fun hh => ⟨i2, i1, by rw [← i3]; exact hh⟩⟩
          · exact ⟨0, fun hh => absurd hh i3⟩
        let Y1 : Xt := (inc_ Y 2, (fun c i => if c = 18 ∧ i = Y.1 2 then iv else tb Y c i), Y.2.2)
        have hxs : ∀ k, xs Y1 k = xs Y k := fun k => by
          show (if 10 + k = 2 then Y.1 2 + 1 else Y.1 (10 + k)) = _
          rw [if_neg (by omega)]
        have hb6 := h4.ex l1 x6
        have hm9 := h4.2.2.2.2.2
        obtain ⟨T7, ar1, c1, c2, c3, c4, c5, c6, c7, c8, c9⟩ := hb6.add (j := 2) (x := tN T) (Y1 := Y1) (hl0.ex x6) (Or.inl (by omega)) k6 l3 (fun q => rfl) ⟨hm9.1, hm9.2.1, show Y.1 2 + 1 ≤ 6 by omega, hm9.2.2.2.1, hm9.2.2.2.2.1, (fun k hk => by rw [hxs]; exact hm9.2.2.2.2.2.2.1 k hk), Nat.le_refl _⟩ (fun hh => by omega) (by rw [hl6, hn6]; omega) (by rw [hl6]; omega)
        have hk2 : T6.1 (b 2) = some (.inl 19) := (hb6.2.1 2 (Or.inl (by omega))).1.1
        have hl5 : tL T5 = tL T := hl6
        have p1' : R_known F Xp (b 0) Q2 T4 = some (.inr (v, Q3, T5)) := p1
        have hpI : ∀ {α : Type} (f : Th → Option α), pI T5 (tN T) 11 1 v f = f T6 := fun f => pI_p k6 (by rw [hl5]; omega)
        have hC : (xb (R_begins Xp (iN (xt Y)) 6 Q T) fun r21 => nO r21.2 11 2 fun T22 => xb (R_name F Xp r21.1 T22) fun r23 => (r23.1).bind fun b24 => (A_Tool (tN r21.2) b24 r23.2.2).bind fun r25 => dR r25 txa 4 0 fun x27 => (x27).bind fun b28 => xb (R_known F Xp b28 r23.2.1 r25) fun r29 => pI r29.2.2 (tN r21.2) 11 1 r29.1 fun T30 => dR T30 txa 4 2 fun x32 => (x32).bind fun b33 => dC T30 b33 19 <| (A_L_add b33 (tN r21.2) T30).bind fun r34 => some (.inr (r29.2.1, r34.2))) = (some (.inr (Q3, T7)) : Option ((Ji × Jr × Th) ⊕ (Ji × Th))) := by
          simp only [xb, a1, Option.bind_some, hnO, n1, hTool, hdR T4 0 (by omega) hb4, p1', hpI, hdR T6 2 (by omega) hb6, dC_p hk2, c1]
        have hM3 : ((M_known F K (iN 0) J2).bind fun r3 => stI r3.2 18 12 (iN (6 * g + Y.1 2)) r3.1 fun J4 => (M_must 4 J4).bind fun r5 => if (r5 0 13) ≤ 0 then ldI r5 17 2 (r5 0 19) fun x6 => (M_notes (iN (a + 1)) (iN 1) x6 r5 K).bind fun r7 => ldI r7.1 17 2 (r7.1 0 19) fun x8 => stI r7.1 17 2 (r7.1 0 19) (x8 + 1) fun J9 => some (J9, r7.2) else some (r5, K)) = (M_must 4 (uJ J3 18 (6 * g + Y.1 2) v)).bind fun r5 => if (r5 0 13) ≤ 0 then ldI r5 17 2 (r5 0 19) fun x6 => (M_notes (iN (a + 1)) (iN 1) x6 r5 K).bind fun r7 => ldI r7.1 17 2 (r7.1 0 19) fun x8 => stI r7.1 17 2 (r7.1 0 19) (x8 + 1) fun J9 => some (J9, r7.2) else some (r5, K) := by
          rw [p2, Option.bind_some]
          exact stI_n (by omega) (by omega)
        rw [hC, hM3]
        have hx : ∀ (f : Ji × Th → Option ((Ji × Jr × Th) ⊕ (Ji × Th))), xb (some (.inr (Q3, T7))) f = f (Q3, T7) := fun f => rfl
        rw [hx]
        have hpt : PT N P E (a + 1 + 1 + 1) 0 Q3 (uJ J3 18 (6 * g + Y.1 2) v) K := p4.mo (fun p p1 p2 => uJ_o (by omega)) (fun i _ _ => by rw [uJ_o (by omega)]) (fun _ _ => rfl)
        have hfr : ∀ c, c < n0 → At_ T T7 c := fun c hc => by
          obtain ⟨y1, y2, y3⟩ := x6.bl l3 c hc
          obtain ⟨z1, z2, z3⟩ := c9 c hc
          exact ⟨z1.trans y1, z2.trans y2, z3.trans y3⟩
        have hl7 : tL T7 = tL T := c5.trans hl6
        have jt0 : jF J J3 := (a5.tr n10).tr p6
        have hjt : FrJ g J (uJ J3 18 (6 * g + Y.1 2) v) := jt0.w.tr (FrJ.u hw)
        rcases p_sign (Xp := Xp) (T := T7) hpt (c := 59) (k := 4) (Or.inl ⟨rfl, rfl⟩) with ⟨Q4, J4, s1, s2, s3, s4, s5, s6, s7⟩ | ⟨Q4, J4, s1, s2, s3, s4, s5⟩
        · have s2' : M_must 4 (uJ J3 18 (6 * g + Y.1 2) v) = some J4 := s2
          have hj4 : J4 0 13 ≤ 0 := by rw [s3.2.2.2.2.1]; decide
          have hJa : ∀ p, p ≠ 0 → p ≠ 18 → J4 p = J p := fun p p0 p1 => by rw [s5.1 p p0, uJ_o p1, jt0.1 p p0]
          have hJb : ∀ i, (i < 11 ∨ 16 < i) → J4 0 i = J 0 i := fun i hi => by rw [s5.2 i hi, uJ_o (by omega), jt0.2 i hi]
          have h18 : J4 18 = (uJ J3 18 (6 * g + Y.1 2) v) 18 := s5.1 18 (by omega)
          have h6c : Nn = Y.1 0 + Y.1 2 + Y.1 3 + Y.1 4 := h6b
          have hNn : Nn < 26 := by
            have b0 : Y.1 0 ≤ 8 := hm9.1
            have b3 : Y.1 3 ≤ 6 := hm9.2.2.2.1
            have b4 : Y.1 4 ≤ 6 := hm9.2.2.2.2.1
            omega
          have hNt : NtM J4 K Nn sg id_ nm (fun s => Y.1 (rw_ s)) := h6.fr (hJa 9 (by omega) (by omega)) (hJa 10 (by omega) (by omega)) (hJb 20 (by omega))
          obtain ⟨J6, K1, m1, m2, m3, m4, m5, m6, m7⟩ := en_mo (s := 1) (Y := Y) (Y1 := Y1) (J4 := J4) (a := a + 1) (by omega) rfl (by omega) j1 (by rw [hJb 19 (by omega)]; exact j2) (by show J4 17 g = _; rw [hJa 17 (by omega) (by omega)]; exact j17) hNt hNn n5 n6 n7
          have hnm7 := en_nm (s := 1) (Y1 := Y1) (T5 := T7) (x := tN T) (t := t) (L := L) (by omega) rfl hb6 (h5.sm h4 (ExN.sm l1 x6)) k6 (by
            show T5.2.2.1 (tN T) 0 = _
            rw [(p7.2.2.1 (tN T) (by omega)).2.2]
            show (tR T3 (tN T) 0 (some t)).2.2.1 (tN T) 0 = _
            rw [tR_3, if_pos ⟨rfl, rfl⟩]) (by
            obtain ⟨u1, u2, aa, u3, u4, u5⟩ := hs4.ex (x4.2.2.2 l1) p7
            refine ⟨u1, ?_, aa, u3, u4, fun i c hc => ?_⟩
            · show (tI T5 (tN T) 1 v).2.1 t 1 = _
              rw [tI_2, if_neg (by omega)]; exact u2
            · show (tI T5 (tN T) 1 v).2.1 aa i = _
              rw [tI_2, if_neg (fun hh => by rw [hh.1, k6] at u4; cases u4)]
              exact u5 i c hc) n6 c3
          have hJo : ∀ p, p ≠ 0 → p ≠ 9 → p ≠ 10 → p ≠ 17 → p ≠ 18 → J6 p = J p := fun p q0 q9 q10 q17 q18 => by rw [m4 p q0 q9 q10 q17, hJa p q0 q18]
          have hJ0 : ∀ i, (i < 11 ∨ 16 < i) → i ≠ 20 → J6 0 i = J 0 i := fun i hi h20 => by rw [m5 i h20, hJb i hi]
          have h618 : ∀ i, J6 18 i = if i = 6 * g + Y.1 2 then v else J 18 i := fun i => by
            rw [m4 18 (by omega) (by omega) (by omega) (by show 18 ≠ 17; omega), h18, uJ_ap]
            by_cases c : i = 6 * g + Y.1 2
            · rw [if_pos ⟨rfl, c⟩, if_pos c]
            · rw [if_neg (fun hh => c hh.2), if_neg c, jt0.1 18 (by omega)]
          left
          refine ⟨a + 1 + 1 + 1 + 1, Q4, T7, J6, K1, s1, ?_, ⟨Y1, b, ar1, _, nl, Nn + 1, _, _, _, nb, nc, s3.mo (fun p q1 q2 => m4 p (by omega) (by omega) (by omega) (by show p ≠ 17; omega)) (fun i i1 i2 => m5 i (by omega)) m3, h2, c4, c2, hnm7, ⟨m2, ?_⟩, ?_, ⟨by omega, h8.2⟩, ⟨by rw [hl7]; have := s3.2.1; omega, by rw [hl7]; have := s3.2.1; omega⟩, fun hq => ?_⟩, by omega, ((a4.tr n9).tr p5).tr s4, (hjt.tr s5.w).tr m7, m3, hfr, hl7, by omega⟩
          · rw [s2', Option.bind_some, if_pos hj4]
            exact m1
          · show Nn + 1 = Y.1 0 + (Y.1 2 + 1) + Y.1 3 + Y.1 4
            omega
          · refine ⟨⟨j1, by rw [hJ0 19 (by omega) (by omega)]; exact j2⟩, ⟨?_, ?_, m6, ?_, ?_, ?_⟩, fun k hk => ?_, ⟨by rw [hJ0 49 (by omega) (by omega)]; exact j6.1, j6.2⟩, by rw [hJ0 56 (by omega) (by omega)]; exact j7⟩
            · rw [hJo 11 (by omega) (by omega) (by omega) (by omega) (by omega)]; exact j3
            · rw [hJo 12 (by omega) (by omega) (by omega) (by omega) (by omega)]; exact j4.1
            · rw [hJo 19 (by omega) (by omega) (by omega) (by omega) (by omega)]; exact j4.2.2.1
            · rw [hJo 29 (by omega) (by omega) (by omega) (by omega) (by omega)]; exact j4.2.2.2.1
            · rw [hJo 33 (by omega) (by omega) (by omega) (by omega) (by omega)]; exact j4.2.2.2.2
            · rw [hJo 22 (by omega) (by omega) (by omega) (by omega) (by omega), hxs]; exact j5 k hk
          · rw [s6, uJ_sn (by omega)] at hq
            obtain ⟨hv, hiv2, hq2⟩ := hiv hq
            have hq0 : Q 9 5 = iN 0 := by
              have := n14 hq2
              rw [a6, uJ_sn (by omega)] at this
              exact this
            obtain ⟨v1, v2, v3, v4⟩ := h11 hq0
            have v1' : VTx T7 Y e := (v1.sm h4 (ExN.sm l1 x6) (ExN.sm l1 x6)).sm hb6 c3.l c3.e
            have hx7 : At_ T6 T7 (tN T) := c3 _ _ k6 (kE.a (Or.inr (Or.inr (Or.inl rfl))))
            have hxv : T7.2.1 (tN T) 1 = iN iv := by
              rw [hx7.2.1]
              show (tI T5 (tN T) 1 v).2.1 (tN T) 1 = _
              rw [tI_2, if_pos ⟨rfl, rfl⟩, hv]
            obtain ⟨w1, w2, w3, w4, w5, w6, w7⟩ := v2
            have htb : ∀ c i, c ≠ 18 → tb Y1 c i = tb Y c i := fun c i hc => if_neg (fun hh => hc hh.1)
            refine ⟨⟨v1'.1, fun y hy => ?_, v1'.2.2.1, fun k s hk hs => ?_, v1'.2.2.2.2⟩, ⟨fun d hd => ?_, fun y hy => ?_, fun k hk => ?_, fun k s hk hs => ?_, fun m hm => ?_, by rw [hJo 41 (by omega) (by omega) (by omega) (by omega) (by omega)]; exact w6, fun m hm hm2 => ?_⟩, ?_, ?_⟩
            · have hy : y < Y.1 2 + 1 := hy
              show T7.2.1 (if 2 = 2 ∧ y = Y.1 2 then tN T else e 2 y) 1 = iN (if 18 = 18 ∧ y = Y.1 2 then iv else tb Y 18 y)
              by_cases c : y = Y.1 2
              · rw [if_pos ⟨rfl, c⟩, if_pos ⟨rfl, c⟩]; exact hxv
              · rw [if_neg (fun hh => c hh.2), if_neg (fun hh => c hh.2)]; exact v1'.2.1 y (show y < Y.1 2 by omega)
            · rw [hxs] at hs
              show T7.2.1 (if 10 + k = 2 ∧ s = Y.1 2 then tN T else e (10 + k) s) 0 = _ ∧ T7.2.1 (if 10 + k = 2 ∧ s = Y.1 2 then tN T else e (10 + k) s) 1 = _ ∧ T7.2.1 (if 10 + k = 2 ∧ s = Y.1 2 then tN T else e (10 + k) s) 2 = _ ∧ T7.2.1 (if 10 + k = 2 ∧ s = Y.1 2 then tN T else e (10 + k) s) 3 = _ ∧ T7.2.1 (if 10 + k = 2 ∧ s = Y.1 2 then tN T else e (10 + k) s) 4 = _ ∧ T7.2.1 (if 10 + k = 2 ∧ s = Y.1 2 then tN T else e (10 + k) s) 5 = _
              rw [if_neg (by omega)]
              exact v1'.2.2.2.1 k s hk hs
            · rw [hJo 13 (by omega) (by omega) (by omega) (by omega) (by omega), hJo 14 (by omega) (by omega) (by omega) (by omega) (by omega), hJo 15 (by omega) (by omega) (by omega) (by omega) (by omega), hJo 16 (by omega) (by omega) (by omega) (by omega) (by omega)]; exact w1 d hd
            · have hy : y < Y.1 2 + 1 := hy
              rw [h618]
              show _ = iN (if 18 = 18 ∧ y = Y.1 2 then iv else tb Y 18 y)
              by_cases c : y = Y.1 2
              · rw [if_pos (by omega), if_pos ⟨rfl, c⟩]; exact hv
              · rw [if_neg (by omega), if_neg (fun hh => c hh.2)]; exact w2 y (show y < Y.1 2 by omega)
            · rw [hJo 20 (by omega) (by omega) (by omega) (by omega) (by omega), hJo 21 (by omega) (by omega) (by omega) (by omega) (by omega)]; exact w3 k hk
            · rw [hxs] at hs
              rw [hJo 23 (by omega) (by omega) (by omega) (by omega) (by omega), hJo 24 (by omega) (by omega) (by omega) (by omega) (by omega), hJo 25 (by omega) (by omega) (by omega) (by omega) (by omega), hJo 26 (by omega) (by omega) (by omega) (by omega) (by omega), hJo 27 (by omega) (by omega) (by omega) (by omega) (by omega), hJo 28 (by omega) (by omega) (by omega) (by omega) (by omega)]; exact w4 k s hk hs
            · rw [hJo 30 (by omega) (by omega) (by omega) (by omega) (by omega), hJo 31 (by omega) (by omega) (by omega) (by omega) (by omega), hJo 32 (by omega) (by omega) (by omega) (by omega) (by omega), hJo 34 (by omega) (by omega) (by omega) (by omega) (by omega), hJo 35 (by omega) (by omega) (by omega) (by omega) (by omega)]
              obtain ⟨z1, z2, z3, z4⟩ := w5 m hm
              exact ⟨z1, z2, z3, z4.mo ⟨fun p i q1 q2 _ => by rw [hJo p (by omega) (by omega) (by omega) (by omega) (by omega)], fun p i q1 _ => by rw [hJo p (by omega) (by omega) (by omega) (by omega) (by omega)]⟩ (Nat.le_refl _) (Nat.le_refl _)⟩
            · rw [hJo 34 (by omega) (by omega) (by omega) (by omega) (by omega), hJo 35 (by omega) (by omega) (by omega) (by omega) (by omega)]; exact w7 m hm hm2
            · obtain ⟨⟨t0, t1, t2, t3, t4, t5, t6⟩, td, tt, tk, ts, tm⟩ := v3
              refine ⟨⟨t0, t1, show Y.1 2 + 1 ≤ 6 by omega, t3, t4, t5, t6⟩, td, fun y hy => ?_, fun k hk => ?_, fun k s hk hs => ?_, fun m hm => ?_⟩
              · have hy : y < Y.1 2 + 1 := hy
                show (if 18 = 18 ∧ y = Y.1 2 then iv else tb Y 18 y) < Y.1 0
                by_cases c : y = Y.1 2
                · rw [if_pos ⟨rfl, c⟩]; exact hiv2
                · rw [if_neg (fun hh => c hh.2)]; exact tt y (show y < Y.1 2 by omega)
              · obtain ⟨y1, y2, y3⟩ := tk k hk
                exact ⟨y1, y2, by rw [hxs]; exact y3⟩
              · rw [hxs] at hs ⊢
                obtain ⟨y1, y2, y3, y4, y5, y6, y7⟩ := ts k s hk hs
                exact ⟨y1, y2, y3, y4, y5, Nat.le_succ_of_le y6, y7⟩
              · obtain ⟨y1, y2⟩ := tm m hm
                refine ⟨y1, ?_⟩
                rcases y2 with y2 | ⟨k, s, z1, z2, z3, z4⟩
                · exact Or.inl y2
                · exact Or.inr ⟨k, s, z1, z2, z3, by rw [hxs]; exact z4⟩
            · have ht6 := l1.at_ x6 h4.1.1
              have ht7 : At_ T6 T7 txa := c3 _ _ ht6.1 ⟨by decide, fun n hh => by cases hh⟩
              rw [ht7.2.1, ht6.2.1]
              exact v4
        · have s2' : M_must 4 (uJ J3 18 (6 * g + Y.1 2) v) = some J4 := s2
          right
          exact ⟨Q4, T7, J4, K, s1, by rw [s2', Option.bind_some, if_neg s3.n0.2.1], s3, ((a4.tr n9).tr p5).tr s4, hjt.tr s5.w, fun _ _ => rfl, hfr, hl7, by omega⟩
      · right
        have hft := p3.u (o := 18) (i := 6 * g + Y.1 2) (v := v) (by omega)
        refine ⟨Q3, T4, uJ J3 18 (6 * g + Y.1 2) v, K, ?_, ?_, hft, (a4.tr n9).tr p4, ((a5.tr n10).tr p5).w.tr (FrJ.u hw), fun _ _ => rfl, x4.bl l3, hl4, x4.1⟩
        · have p1' : R_known F Xp (b 0) Q2 T4 = some (.inl (Q3, Xp, T4)) := p1
          simp only [xb, a1, Option.bind_some, hnO, n1, hTool, hdR T4 0 (by omega) hb4, p1']
        · rw [p2, Option.bind_some]
          show (stI J3 18 12 (iN (6 * g + Y.1 2)) v fun J4 => (M_must 4 J4).bind fun r5 => _) = _
          rw [stI_n (by omega) (by omega), hft.fm.must, Option.bind_some, if_neg hft.n0.2.1]
    · right
      have r19 : J2 0 19 = iN g := by rw [n5.2 19 (by omega)]; exact q19
      have r17 : J2 17 g = iN (xt Y) := by rw [n5.1 17 (by omega), a5.1 17 (by omega)]; exact j17
      have hft := n3.u (o := 18) (i := 6 * g + Y.1 2) (v := -1) (by omega)
      have hw : wr_ g 18 (6 * g + Y.1 2) = true := by simp [wr_, lv_]; omega
      refine ⟨Q2, T2, uJ J2 18 (6 * g + Y.1 2) (-1), K, ?_, ?_, hft, a4.tr n4, (a5.tr n5).w.tr (FrJ.u hw), fun _ _ => rfl, x2.bl l3, rfl, x2.1⟩
      · simp only [xb, a1, Option.bind_some, hnO, n1]
      · rw [a2, Option.bind_some, if_pos hj13, hid]
        unfold M_tellTool
        rw [n2, Option.bind_some]
        show (ldI J2 17 2 (J2 0 19) fun x2 => (M_known F K 0 J2).bind fun r3 => stI r3.2 18 12 (6 * (J2 0 19) + x2) r3.1 fun J4 => (M_must 4 J4).bind fun r5 => _) = _
        rw [r19, ldI_n (by omega) (by omega), r17, n3.fm.known, Option.bind_some, e6, stI_n (by omega) (by omega), hft.fm.must, Option.bind_some, if_neg hft.n0.2.1]
  · right
    refine ⟨Q1, T, J1, K, ?_, ?_, a3, a4, a5.w, fun _ _ => rfl, fun c hc => ⟨rfl, rfl, rfl⟩, rfl, Nat.le_refl _⟩
    · simp only [xb, a1, Option.bind_some]
    · rw [a2, Option.bind_some, if_neg a3.n0.1]
end TL
