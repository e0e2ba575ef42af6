/-! PURE LAW 62: a law is told, whole -/
set_option maxRecDepth 100000
theorem bud2 {n z L1 L2 a a9 n3 z3 : Nat} (h9 : n + 16 * (402 - a) ≤ L1) (h10 : z + 120 * (402 - a) ≤ L2) (q1 : n3 ≤ n + 8 + (a9 - (a + 3))) (q2 : z3 ≤ z + 49 + 3 * (a9 - (a + 3))) (h : a + 3 < a9) (h4 : a9 ≤ 401) : n3 + 16 * (401 - a9) ≤ L1 ∧ z3 + 120 * (401 - a9) ≤ L2 := by omega
section LQ
variable {n0 g txa : Nat} {Xp : Jr} {F N : Nat} {P E : Nat → Nat} {a : Nat} {Q J : Ji} {K : Jl} {T : Th}
/-- "law" man "=" ("if" sum "<" sum "then" sum "else")* sum ";" -/
theorem p_law (hF : 2100 ≤ F) (h : IVx n0 g txa Xp N P E a Q J K T) (hk : Q 5 a = iN 3) : StO n0 g txa Xp N P E a Q J K T (xb (R_told_B24 F Xp 10 Q T) fun r => R_sign Xp 59 r.1 r.2) (ldI J 33 2 (J 0 19) fun x2 => (M_roomFor x2 8 J).bind fun r3 => if (r3 0 13) = 0 then (M_tellLaw F K r3).bind fun r4 => some (r4, K) else some (r3, K)) := by
  obtain ⟨Y, b, ar, e, nl, Nn, sg, id_, nm, nb, nc, hI⟩ := h
  obtain ⟨h1, h2, h3, h4, h5, ⟨h6, h6b⟩, h7, h8, ⟨h9, h10⟩, h11⟩ := hI
  have hNN := h1.n
  have ha := h1.2.1
  have hl0 := h3
  have h7c := h7
  obtain ⟨l1, l2, l3, l4, l5⟩ := h3
  have hdR : ∀ {α : Type} (T' : Th) (j : Nat) (nl' : Nat) (hj : j < 5) (hb : BdH n0 T' txa (xk Y) Y b ar e nl') (f : Option Nat → Option α), dR T' txa 4 j f = f (some (b j)) := fun T' j nl' hj hb f => by rw [dR_p hb.1.1, hb.1.2.2.1 j hj]
  obtain ⟨⟨j1, j2⟩, ⟨j3, j4⟩, j5, ⟨j6, j6b⟩, j7⟩ := h7
  have j33 : J 33 g = iN nl := j4.2.2.2.2
  rw [show (ldI J 33 2 (J 0 19) fun x2 => (M_roomFor x2 8 J).bind fun r3 => if (r3 0 13) = 0 then (M_tellLaw F K r3).bind fun r4 => some (r4, K) else some (r3, K)) = (M_roomFor (iN nl) 8 J).bind fun r3 => if (r3 0 13) = 0 then (M_tellLaw F K r3).bind fun r4 => some (r4, K) else some (r3, K) by rw [j2, ldI_n (by omega) (by omega), j33]]
  have hxT : R_told_B24 F Xp 10 Q T = xb (R_law F Xp Q T) fun r56 => some (.inr (r56.1, r56.2)) := by
    unfold R_told_B24
    rw [if_neg (by decide), if_neg (by decide), if_neg (by decide), if_neg (by decide), if_neg (by decide), if_neg (by decide), if_pos rfl]
  rw [hxT, xb_et]
  have hdI : ∀ {α : Type} (f : Int32 → Option α), dI T txa 4 6 f = f (iN nl) := fun f => by unfold dI; rw [if_pos h4.1.1, h4.1.2.2.2]
  have e1 : iN nl + 1 = iN (nl + 1) := by rw [i_1, iN_add]
  have hxC : R_law F Xp Q T = xb (R_begins Xp (iN nl) 8 Q T) fun r3 => dI r3.2 txa 4 6 fun x5 => pI r3.2 txa 4 6 (x5 + 1) fun T6 => dR T6 txa 4 4 fun x8 => (x8).bind fun b9 => xb (R_known F Xp b9 r3.1 T6) fun r10 => nO r10.2.2 15 4 fun T11 => (A_Law (tN r10.2.2) T11).bind fun r12 => xb (R_sign Xp 61 r10.2.1 r12) fun r13 => R_law_L52 F Xp F r10.1 (tN r10.2.2) r13.1 r13.2 := by
    unfold R_law
    rw [h2, Option.bind_some, hdI]
    simp only [Option.bind_some]
  rw [hxC]
  have hm9 := h4.2.2.2.2.2
  have hnl8 : nl ≤ 8 := hm9.2.2.2.2.2.1
  rcases p_begins (Xp := Xp) (T := T) h1 hk (x := iN nl) (y := 8) with ⟨Q1, J1, a1, a2, a3, a4, a5, a6, a7⟩ | ⟨Q1, J1, a1, a2, a3, a4, a5⟩
  · have hx6 : nl ≠ 8 := fun hh => begins_ne a1 (by rw [hh]; rfl)
    have hj13 : J1 0 13 = 0 := a3.2.2.2.2.1
    have hnb : nb ≤ 35 := by omega
    obtain ⟨Tb, hTb⟩ : ∃ Tb, Tb = tI T txa 6 (iN (nl + 1)) := ⟨_, rfl⟩
    have hb1 : BdH n0 Tb txa (xk Y) Y b ar e (nl + 1) := by rw [hTb]; exact h4.wt (fun _ _ => rfl) (Or.inr ⟨rfl, rfl, by omega⟩)
    have hn1 : NmT Tb Y e nm := by rw [hTb]; exact h5.wt h4.1.1 (fun _ _ => rfl)
    have lb1 : LmT n0 Tb := by rw [hTb]; exact hl0
    have eN : tN Tb = tN T := by rw [hTb]; rfl
    have eZ : tZ Tb = tZ T := by rw [hTb]; rfl
    have eL : tL Tb = tL T := by rw [hTb]; rfl
    have bl1 : ∀ c, c < n0 → At_ T Tb c := fun c hc => by
      rw [hTb]
      refine ⟨rfl, ?_, rfl⟩
      funext i
      rw [tI_2, if_neg (fun hh => by have := h4.1.2.1; omega)]
    have hpI : ∀ {α : Type} (f : Th → Option α), pI T txa 4 6 (iN nl + 1) f = f Tb := fun f => by rw [e1, hTb]; exact pI_p h4.1.1 (by have := h4.1.2.1; omega)
    have hMa : ((M_roomFor (iN nl) 8 J).bind fun r3 => if (r3 0 13) = 0 then (M_tellLaw F K r3).bind fun r4 => some (r4, K) else some (r3, K)) = ((M_known F K 3 J1).bind fun r1 => (M_must 5 r1.2).bind fun r2 => lt_ (r2 0 49) fun x3 => M_tellLaw_L18 F K F r1.1 x3 0 r2).bind fun r4 => some (r4, K) := by
      rw [a2, Option.bind_some, if_pos hj13]
      rfl
    rw [hMa]
    have a49 : J1 0 49 = iN (50 * g + nb) := by rw [a5.2 49 (by omega)]; exact j6
    obtain ⟨f, hf1⟩ : ∃ f, F = f + 1 := ⟨F - 1, by omega⟩
    have eLF : M_tellLaw_L18 F K F = M_tellLaw_L18 F K (f + 1) := congrArg _ hf1
    rcases p_known2 (Xp := Xp) (T := Tb) (s := 3) hF a3 lb1.1 (hb1.rws hn1) (h6.fr (a5.1 9 (by omega)) (a5.1 10 (by omega)) (a5.2 20 (by omega))) (by omega) (by rw [eL, eN]; omega) (by rw [eL, eN]; omega) (by rw [eL, eZ]; omega) with ⟨v, Q2, T1, J2, p1, p2, p3, p4, p5, p6, p7, p8, p9⟩ | ⟨Q2, J2, p1, p2, p3, p4, p5⟩
    · have p1' : R_known F Xp (b 4) Q1 Tb = some (.inr (v, Q2, T1)) := p1
      have p2' : M_known F K 3 J1 = some (v, J2) := p2
      have hB1 : HB T1 := p7.2.2.2 lb1.1
      have eL1 : tL T1 = tL T := p7.2.1.trans eL
      have p4N := p4.2.1
      obtain ⟨T2, n1, n2, n3, n4, n5⟩ := law_new (T := T1) hB1 (by rw [eL1]; omega) (by rw [eL1]; omega) (by rw [eL1]; omega)
      have hnO : ∀ {α : Type} (f : Th → Option α), nO T1 15 4 f = f (tNew T1 (.inl 15) 4) := fun f => nO_p (by rw [eL1]; omega) (by rw [eL1]; omega)
      have xb2 : ExN Tb T2 := p7.tr n3
      rw [p2', Option.bind_some]
      rcases p_sign (Xp := Xp) (T := T2) p4 (c := 61) (k := 5) (Or.inr (Or.inl ⟨rfl, rfl⟩)) with ⟨Q3, J3, z1, z2, z3, z4, z5, z6, z7⟩ | ⟨Q3, J3, z1, z2, z3, z4, z5⟩
      · have z2' : M_must 5 J2 = some J3 := z2
        have z3N := z3.2.1
        have jt : jF J J3 := (a5.tr p6).tr z5
        have qt : qF Q Q3 := (a4.tr p5).tr z4
        have c49 : J3 0 49 = iN (50 * g + nb) := by rw [jt.2 49 (by omega)]; exact j6
        have c56 : J3 0 56 = iN (420 * g + nc) := by rw [jt.2 56 (by omega)]; exact j7
        have hq3 : Q3 9 5 = Q2 9 5 := by rw [z6, uJ_sn (by omega)]
        have hLM : LwM g nb nc J3 J3 [] nc := ⟨⟨⟨Nat.le_refl _, c56⟩, c49⟩, (fun i e he => by cases he), fun _ _ _ _ _ => rfl, fun _ _ _ _ => rfl, fun _ _ _ => rfl, fun _ _ _ _ _ => rfl, FrJ.rf⟩
        have hH2 : HpB T2 (a + 1 + 1 + 1) := ⟨n3.2.2.2 hB1, by rw [n3.2.1, eL1]; omega, by rw [n3.2.1, eL1]; omega, by rw [n3.2.1, eL1]; omega⟩
        have hx1 : tN Tb ≤ tN T1 := p7.1
        have hlw := law_L (g := g) (nb := nb) (nc := nc) (N := N) (P := P) (E := E) (K := K) (J0 := J3) (Tb := Tb) (Xp := Xp) (la := tN T1) (p0 := tN T1 + 1) (p1 := tN T1 + 2) (p2 := tN T1 + 3) (v := v) (y := iN (50 * g + nb)) hF j1 hnb ⟨hx1, by omega, by omega, by omega⟩ (by rw [eL, eN]; omega) 4 F F (a + 1 + 1 + 1) Q3 J3 T2 [] nc (by simp) (by omega) (by omega) z3 n2 hLM (by omega) hH2 xb2
        have hCm : ∀ X, (xb (R_law_L52 F Xp F v (tN T1) Q3 T2) fun r => R_sign Xp 59 r.1 r.2) = X → (xb (xb (R_begins Xp (iN nl) 8 Q T) fun r3 => dI r3.2 txa 4 6 fun x5 => pI r3.2 txa 4 6 (x5 + 1) fun T6 => dR T6 txa 4 4 fun x8 => (x8).bind fun b9 => xb (R_known F Xp b9 r3.1 T6) fun r10 => nO r10.2.2 15 4 fun T11 => (A_Law (tN r10.2.2) T11).bind fun r12 => xb (R_sign Xp 61 r10.2.1 r12) fun r13 => R_law_L52 F Xp F r10.1 (tN r10.2.2) r13.1 r13.2) fun r => R_sign Xp 59 r.1 r.2) = X := fun X hX => by
          rw [← hX]
          congr 1
          simp only [xb, a1, Option.bind_some, hdI, hpI, hdR Tb 4 (nl + 1) (by omega) hb1, p1', hnO, n1, z1]
        have hMm : ((M_must 5 (v, J2).2).bind fun r2 => lt_ (r2 0 49) fun x3 => M_tellLaw_L18 F K F (v, J2).1 x3 0 r2).bind (fun r4 => some (r4, K)) = (M_tellLaw_L18 F K F v (iN (50 * g + nb)) (iN 0) J3).bind fun r4 => some (r4, K) := by
          show ((M_must 5 J2).bind fun r2 => lt_ (r2 0 49) fun x3 => M_tellLaw_L18 F K F v x3 0 r2).bind (fun r4 => some (r4, K)) = _
          rw [z2', Option.bind_some, lt_e, c49]
          rfl
        rw [hMm]
        rcases hlw with ⟨a9, Q4, T3, J4, L1, cE, n9, d1, d2, d3, d4, d5, d6, d7, d8, d9, d10, d11, ⟨d12, d13⟩, d14, d15, d16⟩ | ⟨Q4, T3, J4, d1, d2, d3, d4, d5, d6⟩
        · rw [hCm _ rfl, d1]
          have d2' : M_tellLaw_L18 F K F v (iN (50 * g + nb)) (iN 0) J3 = lawM v (iN (50 * g + nb)) (uJ J4 0 49 (iN (50 * g + nb + L1.length + 1))) := d2
          rw [d2']
          have d4N := d4.2.1
          have hb3 := hb1.ex lb1.1 d11
          have hn3 := hn1.sm hb1 (ExN.sm lb1.1 d11)
          have lb3 := lb1.ex d11
          have eL3 : tL T3 = tL T := d11.2.1.trans eL
          have hL4 : L1.length ≤ 4 := d5.1.2.2.1
          have hq4 : Q4 9 5 = iN 0 → Q2 9 5 = iN 0 := fun hh => by rw [d15, hq3] at hh; exact hh
          have qt4 : qF Q Q4 := qt.tr d14
          obtain ⟨J5, hJ5⟩ : ∃ J5, J5 = uJ J4 0 49 (iN (50 * g + nb + L1.length + 1)) := ⟨_, rfl⟩
          rw [← hJ5] at d4 ⊢
          have o5 : ∀ p, p ≠ 0 → (p < 36 ∨ p = 41 ∨ 44 < p) → J5 p = J p := fun p p0 hp => by rw [hJ5, uJ_o p0, d7.2.2.2.2.1 p p0 hp, jt.1 p p0]
          have o50 : ∀ i, (i < 11 ∨ 16 < i) → i ≠ 49 → i ≠ 56 → i ≠ 60 → J5 0 i = J 0 i := fun i c1 c2 c3 c4 => by rw [hJ5, uJ_sn c2, d7.2.2.2.2.2.1 i c1 c2 c3 c4, jt.2 i c1]
          have o49 : J5 0 49 = iN (50 * g + (nb + L1.length + 1)) := by rw [hJ5, uJ_ss]; congr 1; omega
          have o56 : J5 0 56 = iN (420 * g + n9) := by rw [hJ5, uJ_sn (by omega)]; exact d7.1.1.2
          have hfr5 : FrJ g J J5 := by rw [hJ5]; exact (jt.w.tr d7.2.2.2.2.2.2).tr (FrJ.u (by simp [wr_]))
          have oAg : AgJ g nb nc J J5 := ⟨fun p i p1 p2 hi => by rw [hJ5, uJ_o (by omega), d7.2.2.1 p i p1 p2 hi, jt.1 p (by omega)], fun p i hp hi => by rw [hJ5, uJ_o (by omega), d7.2.2.2.1 p i hp hi, jt.1 p (by omega)]⟩
          have hbud : tN T3 + 16 * (401 - a9) ≤ (tL T).1 ∧ tZ T3 + 120 * (401 - a9) ≤ (tL T).2.1 := by
            have q1 : tN T3 ≤ tN T + 8 + (a9 - (a + 3)) := by have : tN T1 = tN Tb + 4 := p8; omega
            have q2 : tZ T3 ≤ tZ T + 49 + 3 * (a9 - (a + 3)) := by have : tZ T1 ≤ tZ Tb + 32 := p9; omega
            exact bud2 h9 h10 q1 q2 (by omega) (by omega)
          have bl3 : ∀ c, c < n0 → At_ T T3 c := fun c hc => by
            obtain ⟨y1, y2, y3⟩ := bl1 c hc
            obtain ⟨z1, z2, z3⟩ := d11.bl lb1.2.2.1 c hc
            exact ⟨z1.trans y1, z2.trans y2, z3.trans y3⟩
          have hTN : tN T ≤ tN T3 := by have := d11.1; omega
          -- the model's end, whatever was written of the man
          have hmu : ∀ (T' : Th) (Q' J' : Ji), M_must 4 J5 = some J' → jF J5 J' → PT N P E (a9 + 1) 0 Q' J' K → PT N P E (a9 + 1) 0 Q' (uJ J' 33 g (iN (nl + 1))) K := fun T' Q' J' _ _ hp => hp.mo (fun p p1 p2 => uJ_o (by omega)) (fun i _ _ => by rw [uJ_o (by omega)]) (fun _ _ => rfl)
          have hBJ : ∀ J', (∀ p, p ≠ 0 → p ≠ 33 → p ≠ 34 → p ≠ 35 → J' p = J5 p) → (∀ i, 16 < i → J' 0 i = J5 0 i) → J' 33 g = iN (nl + 1) → ∀ Y1 : Xt, Y1.1 = Y.1 → BdJ J' g Y1 (nl + 1) (nb + L1.length + 1) n9 := fun J' q1 q2 q3 Y1 hY1 => by
            have e : ∀ r, Y1.1 r = Y.1 r := fun r => by rw [hY1]
            refine ⟨⟨j1, by rw [q2 19 (by omega), o50 19 (by omega) (by omega) (by omega) (by omega)]; exact j2⟩, ?_, fun k hk => ?_, ⟨by rw [q2 49 (by omega)]; exact o49, by omega⟩, by rw [q2 56 (by omega)]; exact o56⟩
            · show J' 11 g = iN (Y1.1 0) ∧ J' 12 g = iN (Y1.1 1) ∧ J' 17 g = iN (Y1.1 2) ∧ J' 19 g = iN (Y1.1 3) ∧ J' 29 g = iN (Y1.1 4) ∧ J' 33 g = iN (nl + 1)
              rw [e 0, e 1, e 2, e 3, e 4, q1 11 (by omega) (by omega) (by omega) (by omega), q1 12 (by omega) (by omega) (by omega) (by omega), q1 17 (by omega) (by omega) (by omega) (by omega), q1 19 (by omega) (by omega) (by omega) (by omega), q1 29 (by omega) (by omega) (by omega) (by omega), o5 11 (by omega) (by omega), o5 12 (by omega) (by omega), o5 17 (by omega) (by omega), o5 19 (by omega) (by omega), o5 29 (by omega) (by omega)]
              exact ⟨j3, j4.1, j4.2.1, j4.2.2.1, j4.2.2.2.1, q3⟩
            · have hk : k < Y1.1 3 := hk
              rw [e 3] at hk
              rw [q1 22 (by omega) (by omega) (by omega) (by omega), o5 22 (by omega) (by omega), show xs Y1 k = xs Y k from e (10 + k)]
              exact j5 k hk
          rcases p3 with ⟨i, i1, i2, i3⟩ | ⟨i2, i3⟩
          · -- the man is known
            have i1' : i < Y.1 4 := i1
            have hb4 : Y.1 4 ≤ 6 := hm9.2.2.2.2.1
            have hv0 : ¬ v < 0 := by rw [i2, i_0, iN_lt (by omega) (by omega)]; omega
            have hv1 : (0 : Int32) ≤ v := by rw [i2, i_0, iN_le (by omega) (by omega)]; omega
            have hke := hb3.2.2.1 4 i (Or.inl (by omega)) i1'
            have hke1 : T3.1 (e 4 i) = some (.inl 14) := hke.1
            obtain ⟨T4, hT4⟩ : ∃ T4, T4 = tR T3 (e 4 i) 4 (some (tN T1)) := ⟨_, rfl⟩
            have hE : lawE Xp v (tN T1) Q4 T3 = some (.inr (Q4, T4)) := by
              unfold lawE
              rw [if_neg hv0, h2, Option.bind_some, hdR T3 4 (nl + 1) (by omega) hb3, Option.bind_some, i2, (hb3.2.1 4 (Or.inl (by omega))).1.ls.gt i1', Option.bind_some, dC_p hke1, pR_p hke1 (by rw [eL3]; have := hke.2; omega), hT4]
            rw [hE]
            show StO n0 g txa Xp N P E a Q J K T (R_sign Xp 59 Q4 T4) _
            have bl4 : ∀ c, c < n0 → At_ T T4 c := fun c hc => by
              obtain ⟨y1, y2, y3⟩ := bl3 c hc
              rw [hT4]
              refine ⟨y1, y2, ?_⟩
              rw [← y3]
              funext q
              rw [tR_3, if_neg (fun hh => by have := hke.2; omega)]
            have eL4 : tL T4 = tL T := by rw [hT4]; exact eL3
            have eN4 : tN T4 = tN T3 := by rw [hT4]; rfl
            have eZ4 : tZ T4 = tZ T3 := by rw [hT4]; rfl
            rcases p_sign (Xp := Xp) (T := T4) d4 (c := 59) (k := 4) (Or.inl ⟨rfl, rfl⟩) with ⟨Q5, J6, s1, s2, s3, s4, s5, s6, s7⟩ | ⟨Q5, J6, s1, s2, s3, s4, s5⟩
            · have s2' : M_must 4 J5 = some J6 := s2
              have s3N := s3.2.1
              obtain ⟨J7, hJ7⟩ : ∃ J7, J7 = uJ (uJ (uJ J6 33 g (iN (nl + 1))) 34 (6 * g + i) (iN (50 * g + nb))) 35 (6 * g + i) (iN (50 * g + (nb + L1.length + 1))) := ⟨_, rfl⟩
              have q7 : ∀ p, p ≠ 0 → p ≠ 33 → p ≠ 34 → p ≠ 35 → J7 p = J5 p := fun p c0 c1 c2 c3 => by rw [hJ7, uJ_o c3, uJ_o c2, uJ_o c1, s5.1 p c0]
              have q70 : ∀ i, 16 < i → J7 0 i = J5 0 i := fun i hi => by rw [hJ7, uJ_o (by omega), uJ_o (by omega), uJ_o (by omega), s5.2 i (by omega)]
              have q733 : J7 33 g = iN (nl + 1) := by rw [hJ7, uJ_o (by omega), uJ_o (by omega), uJ_ss]
              have q734 : ∀ m, J7 34 m = if m = 6 * g + i then iN (50 * g + nb) else J 34 m := fun m => by
                rw [hJ7, uJ_o (by omega), uJ_ap]
                by_cases c : m = 6 * g + i
                · rw [if_pos ⟨rfl, c⟩, if_pos c]
                · rw [if_neg (fun hh => c hh.2), if_neg c, uJ_o (by omega), s5.1 34 (by omega), o5 34 (by omega) (by omega)]
              have q735 : ∀ m, J7 35 m = if m = 6 * g + i then iN (50 * g + (nb + L1.length + 1)) else J 35 m := fun m => by
                rw [hJ7, uJ_ap]
                by_cases c : m = 6 * g + i
                · rw [if_pos ⟨rfl, c⟩, if_pos c]
                · rw [if_neg (fun hh => c hh.2), if_neg c, uJ_o (by omega), uJ_o (by omega), s5.1 35 (by omega), o5 35 (by omega) (by omega)]
              have hMf : lawM v (iN (50 * g + nb)) J5 = some J7 := by
                have w19 : J6 0 19 = iN g := by rw [s5.2 19 (by omega), o50 19 (by omega) (by omega) (by omega) (by omega)]; exact j2
                have w33 : J6 33 g = iN nl := by rw [s5.1 33 (by omega), o5 33 (by omega) (by omega)]; exact j33
                have w49 : J6 0 49 = iN (50 * g + (nb + L1.length + 1)) := by rw [s5.2 49 (by omega)]; exact o49
                unfold lawM
                rw [s2', Option.bind_some, if_pos (by rw [s3.2.2.2.2.1]; decide), w19, ldI_n (by omega) (by omega), w33, e1, stI_n (by omega) (by omega), if_pos hv1, uJ_o (by omega), w19, i2, show 6 * iN g + iN i = iN (6 * g + i) by rw [i_6, iN_mul, iN_add], stI_n (by omega) (by omega), uJ_o (by omega), uJ_o (by omega), w19, show 6 * iN g + iN i = iN (6 * g + i) by rw [i_6, iN_mul, iN_add], stI_n (by omega) (by omega), w49, ← hJ7]
              rw [hMf, Option.bind_some]
              left
              let Y1 : Xt := (Y.1, Y.2.1, fun m => if m = i then some (L1, cE) else Y.2.2 m)
              have hfr7 : FrJ g J J7 := by
                rw [hJ7]
                exact (hfr5.tr s5.w).tr ((FrJ.u (by simp [wr_])).tr ((FrJ.u (by simp [wr_, lv_]; omega)).tr (FrJ.u (by simp [wr_, lv_]; omega))))
              refine ⟨a9 + 1, Q5, T4, J7, K, s1, rfl, ⟨Y1, b, ar, e, nl + 1, Nn, sg, id_, nm, nb + L1.length + 1, n9, ?_, h2, by rw [hT4]; exact lb3, by rw [hT4]; exact hb3.wl hke1 rfl, by rw [hT4]; exact hn3.wl hke1 rfl, ⟨h6.fr (by rw [q7 9 (by omega) (by omega) (by omega) (by omega), o5 9 (by omega) (by omega)]) (by rw [q7 10 (by omega) (by omega) (by omega) (by omega), o5 10 (by omega) (by omega)]) (by rw [q70 20 (by omega), o50 20 (by omega) (by omega) (by omega) (by omega)]), h6b⟩, hBJ J7 q7 q70 q733 Y1 rfl, ⟨by omega, h8.2⟩, ⟨by rw [eL4, eN4]; omega, by rw [eL4, eZ4]; omega⟩, fun hq => ?_⟩, by omega, qt4.tr s4, hfr7, fun _ _ => rfl, bl4, eL4, by omega⟩
              · exact s3.mo (fun p p1 p2 => by rw [hJ7, uJ_o (by omega), uJ_o (by omega), uJ_o (by omega)]) (fun i _ _ => by rw [hJ7, uJ_o (by omega), uJ_o (by omega), uJ_o (by omega)]) (fun _ _ => rfl)
              · rw [s6, uJ_sn (by omega)] at hq
                have hqq : Q 9 5 = iN 0 := by
                  have := hq4 hq
                  rw [i3, a6, uJ_sn (by omega)] at this
                  exact this
                obtain ⟨v1, v2, v3, v4⟩ := h11 hqq
                have v1b : VTx Tb Y e := by rw [hTb]; exact v1.sm h4 (wt_sm h4.1.1 kL_4) (wt_sm h4.1.1 kE_4)
                have v13 : VTx T3 Y e := v1b.sm hb1 (ExN.sm lb1.1 d11) (ExN.sm lb1.1 d11)
                refine ⟨?_, ?_, v3, ?_⟩
                · rw [hT4]
                  refine v13.wl hke1 i1 (fun m hm hmi => ?_) rfl rfl (fun m => rfl) (d5.lw d6)
                  rcases Nat.lt_or_gt_of_ne hmi with c | c
                  · exact h8.2 m i c i1
                  · exact fun hh => h8.2 i m c hm hh.symm
                · obtain ⟨u1, u2, u3, u4, u5, u6, u7⟩ := v2
                  have q : ∀ p, 13 ≤ p → p ≤ 41 → (p < 33 ∨ p = 41) → J7 p = J p := fun p c1 c2 c3 => by rw [q7 p (by omega) (by omega) (by omega) (by omega), o5 p (by omega) (by omega)]
                  have hag : AgJ g nb nc J J7 := ⟨fun p i p1 p2 hi => by rw [q7 p (by omega) (by omega) (by omega) (by omega)]; exact oAg.1 p i p1 p2 hi, fun p i hp hi => by rw [q7 p (by omega) (by omega) (by omega) (by omega)]; exact oAg.2 p i hp hi⟩
                  refine ⟨fun d hd => ?_, fun t ht => ?_, fun k hk => ?_, fun k s hk hs => ?_, fun m hm => ?_, ?_, fun m hm hm2 => ?_⟩
                  · rw [q 13 (by omega) (by omega) (by omega), q 14 (by omega) (by omega) (by omega), q 15 (by omega) (by omega) (by omega), q 16 (by omega) (by omega) (by omega)]; exact u1 d hd
                  · rw [q 18 (by omega) (by omega) (by omega)]; exact u2 t ht
                  · rw [q 20 (by omega) (by omega) (by omega), q 21 (by omega) (by omega) (by omega)]; exact u3 k hk
                  · rw [q 23 (by omega) (by omega) (by omega), q 24 (by omega) (by omega) (by omega), q 25 (by omega) (by omega) (by omega), q 26 (by omega) (by omega) (by omega), q 27 (by omega) (by omega) (by omega), q 28 (by omega) (by omega) (by omega)]; exact u4 k s hk hs
                  · rw [q 30 (by omega) (by omega) (by omega), q 31 (by omega) (by omega) (by omega), q 32 (by omega) (by omega) (by omega), q734, q735]
                    obtain ⟨w1, w2, w3, w4⟩ := u5 m hm
                    refine ⟨w1, w2, w3, ?_⟩
                    show lwB J7 g (nb + L1.length + 1) n9 _ _ (if m = i then some (L1, cE) else Y.2.2 m)
                    by_cases cm : m = i
                    · rw [if_pos cm, if_pos (by omega), if_pos (by omega), show 50 * g + (nb + L1.length + 1) = 50 * g + nb + L1.length + 1 by omega]
                      exact lwB_of d7 d8 d9 (fun p p1 p2 p3 => by rw [q7 p (by omega) (by omega) (by omega) (by omega), hJ5, uJ_o (by omega)]) (by omega) (by omega)
                    · rw [if_neg cm, if_neg (by omega), if_neg (by omega)]
                      exact w4.mo hag (by omega) (by have := d7.1.1.1; omega)
                  · rw [q 41 (by omega) (by omega) (by omega)]; exact u6
                  · have hm' : Y.1 4 ≤ m := hm
                    rw [q734, q735, if_neg (by omega), if_neg (by omega)]; exact u7 m hm hm2
                · have ht3 := lb1.1.at_ d11 hb1.1.1
                  rw [hT4]
                  show T3.2.1 txa 5 = _
                  rw [ht3.2.1, hTb, tI_2, if_neg (by omega)]
                  exact v4
            · right
              have s2' : M_must 4 J5 = some J6 := s2
              refine ⟨Q5, T4, J6, K, s1, ?_, s3, qt4.tr s4, hfr5.tr s5.w, fun _ _ => rfl, bl4, eL4, by omega⟩
              unfold lawM
              rw [s2', Option.bind_some, if_neg s3.n0.2.1, Option.bind_some]
          · -- the man is not known
            have hv0 : v < 0 := by rw [i2]; decide
            have hv1 : ¬ (0 : Int32) ≤ v := by rw [i2]; decide
            have hE : lawE Xp v (tN T1) Q4 T3 = some (.inr (Q4, T3)) := by
              unfold lawE
              rw [if_pos hv0]
            rw [hE]
            show StO n0 g txa Xp N P E a Q J K T (R_sign Xp 59 Q4 T3) _
            rcases p_sign (Xp := Xp) (T := T3) d4 (c := 59) (k := 4) (Or.inl ⟨rfl, rfl⟩) with ⟨Q5, J6, s1, s2, s3, s4, s5, s6, s7⟩ | ⟨Q5, J6, s1, s2, s3, s4, s5⟩
            · have s2' : M_must 4 J5 = some J6 := s2
              have s3N := s3.2.1
              obtain ⟨J7, hJ7⟩ : ∃ J7, J7 = uJ J6 33 g (iN (nl + 1)) := ⟨_, rfl⟩
              have q7 : ∀ p, p ≠ 0 → p ≠ 33 → p ≠ 34 → p ≠ 35 → J7 p = J5 p := fun p c0 c1 c2 c3 => by rw [hJ7, uJ_o c1, s5.1 p c0]
              have q70 : ∀ i, 16 < i → J7 0 i = J5 0 i := fun i hi => by rw [hJ7, uJ_o (by omega), s5.2 i (by omega)]
              have q733 : J7 33 g = iN (nl + 1) := by rw [hJ7, uJ_ss]
              have hMf : lawM v (iN (50 * g + nb)) J5 = some J7 := by
                have w19 : J6 0 19 = iN g := by rw [s5.2 19 (by omega), o50 19 (by omega) (by omega) (by omega) (by omega)]; exact j2
                have w33 : J6 33 g = iN nl := by rw [s5.1 33 (by omega), o5 33 (by omega) (by omega)]; exact j33
                unfold lawM
                rw [s2', Option.bind_some, if_pos (by rw [s3.2.2.2.2.1]; decide), w19, ldI_n (by omega) (by omega), w33, e1, stI_n (by omega) (by omega), if_neg hv1, ← hJ7]
              rw [hMf, Option.bind_some]
              left
              have hfr7 : FrJ g J J7 := by
                rw [hJ7]
                exact (hfr5.tr s5.w).tr (FrJ.u (by simp [wr_]))
              refine ⟨a9 + 1, Q5, T3, J7, K, s1, rfl, ⟨Y, b, ar, e, nl + 1, Nn, sg, id_, nm, nb + L1.length + 1, n9, ?_, h2, lb3, hb3, hn3, ⟨h6.fr (by rw [q7 9 (by omega) (by omega) (by omega) (by omega), o5 9 (by omega) (by omega)]) (by rw [q7 10 (by omega) (by omega) (by omega) (by omega), o5 10 (by omega) (by omega)]) (by rw [q70 20 (by omega), o50 20 (by omega) (by omega) (by omega) (by omega)]), h6b⟩, hBJ J7 q7 q70 q733 Y rfl, ⟨by omega, h8.2⟩, ⟨by rw [eL3]; omega, by rw [eL3]; omega⟩, fun hq => ?_⟩, by omega, qt4.tr s4, hfr7, fun _ _ => rfl, bl3, eL3, hTN⟩
              · exact s3.mo (fun p p1 p2 => by rw [hJ7, uJ_o (by omega)]) (fun i _ _ => by rw [hJ7, uJ_o (by omega)]) (fun _ _ => rfl)
              · rw [s6, uJ_sn (by omega)] at hq
                exact absurd (hq4 hq) i3
            · right
              have s2' : M_must 4 J5 = some J6 := s2
              refine ⟨Q5, T3, J6, K, s1, ?_, s3, qt4.tr s4, hfr5.tr s5.w, fun _ _ => rfl, bl3, eL3, hTN⟩
              unfold lawM
              rw [s2', Option.bind_some, if_neg s3.n0.2.1, Option.bind_some]
        · right
          have d2' : M_tellLaw_L18 F K F v (iN (50 * g + nb)) (iN 0) J3 = some J4 := d2
          have bl3 : ∀ c, c < n0 → At_ T T3 c := fun c hc => by
            obtain ⟨y1, y2, y3⟩ := bl1 c hc
            obtain ⟨z1, z2, z3⟩ := d6.bl lb1.2.2.1 c hc
            exact ⟨z1.trans y1, z2.trans y2, z3.trans y3⟩
          refine ⟨Q4, T3, J4, K, hCm _ ?_, by rw [d2', Option.bind_some], d3, qt.tr d5, jt.w.tr d4, fun _ _ => rfl, bl3, d6.2.1.trans eL, by have := d6.1; omega⟩
          rw [d1]
          rfl
      · right
        have z2' : M_must 5 J2 = some J3 := z2
        obtain ⟨J11, o1, o2, o3⟩ := FT.l18 (F := F) (K := K) (n := f) (x := v) (y := J3 0 49) (z := 0) (q := 50 * g + nb) z3 (by rw [z5.2 49 (by omega), p6.2 49 (by omega)]; exact a49) (by omega) (by omega) j1
        refine ⟨Q3, T2, J11, K, ?_, ?_, o2, (a4.tr p5).tr z4, ((a5.tr p6).tr z5).w.tr o3, fun _ _ => rfl, fun c hc => ?_, xb2.2.1.trans eL, by have := xb2.1; omega⟩
        · simp only [xb, a1, Option.bind_some, hdI, hpI, hdR Tb 4 (nl + 1) (by omega) hb1, p1', hnO, n1, z1]
        · show ((M_must 5 J2).bind fun r2 => lt_ (r2 0 49) fun x3 => M_tellLaw_L18 F K F v x3 0 r2).bind _ = _
          rw [z2', Option.bind_some, lt_e, eLF, o1, Option.bind_some]
        · obtain ⟨y1, y2, y3⟩ := bl1 c hc
          obtain ⟨z1, z2, z3⟩ := xb2.bl lb1.2.2.1 c hc
          exact ⟨z1.trans y1, z2.trans y2, z3.trans y3⟩
    · right
      have p1' : R_known F Xp (b 4) Q1 Tb = some (.inl (Q2, Xp, Tb)) := p1
      have p2' : M_known F K 3 J1 = some (-1, J2) := p2
      obtain ⟨J11, o1, o2, o3⟩ := FT.l18 (F := F) (K := K) (n := f) (x := -1) (y := J2 0 49) (z := 0) (q := 50 * g + nb) p3 (by rw [p5.2 49 (by omega)]; exact a49) (by omega) (by omega) j1
      refine ⟨Q2, Tb, J11, K, ?_, ?_, o2, a4.tr p4, (a5.tr p5).w.tr o3, fun _ _ => rfl, bl1, eL, by omega⟩
      · simp only [xb, a1, Option.bind_some, hdI, hpI, hdR Tb 4 (nl + 1) (by omega) hb1, p1']
      · rw [p2', Option.bind_some]
        show ((M_must 5 J2).bind fun r2 => lt_ (r2 0 49) fun x3 => M_tellLaw_L18 F K F (-1) x3 0 r2).bind _ = _
        rw [p3.fm.must, Option.bind_some, lt_e, eLF, o1, Option.bind_some]
  · right
    refine ⟨Q1, T, J1, K, ?_, ?_, a3, a4, a5.w, fun _ _ => rfl, fun c hc => ⟨rfl, rfl, rfl⟩, rfl, Nat.le_refl _⟩
    · simp only [xb, a1, Option.bind_some]
    · rw [a2, Option.bind_some, if_neg a3.n0.1]
end LQ
