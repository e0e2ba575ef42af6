/-! PURE LAW 60: a law is told: its branches, one after the other -/
set_option maxRecDepth 100000
section LP
variable {g nb nc F N : Nat} {P E : Nat → Nat} {K : Jl} {J0 : Ji} {Tb : Th} {Xp : Jr} {la p0 p1 p2 : Nat} {v y : Int32}
theorem ft38 {Q J : Ji} {q n : Nat} {x1 y1 z1 : Int32} (h : FT Q J) (hq : J 0 49 = iN q) (h1 : 50 * g ≤ q) (h2 : q < 50 * g + 49) (hg : g < 2) : ∃ J1, (stI J 38 100 (J 0 49) (J 0 56) fun J12 => if (J12 0 13) = 0 then (M_expression F J12).bind fun r13 => M_tellLaw_B116 F (M_tellLaw_L18 F K (n + 1)) K x1 y1 z1 r13 else M_tellLaw_B116 F (M_tellLaw_L18 F K (n + 1)) K x1 y1 z1 J12) = some J1 ∧ FT Q J1 ∧ FrJ g J J1 := by
  have hf := h.u (o := 38) (i := q) (v := J 0 56) (by omega)
  obtain ⟨J1, a1, a2, a3⟩ := FT.b116 (F := F) (K := K) (n := n) (x := x1) (y := y1) (z := z1) hf (by rw [uJ_o (by omega)]; exact hq) h1 h2 hg
  refine ⟨J1, ?_, a2, (FrJ.u (by simp [wr_, lv_]; omega)).tr a3⟩
  rw [hq, stI_n (by omega) (by omega), if_neg hf.n0.1, a1]
def LwO (g nb nc F N : Nat) (P E : Nat → Nat) (K : Jl) (J0 : Ji) (Tb : Th) (Xp : Jr) (la p0 p1 p2 : Nat) (v y : Int32) (d : Nat) : Prop := ∀ n m a Q J T L n1, L.length + d = 4 → d + 1 ≤ n → d + 2 ≤ m → PT N P E a 0 Q J K → LwI T la p0 p1 p2 L → LwM g nb nc J0 J L n1 → n1 ≤ a → HpB T a → ExN Tb T →
    (∃ a1 Q1 T1 J1 L1 cE n2, R_law_L52 F Xp n v la Q T = lawE Xp v la Q1 T1 ∧ M_tellLaw_L18 F K m v y (iN L.length) J = lawM v y (uJ J1 0 49 (iN (50 * g + nb + L1.length + 1))) ∧ a < a1 ∧ PT N P E a1 0 Q1 (uJ J1 0 49 (iN (50 * g + nb + L1.length + 1))) K ∧ LwI T1 la p0 p1 p2 L1 ∧ PN T1 p2 L1.length cE ∧ LwM g nb nc J0 J1 L1 n2 ∧ J1 36 (50 * g + nb + L1.length) = iN 0 ∧ cdN J1 g n2 (J1 39 (50 * g + nb + L1.length)) (J1 40 (50 * g + nb + L1.length)) cE ∧ HpB T1 a1 ∧ ExN Tb T1 ∧ (tN T1 ≤ tN T + (a1 - a) ∧ tZ T1 ≤ tZ T + 3 * (a1 - a)) ∧ qF Q Q1 ∧ Q1 9 5 = Q 9 5 ∧ n2 ≤ a1) ∨
    (∃ Q1 T1 J1, R_law_L52 F Xp n v la Q T = some (.inl (Q1, Xp, T1)) ∧ M_tellLaw_L18 F K m v y (iN L.length) J = some J1 ∧ FT Q1 J1 ∧ FrJ g J0 J1 ∧ qF Q Q1 ∧ ExN Tb T1)
theorem law_step (hF : 2100 ≤ F) (hg : g < 2) (hnb : nb ≤ 35) (hla : tN Tb ≤ la ∧ tN Tb ≤ p0 ∧ tN Tb ≤ p1 ∧ tN Tb ≤ p2) (hlb : (tL Tb).2.2.1 ≤ tN Tb) :
    ∀ d, (1 ≤ d → LwO g nb nc F N P E K J0 Tb Xp la p0 p1 p2 v y (d - 1)) → LwO g nb nc F N P E K J0 Tb Xp la p0 p1 p2 v y d := by
  intro d ih n m a Q J T L n1 hd hn hm hP hI hM hna hH hX
  obtain ⟨n, rfl⟩ : ∃ n', n = n' + 1 := ⟨n - 1, by omega⟩
  obtain ⟨m, rfl⟩ : ∃ m', m = m' + 1 + 1 := ⟨m - 2, by omega⟩
  have hNN := hP.n
  have haN := hP.2.1
  have n10 : ¬ (1 : Int32) = 0 := by decide
  obtain ⟨br, hbr⟩ : ∃ br, br = 50 * g + nb + L.length := ⟨_, rfl⟩
  have hbl : br < 100 := by omega
  have h49 : J 0 49 = iN br := by rw [hM.1.2, hbr]
  have hfJ : FrJ g J0 J := hM.2.2.2.2.2.2
  have hC0 : R_law_L52 F Xp (n + 1) v la Q T = R_law_B52 F (R_law_L52 F Xp n) Xp v la Q T := rfl
  have hM0 : M_tellLaw_L18 F K (m + 1 + 1) v y (iN L.length) J = M_tellLaw_B18 F (M_tellLaw_L18 F K (m + 1)) K v y (iN L.length) J := rfl
  rw [hC0, hM0]
  have f0 : ∀ {T' : Th}, LwI T' la p0 p1 p2 L → ∀ {α : Type} (f : Option Nat → Option α), dR T' la 15 0 f = f (some p0) := fun {T'} h {α} f => by rw [dR_p h.1.1, h.1.2.2.2.1]
  have f1 : ∀ {T' : Th}, LwI T' la p0 p1 p2 L → ∀ {α : Type} (f : Option Nat → Option α), dR T' la 15 1 f = f (some p1) := fun {T'} h {α} f => by rw [dR_p h.1.1, h.1.2.2.2.2.1]
  have f2 : ∀ {T' : Th}, LwI T' la p0 p1 p2 L → ∀ {α : Type} (f : Option Nat → Option α), dR T' la 15 2 f = f (some p2) := fun {T'} h {α} f => by rw [dR_p h.1.1, h.1.2.2.2.2.2]
  have f3 : ∀ {T' : Th}, LwI T' la p0 p1 p2 L → ∀ {α : Type} (f : Int32 → Option α), dI T' la 15 3 f = f (iN L.length) := fun {T'} h {α} f => by unfold dI; rw [if_pos h.1.1, h.1.2.1]
  have w36 : wr_ g 36 br = true := by simp [wr_, lv_]; omega
  have w37 : wr_ g 37 br = true := by simp [wr_, lv_]; omega
  have w38 : wr_ g 38 br = true := by simp [wr_, lv_]; omega
  rcases p_isw (Xp := Xp) (T := T) hP (w := 11) (by omega) with ⟨w1, w2, w3⟩ | ⟨w1, w2⟩
  · have w1' : R_isWord Xp 11 Q T = some (.inr (1, Q, T)) := w1
    have w2' : M_is J 31 = some 1 := w2
    have hCi : R_law_B52 F (R_law_L52 F Xp n) Xp v la Q T = xb (R_begins Xp (iN L.length) 4 Q T) fun r28 => dR r28.2 la 15 0 fun x29 => dI r28.2 la 15 3 fun x30 => xb (R_sum_7 F Xp r28.1 r28.2) fun r31 => (r31.1).bind fun b32 => (x29).bind fun b33 => sA r31.2.2 b33 (.object "SleepWork$Sum") x30 b32 fun T34 => xb (R_sign Xp 60 r31.2.1 T34) fun r35 => dR r35.2 la 15 1 fun x36 => dI r35.2 la 15 3 fun x37 => xb (R_sum_7 F Xp r35.1 r35.2) fun r38 => (r38.1).bind fun b39 => (x36).bind fun b40 => sA r38.2.2 b40 (.object "SleepWork$Sum") x37 b39 fun T41 => xb (R_word Xp 12 r38.2.1 T41) fun r42 => dR r42.2 la 15 2 fun x43 => dI r42.2 la 15 3 fun x44 => xb (R_sum_7 F Xp r42.1 r42.2) fun r45 => (r45.1).bind fun b46 => (x43).bind fun b47 => sA r45.2.2 b47 (.object "SleepWork$Sum") x44 b46 fun T48 => xb (R_word Xp 13 r45.2.1 T48) fun r49 => dI r49.2 la 15 3 fun x50 => pI r49.2 la 15 3 (x50 + 1) fun T51 => R_law_L52 F Xp n v la r49.1 T51 := by
      unfold R_law_B52
      simp only [xb, w1', Option.bind_some, if_neg n10, f3 hI]
    have hMi : M_tellLaw_B18 F (M_tellLaw_L18 F K (m + 1)) K v y (iN L.length) J = if iN L.length = 4 then (M_fail 2 J).bind fun r5 => M_tellLaw_B44 F (M_tellLaw_L18 F K (m + 1)) K v y (iN L.length) r5 else M_tellLaw_B44 F (M_tellLaw_L18 F K (m + 1)) K v y (iN L.length) J := by
      unfold M_tellLaw_B18
      rw [if_pos (show J 0 13 = 0 from hP.2.2.2.2.1), w2', Option.bind_some, if_neg n10]
    rw [hCi, hMi]
    by_cases c4 : L.length = 4
    · right
      obtain ⟨Q2, J2, g1, g2, g3, g4, g5, g6⟩ := p_wrong (T := T) hP (w := 2) (by omega) (by omega)
      have g1' : R_wrong T 2 Q = some Q2 := g1
      have g2' : M_fail 2 J = some J2 := g2
      have hft : FT Q2 J2 := ⟨_, _, g3⟩
      have e4 : iN L.length = 4 := by rw [c4]; rfl
      refine ⟨Q2, T, J2, ?_, ?_, hft, hfJ.tr g5.w, g4, hX⟩
      · have : R_begins Xp (iN L.length) 4 Q T = some (.inl (Q2, Xp, T)) := by
          unfold R_begins
          rw [if_pos e4, g1', Option.bind_some]
        simp only [xb, this, Option.bind_some]
      · rw [if_pos e4, g2', Option.bind_some]
        unfold M_tellLaw_B44
        rw [if_neg hft.n0.2.1]
    · have e4 : ¬ iN L.length = 4 := by rw [show (4 : Int32) = iN 4 from rfl, iN_eq (by omega) (by omega)]; exact c4
      rw [if_neg e4]
      have hB44 : M_tellLaw_B44 F (M_tellLaw_L18 F K (m + 1)) K v y (iN L.length) J = (M_goesOn J).bind fun r7 => stI r7 36 100 (r7 0 49) (1 &&& 1) fun J8 => stI J8 37 100 (J8 0 49) (J8 0 56) fun J9 => (M_expression F J9).bind fun r10 => (M_must 13 r10).bind fun r11 => stI r11 38 100 (r11 0 49) (r11 0 56) fun J12 => if (J12 0 13) = 0 then (M_expression F J12).bind fun r13 => M_tellLaw_B116 F (M_tellLaw_L18 F K (m + 1)) K v y (iN (L.length + 1)) r13 else M_tellLaw_B116 F (M_tellLaw_L18 F K (m + 1)) K v y (iN (L.length + 1)) J12 := by
        unfold M_tellLaw_B44
        rw [if_pos (show J 0 13 ≤ 0 by rw [hP.2.2.2.2.1]; decide), lt_e, i_1, iN_add]
      rw [hB44]
      have hbe : R_begins Xp (iN L.length) 4 Q T = xb (R_pass Xp Q T) fun r2 => some (.inr (r2.1, r2.2)) := by
        unfold R_begins
        rw [if_neg e4]
      rcases p_pass (Xp := Xp) (T := T) hP ⟨by rw [w3]; decide, by rw [w3]; decide⟩ with ⟨Q1, J1, t1, t2, t3, t4, t5, t6, t7⟩ | ⟨Q1, J1, t1, t2, t3, t4, t5, t6⟩
      · have hbe2 : R_begins Xp (iN L.length) 4 Q T = some (.inr (Q1, T)) := by
          rw [hbe]
          simp only [xb, t1, Option.bind_some]
        have t3N := t3.2.1
        have hM1 := hM.jf t5
        have a49 : J1 0 49 = iN br := by rw [hM1.1.2, hbr]
        obtain ⟨J3, hJ3⟩ : ∃ J3, J3 = uJ (uJ J1 36 br (iN 1)) 37 br (iN (420 * g + n1)) := ⟨_, rfl⟩
        have hM3 : LwM g nb nc J0 J3 L n1 := by rw [hJ3, hbr]; exact (hM1.st (by omega) (by omega) (Nat.le_refl _) (by omega)).st (by omega) (by omega) (Nat.le_refl _) (by omega)
        have hP3 : PT N P E (a + 1) 0 Q1 J3 K := by
          rw [hJ3]
          exact (t3.mo (J1 := uJ J1 36 br (iN 1)) (fun p p1 p2 => uJ_o (by omega)) (fun i _ _ => by rw [uJ_o (by omega)]) (fun _ _ => rfl)).mo (fun p p1 p2 => uJ_o (by omega)) (fun i _ _ => by rw [uJ_o (by omega)]) (fun _ _ => rfl)
        have hMm : ((M_goesOn J).bind fun r7 => stI r7 36 100 (r7 0 49) (1 &&& 1) fun J8 => stI J8 37 100 (J8 0 49) (J8 0 56) fun J9 => (M_expression F J9).bind fun r10 => (M_must 13 r10).bind fun r11 => stI r11 38 100 (r11 0 49) (r11 0 56) fun J12 => if (J12 0 13) = 0 then (M_expression F J12).bind fun r13 => M_tellLaw_B116 F (M_tellLaw_L18 F K (m + 1)) K v y (iN (L.length + 1)) r13 else M_tellLaw_B116 F (M_tellLaw_L18 F K (m + 1)) K v y (iN (L.length + 1)) J12) = (M_expression F J3).bind fun r10 => (M_must 13 r10).bind fun r11 => stI r11 38 100 (r11 0 49) (r11 0 56) fun J12 => if (J12 0 13) = 0 then (M_expression F J12).bind fun r13 => M_tellLaw_B116 F (M_tellLaw_L18 F K (m + 1)) K v y (iN (L.length + 1)) r13 else M_tellLaw_B116 F (M_tellLaw_L18 F K (m + 1)) K v y (iN (L.length + 1)) J12 := by
          rw [t2, Option.bind_some, a49, stI_n (by omega) (by omega), show ((1 : Int32) &&& 1) = iN 1 by decide, uJ_o (by omega), a49, stI_n (by omega) (by omega), hM1.1.1.2, ← hJ3]
        rw [hMm]
        have hH1 : HpB T (a + 1) := ⟨hH.1, hH.2.1, by have := hH.2.2.1; omega, by have := hH.2.2.2; omega⟩
        rcases ex_ok (Xp := Xp) hF hg hP3 hM3.1.1.2 (by omega) hH1 with ⟨x1, a1, Q2, T1, J4, c1, s1, s2, s3, s4, s5, s6, s7, s8, s9, s10⟩ | ⟨Q2, T1, J4, s1, s2, s3, s4, s5, s6, s7⟩
        · obtain ⟨m1, m2, m3, m4⟩ := hM3.exp s5
          have s4N := s4.2.1
          obtain ⟨A1, A2, A3, A4, A5, A6, A7, A8⟩ := sm_sA (Tb := Tb) (q := p0) (m := 4) hI hH1 hX (Or.inl ⟨rfl, rfl⟩) ⟨hla.2.1, by omega⟩ (by omega) s7 s3 (by omega) s6
          obtain ⟨T2, hT2⟩ : ∃ T2, T2 = tR T1 p0 L.length (some x1) := ⟨_, rfl⟩
          rw [← hT2] at A2 A3 A4 A5 A6 A7 A8
          have A1' : ∀ {α : Type} (f : Th → Option α), sA T1 p0 (.object "SleepWork$Sum") (iN L.length) x1 f = f T2 := fun f => by rw [hT2]; exact A1 f
          rw [s2, Option.bind_some]
          rcases p_sign (Xp := Xp) (T := T2) s4 (c := 60) (k := 13) (Or.inr (Or.inr (Or.inr (Or.inr (Or.inr (Or.inr (Or.inr (Or.inr ⟨rfl, rfl⟩)))))))) with ⟨Q3, J5, z1, z2, z3, z4, z5, z6, z7⟩ | ⟨Q3, J5, z1, z2, z3, z4, z5⟩
          · have z2' : M_must 13 J4 = some J5 := z2
            have z3N := z3.2.1
            rw [z2', Option.bind_some]
            have hM5 := m1.jf z5
            have b49 : J5 0 49 = iN br := by rw [hM5.1.2, hbr]
            obtain ⟨J6, hJ6⟩ : ∃ J6, J6 = uJ J5 38 br (iN (420 * g + (n1 + c1.length))) := ⟨_, rfl⟩
            have hM6 : LwM g nb nc J0 J6 L (n1 + c1.length) := by rw [hJ6, hbr]; exact hM5.st (by omega) (by omega) (Nat.le_refl _) (by omega)
            have hP6 : PT N P E (a1 + 1) 0 Q3 J6 K := by
              rw [hJ6]
              exact z3.mo (fun p p1 p2 => uJ_o (by omega)) (fun i _ _ => by rw [uJ_o (by omega)]) (fun _ _ => rfl)
            have hst : ∀ {α : Type} (f : Ji → Option α), stI J5 38 100 (J5 0 49) (J5 0 56) f = f J6 := fun f => by rw [b49, stI_n (by omega) (by omega), hM5.1.1.2, ← hJ6]
            rw [hst, if_pos (show J6 0 13 = 0 from hP6.2.2.2.2.1)]
            have hH2 : HpB T2 (a1 + 1) := ⟨A5.1, A5.2.1, by have := A5.2.2.1; omega, by have := A5.2.2.2; omega⟩
            rcases ex_ok (Xp := Xp) hF hg hP6 hM6.1.1.2 (by omega) hH2 with ⟨x2, a2, Q4, T3, J7, c2, u1, u2, u3, u4, u5, u6, u7, u8, u9, u10⟩ | ⟨Q4, T3, J7, u1, u2, u3, u4, u5, u6, u7⟩
            · obtain ⟨l1, l2, l3, l4⟩ := hM6.exp u5
              have u4N := u4.2.1
              obtain ⟨B1, B2, B3, B4, B5, B6, B7, B8⟩ := sm_sA (Tb := Tb) (q := p1) (m := 4) A2 hH2 A6 (Or.inr (Or.inl ⟨rfl, rfl⟩)) ⟨hla.2.2.1, by omega⟩ (by omega) u7 u3 (by omega) u6
              obtain ⟨T4, hT4⟩ : ∃ T4, T4 = tR T3 p1 L.length (some x2) := ⟨_, rfl⟩
              rw [← hT4] at B2 B3 B4 B5 B6 B7 B8
              have B1' : ∀ {α : Type} (f : Th → Option α), sA T3 p1 (.object "SleepWork$Sum") (iN L.length) x2 f = f T4 := fun f => by rw [hT4]; exact B1 f
              have hp01 : PN T4 p0 L.length c1 := B4 p0 _ _ _ A2.2.1.1 A3 (fun hh => A2.2.1.2.2.2.1 hh.1)
              rw [u2, Option.bind_some]
              unfold M_tellLaw_B116
              rcases p_word (Xp := Xp) (T := T4) u4 (w := 12) (by omega) with ⟨Q5, J8, k1, k2, k3, k4, k5, k6, k7⟩ | ⟨Q5, J8, k1, k2, k3, k4, k5⟩
              · have k1' : R_word Xp 12 Q4 T4 = some (.inr (Q5, T4)) := k1
                have k2' : M_must 32 J7 = some J8 := k2
                have k3N := k3.2.1
                rw [k2', Option.bind_some]
                have hM8 := l1.jf k5
                have hH4 : HpB T4 (a2 + 1) := ⟨B5.1, B5.2.1, by have := B5.2.2.1; omega, by have := B5.2.2.2; omega⟩
                rcases tm_ok (Xp := Xp) hF hg k3 hM8 (by omega) (by omega) hH4 with ⟨x3, a3, Q6, T5, J9, c3, v1, v2, v3, v4, v5, v6, v7, v8, v9, v10, v11, v12, v13, v14⟩ | ⟨Q6, T5, J9, v1, v2, v3, v4, v5, v6, v7⟩
                · have v4N := v4.2.1
                  obtain ⟨C1, C2, C3, C4, C5, C6, C7, C8⟩ := sm_sA (Tb := Tb) (q := p2) (m := 5) B2 hH4 B6 (Or.inr (Or.inr ⟨rfl, rfl⟩)) ⟨hla.2.2.2, by omega⟩ (by omega) v11 v3 (by omega) v10
                  obtain ⟨T6, hT6⟩ : ∃ T6, T6 = tR T5 p2 L.length (some x3) := ⟨_, rfl⟩
                  rw [← hT6] at C2 C3 C4 C5 C6 C7 C8
                  have C1' : ∀ {α : Type} (f : Th → Option α), sA T5 p2 (.object "SleepWork$Sum") (iN L.length) x3 f = f T6 := fun f => by rw [hT6]; exact C1 f
                  have r0 : PN T6 p0 L.length c1 := C4 p0 _ _ _ B2.2.1.1 hp01 (fun hh => B2.2.1.2.2.2.2.1 hh.1)
                  have r1 : PN T6 p1 L.length c2 := C4 p1 _ _ _ B2.2.1.2.1 B3 (fun hh => B2.2.1.2.2.2.2.2 hh.1)
                  rw [v2, Option.bind_some]
                  -- the model's branch
                  have y36 : J9 36 br = iN 1 := by
                    rw [v8 36 (by omega) (by omega), k5.1 36 (by omega), l3 36 (by omega) (by omega) (by omega) (by omega), hJ6, uJ_o (by omega), z5.1 36 (by omega), m3 36 (by omega) (by omega) (by omega) (by omega), hJ3, uJ_o (by omega), uJ_ss]
                  have y37 : J9 37 br = iN (420 * g + n1) := by
                    rw [v8 37 (by omega) (by omega), k5.1 37 (by omega), l3 37 (by omega) (by omega) (by omega) (by omega), hJ6, uJ_o (by omega), z5.1 37 (by omega), m3 37 (by omega) (by omega) (by omega) (by omega), hJ3, uJ_ss]
                  have y38 : J9 38 br = iN (420 * g + (n1 + c1.length)) := by
                    rw [v8 38 (by omega) (by omega), k5.1 38 (by omega), l3 38 (by omega) (by omega) (by omega) (by omega), hJ6, uJ_ss]
                  have y39 : J9 39 br = iN (420 * g + (n1 + c1.length + c2.length)) := by rw [hbr]; exact v6
                  have a2' : cdN J9 g (n1 + c1.length + c2.length + c3.length) (J9 37 br) (J9 38 br) c1 := by
                    rw [y37, y38, show 420 * g + (n1 + c1.length) = 420 * g + n1 + c1.length by omega]
                    refine m2.mo (by omega) (fun p i hp hi => ?_)
                    rw [v9 p i hp (by omega), k5.1 p (by omega), l4 p i hp (by omega), hJ6, uJ_o (by omega), z5.1 p (by omega)]
                  have a3' : cdN J9 g (n1 + c1.length + c2.length + c3.length) (J9 38 br) (J9 39 br) c2 := by
                    rw [y38, y39, show 420 * g + (n1 + c1.length + c2.length) = 420 * g + (n1 + c1.length) + c2.length by omega]
                    refine l2.mo (by omega) (fun p i hp hi => ?_)
                    rw [v9 p i hp (by omega), k5.1 p (by omega)]
                  rw [hbr] at y36 a2' a3'
                  have hM9 := v5.next y36 a2' a3' v7
                  rcases p_word (Xp := Xp) (T := T6) v4 (w := 13) (by omega) with ⟨Q7, J10, h1, h2, h3, h4, h5, h6, h7⟩ | ⟨Q7, J10, h1, h2, h3, h4, h5⟩
                  · have h1' : R_word Xp 13 Q6 T6 = some (.inr (Q7, T6)) := h1
                    have h2' : M_must 33 (uJ J9 0 49 (iN (50 * g + nb + L.length + 1))) = some J10 := h2
                    have h3N := h3.2.1
                    rw [h2', Option.bind_some]
                    have hk6 : T6.1 la = some (.inl 15) := C2.1.1
                    have hpI : ∀ {α : Type} (f : Th → Option α), pI T6 la 15 3 (iN (L.length + 1)) f = f (tI T6 la 3 (iN (L.length + 1))) := fun f => pI_p hk6 (by rw [C6.2.1]; omega)
                    have e1 : iN L.length + 1 = iN (L.length + 1) := by rw [i_1, iN_add]
                    have hC : ∀ X, R_law_L52 F Xp n v la Q7 (tI T6 la 3 (iN (L.length + 1))) = X → (xb (R_begins Xp (iN L.length) 4 Q T) fun r28 => dR r28.2 la 15 0 fun x29 => dI r28.2 la 15 3 fun x30 => xb (R_sum_7 F Xp r28.1 r28.2) fun r31 => (r31.1).bind fun b32 => (x29).bind fun b33 => sA r31.2.2 b33 (.object "SleepWork$Sum") x30 b32 fun T34 => xb (R_sign Xp 60 r31.2.1 T34) fun r35 => dR r35.2 la 15 1 fun x36 => dI r35.2 la 15 3 fun x37 => xb (R_sum_7 F Xp r35.1 r35.2) fun r38 => (r38.1).bind fun b39 => (x36).bind fun b40 => sA r38.2.2 b40 (.object "SleepWork$Sum") x37 b39 fun T41 => xb (R_word Xp 12 r38.2.1 T41) fun r42 => dR r42.2 la 15 2 fun x43 => dI r42.2 la 15 3 fun x44 => xb (R_sum_7 F Xp r42.1 r42.2) fun r45 => (r45.1).bind fun b46 => (x43).bind fun b47 => sA r45.2.2 b47 (.object "SleepWork$Sum") x44 b46 fun T48 => xb (R_word Xp 13 r45.2.1 T48) fun r49 => dI r49.2 la 15 3 fun x50 => pI r49.2 la 15 3 (x50 + 1) fun T51 => R_law_L52 F Xp n v la r49.1 T51) = X := fun X hX => by
                      rw [← hX]
                      simp only [xb, hbe2, Option.bind_some, f0 hI, f3 hI, s1, A1', z1, f1 A2, f3 A2, u1, B1', k1', f2 B2, f3 B2, v1, C1', h1', f3 C2, e1, hpI]
                    have hlen : (L ++ [(c1, c2, c3)]).length = L.length + 1 := by simp
                    have key := ih (by omega) n (m + 1) (a3 + 1) Q7 J10 (tI T6 la 3 (iN (L.length + 1))) (L ++ [(c1, c2, c3)]) (n1 + c1.length + c2.length + c3.length) (by omega) (by omega) (by omega) h3 (C2.next (by omega) r0 r1 C3) (hM9.jf h5) (by omega) ⟨C5.1, C5.2.1, by show tN T6 + (402 - (a3 + 1)) ≤ (tL T6).1; have := C5.2.2.1; omega, by show tZ T6 + 3 * (402 - (a3 + 1)) ≤ (tL T6).2.1; have := C5.2.2.2; omega⟩ (C6.wI hla.1)
                    rw [hlen] at key
                    have hq9 : Q7 9 5 = Q 9 5 := by rw [h6, uJ_sn (by omega), v13, k6, uJ_sn (by omega), u9, z6, uJ_sn (by omega), s9, t6, uJ_sn (by omega)]
                    have hqq : qF Q Q7 := ((((((t4.tr s8).tr z4).tr u8).tr k4).tr v12).tr h4)
                    rcases key with ⟨a', Q', T', J', L', cE, n2, d1, d2, d3, d4, d5, d6, d7, d8, d9, d10, d11, ⟨d12, d13⟩, d14, d15, d16⟩ | ⟨Q', T', J', d1, d2, d3, d4, d5, d6⟩
                    · have d12' : tN T' ≤ tN T6 + (a' - (a3 + 1)) := d12
                      have d13' : tZ T' ≤ tZ T6 + 3 * (a' - (a3 + 1)) := d13
                      exact Or.inl ⟨a', Q', T', J', L', cE, n2, hC _ d1, d2, by omega, d4, d5, d6, d7, d8, d9, d10, d11, ⟨by omega, by omega⟩, hqq.tr d14, by rw [d15, hq9], d16⟩
                    · exact Or.inr ⟨Q', T', J', hC _ d1, d2, d3, d4, hqq.tr d5, d6⟩
                  · right
                    have h1' : R_word Xp 13 Q6 T6 = some (.inl (Q7, Xp, T6)) := h1
                    have h2' : M_must 33 (uJ J9 0 49 (iN (50 * g + nb + L.length + 1))) = some J10 := h2
                    obtain ⟨J11, o1, o2, o3⟩ := FT.l18 (F := F) (K := K) (n := m) (x := v) (y := y) (z := iN (L.length + 1)) (q := br + 1) h3 (by rw [h5.2 49 (by omega), uJ_ss, hbr]) (by omega) (by omega) hg
                    refine ⟨Q7, T6, J11, ?_, by rw [h2', Option.bind_some, o1], o2, (hM9.2.2.2.2.2.2.tr h5.w).tr o3, ((((((t4.tr s8).tr z4).tr u8).tr k4).tr v12).tr h4), C6⟩
                    simp only [xb, hbe2, Option.bind_some, f0 hI, f3 hI, s1, A1', z1, f1 A2, f3 A2, u1, B1', k1', f2 B2, f3 B2, v1, C1', h1']
                · right
                  obtain ⟨J11, o1, o2, o3⟩ := FT.l18 (F := F) (K := K) (n := m) (x := v) (y := y) (z := iN (L.length + 1)) (q := br + 1) v3 (by rw [v5, hbr]) (by omega) (by omega) hg
                  refine ⟨Q6, T5, J11, ?_, by rw [v2, Option.bind_some, v3.fm.must, Option.bind_some, o1], o2, v4.tr o3, (((((t4.tr s8).tr z4).tr u8).tr k4).tr v6), B6.tr v7⟩
                  simp only [xb, hbe2, Option.bind_some, f0 hI, f3 hI, s1, A1', z1, f1 A2, f3 A2, u1, B1', k1', f2 B2, f3 B2, v1]
              · right
                have k1' : R_word Xp 12 Q4 T4 = some (.inl (Q5, Xp, T4)) := k1
                have k2' : M_must 32 J7 = some J8 := k2
                obtain ⟨J11, o1, o2, o3⟩ := FT.b116 (F := F) (K := K) (n := m) (x := v) (y := y) (z := iN (L.length + 1)) (q := br) k3 (by rw [k5.2 49 (by omega), l1.1.2, hbr]) (by omega) (by omega) hg
                refine ⟨Q5, T4, J11, ?_, ?_, o2, (l1.2.2.2.2.2.2.tr k5.w).tr o3, ((((t4.tr s8).tr z4).tr u8).tr k4), B6⟩
                · simp only [xb, hbe2, Option.bind_some, f0 hI, f3 hI, s1, A1', z1, f1 A2, f3 A2, u1, B1', k1']
                · rw [k2', Option.bind_some]
                  unfold M_tellLaw_B116 at o1
                  rw [k3.fm.must, Option.bind_some] at o1
                  exact o1
            · right
              obtain ⟨J11, o1, o2, o3⟩ := FT.b116 (F := F) (K := K) (n := m) (x := v) (y := y) (z := iN (L.length + 1)) (q := br) u3 (by rw [u5, hM6.1.2, hbr]) (by omega) (by omega) hg
              refine ⟨Q4, T3, J11, ?_, by rw [u2, Option.bind_some, o1], o2, (hM6.2.2.2.2.2.2.tr u4).tr o3, (((t4.tr s8).tr z4).tr u6), A6.tr u7⟩
              simp only [xb, hbe2, Option.bind_some, f0 hI, f3 hI, s1, A1', z1, f1 A2, f3 A2, u1]
          · right
            have z2' : M_must 13 J4 = some J5 := z2
            obtain ⟨J11, o1, o2, o3⟩ := ft38 (F := F) (K := K) (n := m) (x1 := v) (y1 := y) (z1 := iN (L.length + 1)) (q := br) z3 (by rw [z5.2 49 (by omega), m1.1.2, hbr]) (by omega) (by omega) hg
            refine ⟨Q3, T2, J11, ?_, by rw [z2', Option.bind_some, o1], o2, (m1.2.2.2.2.2.2.tr z5.w).tr o3, ((t4.tr s8).tr z4), A6⟩
            simp only [xb, hbe2, Option.bind_some, f0 hI, f3 hI, s1, A1', z1]
        · right
          obtain ⟨J11, o1, o2, o3⟩ := ft38 (F := F) (K := K) (n := m) (x1 := v) (y1 := y) (z1 := iN (L.length + 1)) (q := br) s3 (by rw [s5, hM3.1.2, hbr]) (by omega) (by omega) hg
          refine ⟨Q2, T1, J11, ?_, by rw [s2, Option.bind_some, s3.fm.must, Option.bind_some, o1], o2, (hM3.2.2.2.2.2.2.tr s4).tr o3, t4.tr s6, hX.tr s7⟩
          simp only [xb, hbe2, Option.bind_some, f0 hI, f3 hI, s1]
      · right
        have hft : FT Q1 J1 := ⟨_, _, t3⟩
        have hbe2 : R_begins Xp (iN L.length) 4 Q T = some (.inl (Q1, Xp, T)) := by
          rw [hbe]
          simp only [xb, t1, Option.bind_some]
        have a49 : J1 0 49 = iN br := by rw [t5.2 49 (by omega)]; exact h49
        have g1 := hft.u (o := 36) (i := br) (v := 1 &&& 1) (by omega)
        have g2 := g1.u (o := 37) (i := br) (v := J1 0 56) (by omega)
        have g3 : FT Q1 (uJ (uJ (uJ J1 36 br (1 &&& 1)) 37 br (J1 0 56)) 0 60 0) := by
          obtain ⟨w, p, f1, f2, f3, f4, f5, f6, f7⟩ := g2
          exact ⟨w, p, f1, f2, f3, f4, f5, by rw [uJ_sn (by omega)]; exact f6, by rw [uJ_sn (by omega)]; exact f7⟩
        obtain ⟨J11, o1, o2, o3⟩ := ft38 (F := F) (K := K) (n := m) (x1 := v) (y1 := y) (z1 := iN (L.length + 1)) (q := br) g3 (by rw [uJ_sn (by omega), uJ_o (by omega), uJ_o (by omega)]; exact a49) (by omega) (by omega) hg
        refine ⟨Q1, T, J11, by simp only [xb, hbe2, Option.bind_some], ?_, o2, ((hfJ.tr t5.w).tr ((FrJ.u w36).tr ((FrJ.u w37).tr (FrJ.u (by simp [wr_]))))).tr o3, t4, hX⟩
        rw [t2, Option.bind_some, a49, stI_n (by omega) (by omega), uJ_o (by omega), a49, stI_n (by omega) (by omega), g2.fm.exp (by omega), Option.bind_some, g3.fm.must, Option.bind_some, o1]
  · have w1' : R_isWord Xp 11 Q T = some (.inr (0, Q, T)) := w1
    have w2' : M_is J 31 = some 0 := w2
    have hCe : R_law_B52 F (R_law_L52 F Xp n) Xp v la Q T = xb (R_sum_7 F Xp Q T) fun r17 => (r17.1).bind fun b18 => sA r17.2.2 p2 (.object "SleepWork$Sum") (iN L.length) b18 fun T20 => lawE Xp v la r17.2.1 T20 := by
      unfold R_law_B52
      simp only [xb, w1', Option.bind_some, if_true, f2 hI, f3 hI]
      rfl
    obtain ⟨J1, hJ1⟩ : ∃ J1, J1 = uJ J 36 br (iN 0) := ⟨_, rfl⟩
    have hMe : M_tellLaw_B18 F (M_tellLaw_L18 F K (m + 1)) K v y (iN L.length) J = (M_term F J1).bind fun r18 => lawM v y r18 := by
      unfold M_tellLaw_B18
      rw [if_pos (show J 0 13 = 0 from hP.2.2.2.2.1), w2', Option.bind_some, if_pos rfl]
      unfold M_tellLaw_B135
      rw [h49, stI_n (by omega) (by omega), show ((0 : Int32) &&& 1) = iN 0 by decide, ← hJ1]
      rfl
    rw [hCe, hMe]
    have hM1 : LwM g nb nc J0 J1 L n1 := by rw [hJ1, hbr]; exact hM.st (by omega) (by omega) (Nat.le_refl _) (by omega)
    have hP1 : PT N P E a 0 Q J1 K := by
      rw [hJ1]
      exact hP.mo (fun p p1 p2 => uJ_o (by omega)) (fun i _ _ => by rw [uJ_o (by omega)]) (fun _ _ => rfl)
    rcases tm_ok (Xp := Xp) hF hg hP1 hM1 hna (by omega) hH with ⟨x3, a3, Q6, T5, J9, c3, v1, v2, v3, v4, v5, v6, v7, v8, v9, v10, v11, v12, v13, v14⟩ | ⟨Q6, T5, J9, v1, v2, v3, v4, v5, v6, v7⟩
    · left
      have v4N := v4.2.1
      obtain ⟨C1, C2, C3, C4, C5, C6, C7, C8⟩ := sm_sA (Tb := Tb) (q := p2) (m := 5) hI hH hX (Or.inr (Or.inr ⟨rfl, rfl⟩)) ⟨hla.2.2.2, by omega⟩ (by omega) v11 v3 (by omega) v10
      refine ⟨a3, Q6, _, J9, L, c3, n1 + c3.length, ?_, by rw [v2, Option.bind_some], v3, v4, C2, C3, v5, ?_, v7, C5, C6, ⟨C7, C8⟩, v12, v13, v14⟩
      · simp only [xb, v1, Option.bind_some, C1]
      · rw [v8 36 (by omega) (by omega), hJ1, ← hbr, uJ_ss]
    · right
      refine ⟨Q6, T5, J9, by simp only [xb, v1, Option.bind_some], ?_, v3, v4, v6, hX.tr v7⟩
      rw [v2, Option.bind_some]
      unfold lawM
      rw [v3.fm.must, Option.bind_some, if_neg v3.n0.2.1]
theorem law_L (hF : 2100 ≤ F) (hg : g < 2) (hnb : nb ≤ 35) (hla : tN Tb ≤ la ∧ tN Tb ≤ p0 ∧ tN Tb ≤ p1 ∧ tN Tb ≤ p2) (hlb : (tL Tb).2.2.1 ≤ tN Tb) :
    ∀ d, LwO g nb nc F N P E K J0 Tb Xp la p0 p1 p2 v y d := by
  intro d
  induction d with
  | zero => exact law_step hF hg hnb hla hlb 0 (fun h => absurd h (by omega))
  | succ d ih => exact law_step hF hg hnb hla hlb (d + 1) (fun _ => ih)
end LP
