/-! PURE LAW 9: a man, a minute -/
set_option maxRecDepth 100000
section BE
variable {T : Th} {tx : Nat} {X : Xt} {b : Nat → Nat} {e : Nat → Nat → Nat} {J C : Ji} {l F : Nat}
theorem oM_eq {x t : Nat} (hx : x < 1000) (ht : t < 1000) : (oM x = iN t) = (x = t + 1) := by
  cases x with
  | zero => rw [oM_0, iM_en (by omega) (by omega) (by omega)]; exact (eq_false (by omega)).symm
  | succ n => rw [oM_s, iN_eq (by omega) (by omega)]; exact propext ⟨fun h => by omega, fun h => by omega⟩
theorem iu_L (hX : TxV X) (h : NR X l C J) {m t : Nat} (hm : m < xm X) (ht : t < xt X) : ∀ n i, xm X < n + i → i ≤ xm X → ((∃ j, i ≤ j ∧ j < xm X ∧ j ≠ m ∧ Bz X J j t) ∧ M_isInUse_L2 F J n (iN t) (iN m) (iN i) = some 1) ∨ ((¬ ∃ j, i ≤ j ∧ j < xm X ∧ j ≠ m ∧ Bz X J j t) ∧ M_isInUse_L2 F J n (iN t) (iN m) (iN i) = some 0) := by
  obtain ⟨h1, h2, h3, h4, h5⟩ := h
  have hm6 := hX.1.2.2.2.2.1
  have hk6 := hX.1.2.2.2.1
  have ht6 := hX.1.2.2.1
  have hl := h5.l2
  intro n
  induction n with
  | zero => intro i a1 a2; omega
  | succ n ih =>
    intro i a1 a2
    by_cases hi : i < xm X
    · have nxt : ∀ (hnb : i = m ∨ ¬ Bz X J i t), M_isInUse_L2 F J (n + 1) (iN t) (iN m) (iN i) = M_isInUse_L2 F J n (iN t) (iN m) (iN (i + 1)) → ((∃ j, i ≤ j ∧ j < xm X ∧ j ≠ m ∧ Bz X J j t) ∧ M_isInUse_L2 F J (n + 1) (iN t) (iN m) (iN i) = some 1) ∨ ((¬ ∃ j, i ≤ j ∧ j < xm X ∧ j ≠ m ∧ Bz X J j t) ∧ M_isInUse_L2 F J (n + 1) (iN t) (iN m) (iN i) = some 0) := by
        intro hnb he
        rw [he]
        rcases ih (i + 1) (by omega) (by omega) with ⟨⟨j, b1, b2, b3, b4⟩, b5⟩ | ⟨b1, b2⟩
        · exact Or.inl ⟨⟨j, by omega, b2, b3, b4⟩, b5⟩
        · refine Or.inr ⟨?_, b2⟩
          rintro ⟨j, c1, c2, c3, c4⟩
          by_cases c : j = i
          · subst c
            rcases hnb with hnb | hnb
            · exact c3 hnb
            · exact hnb c4
          · exact b1 ⟨j, by omega, c2, c3, c4⟩
      have e0 : M_isInUse_L2 F J (n + 1) (iN t) (iN m) (iN i) = M_isInUse_B2 F (M_isInUse_L2 F J n) J (iN t) (iN m) (iN i) := rfl
      by_cases cm : i = m
      · refine nxt (Or.inl cm) ?_
        rw [e0]
        simp (disch := omega) only [M_isInUse_B2, h5.men, Option.bind_some, iN_le, iN_eq, if_neg (show ¬ xm X ≤ i by omega), if_pos cm, lt_e, i_1, iN_add]
      · have hs : J 50 i = iN 2 ∨ ¬ J 50 i = iN 2 := Classical.em _
        rcases hs with hs | hs
        · obtain ⟨_, hr⟩ := h1 i hi
          have n20 : ¬ iN 2 = iN 0 := by decide
          have n23 : ¬ iN 2 = iN 3 := by decide
          have n21 : ¬ iN 2 = iN 1 := by decide
          rcases hr with ⟨_, _, _, b4, _⟩ | ⟨k, s, hk, hs', b1, b2, b3, b4, b5, b6⟩
          · exact absurd (hs.symm.trans b4) n20
          · rcases b6 with ⟨b7, _⟩ | ⟨b7, _⟩ | ⟨_, _, _, _, _, d, hd, b8, b9⟩
            · exact absurd (hs.symm.trans b7) n23
            · exact absurd (hs.symm.trans b7) n21
            · have hs6 := (hX.2.2.2.1 k hk).2.2
              obtain ⟨j1, j2, j3, j4, j5, j6⟩ := h5.2.2.2.2.1 k d hk hd
              have ht27 := (hX.2.2.2.2.1 k d hk hd).2.2.2.2.2.1
              have hB : Bz X J i t ↔ tb X 27 (6 * k + d) = t + 1 := by
                constructor
                · rintro ⟨_, k', d', hk', hd', e1, e2, e3⟩
                  have := (hX.2.2.2.1 k' hk').2.2
                  rw [b1, iN_eq (by omega) (by omega)] at e1
                  rw [b8, iN_eq (by omega) (by omega)] at e2
                  subst e1
                  subst e2
                  exact e3
                · intro e3
                  exact ⟨hs, k, d, hk, hd, b1, b8, e3⟩
              have e1 : M_isInUse_B2 F (M_isInUse_L2 F J n) J (iN t) (iN m) (iN i) = if tb X 27 (6 * k + d) = t + 1 then some 1 else M_isInUse_L2 F J n (iN t) (iN m) (iN i + 1) := by
                simp (disch := omega) only [M_isInUse_B2, h5.men, Option.bind_some, iN_le, iN_eq, if_neg (show ¬ xm X ≤ i by omega), if_neg cm, ldI_n, hs, if_pos (show iN 2 = 2 by decide), i_42, iN_add, b1, b8, h5.at_, j5, oM_eq, lt_e]
              by_cases ct : tb X 27 (6 * k + d) = t + 1
              · left
                rw [e0, e1, if_pos ct]
                exact ⟨⟨i, by omega, hi, cm, hB.2 ct⟩, rfl⟩
              · refine nxt (Or.inr (fun hb => ct (hB.1 hb))) ?_
                rw [e0, e1, if_neg ct, i_1, iN_add]
        · refine nxt (Or.inr (fun hb => hs hb.1)) ?_
          rw [e0]
          simp (disch := omega) only [M_isInUse_B2, h5.men, Option.bind_some, iN_le, iN_eq, if_neg (show ¬ xm X ≤ i by omega), if_neg cm, ldI_n, i_2, if_neg hs, lt_e, i_1, iN_add]
    · have : i = xm X := by omega
      subst this
      right
      refine ⟨?_, ?_⟩
      · rintro ⟨j, c1, c2, _⟩
        omega
      · simp (disch := omega) only [M_isInUse_L2, M_isInUse_B2, h5.men, Option.bind_some, iN_le, if_pos (Nat.le_refl _)]
theorem iu_run (hX : TxV X) (hF : 10 ≤ F) (h : NR X l C J) {m t : Nat} (hm : m < xm X) (ht : t < xt X) (hmb : J 50 m = iN 1) : (bt (C 0 13) t ∧ M_isInUse F J (iN t) (iN m) = some 1) ∨ (¬ bt (C 0 13) t ∧ M_isInUse F J (iN t) (iN m) = some 0) := by
  have hm6 := hX.1.2.2.2.2.1
  have n12 : ¬ iN 1 = iN 2 := by decide
  rcases iu_L (F := F) hX h hm ht F 0 (by omega) (by omega) with ⟨⟨j, _, b2, b3, b4⟩, b5⟩ | ⟨b1, b2⟩
  · exact Or.inl ⟨(h.2.1.1 t ht).2 ⟨j, b2, b4⟩, b5⟩
  · refine Or.inr ⟨fun hb => ?_, b2⟩
    obtain ⟨j, c1, c2⟩ := (h.2.1.1 t ht).1 hb
    refine b1 ⟨j, by omega, c1, ?_, c2⟩
    rintro rfl
    exact n12 (hmb.symm.trans c2.1)
/-- what is over -/
theorem pl_ends (hX : TxV X) (hT : TxT T tx X b e) (h : NR X l C J) {m : Nat} {mi : Int32} (hm : m < xm X) : Bo (P_ends T m tx (iN m) mi C) (mEnds (iN m) mi J) (fun C1 J1 => NR X l C1 J1 ∧ nF J J1) := by
  have h0 := h
  obtain ⟨h1, h2, h3, h4, h5⟩ := h
  have hm6 := hX.1.2.2.2.2.1
  have hk6 := hX.1.2.2.2.1
  have hr8 := hX.1.1
  have ht6 := hX.1.2.2.1
  have n02 : ¬ iN 0 = 2 := by decide
  have n12 : ¬ iN 1 = 2 := by decide
  have n32 : ¬ iN 3 = 2 := by decide
  have y22 : iN 2 = 2 := by decide
  have p12 : ¬ iN 1 = iN 2 := by decide
  obtain ⟨⟨a1, a2, a3, a4⟩, hr⟩ := h1 m hm
  rcases hr with ⟨c1, c2, c2', c3, c4, c5, c6, c7⟩ | ⟨k, s, hk, hs, b1, b2, b3, b4, b5, b6⟩
  · simp (disch := omega) only [P_ends, mEnds, ldI_n, c3, c4, if_neg n02]
    exact Bo.mk ⟨h0, nF.rf⟩
  · rcases b6 with ⟨b7, b8, b9⟩ | ⟨b7, b8, b9, b10⟩ | ⟨b7, b8, b9, b10, b10', d, hd, b11, b12⟩
    · simp (disch := omega) only [P_ends, mEnds, ldI_n, b7, b8, if_neg n02, if_neg n32]
      exact Bo.mk ⟨h0, nF.rf⟩
    · simp (disch := omega) only [P_ends, mEnds, ldI_n, b7, b8, if_neg n12]
      exact Bo.mk ⟨h0, nF.rf⟩
    · by_cases c : J 52 m = mi
      · obtain ⟨⟨a, s1, s2⟩, s3⟩ := h3
        have hnb := fun k' : Nat => nbz_u (J := J) (J1 := uJ J 50 m 1) (k := k') (m := m) (xm X) hm (fun i hi hne => ⟨by rw [uJ_sn hne], by rw [uJ_o (by omega)]⟩)
        have hnk : ∀ i, i < xk X → nbz (uJ J 50 m 1) i (xm X) + (if i = k then 1 else 0) = nbz J i (xm X) := by
          intro i hi
          have := hnb i
          rw [b7, b1, uJ_ss] at this
          rw [if_neg (show ¬ ((1 : Int32) = iN 2 ∧ uJ J 50 m 1 48 (42 + m) = iN i) from fun hh => p12 hh.1)] at this
          by_cases ck : i = k
          · subst ck
            rw [if_pos ⟨rfl, rfl⟩] at this
            rw [if_pos rfl]
            omega
          · rw [if_neg (fun hh => by have := hh.2; rw [iN_eq (by omega) (by omega)] at this; omega)] at this
            rw [if_neg ck]
            omega
        obtain ⟨C1, J1, d1, d2, d3, d4, d5, d6, d7⟩ := pl_does (w1 := fun i => a i + nbz (uJ J 50 m 1) i (xm X)) hX hT h5 s3 s2 hk hd (fun i hi hne => by
          have := hnk i hi
          rw [if_neg hne] at this
          show a i + nbz (uJ J 50 m 1) i (xm X) = a i + nbz J i (xm X)
          omega) (by
          have := hnk k hk
          rw [if_pos rfl] at this
          show a k + nbz (uJ J 50 m 1) k (xm X) + 1 = a k + nbz J k (xm X)
          omega)
        have t27 := (hX.2.2.2.2.1 k d hk hd).2.2.2.2.2.1
        have d48 : ∀ i, (i < 6 ∨ 42 ≤ i) → J1 48 i = J 48 i := d7
        -- the state behind it
        have fin : ∀ U : Int32, (∀ t, t < xt X → (bt U t ↔ (bt (C 0 13) t ∧ tb X 27 (6 * k + d) ≠ t + 1))) → ∀ C2, (∀ o, o ≠ 0 → o ≠ 12 → o ≠ 13 → o ≠ 25 + m → C2 o = C1 o) → (∀ i, i ≠ 13 → C2 0 i = C1 0 i) → C2 0 13 = U → (∀ i, i ≠ m → C2 12 i = C1 12 i) → (∀ i, i ≠ m → C2 13 i = C1 13 i) → C2 12 m = C1 12 m + 1 → C2 13 m = C1 13 m + 1 → C2 (25 + m) 0 = 1 → C2 (25 + m) 2 = iN d → (∀ i, i ≠ 0 → i ≠ 2 → C2 (25 + m) i = C1 (25 + m) i) → NR X l C2 (uJ (uJ (uJ J1 50 m 1) 54 m (iN d)) 55 m (J 55 m + 1)) ∧ nF J (uJ (uJ (uJ J1 50 m 1) 54 m (iN d)) 55 m (J 55 m + 1)) := by
          intro U hU C2 g1 g2 g3 g4 g5 g6 g7 g8 g9 g10
          have hFn : nF J (uJ (uJ (uJ J1 50 m 1) 54 m (iN d)) 55 m (J 55 m + 1)) := by
            have hf0 : nF J J1 := ⟨fun o ho _ => d6 o (by omega), fun i _ => by rw [d6 0 (by omega)]⟩
            exact ((hf0.tr (nF.u (by omega) (by omega) (by omega))).tr (nF.u (by omega) (by omega) (by omega))).tr (nF.u (by omega) (by omega) (by omega))
          have hBo : ∀ m' t, m' < xm X → m' ≠ m → (Bz X (uJ (uJ (uJ J1 50 m 1) 54 m (iN d)) 55 m (J 55 m + 1)) m' t ↔ Bz X J m' t) := by
            intro m' t hm' cc
            exact Bz.cg (by simp (disch := omega) only [uJ_o, uJ_sn, d6]) (by simp (disch := omega) only [uJ_o, uJ_sn, d48]) (by simp (disch := omega) only [uJ_o, uJ_sn, d6])
          have hBm : ∀ t, ¬ Bz X (uJ (uJ (uJ J1 50 m 1) 54 m (iN d)) 55 m (J 55 m + 1)) m t := by
            intro t hb
            have := hb.1
            simp (disch := omega) only [uJ_o, uJ_ss] at this
            exact p12 this
          have hBw : ∀ t, Bz X J m t ↔ tb X 27 (6 * k + d) = t + 1 := by
            intro t
            constructor
            · rintro ⟨_, k', d', hk', hd', e1, e2, e3⟩
              have := (hX.2.2.2.1 k' hk').2.2
              have := (hX.2.2.2.1 k hk).2.2
              rw [b1, iN_eq (by omega) (by omega)] at e1
              rw [b11, iN_eq (by omega) (by omega)] at e2
              subst e1
              subst e2
              exact e3
            · intro e3
              exact ⟨b7, k, d, hk, hd, b1, b11, e3⟩
          refine ⟨⟨fun m' hm' => ?_, ?_, ?_, ?_, hFn.tx hX h5⟩, hFn⟩
          · by_cases cc : m' = m
            · subst cc
              unfold MR
              simp (disch := omega) only [uJ_o, uJ_ss, uJ_sn, d6, d48]
              rw [g1 9 (by omega) (by omega) (by omega) (by omega), g1 14 (by omega) (by omega) (by omega) (by omega), g6, g7, g8, g9, g10 1 (by omega) (by omega), g10 6 (by omega) (by omega), g10 4 (by omega) (by omega), d5 9 (by omega), d5 12 (by omega), d5 13 (by omega), d5 14 (by omega), d5 (25 + m') (by omega)]
              refine ⟨⟨a1, by rw [a2], by rw [a3, Int32.add_assoc], a4⟩, Or.inr ⟨k, d, hk, hd, b1, b2, rfl, rfl, b5, Or.inr (Or.inl ⟨rfl, rfl, b9, b10'⟩)⟩⟩
            · refine (h1 m' hm').cg ?_ ?_ ?_ ?_ ?_ ?_ ?_ ?_ ?_ ?_ ?_ ?_ ?_ ?_ ?_ ?_ ?_
              · rw [g1 9 (by omega) (by omega) (by omega) (by omega), d5 9 (by omega)]
              · rw [g1 10 (by omega) (by omega) (by omega) (by omega), d5 10 (by omega)]
              · rw [g4 m' cc, d5 12 (by omega)]
              · rw [g5 m' cc, d5 13 (by omega)]
              · rw [g1 14 (by omega) (by omega) (by omega) (by omega), d5 14 (by omega)]
              · rw [g1 (25 + m') (by omega) (by omega) (by omega) (by omega), d5 (25 + m') (by omega)]
              all_goals simp (disch := omega) only [uJ_o, uJ_sn, d48, d6]
          · refine ⟨fun t ht => ?_, fun t m1 m2 ht hm1 hm2 e1 e2 => ?_, fun t m1 k1 ht hm1 e1 hk1 e2 => ?_⟩
            · rw [g3, hU t ht, h2.1 t ht]
              constructor
              · rintro ⟨⟨m1, u1, u2⟩, u3⟩
                have cc : m1 ≠ m := by
                  rintro rfl
                  exact u3 ((hBw t).1 u2)
                exact ⟨m1, u1, (hBo m1 t u1 cc).2 u2⟩
              · rintro ⟨m1, u1, u2⟩
                have cc : m1 ≠ m := by
                  rintro rfl
                  exact hBm t u2
                have u3 := (hBo m1 t u1 cc).1 u2
                refine ⟨⟨m1, u1, u3⟩, fun u4 => ?_⟩
                exact cc (h2.2.1 t m1 m ht u1 hm u3 ((hBw t).2 u4))
            · have cc1 : m1 ≠ m := by
                rintro rfl
                exact hBm t e1
              have cc2 : m2 ≠ m := by
                rintro rfl
                exact hBm t e2
              exact h2.2.1 t m1 m2 ht hm1 hm2 ((hBo m1 t hm1 cc1).1 e1) ((hBo m2 t hm2 cc2).1 e2)
            · have cc1 : m1 ≠ m := by
                rintro rfl
                exact hBm t e1
              simp (disch := omega) only [uJ_o, uJ_sn, d48] at e2 ⊢
              exact h2.2.2 t m1 k1 ht hm1 ((hBo m1 t hm1 cc1).1 e1) hk1 e2
          · have hnn : ∀ i, nbz (uJ (uJ (uJ J1 50 m 1) 54 m (iN d)) 55 m (J 55 m + 1)) i (xm X) = nbz (uJ J 50 m 1) i (xm X) := by
              intro i
              refine nbz_cg (xm X) (fun m' hm' => ⟨?_, ?_⟩)
              · by_cases cc : m' = m
                · subst cc
                  simp (disch := omega) only [uJ_o, uJ_ss]
                · simp (disch := omega) only [uJ_o, uJ_sn, d6]
              · simp (disch := omega) only [uJ_o, d48]
            refine ⟨⟨a, fun k' hk' => ?_, ?_⟩, fun k' s' hk' hs' => ?_⟩
            · simp (disch := omega) only [uJ_o, d48]
              rw [g1 8 (by omega) (by omega) (by omega) (by omega), d5 8 (by omega)]
              exact s1 k' hk'
            · have : (fun k' => a k' + nbz (uJ (uJ (uJ J1 50 m 1) 54 m (iN d)) 55 m (J 55 m + 1)) k' (xm X)) = fun k' => a k' + nbz (uJ J 50 m 1) k' (xm X) := by
                funext k'
                rw [hnn]
              rw [this]
              simp (disch := omega) only [uJ_o]
              exact d4
            · simp (disch := omega) only [uJ_o]
              rw [g1 (2 + k') (by omega) (by omega) (by omega) (by omega)]
              exact d3 k' s' hk' hs'
          · obtain ⟨x1, x2, x3, x4, x5, x6⟩ := h4
            refine ⟨fun t ht => ?_, fun t ht => ?_, ?_, ?_, ?_, fun p q hp hq => ?_, fun p q hp hq => ?_⟩
            · simp (disch := omega) only [uJ_o, d48]
              rw [g1 11 (by omega) (by omega) (by omega) (by omega), d5 11 (by omega)]
              exact x1 t ht
            · simp (disch := omega) only [uJ_o, d48]
              exact x2 t ht
            · simp (disch := omega) only [uJ_o, d48]
              rw [g2 8 (by omega), d5 0 (by omega)]
              exact x3
            · simp (disch := omega) only [uJ_o, d48]
              rw [g2 9 (by omega), d5 0 (by omega)]
              exact x4
            · simp (disch := omega) only [uJ_o, d48]
              exact x5
            · simp (disch := omega) only [uJ_o, d6]
              rw [g1 (16 + p) (by omega) (by omega) (by omega) (by omega), d5 (16 + p) (by omega)]
              exact x6.1 p q hp hq
            · simp (disch := omega) only [uJ_o, d6]
              exact x6.2 p q hp hq
        have f53 : J1 53 m = iN d := by rw [d6 53 (by omega)]; exact b11
        have f55 : J1 55 m = J 55 m := by rw [d6 55 (by omega)]
        have hM : mEnds (iN m) mi J = some (uJ (uJ (uJ J1 50 m 1) 54 m (iN d)) 55 m (J 55 m + 1)) := by
          simp (disch := omega) only [mEnds, M_isOver, ldI_n, b7, if_pos y22, if_pos c, i_42, iN_add, b1, b11, d2, Option.bind_some, stI_n, uJ_o, f53, f55]
        have f25 : C1 (25 + m) = C (25 + m) := d5 (25 + m) (by omega)
        rw [hM]
        cases hu : tb X 27 (6 * k + d) with
        | zero =>
          have hP : P_ends T m tx (iN m) mi C = some (uJ (uJ (uJ (uJ C1 (25 + m) 2 (iN d)) 12 m (C1 12 m + 1)) 13 m (C1 13 m + 1)) (25 + m) 0 1) := by
            simp (disch := omega) only [P_ends, P_ends_B111, b8, if_pos y22, b10, if_pos c, b2, b12, d1, Option.bind_some, lt_e, f25, ldI_n, stI_n, uJ_o, uJ_ss, uJ_sn, hT.r3, hT.g3 hk, hT.ck hk, hT.k3 hk, hT.kgt hk hd, hT.cs hk hd, hT.s4 hk hd, hu, oC_0, i_0, iM_ltn, if_true]
          rw [hP]
          refine Bo.mk (fin (C 0 13) (fun t ht => ?_) _ (fun o o1 o2 o3 o4 => ?_) (fun i hi => ?_) ?_ (fun i hi => ?_) (fun i hi => ?_) ?_ ?_ ?_ ?_ (fun i i1 i2 => ?_))
          · rw [hu]
            exact ⟨fun x => ⟨x, by omega⟩, fun x => x.1⟩
          all_goals simp (disch := omega) only [uJ_o, uJ_ss, uJ_sn, d5]
        | succ t =>
          have ht : t < xt X := by omega
          have hP : P_ends T m tx (iN m) mi C = some (uJ (uJ (uJ (uJ (uJ C1 (25 + m) 2 (iN d)) 12 m (C1 12 m + 1)) 13 m (C1 13 m + 1)) 0 13 (C 0 13 &&& ((1 <<< (iN t &&& 31)) ^^^ (-1)))) (25 + m) 0 1) := by
            have d50 : C1 0 = C 0 := d5 0 (by omega)
            simp (disch := omega) only [P_ends, P_ends_B111, b8, if_pos y22, b10, if_pos c, b2, b12, d1, Option.bind_some, lt_e, f25, ldI_n, stI_n, uJ_o, uJ_ss, uJ_sn, hT.r3, hT.g3 hk, hT.ck hk, hT.k3 hk, hT.kgt hk hd, hT.cs hk hd, hT.s4 hk hd, hu, oC_s, d50, if_neg (show ¬ iN t < 0 by rw [i_0, iN_lt (by omega) (by omega)]; omega)]
          rw [hP]
          refine Bo.mk (fin (C 0 13 &&& ((1 <<< (iN t &&& 31)) ^^^ (-1))) (fun t' ht' => ?_) _ (fun o o1 o2 o3 o4 => ?_) (fun i hi => ?_) ?_ (fun i hi => ?_) (fun i hi => ?_) ?_ ?_ ?_ ?_ (fun i i1 i2 => ?_))
          · rw [bt_clr (by omega) (by omega), hu]
            exact ⟨fun ⟨x, y⟩ => ⟨y, by omega⟩, fun ⟨x, y⟩ => ⟨by omega, x⟩⟩
          all_goals simp (disch := omega) only [uJ_o, uJ_ss, uJ_sn, d5]
      · simp (disch := omega) only [P_ends, mEnds, ldI_n, b7, b8, b10, if_pos y22, if_neg c]
        exact Bo.mk ⟨h0, nF.rf⟩
end BE
