/-! PURE LAW 10: a man begins -/
set_option maxRecDepth 100000
theorem uJ_same {J : Ji} {a i : Nat} {v : Int32} (h : J a i = v) : uJ J a i v = J := by
  funext o j
  rw [uJ_ap]
  by_cases c : o = a ∧ j = i
  · rw [if_pos c, c.1, c.2, h]
  · rw [if_neg c]
section BG
variable {T : Th} {tx : Nat} {X : Xt} {b : Nat → Nat} {e : Nat → Nat → Nat} {J C : Ji} {l F : Nat}
theorem nr_lies2 (hX : TxV X) (h : NR X l C J) {m k s : Nat} {mi z : Int32} (hm : m < xm X) (hk : k < xk X) (hs : s < xs X k) (q1 : J 48 (42 + m) = iN k) (q3 : J 54 m = iN s) (q7 : J 50 m = iN 1) (hz : z = iN 0 ∨ z = iN 1) {C2 J2 : Ji} (c1 : ∀ o, o ≠ 14 → o ≠ 25 + m → o ≠ 31 → o ≠ 32 → C2 o = C o) (c2 : ∀ i, i ≠ m → C2 14 i = C 14 i) (c3 : C2 14 m = mi) (c4 : C2 (25 + m) 0 = 0) (c5 : C2 (25 + m) 1 = iN k) (c6 : C2 (25 + m) 2 = iN s) (c7 : C2 (25 + m) 6 = z) (j1 : ∀ o, o ≠ 48 → o ≠ 50 → o ≠ 56 → J2 o = J o) (j2 : ∀ i, i ≠ 66 + m → J2 48 i = J 48 i) (j3 : J2 48 (66 + m) = mi) (j4 : ∀ i, i ≠ m → J2 50 i = J 50 i) (j5 : J2 50 m = iN 3) (j6 : ∀ i, i ≠ m → J2 56 i = J 56 i) (j7 : J2 56 m = z) : NR X l C2 J2 ∧ nF J J2 := by
  obtain ⟨h1, h2, h3, h4, h5⟩ := h
  have hm6 := hX.1.2.2.2.2.1
  have hk6 := hX.1.2.2.2.1
  have hr8 := hX.1.1
  have ht6 := hX.1.2.2.1
  have hF : nF J J2 := ⟨fun o a c => j1 o (by omega) (by omega) (by omega), fun i _ => by rw [j1 0 (by omega) (by omega) (by omega)]⟩
  have n12 : ¬ iN 1 = iN 2 := by decide
  have n32 : ¬ iN 3 = iN 2 := by decide
  have hB : ∀ m' t, m' < xm X → (Bz X J2 m' t ↔ Bz X J m' t) := by
    intro m' t hm'
    by_cases c : m' = m
    · subst c
      constructor
      · intro hb
        exact absurd (j5.symm.trans hb.1) n32
      · intro hb
        exact absurd (q7.symm.trans hb.1) n12
    · exact Bz.cg (j4 m' c) (j2 _ (by omega)) (by rw [j1 53 (by omega) (by omega) (by omega)])
  refine ⟨⟨fun m' hm' => ?_, ?_, ?_, ?_, hF.tx hX h5⟩, hF⟩
  · by_cases c : m' = m
    · subst c
      obtain ⟨⟨a1, a2, a3, a4⟩, _⟩ := h1 m' hm'
      unfold MR
      rw [c1 9 (by omega) (by omega) (by omega) (by omega), c1 12 (by omega) (by omega) (by omega) (by omega), c1 13 (by omega) (by omega) (by omega) (by omega), c3, j2 (42 + m') (by omega), j2 (60 + m') (by omega), j3, j1 55 (by omega) (by omega) (by omega), j1 54 (by omega) (by omega) (by omega), j5, j7, c4, c5, c6, c7]
      exact ⟨⟨a1, a2, a3, rfl⟩, Or.inr ⟨k, s, hk, hs, q1, rfl, q3, rfl, rfl, Or.inl ⟨rfl, rfl, hz⟩⟩⟩
    · refine (h1 m' hm').cg ?_ ?_ ?_ ?_ ?_ ?_ ?_ ?_ ?_ ?_ ?_ ?_ ?_ ?_ ?_ ?_ ?_
      · rw [c1 _ (by omega) (by omega) (by omega) (by omega)]
      · rw [c1 _ (by omega) (by omega) (by omega) (by omega)]
      · rw [c1 _ (by omega) (by omega) (by omega) (by omega)]
      · rw [c1 _ (by omega) (by omega) (by omega) (by omega)]
      · rw [c2 m' c]
      · rw [c1 _ (by omega) (by omega) (by omega) (by omega)]
      · rw [j2 _ (by omega)]
      · rw [j2 _ (by omega)]
      · rw [j2 _ (by omega)]
      · rw [j2 _ (by omega)]
      · rw [j4 m' c]
      · rw [j1 _ (by omega) (by omega) (by omega)]
      · rw [j1 _ (by omega) (by omega) (by omega)]
      · rw [j1 _ (by omega) (by omega) (by omega)]
      · rw [j1 _ (by omega) (by omega) (by omega)]
      · rw [j1 _ (by omega) (by omega) (by omega)]
      · rw [j6 m' c]
  · refine ⟨fun t ht => ?_, fun t m1 m2 ht hm1 hm2 b1 b2 => ?_, fun t m1 k1 ht hm1 b1 hk1 e1 => ?_⟩
    · rw [c1 0 (by omega) (by omega) (by omega) (by omega), h2.1 t ht]
      exact ⟨fun ⟨m1, a1, a2⟩ => ⟨m1, a1, (hB m1 t a1).2 a2⟩, fun ⟨m1, a1, a2⟩ => ⟨m1, a1, (hB m1 t a1).1 a2⟩⟩
    · exact h2.2.1 t m1 m2 ht hm1 hm2 ((hB m1 t hm1).1 b1) ((hB m2 t hm2).1 b2)
    · rw [j2 _ (by omega)] at e1 ⊢
      exact h2.2.2 t m1 k1 ht hm1 ((hB m1 t hm1).1 b1) hk1 e1
  · obtain ⟨⟨a, a1, a2⟩, a3⟩ := h3
    have hn : ∀ k, nbz J2 k (xm X) = nbz J k (xm X) := by
      intro k'
      have := nbz_u (J := J) (J1 := J2) (k := k') (m := m) (xm X) hm (fun i hi hne => ⟨j4 i hne, j2 _ (by omega)⟩)
      rw [if_neg (fun hh => n12 (q7.symm.trans hh.1)), if_neg (fun hh => n32 (j5.symm.trans hh.1))] at this
      omega
    refine ⟨⟨a, fun k' hk' => ?_, fun k' s' hk' hs' => ?_⟩, fun k' s' hk' hs' => ?_⟩
    · rw [j2 _ (by omega), c1 8 (by omega) (by omega) (by omega) (by omega)]
      exact a1 k' hk'
    · have := (hX.2.2.2.1 k' hk').2.2
      obtain ⟨d, d1, d2⟩ := a2 k' s' hk' hs'
      refine ⟨d, ?_, ?_⟩
      · rw [j2 _ (by omega)]
        exact d1
      · show d + (a k' + nbz J2 k' (xm X)) ≤ 999
        rw [hn]
        exact d2
    · have := (hX.2.2.2.1 k' hk').2.2
      rw [j2 _ (by omega), c1 (2 + k') (by omega) (by omega) (by omega) (by omega)]
      exact a3 k' s' hk' hs'
  · obtain ⟨a1, a2, a3, a4, a5, a6⟩ := h4
    refine ⟨fun t ht => ?_, fun t ht => ?_, ?_, ?_, ?_, fun a c ha hc => ?_, fun a c ha hc => ?_⟩
    · rw [j2 _ (by omega), c1 11 (by omega) (by omega) (by omega) (by omega)]
      exact a1 t ht
    · rw [j2 _ (by omega)]
      exact a2 t ht
    · rw [j2 _ (by omega), c1 0 (by omega) (by omega) (by omega) (by omega)]
      exact a3
    · rw [j2 _ (by omega), c1 0 (by omega) (by omega) (by omega) (by omega)]
      exact a4
    · rw [j2 _ (by omega)]
      exact a5
    · rw [j1 49 (by omega) (by omega) (by omega), c1 (16 + a) (by omega) (by omega) (by omega) (by omega)]
      exact a6.1 a c ha hc
    · rw [j1 49 (by omega) (by omega) (by omega)]
      exact a6.2 a c ha hc
theorem pl_begins (hX : TxV X) (hF : 900 ≤ F) (hT : TxT T tx X b e) (h : NR X l C J) {m : Nat} {mi : Int32} (hm : m < xm X) : Bo (P_begins F T m tx (iN m) mi C) (mBeg F (iN m) mi J) (fun C1 J1 => NR X l C1 J1 ∧ nF J J1) := by
  have h0 := h
  obtain ⟨h1, h2, h3, h4, h5⟩ := h
  have hm6 := hX.1.2.2.2.2.1
  have hk6 := hX.1.2.2.2.1
  have hr8 := hX.1.1
  have ht6 := hX.1.2.2.1
  have hl := h5.l2
  have n01 : ¬ iN 0 = 1 := by decide
  have n21 : ¬ iN 2 = 1 := by decide
  have n31 : ¬ iN 3 = 1 := by decide
  have y11 : iN 1 = 1 := by decide
  have z10 : ¬ (1 : Int32) = 0 := by decide
  have z00 : iN 0 = 0 := by decide
  have a11 : (1 : Int32) &&& 1 = iN 1 := by decide
  obtain ⟨⟨a1, a2, a3, a4⟩, hr⟩ := h1 m hm
  rcases hr with ⟨c1, c2, c2', c3, c4, c5, c6, c7⟩ | ⟨k, s, hk, hs, b1, b2, b3, b4, b5, b6⟩
  · simp (disch := omega) only [P_begins, mBeg, ldI_n, c3, c4, if_neg n01]
    exact Bo.mk ⟨h0, nF.rf⟩
  rcases b6 with ⟨b7, b8, b9⟩ | ⟨b7, b8, b9, b10⟩ | ⟨b7, b8, b9, b10, b10', d, hd, b11, b12⟩
  · simp (disch := omega) only [P_begins, mBeg, ldI_n, b7, b8, if_neg n01, if_neg n31]
    exact Bo.mk ⟨h0, nF.rf⟩
  case inr.inr =>
    simp (disch := omega) only [P_begins, mBeg, ldI_n, b7, b8, if_neg n21]
    exact Bo.mk ⟨h0, nF.rf⟩
  case inr.inl =>
    by_cases cf : J 51 m ≤ mi
    · have cf' : ¬ mi < J 51 m := fun hh => Int32.lt_irrefl (Int32.lt_of_lt_of_le hh cf)
      have hs6 := (hX.2.2.2.1 k hk).2.2
      obtain ⟨⟨a, s1, s2⟩, s3⟩ := h3
      obtain ⟨r, r1, r2, r3⟩ := pl_ended (F := F) hX hT h5 s3 (by omega) hk
      have hd0 := s3 k s hk hs
      rcases r3 with rfl | rfl
      · -- not all is done
        have e6 : uJ C (25 + m) 6 0 = C := uJ_same (by rw [b5, b9]; rfl)
        obtain ⟨d, C1, J1, n1, n2, n3, n4, n5, n6⟩ := pl_next (mi := mi) hF hX hT h5 hm hk hs b2 b4 b1 b3 hd0 (by rw [(s1 k hk).1, (s1 k hk).2.1]) a2
        obtain ⟨hN, hFn⟩ := NR.lw hX h0 n4 n5 n6
        have f48 : J1 48 = J 48 := n5 48 (by omega) (by omega) (by omega)
        have f50 : J1 50 = J 50 := n5 50 (by omega) (by omega) (by omega)
        have g25 : C1 (25 + m) = C (25 + m) := n4 (25 + m) (by omega) (by omega)
        have g8 : C1 8 = C 8 := n4 8 (by omega) (by omega)
        have g0 : C1 0 = C 0 := n4 0 (by omega) (by omega)
        have g11 : C1 11 = C 11 := n4 11 (by omega) (by omega)
        have hJ1 := hN.2.2.2.2
        obtain ⟨j1, j2, j3, j4, j5, j6⟩ := hJ1.2.2.2.2.1 k d hk n1
        obtain ⟨x23, x23', x24, x25, x26, x27, x28⟩ := hX.2.2.2.2.1 k d hk n1
        have jr := (hJ1.2.2.2.1 k hk).1
        obtain ⟨sa1, sa2, sa3⟩ := s1 k hk
        have v1 : J1 48 (42 + m) = iN k := by rw [f48]; exact b1
        have v2 : C1 (25 + m) 1 = iN k := by rw [g25]; exact b2
        have v3 : J1 54 m = iN s := by rw [n5 54 (by omega) (by omega) (by omega)]; exact b3
        have v4 : C1 (25 + m) 2 = iN s := by rw [g25]; exact b4
        have v6 : J1 56 m = iN 0 := by rw [n5 56 (by omega) (by omega) (by omega)]; exact b9
        have v5 : C1 (25 + m) 6 = iN 0 := by rw [g25, b5]; exact b9
        have v7 : J1 50 m = iN 1 := by rw [f50]; exact b7
        have v8 : C1 (25 + m) 4 = J1 51 m := by rw [g25, n5 51 (by omega) (by omega) (by omega)]; exact b10
        have lies : NR X l (uJ (uJ C1 (25 + m) 0 0) 14 m mi) (uJ (uJ J1 50 m 3) 48 (66 + m) mi) ∧ nF J (uJ (uJ J1 50 m 3) 48 (66 + m) mi) := by
          obtain ⟨y1, y2⟩ := nr_lies (mi := mi) hX hN hm hk hs v1 v2 v3 v4 (by rw [v5, v6]) (Or.inl v6) v7
          exact ⟨y1, hFn.tr y2⟩
        have hl115 : P_begins_B115 F T m (iN m) mi C1 = some (uJ (uJ C1 (25 + m) 0 0) 14 m mi) := by
          simp (disch := omega) only [P_begins_B115, P_liesDown, lt_e, stI_n, Option.bind_some]
        have hl124 : M_begins1_B124 F (iN m) mi J1 = some (uJ (uJ J1 50 m 3) 48 (66 + m) mi) := by
          simp (disch := omega) only [M_begins1_B124, M_lies, stI_n, i_66, iN_add, Option.bind_some]
        -- the component, up to the tool
        have hP : P_begins F T m tx (iN m) mi C = if C1 8 k = 0 then P_begins_B115 F T m (iN m) mi C1 else if oC (tb X 27 (6 * k + d)) < 0 then P_begins_B124 F T m mi (e 3 k) (iN d) (oC (tb X 27 (6 * k + d))) C1 else (V_isToolThere T C1 (oC (tb X 27 (6 * k + d))) (iN (tb X 20 k)) (iN m)).bind fun r16 => if r16 = 0 then P_begins_B115 F T m (iN m) mi C1 else P_begins_B124 F T m mi (e 3 k) (iN d) (oC (tb X 27 (6 * k + d))) C1 := by
          have bz0 : bz 0 = some 0 := rfl
          simp (disch := omega) only [P_begins, b8, if_pos y11, b10, if_pos cf, hT.r3, Option.bind_some, b2, hT.g3 hk, hT.ck hk, r1, bz0, lt_e, e6, n2, hT.k3 hk, hT.kgt hk n1, hT.cs hk n1, hT.s4 hk n1, v5, if_pos z00, v2, ldI_n, hT.k1 hk]
        have hM : mBeg F (iN m) mi J = if oM (tb X 27 (6 * k + d)) < 0 then M_begins1_B81 F (iN m) mi (iN k) (iN d) (oM (tb X 27 (6 * k + d))) 1 J1 else ldI J1 48 100 (72 + oM (tb X 27 (6 * k + d))) fun x6 => if x6 = 100 + iN m then M_begins1_B81 F (iN m) mi (iN k) (iN d) (oM (tb X 27 (6 * k + d))) 1 J1 else M_begins1_B81 F (iN m) mi (iN k) (iN d) (oM (tb X 27 (6 * k + d))) 0 J1 := by
          simp (disch := omega) only [mBeg, ldI_n, b7, if_pos y11, if_neg cf', M_begins1, i_42, iN_add, b1, r2, Option.bind_some, if_true, n3, hJ1.at_, j5]
        rw [hP, hM]
        have hk8 : C1 8 k = iN (a k) := by rw [g8]; exact sa2
        have hk48 : J1 48 k = iN (a k) := by rw [f48]; exact sa1
        -- the step is begun
        have work : ∀ U : Int32, ∀ a0, a k = a0 + 1 → ((tb X 27 (6 * k + d) = 0 ∧ U = C1 0 13) ∨ (∃ t, t < xt X ∧ tb X 27 (6 * k + d) = t + 1 ∧ U = C1 0 13 ||| (1 <<< (iN t &&& 31)) ∧ ¬ bt (C1 0 13) t ∧ (J1 48 (72 + t) = iN (tb X 20 k) ∨ J1 48 (72 + t) = iN (100 + m)))) → NR X l (uJ (uJ (uJ (uJ (uJ C1 8 k (iN a0)) 0 13 U) (25 + m) 3 (iN d)) (25 + m) 5 (mi + iN (tb X 23 (6 * k + d)))) (25 + m) 0 2) (uJ (uJ (uJ (uJ J1 48 k (iN a0)) 53 m (iN d)) 50 m 2) 52 m (mi + iN (tb X 23 (6 * k + d)))) ∧ nF J (uJ (uJ (uJ (uJ J1 48 k (iN a0)) 53 m (iN d)) 50 m 2) 52 m (mi + iN (tb X 23 (6 * k + d)))) := by
          intro U a0 ha hu
          obtain ⟨y1, y2⟩ := nr_work (mi := mi + iN (tb X 23 (6 * k + d))) (a0 := a0) hX hN (by omega) hm hk hs n1 v1 v2 v3 v4 (by rw [v5, v6]) v6 v7 v8 (by rw [hk48, ha]) U hu
          exact ⟨y1, hFn.tr y2⟩
        have hw147 : ∀ a0, a k = a0 + 1 → M_begins1_B147 F (iN m) mi (iN k) (iN d) J1 = some (uJ (uJ (uJ (uJ J1 48 k (iN a0)) 53 m (iN d)) 50 m 2) 52 m (mi + iN (tb X 23 (6 * k + d)))) := by
          intro a0 ha
          have hst : TxJ (uJ (uJ (uJ J1 48 k (iN a0)) 53 m (iN d)) 50 m 2) l X := hJ1.fo hX (by simp (disch := omega) only [uJ_o]) (fun o o1 o2 => by simp (disch := omega) only [uJ_o])
          simp (disch := omega) only [M_begins1_B147, ldI_n, hk48, ha, i_1, iN_sub, Nat.add_sub_cancel, stI_n, hst.at_, Option.bind_some, uJ_o, j1]
        by_cases cz : a k = 0
        · -- no stuff
          have y1 : C1 8 k = 0 := by rw [hk8, cz]; rfl
          have y2 : J1 48 k = 0 := by rw [hk48, cz]; rfl
          rw [if_pos y1, hl115]
          have y3 : ∀ s0, M_begins1_B81 F (iN m) mi (iN k) (iN d) (oM (tb X 27 (6 * k + d))) s0 J1 = some (uJ (uJ J1 50 m 3) 48 (66 + m) mi) := by
            intro s0
            simp (disch := omega) only [M_begins1_B81, ldI_n, y2, if_true, hl124]
          cases hu : tb X 27 (6 * k + d) with
          | zero =>
            rw [hu] at y3
            rw [if_pos (show oM 0 < 0 by decide), y3]
            exact Bo.mk lies
          | succ t =>
            rw [hu] at y3
            have : ¬ iN t < 0 := by rw [i_0, iN_lt (by omega) (by omega)]; omega
            simp (disch := omega) only [oM_s, if_neg this, i_72, iN_add, ldI_n]
            rw [oM_s] at y3
            by_cases c100 : J1 48 (72 + t) = 100 + iN m
            · rw [if_pos c100, y3]
              exact Bo.mk lies
            · rw [if_neg c100, y3]
              exact Bo.mk lies
        · obtain ⟨a0, ha0⟩ : ∃ a0, a k = a0 + 1 := ⟨a k - 1, by omega⟩
          have y1 : ¬ C1 8 k = 0 := by rw [hk8, i_0, iN_eq (by omega) (by omega)]; exact cz
          have y2 : ¬ J1 48 k = 0 := by rw [hk48, i_0, iN_eq (by omega) (by omega)]; exact cz
          rw [if_neg y1]
          have hwC : ∀ t7 : Int32, t7 < 0 → P_begins_B143 F T m mi (e 3 k) (iN d) t7 C1 = some (uJ (uJ (uJ (uJ C1 8 k (iN a0)) (25 + m) 3 (iN d)) (25 + m) 5 (mi + iN (tb X 23 (6 * k + d)))) (25 + m) 0 2) := by
            intro t7 h7
            simp (disch := omega) only [P_begins_B143, P_begins_B174, v2, ldI_n, hk8, ha0, i_1, iN_sub, Nat.add_sub_cancel, stI_n, if_pos h7, lt_e, hT.k3 hk, Option.bind_some, hT.kgt hk n1, hT.cs hk n1, hT.s0 hk n1]
          have hwT : ∀ t7 : Int32, ¬ t7 < 0 → P_begins_B143 F T m mi (e 3 k) (iN d) t7 C1 = some (uJ (uJ (uJ (uJ (uJ C1 8 k (iN a0)) 0 13 (C1 0 13 ||| (1 <<< (t7 &&& 31)))) (25 + m) 3 (iN d)) (25 + m) 5 (mi + iN (tb X 23 (6 * k + d)))) (25 + m) 0 2) := by
            intro t7 h7
            have e1 : iN (a0 + 1) - 1 = iN a0 := by rw [i_1, iN_sub (by omega)]; rfl
            simp (disch := omega) only [P_begins_B143, P_begins_B174, v2, ldI_n, hk8, ha0, e1, stI_n, if_neg h7, lt_e, hT.k3 hk, Option.bind_some, hT.kgt hk n1, hT.cs hk n1, hT.s0 hk n1, uJ_o]
          cases hu : tb X 27 (6 * k + d) with
          | zero =>
            have o1 : oC 0 < 0 := by decide
            have o2 : oM 0 < 0 := by decide
            rw [if_pos o1, if_pos o2]
            have p1 : P_begins_B124 F T m mi (e 3 k) (iN d) (oC 0) C1 = P_begins_B143 F T m mi (e 3 k) (iN d) (oC 0) C1 := by
              simp only [P_begins_B124, if_pos o1]
            have p2 : M_begins1_B81 F (iN m) mi (iN k) (iN d) (oM 0) 1 J1 = M_begins1_B147 F (iN m) mi (iN k) (iN d) J1 := by
              simp (disch := omega) only [M_begins1_B81, M_begins1_B131, ldI_n, if_neg y2, if_neg z10]
            rw [p1, hwC _ o1, p2, hw147 a0 ha0]
            have w := work (C1 0 13) a0 ha0 (Or.inl ⟨hu, rfl⟩)
            rw [uJ_same (show uJ C1 8 k (iN a0) 0 13 = C1 0 13 by rw [uJ_o (by omega)])] at w
            exact Bo.mk w
          | succ t =>
            have ht : t < xt X := by omega
            have o1 : ¬ oC (t + 1) < 0 := by rw [oC_s, i_0, iN_lt (by omega) (by omega)]; omega
            have o2 : ¬ oM (t + 1) < 0 := by rw [oM_s, i_0, iN_lt (by omega) (by omega)]; omega
            rw [if_neg o1, if_neg o2]
            have ct : C1 11 t = J1 48 (72 + t) := hN.2.2.2.1.1 t ht
            have e100 : (100 : Int32) + iN m = iN (100 + m) := by rw [i_100, iN_add]
            simp (disch := omega) only [oM_s, oC_s, i_72, iN_add, ldI_n]
            have p0 : V_isToolThere T C1 (iN t) (iN (tb X 20 k)) (iN m) = if J1 48 (72 + t) = iN (tb X 20 k) then some 1 else if J1 48 (72 + t) = iN (100 + m) then some 1 else some 0 := by
              simp (disch := omega) only [V_isToolThere, ldI_n, ct, e100]
            rw [p0, e100]
            have p1 : P_begins_B124 F T m mi (e 3 k) (iN d) (iN t) C1 = if ((C1 0 13 >>> (iN t &&& 31)) &&& 1) = 1 then some C1 else P_begins_B143 F T m mi (e 3 k) (iN d) (iN t) C1 := by
              simp only [P_begins_B124, if_neg (show ¬ iN t < 0 by rw [i_0, iN_lt (by omega) (by omega)]; omega)]
            have hwt := hwT (iN t) (by rw [i_0, iN_lt (by omega) (by omega)]; omega)
            have hroom : tb X 20 k < 8 := by have := (hX.2.2.2.1 k hk).1; omega
            have q1 : ∀ s0, M_begins1_B81 F (iN m) mi (iN k) (iN d) (iN t) s0 J1 = if s0 = 0 then (if J1 48 (72 + t) = iN (tb X 20 k) then M_begins1_B131 F (iN m) mi (iN k) (iN d) (iN t) s0 J1 else M_begins1_B124 F (iN m) mi J1) else M_begins1_B131 F (iN m) mi (iN k) (iN d) (iN t) s0 J1 := by
              intro s0
              simp (disch := omega) only [M_begins1_B81, ldI_n, if_neg y2, i_72, iN_add, i_6, hJ1.lv, iN_mul, jr]
            by_cases c100 : J1 48 (72 + t) = iN (100 + m)
            · -- in one's own hands
              have nr : ¬ J1 48 (72 + t) = iN (tb X 20 k) := by rw [c100, iN_eq (by omega) (by omega)]; omega
              have nb : ¬ bt (C1 0 13) t := by
                intro hb
                obtain ⟨m1, u1, u2⟩ := (hN.2.1.1 t ht).1 hb
                obtain ⟨k1, d1, hk1, hd1, w1, w2, w3⟩ := u2.2
                have hr1 : tb X 20 k1 < 8 := by have := (hX.2.2.2.1 k1 hk1).1; omega
                have hor := hN.2.1.2.2 t m1 k1 ht u1 u2 hk1 w1
                rw [c100, iN_eq (by omega) (by omega), iN_eq (by omega) (by omega)] at hor
                have : m1 = m := by omega
                subst this
                exact absurd (v7.symm.trans u2.1) (by decide)
              rw [if_neg nr, if_pos c100, if_pos c100, q1, if_neg z10, Option.bind_some, if_neg z10, p1, if_neg (show ¬ ((C1 0 13 >>> (iN t &&& 31)) &&& 1) = 1 from nb), hwt]
              have p2 : M_begins1_B131 F (iN m) mi (iN k) (iN d) (iN t) 1 J1 = M_begins1_B147 F (iN m) mi (iN k) (iN d) J1 := by
                simp only [M_begins1_B131, if_neg z10]
              rw [p2, hw147 a0 ha0]
              exact Bo.mk (work _ a0 ha0 (Or.inr ⟨t, ht, hu, rfl, nb, Or.inr c100⟩))
            · rw [if_neg c100, if_neg c100, q1, if_pos rfl]
              by_cases cr : J1 48 (72 + t) = iN (tb X 20 k)
              · rw [if_pos cr, if_pos cr, Option.bind_some, if_neg z10, p1]
                rcases iu_run (F := F) hX (by omega) hN hm ht v7 with ⟨u1, u2⟩ | ⟨u1, u2⟩
                · rw [if_pos (show ((C1 0 13 >>> (iN t &&& 31)) &&& 1) = 1 from u1)]
                  have p2 : M_begins1_B131 F (iN m) mi (iN k) (iN d) (iN t) 0 J1 = some J1 := by
                    simp only [M_begins1_B131, if_true, u2, Option.bind_some, if_neg z10]
                  rw [p2]
                  exact Bo.mk ⟨hN, hFn⟩
                · rw [if_neg (show ¬ ((C1 0 13 >>> (iN t &&& 31)) &&& 1) = 1 from u1), hwt]
                  have p2 : M_begins1_B131 F (iN m) mi (iN k) (iN d) (iN t) 0 J1 = M_begins1_B147 F (iN m) mi (iN k) (iN d) J1 := by
                    simp only [M_begins1_B131, if_true, u2, Option.bind_some]
                  rw [p2, hw147 a0 ha0]
                  exact Bo.mk (work _ a0 ha0 (Or.inr ⟨t, ht, hu, rfl, u1, Or.inl cr⟩))
              · rw [if_neg cr, if_neg cr, Option.bind_some, if_pos rfl, hl115, hl124]
                exact Bo.mk lies
      · -- all is done
        have bz1 : bz 1 = some 1 := rfl
        obtain ⟨d, C1, J1, n1, n2, n3, n4, n5, n6⟩ := pl_next (mi := mi) (C := uJ C (25 + m) 6 1) hF hX hT h5 hm hk hs (by rw [uJ_sn (by omega)]; exact b2) (by rw [uJ_sn (by omega)]; exact b4) b1 b3 (by rw [uJ_o (by omega)]; exact hd0) (by rw [uJ_o (by omega), (s1 k hk).1, (s1 k hk).2.1]) (by rw [uJ_o (by omega)]; exact a2)
        have g25 : C1 (25 + m) = uJ C (25 + m) 6 1 (25 + m) := n4 (25 + m) (by omega) (by omega)
        have g6 : C1 (25 + m) 6 = 1 := by rw [g25, uJ_ss]
        have g1 : C1 (25 + m) 1 = iN k := by rw [g25, uJ_sn (by omega)]; exact b2
        have hP : P_begins F T m tx (iN m) mi C = some (uJ (uJ C1 (25 + m) 0 0) 14 m mi) := by
          simp (disch := omega) only [P_begins, b8, if_pos y11, b10, if_pos cf, hT.r3, Option.bind_some, b2, hT.g3 hk, hT.ck hk, r1, bz1, lt_e, n2, hT.k3 hk, hT.kgt hk n1, hT.cs hk n1, hT.s4 hk n1, g6, if_neg z10, P_begins_B115, P_liesDown, stI_n]
        have hM : mBeg F (iN m) mi J = some (uJ (uJ (uJ J 56 m (iN 1)) 50 m 3) 48 (66 + m) mi) := by
          simp (disch := omega) only [mBeg, ldI_n, b7, if_pos y11, if_neg cf', M_begins1, i_42, iN_add, b1, r2, Option.bind_some, if_neg z10, stI_n, a11, M_lies, i_66]
        rw [hP, hM]
        refine Bo.mk (nr_lies2 (mi := mi) (z := iN 1) hX h0 hm hk hs b1 b3 b7 (Or.inr rfl) (fun o o1 o2 o3 o4 => ?_) (fun i hi => ?_) ?_ ?_ ?_ ?_ ?_ (fun o o1 o2 o3 => ?_) (fun i hi => ?_) ?_ (fun i hi => ?_) ?_ (fun i hi => ?_) ?_)
        · rw [uJ_o o1, uJ_o o2, n4 o o3 o4, uJ_o o2]
        · rw [uJ_sn hi, uJ_o (by omega), n4 14 (by omega) (by omega), uJ_o (by omega)]
        · exact uJ_ss
        · rw [uJ_o (by omega), uJ_ss]
        · rw [uJ_o (by omega), uJ_sn (by omega)]; exact g1
        · rw [uJ_o (by omega), uJ_sn (by omega), g25, uJ_sn (by omega)]; exact b4
        · rw [uJ_o (by omega), uJ_sn (by omega)]; exact g6
        · rw [uJ_o o1, uJ_o o2, uJ_o o3]
        · rw [uJ_sn hi, uJ_o (by omega), uJ_o (by omega)]
        · exact uJ_ss
        · rw [uJ_o (by omega), uJ_sn hi, uJ_o (by omega)]
        · rw [uJ_o (by omega), uJ_ss]; rfl
        · rw [uJ_o (by omega), uJ_o (by omega), uJ_sn hi]
        · rw [uJ_o (by omega), uJ_o (by omega), uJ_ss]
    · have cf' : mi < J 51 m := Int32.not_le.1 cf
      simp (disch := omega) only [P_begins, mBeg, ldI_n, b7, b8, if_pos y11, b10, if_neg cf, if_pos cf']
      exact Bo.mk ⟨h0, nF.rf⟩
end BG
