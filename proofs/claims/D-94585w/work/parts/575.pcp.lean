/-! PURE LAW 13: both sides between calls; evenings -/
set_option maxRecDepth 100000
/-- nights that may be undone -/
def Pst (X : Xt) (S : Ji) (V : Nat → Ji) (J : Ji) : Prop := ∃ u p, u ≤ 20 ∧ p < 20 ∧ S 0 5 = iN u ∧ J 0 74 = iN u ∧ S 0 6 = iN p ∧ ∀ i, i < u → VR X (V (2 + (p + 20 - u + i) % 20)) (fun k => J 57 (100 * i + k)) ∧ VV X (fun k => J 57 (100 * i + k))
def Slt (X : Xt) (S : Ji) (V : Nat → Ji) (J : Ji) : Prop := ∀ s, s < 3 → S 183 s = J 61 s ∧ (J 61 s = 0 ∨ J 61 s = 1) ∧ (J 61 s = 1 → VR X (V (22 + s)) (fun k => J 62 (100 * s + k)) ∧ VV X (fun k => J 62 (100 * s + k)))
def Tld (X : Xt) (S J : Ji) : Prop := ∃ n, n ≤ 30 ∧ S 0 15 = iN n ∧ J 0 77 = iN n ∧ ∀ i, i < n → S 184 i = J 58 i ∧ S 185 i = J 59 i ∧ S 186 i = J 60 i ∧ ∃ k s, k < xk X ∧ s < xs X k ∧ J 58 i = iN k ∧ J 59 i = iN s
def Tpe (Q J : Ji) : Prop := ∃ n, n ≤ 2000 ∧ Q 2 2 = iN n ∧ J 0 2 = iN n ∧ ∀ i, i < n → Q 4 i = J 1 i ∧ (J 1 i).toInt8.toInt32 = J 1 i
def Cpl (X : Xt) (b : Nat → Nat) (e : Nat → Nat → Nat) (l : Nat) (T : Th) (tx : Nat) (S Q : Ji) (V : Nat → Ji) (J : Ji) : Prop := TxV X ∧ TxT T tx X b e ∧ TxJ J l X ∧ (VR X (V 0) (J 47) ∧ VV X (J 47)) ∧ Pst X S V J ∧ Slt X S V J ∧ Tld X S J ∧ Tpe Q J ∧ S 0 4 = J 0 17
/-- what of the component's own counts -/
def sG (S S1 : Ji) : Prop := (∀ o, o ≠ 0 → S1 o = S o) ∧ ∀ i, i ≠ 12 → i ≠ 13 → i ≠ 14 → S1 0 i = S 0 i
theorem sG.rf {S : Ji} : sG S S := ⟨fun _ _ => rfl, fun _ _ _ _ => rfl⟩
theorem sG.tr {S S1 S2 : Ji} (h : sG S S1) (h2 : sG S1 S2) : sG S S2 := ⟨fun o a => by rw [h2.1 o a, h.1 o a], fun i a c d => by rw [h2.2 i a c d, h.2 i a c d]⟩
section CP
variable {T : Th} {tx : Nat} {X : Xt} {b : Nat → Nat} {e : Nat → Nat → Nat} {l F : Nat} {S Q : Ji} {V : Nat → Ji} {J : Ji}
theorem Cpl.fr (h : Cpl X b e l T tx S Q V J) {S1 : Ji} {V1 : Nat → Ji} {J1 : Ji} (hS : sG S S1) (hV : ∀ k, k ≠ 0 → k ≠ 1 → V1 k = V k) (hR : VR X (V1 0) (J 47)) (hJ : nG J J1) : Cpl X b e l T tx S1 Q V1 J1 := by
  obtain ⟨h1, h2, h3, ⟨h4, h5⟩, ⟨u, p, p1, p2, p3, p4, p5, p6⟩, h7, ⟨n, n1, n2, n3, n4⟩, ⟨m, m1, m2, m3, m4⟩, h10⟩ := h
  refine ⟨h1, h2, hJ.tx h1 h3, ⟨?_, ?_⟩, ⟨u, p, p1, p2, ?_, ?_, ?_, fun i hi => ?_⟩, fun s hs => ?_, ⟨n, n1, ?_, ?_, fun i hi => ?_⟩, ⟨m, m1, m2, ?_, fun i hi => ?_⟩, ?_⟩
  · rw [hJ.v47]; exact hR
  · rw [hJ.v47]; exact h5
  · rw [hS.2 5 (by omega) (by omega) (by omega)]; exact p3
  · rw [hJ.2 74 (by omega) (by omega)]; exact p4
  · rw [hS.2 6 (by omega) (by omega) (by omega)]; exact p5
  · rw [hV _ (by omega) (by omega), hJ.1 57 (by omega) (by omega)]; exact p6 i hi
  · rw [hV _ (by omega) (by omega), hJ.1 61 (by omega) (by omega), hJ.1 62 (by omega) (by omega), hS.1 183 (by omega)]; exact h7 s hs
  · rw [hS.2 15 (by omega) (by omega) (by omega)]; exact n2
  · rw [hJ.2 77 (by omega) (by omega)]; exact n3
  · rw [hS.1 184 (by omega), hS.1 185 (by omega), hS.1 186 (by omega), hJ.1 58 (by omega) (by omega), hJ.1 59 (by omega) (by omega), hJ.1 60 (by omega) (by omega)]; exact n4 i hi
  · rw [hJ.2 2 (by omega) (by omega)]; exact m3
  · rw [hJ.1 1 (by omega) (by omega)]; exact m4 i hi
  · rw [hS.2 4 (by omega) (by omega) (by omega), hJ.2 17 (by omega) (by omega)]; exact h10
theorem Cpl.tr (h : Cpl X b e l T tx S Q V J) {S1 : Ji} {V1 : Nat → Ji} {J1 : Ji} (hS : sG S S1) (hV : vG V V1) (hJ : nG J J1) : Cpl X b e l T tx S1 Q V1 J1 := h.fr hS (fun k _ h1 => hV k h1) (by rw [hV 0 (by omega)]; exact h.2.2.2.1.1) hJ
/-! is it one of them -/
theorem i1_y {m n : Nat} (hm : m < n) (hn : n ≤ 1000) : S_isOne (iN m) (iN n) = some 1 := by
  obtain ⟨h1, h2⟩ := in_idx (show n < 2147483648 by omega) ⟨m, hm, rfl⟩
  simp only [S_isOne, S_isIn, if_neg h1, if_neg h2, Option.bind_some]
  rfl
theorem i1_n {a : Int32} {n : Nat} (h : ¬ idx a n) (hn : n ≤ 1000) : S_isOne a (iN n) = some 0 := by
  rcases in_not (show n < 2147483648 by omega) h with h1 | h1
  · simp only [S_isOne, S_isIn, if_pos h1, Option.bind_some]
    rfl
  · by_cases h0 : a < 0
    · simp only [S_isOne, S_isIn, if_pos h0, Option.bind_some]
      rfl
    · simp only [S_isOne, S_isIn, if_neg h0, if_pos h1, Option.bind_some]
      rfl
theorem m1_y {m n : Nat} (hm : m < n) (hn : n ≤ 1000) : M_in (iN m) 0 (iN n - 1) = some 1 := by
  obtain ⟨h1, h2⟩ := in_idx (show n < 2147483648 by omega) ⟨m, hm, rfl⟩
  simp only [M_in, if_neg h1, if_neg h2]
theorem m1_n {a : Int32} {n : Nat} (h : ¬ idx a n) (hn : n ≤ 1000) : M_in a 0 (iN n - 1) = some 0 := by
  rcases in_not (show n < 2147483648 by omega) h with h1 | h1
  · simp only [M_in, if_pos h1]
  · by_cases h0 : a < 0
    · simp only [M_in, if_pos h0]
    · simp only [M_in, if_neg h0, if_pos h1]
theorem bz_1 : bz 1 = some 1 := rfl
theorem bz_0 : bz 0 = some 0 := rfl
theorem in_c {a c d : Int32} : (S_isIn a c d = some 0 ∧ M_in a c d = some 0) ∨ (S_isIn a c d = some 1 ∧ M_in a c d = some 1 ∧ ¬ a < c ∧ ¬ d < a) := by
  by_cases h1 : a < c
  · exact Or.inl ⟨by simp only [S_isIn, if_pos h1], by simp only [M_in, if_pos h1]⟩
  · by_cases h2 : d < a
    · exact Or.inl ⟨by simp only [S_isIn, if_neg h1, if_pos h2], by simp only [M_in, if_neg h1, if_pos h2]⟩
    · exact Or.inr ⟨by simp only [S_isIn, if_neg h1, if_neg h2], by simp only [M_in, if_neg h1, if_neg h2], h1, h2⟩
/-- a number from 0 to n -/
theorem in_n {a : Int32} {n : Nat} (hn : n < 2147483648) (h1 : ¬ a < 0) (h2 : ¬ iN n < a) : ∃ k, k ≤ n ∧ a = iN k := by
  obtain ⟨k, hk, rfl⟩ := nn_iN h1
  rw [iN_lt hn hk] at h2
  exact ⟨k, by omega, rfl⟩
theorem sm_y (hX : TxV X) (hT : TxT T tx X b e) {m : Nat} (hm : m < xm X) : S_isMan T tx (iN m) = some 1 := by
  have := hX.1.2.2.2.2.1
  simp only [S_isMan, hT.r4, Option.bind_some, hT.z4, i1_y hm (by omega), bz_1]
theorem sm_n (hX : TxV X) (hT : TxT T tx X b e) {a : Int32} (h : ¬ idx a (xm X)) : S_isMan T tx a = some 0 := by
  have := hX.1.2.2.2.2.1
  simp only [S_isMan, hT.r4, Option.bind_some, hT.z4, i1_n h (by omega), bz_0]
theorem mm_y (hX : TxV X) (hJ : TxJ J l X) {m : Nat} (hm : m < xm X) : M_isMan J (iN m) = some 1 := by
  have := hX.1.2.2.2.2.1
  simp only [M_isMan, hJ.men, Option.bind_some, m1_y hm (by omega), bz_1]
theorem mm_n (hX : TxV X) (hJ : TxJ J l X) {a : Int32} (h : ¬ idx a (xm X)) : M_isMan J a = some 0 := by
  have := hX.1.2.2.2.2.1
  simp only [M_isMan, hJ.men, Option.bind_some, m1_n h (by omega), bz_0]
theorem sk_y (hX : TxV X) (hT : TxT T tx X b e) {k : Nat} (hk : k < xk X) : S_isTask T tx (iN k) = some 1 := by
  have := hX.1.2.2.2.1
  simp only [S_isTask, hT.r3, Option.bind_some, hT.z3, i1_y hk (by omega), bz_1]
theorem sk_n (hX : TxV X) (hT : TxT T tx X b e) {a : Int32} (h : ¬ idx a (xk X)) : S_isTask T tx a = some 0 := by
  have := hX.1.2.2.2.1
  simp only [S_isTask, hT.r3, Option.bind_some, hT.z3, i1_n h (by omega), bz_0]
theorem mk_y (hX : TxV X) (hJ : TxJ J l X) {k : Nat} (hk : k < xk X) : M_isTask J (iN k) = some 1 := by
  have := hX.1.2.2.2.1
  simp only [M_isTask, hJ.tasks, Option.bind_some, m1_y hk (by omega), bz_1]
theorem mk_n (hX : TxV X) (hJ : TxJ J l X) {a : Int32} (h : ¬ idx a (xk X)) : M_isTask J a = some 0 := by
  have := hX.1.2.2.2.1
  simp only [M_isTask, hJ.tasks, Option.bind_some, m1_n h (by omega), bz_0]
theorem sr_y (hX : TxV X) (hT : TxT T tx X b e) {k : Nat} (hk : k < xr X) : S_isRoom T tx (iN k) = some 1 := by
  have := hX.1.1
  simp only [S_isRoom, hT.r0, Option.bind_some, hT.z0, i1_y hk (by omega), bz_1]
theorem sr_n (hX : TxV X) (hT : TxT T tx X b e) {a : Int32} (h : ¬ idx a (xr X)) : S_isRoom T tx a = some 0 := by
  have := hX.1.1
  simp only [S_isRoom, hT.r0, Option.bind_some, hT.z0, i1_n h (by omega), bz_0]
theorem mr_y (hX : TxV X) (hJ : TxJ J l X) {k : Nat} (hk : k < xr X) : M_isRoom J (iN k) = some 1 := by
  have := hX.1.1
  have := hJ.l2
  simp (disch := omega) only [M_isRoom, hJ.lv, ldI_n, hJ.r, m1_y hk, Option.bind_some, bz_1]
theorem mr_n (hX : TxV X) (hJ : TxJ J l X) {a : Int32} (h : ¬ idx a (xr X)) : M_isRoom J a = some 0 := by
  have := hX.1.1
  have := hJ.l2
  simp (disch := omega) only [M_isRoom, hJ.lv, ldI_n, hJ.r, m1_n h, Option.bind_some, bz_0]
theorem mt_y (hX : TxV X) (hJ : TxJ J l X) {k : Nat} (hk : k < xt X) : M_isTool J (iN k) = some 1 := by
  have := hX.1.2.2.1
  have := hJ.l2
  simp (disch := omega) only [M_isTool, hJ.lv, ldI_n, hJ.t, m1_y hk, Option.bind_some, bz_1]
theorem mt_n (hX : TxV X) (hJ : TxJ J l X) {a : Int32} (h : ¬ idx a (xt X)) : M_isTool J a = some 0 := by
  have := hX.1.2.2.1
  have := hJ.l2
  simp (disch := omega) only [M_isTool, hJ.lv, ldI_n, hJ.t, m1_n h, Option.bind_some, bz_0]
/-- a step of a task -/
def idS (X : Xt) (a c : Int32) : Prop := ∃ k s, k < xk X ∧ s < xs X k ∧ a = iN k ∧ c = iN s
theorem ss_y (hX : TxV X) (hT : TxT T tx X b e) {k s : Nat} (hk : k < xk X) (hs : s < xs X k) : S_isStep T tx (iN k) (iN s) = some 1 := by
  have := hX.1.2.2.2.1
  have := (hX.2.2.2.1 k hk).2.2
  simp (disch := omega) only [S_isStep, sk_y hX hT hk, Option.bind_some, if_neg (show ¬ (1 : Int32) = 0 by decide), hT.r3, hT.g3 hk, hT.ck hk, C_isStep, if_neg (show ¬ iN s < 0 by rw [i_0, iN_lt (by omega) (by omega)]; omega), hT.k3 hk, hT.ksz hk, iN_le, if_neg (show ¬ xs X k ≤ s by omega)]
theorem ss_n (hX : TxV X) (hT : TxT T tx X b e) {a c : Int32} (h : ¬ idS X a c) : S_isStep T tx a c = some 0 := by
  by_cases ha : idx a (xk X)
  · obtain ⟨k, hk, rfl⟩ := ha
    have := hX.1.2.2.2.1
    have := (hX.2.2.2.1 k hk).2.2
    have e1 : C_isStep T (e 3 k) c = some 0 := by
      by_cases h0 : c < 0
      · simp only [C_isStep, if_pos h0]
      · obtain ⟨s, hs, rfl⟩ := nn_iN h0
        have : ¬ s < xs X k := fun h1 => h ⟨k, s, hk, h1, rfl, rfl⟩
        simp (disch := omega) only [C_isStep, if_neg h0, hT.k3 hk, Option.bind_some, hT.ksz hk, iN_le, if_pos (show xs X k ≤ s by omega)]
    simp only [S_isStep, sk_y hX hT hk, Option.bind_some, if_neg (show ¬ (1 : Int32) = 0 by decide), hT.r3, hT.g3 hk, hT.ck hk, e1, if_true]
  · simp only [S_isStep, sk_n hX hT ha, Option.bind_some, if_true]
theorem ms_y (hX : TxV X) (hJ : TxJ J l X) {k s : Nat} (hk : k < xk X) (hs : s < xs X k) : M_isStep J (iN k) (iN s) = some 1 := by
  have := (hX.2.2.2.1 k hk).2.2
  simp only [M_isStep, mk_y hX hJ hk, Option.bind_some, if_neg (show ¬ (1 : Int32) = 0 by decide), hJ.steps hX hk, m1_y hs (show xs X k ≤ 1000 by omega)]
theorem ms_n (hX : TxV X) (hJ : TxJ J l X) {a c : Int32} (h : ¬ idS X a c) : M_isStep J a c = some 0 := by
  by_cases ha : idx a (xk X)
  · obtain ⟨k, hk, rfl⟩ := ha
    have := (hX.2.2.2.1 k hk).2.2
    have : ¬ idx c (xs X k) := by
      rintro ⟨s, hs, rfl⟩
      exact h ⟨k, s, hk, hs, rfl, rfl⟩
    simp only [M_isStep, mk_y hX hJ hk, Option.bind_some, if_neg (show ¬ (1 : Int32) = 0 by decide), hJ.steps hX hk, m1_n this (show xs X k ≤ 1000 by omega), if_true]
  · simp only [M_isStep, mk_n hX hJ ha, Option.bind_some, if_true]
/-! evenings -/
theorem q_gain (h : Cpl X b e l T tx S Q V J) (hF : 900 ≤ F) : ∃ r V1 J1, S_gain F T tx V = some (r, V1) ∧ M_gain F J = some (r, J1) ∧ Cpl X b e l T tx S Q V1 J1 := by
  have h0 := h
  obtain ⟨hX, hT, hJ, ⟨hR, hV⟩, _⟩ := h
  obtain ⟨J1, e1, e2, e3, e4, e5, _⟩ := tr_takes hX hF hJ hR hV
  obtain ⟨g, C2, J2, n1, n2, n3, n4, n5⟩ := tr_night hX hF hT e3 e4 e5
  refine ⟨g, vf_upd (vf_upd V 1 (V_takes (V 0) (V 1))) 1 C2, J2, ?_, ?_, h0.tr sG.rf (vG.u.tr vG.u) (e2.tr n4).g⟩
  · simp only [S_gain, lt_e, n1, Option.bind_some]
  · simp only [M_gain, e1, Option.bind_some, n3]
theorem ev_L (hX : TxV X) (hT : TxT T tx X b e) (hF : 900 ≤ F) {m : Nat} (hm : m < xm X) : ∀ d n n2 i bo S V J, nch X = d + i → d < n → d < n2 → 1 ≤ i → TxJ J l X → VR X (V 0) (J 47) → VV X (J 47) → bo < nch X → S 0 12 = J 0 76 → S_choice F T tx (iN bo) = some (S 0 13) → ∃ S1 V1 bo1 J1, S_evening_L2 F T tx n (iN m) (iN i) S V = some (S1, V1) ∧ M_bestOption_L14 F n2 (iN m) (iN bo) (iN i) J = some (iN bo1, J1) ∧ bo1 < nch X ∧ S1 0 12 = J1 0 76 ∧ S_choice F T tx (iN bo1) = some (S1 0 13) ∧ sG S S1 ∧ vG V V1 ∧ nG J J1 := by
  have hn := nch_le hX
  intro d
  induction d with
  | zero =>
    intro n n2 i bo S V J h0 h1 h2 h3 hJ hR hV h4 h5 h6
    obtain ⟨n, rfl⟩ : ∃ g, n = g + 1 := ⟨n - 1, by omega⟩
    obtain ⟨n2, rfl⟩ : ∃ g, n2 = g + 1 := ⟨n2 - 1, by omega⟩
    refine ⟨S, V, bo, J, ?_, ?_, h4, h5, h6, sG.rf, vG.rf, nG.rf⟩
    · simp (disch := omega) only [S_evening_L2, S_evening_B2, ch_c hX hT, Option.bind_some, iN_le, if_pos (show nch X ≤ i by omega)]
    · simp (disch := omega) only [M_bestOption_L14, M_bestOption_B14, ch_m hX hJ, Option.bind_some, iN_le, if_pos (show nch X ≤ i by omega)]
  | succ d ih =>
    intro n n2 i bo S V J h0 h1 h2 h3 hJ hR hV h4 h5 h6
    obtain ⟨n, rfl⟩ : ∃ g, n = g + 1 := ⟨n - 1, by omega⟩
    obtain ⟨n2, rfl⟩ : ∃ g, n2 = g + 1 := ⟨n2 - 1, by omega⟩
    have hi : i < nch X := by omega
    obtain ⟨x, g, V4, V5, J1, t1, t2, t3, t4, t5, t6, _⟩ := tr_one hX hF hT hJ hR hV hm hi
    have hJ1 := t6.tx hX hJ
    have hR1 : VR X (V5 0) (J1 47) := by rw [t4 0 (by omega), t6.v47]; exact hR
    have hV1 : VV X (J1 47) := by rw [t6.v47]; exact hV
    have e76 : ∀ v, (uJ J1 0 76 v) 47 = J1 47 := fun v => by rw [uJ_o (by omega)]
    have n0 : ¬ iN i ≤ 0 := by rw [i_0, iN_le (by omega) (by omega)]; omega
    have e1 : iN i + 1 = iN (i + 1) := by rw [i_1, iN_add]
    have hold : J1 0 76 = J 0 76 := t6.2 76 (by omega)
    by_cases cg : J 0 76 < g
    · obtain ⟨S1, V1, bo1, J2, u1, u2, u3, u4, u5, u6, u7, u8⟩ := ih n n2 (i + 1) i (uJ (uJ S 0 12 g) 0 13 x) V5 (uJ J1 0 76 g) (by omega) (by omega) (by omega) (by omega) (hJ1.fo hX (by rw [uJ_sn (by omega)]) (fun o _ _ => uJ_o (by omega))) (by rw [e76]; exact hR1) (by rw [e76]; exact hV1) hi (by rw [uJ_sn (by omega), uJ_ss, uJ_ss]) (by rw [uJ_ss]; exact t1)
      refine ⟨S1, V1, bo1, J2, ?_, ?_, u3, u4, u5, ?_, t4.tr u7, ?_⟩
      · rw [← u1]
        simp (disch := omega) only [S_evening_L2, S_evening_B2, S_evening_B51, ch_c hX hT, Option.bind_some, iN_le, if_neg (show ¬ nch X ≤ i by omega), lt_e, t1, t2, t3, if_neg n0, h5, if_pos cg, e1]
      · rw [← u2]
        simp (disch := omega) only [M_bestOption_L14, M_bestOption_B14, ch_m hX hJ, Option.bind_some, iN_le, if_neg (show ¬ nch X ≤ i by omega), t5, hold, if_pos cg, lt_e, e1]
      · exact ⟨fun o ho => by rw [u6.1 o ho, uJ_o ho, uJ_o ho], fun j j1 j2 j3 => by rw [u6.2 j j1 j2 j3, uJ_sn j2, uJ_sn j1]⟩
      · exact t6.g.tr ⟨fun o o1 o2 => by rw [u8.1 o o1 o2, uJ_o o2], fun j j1 j2 => by rw [u8.2 j j1 j2, uJ_sn j2]⟩
    · obtain ⟨S1, V1, bo1, J2, u1, u2, u3, u4, u5, u6, u7, u8⟩ := ih n n2 (i + 1) bo S V5 J1 (by omega) (by omega) (by omega) (by omega) hJ1 hR1 hV1 h4 (by rw [hold]; exact h5) h6
      refine ⟨S1, V1, bo1, J2, ?_, ?_, u3, u4, u5, u6, t4.tr u7, t6.g.tr u8⟩
      · rw [← u1]
        simp (disch := omega) only [S_evening_L2, S_evening_B2, ch_c hX hT, Option.bind_some, iN_le, if_neg (show ¬ nch X ≤ i by omega), lt_e, t1, t2, t3, if_neg n0, h5, if_neg cg, e1]
      · rw [← u2]
        simp (disch := omega) only [M_bestOption_L14, M_bestOption_B14, ch_m hX hJ, Option.bind_some, iN_le, if_neg (show ¬ nch X ≤ i by omega), t5, hold, if_neg cg, lt_e, e1]
theorem q_evening (hX : TxV X) (hT : TxT T tx X b e) (hF : 900 ≤ F) {m : Nat} (hm : m < xm X) (hJ : TxJ J l X) (hR : VR X (V 0) (J 47)) (hV : VV X (J 47)) : ∃ S1 V1 bo1 J1, S_evening F T tx (iN m) S V = some (S1, V1) ∧ M_bestOption F (iN m) J = some (iN bo1, J1) ∧ bo1 < nch X ∧ S1 0 12 = J1 0 76 ∧ S_choice F T tx (iN bo1) = some (S1 0 13) ∧ sG S S1 ∧ vG V V1 ∧ nG J J1 := by
  have hn := nch_le hX
  obtain ⟨x, g, V4, V5, J1, t1, t2, t3, t4, t5, t6, _⟩ := tr_one (i := 0) hX hF hT hJ hR hV hm (by omega)
  have hJ1 := t6.tx hX hJ
  obtain ⟨f, hf⟩ : ∃ f, F = f + 1 := ⟨F - 1, by omega⟩
  have y0 : iN 0 ≤ 0 := by decide
  have e1 : iN 0 + 1 = iN 1 := by decide
  obtain ⟨S9, V9, bo9, J9, z1, z2, z3, z4, z5, z6, z7, z8⟩ := ev_L (F := F) hX hT hF hm (nch X - 1) f F 1 0 (uJ (uJ S 0 12 g) 0 13 x) V5 (uJ J1 0 76 g) (by omega) (by omega) (by omega) (by omega) (hJ1.fo hX (by rw [uJ_sn (by omega)]) (fun o _ _ => uJ_o (by omega))) (by rw [uJ_o (by omega), t4 0 (by omega), t6.v47]; exact hR) (by rw [uJ_o (by omega), t6.v47]; exact hV) (by omega) (by rw [uJ_sn (by omega), uJ_ss, uJ_ss]) (by rw [uJ_ss]; exact t1)
  refine ⟨S9, V9, bo9, J9, ?_, ?_, z3, z4, z5, ?_, t4.tr z7, ?_⟩
  · rw [← z1]
    have : S_evening F T tx (iN m) S V = S_evening_B2 F (S_evening_L2 F T tx f) T tx (iN m) (iN 0) S V := by
      rw [S_evening, hf]
      rfl
    rw [this]
    simp (disch := omega) only [S_evening_B2, S_evening_B51, ch_c hX hT, Option.bind_some, iN_le, if_neg (show ¬ nch X ≤ 0 by omega), lt_e, t1, t2, t3, if_pos y0, e1]
  · rw [← z2]
    have e0 : M_bestOption F (iN m) J = (M_gainBy F (iN m) (iN 0) J).bind fun r1 => lt_ (uJ r1.2 0 76 r1.1) fun J2 => M_bestOption_L14 F F (iN m) (iN 0) (iN 1) J2 := rfl
    rw [e0, t5, Option.bind_some, lt_e]
  · exact ⟨fun o ho => by rw [z6.1 o ho, uJ_o ho, uJ_o ho], fun j j1 j2 j3 => by rw [z6.2 j j1 j2 j3, uJ_sn j2, uJ_sn j1]⟩
  · exact t6.g.tr ⟨fun o o1 o2 => by rw [z8.1 o o1 o2, uJ_o o2], fun j j1 j2 => by rw [z8.2 j j1 j2, uJ_sn j2]⟩
theorem q_best (h : Cpl X b e l T tx S Q V J) (hF : 900 ≤ F) (a c : Int32) : ∃ r S1 V1 J1, S_best F T tx a c S V = some (r, S1, V1) ∧ M_best F a c J = some (r, J1) ∧ Cpl X b e l T tx S1 Q V1 J1 := by
  have h0 := h
  obtain ⟨hX, hT, hJ, ⟨hR, hV⟩, _⟩ := h
  have hm6 := hX.1.2.2.2.2.1
  by_cases ha : idx a (xm X)
  · obtain ⟨m, hm, rfl⟩ := ha
    have z10 : ¬ (1 : Int32) = 0 := by decide
    rcases in_c (a := c) (c := 0) (d := 1) with ⟨i1, i2⟩ | ⟨i1, i2, i3, i4⟩
    · refine ⟨-1, S, V, J, ?_, ?_, h0⟩
      · simp only [S_best, sm_y hX hT hm, Option.bind_some, if_neg z10, i1, if_true]
      · simp only [M_best, mm_y hX hJ hm, Option.bind_some, if_neg z10, i2, if_true]
    · obtain ⟨S1, V1, bo, J1, u1, u2, u3, u4, u5, u6, u7, u8⟩ := q_evening (S := S) hX hT hF hm hJ hR hV
      by_cases c0 : c = 0
      · refine ⟨S1 0 12, S1, V1, J1, ?_, ?_, h0.tr u6 u7 u8⟩
        · simp only [S_best, sm_y hX hT hm, Option.bind_some, if_neg z10, i1, u1, if_pos c0]
        · simp only [M_best, mm_y hX hJ hm, Option.bind_some, if_neg z10, i2, u2, if_pos c0, u4]
      · obtain ⟨J2, w1, w2⟩ := ch_code (F := F) hX hT (by omega) u3 (show m < 6 by omega) (u8.tx hX hJ) u5
        refine ⟨S1 0 13, S1, V1, J2, ?_, ?_, h0.tr u6 u7 (u8.tr w2)⟩
        · simp only [S_best, sm_y hX hT hm, Option.bind_some, if_neg z10, i1, u1, if_neg c0]
        · simp only [M_best, mm_y hX hJ hm, Option.bind_some, if_neg z10, i2, u2, if_neg c0, w1]
  · refine ⟨-1, S, V, J, ?_, ?_, h0⟩
    · simp only [S_best, sm_n hX hT ha, Option.bind_some, if_true]
    · simp only [M_best, mm_n hX hJ ha, Option.bind_some, if_true]
theorem q_hire (h : Cpl X b e l T tx S Q V J) (hF : 900 ≤ F) (a : Int32) : ∃ r S1 V1 J1, S_hire F T tx a S V = some (r, S1, V1) ∧ M_hire F a J = some (r, J1) ∧ Cpl X b e l T tx S1 Q V1 J1 := by
  have h0 := h
  obtain ⟨hX, hT, hJ, ⟨hR, hV⟩, _⟩ := h
  have hm6 := hX.1.2.2.2.2.1
  have hn := nch_le hX
  by_cases ha : idx a (xm X)
  · obtain ⟨m, hm, rfl⟩ := ha
    have z10 : ¬ (1 : Int32) = 0 := by decide
    obtain ⟨S1, V1, bo, J1, u1, u2, u3, u4, u5, u6, u7, u8⟩ := q_evening (S := S) hX hT hF hm hJ hR hV
    have hR1 : VR X (V1 0) (J1 47) := by rw [u7 0 (by omega), u8.v47]; exact hR
    have hV1 : VV X (J1 47) := by rw [u8.v47]; exact hV
    obtain ⟨x, g, V4, V5, J2, t1, t2, t3, t4, t5, t6, t7⟩ := tr_one (i := 0) hX hF hT (u8.tx hX hJ) hR1 hV1 hm (by omega)
    have hx : x = -2 := t7 rfl
    subst hx
    refine ⟨S1 0 12 - g, S1, V5, J2, ?_, ?_, h0.tr u6 (u7.tr t4) (u8.tr t6.g)⟩
    · simp only [S_hire, sm_y hX hT hm, Option.bind_some, if_neg z10, u1, lt_e, t2, t3]
    · have e0 : M_hire F (iN m) J = (M_isMan J (iN m)).bind fun r1 => if r1 = 0 then some ((-1000000), J) else (M_bestOption F (iN m) J).bind fun r2 => (M_gainBy F (iN m) (iN 0) r2.2).bind fun r3 => some ((r2.2 0 76) - r3.1, r3.2) := rfl
      rw [e0]
      simp only [mm_y hX hJ hm, Option.bind_some, if_neg z10, u2, t5, u4]
  · refine ⟨-1000000, S, V, J, ?_, ?_, h0⟩
    · simp only [S_hire, sm_n hX hT ha, Option.bind_some, if_true]
    · simp only [M_hire, mm_n hX hJ ha, Option.bind_some, if_true]
end CP
