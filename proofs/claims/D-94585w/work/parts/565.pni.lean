/-! PURE LAW 11: a whole night -/
set_option maxRecDepth 100000
section NI
variable {T : Th} {tx : Nat} {X : Xt} {b : Nat → Nat} {e : Nat → Nat → Nat} {l F : Nat}
/-- a man who has not got up yet -/
def GM (X : Xt) (C J : Ji) (m : Nat) : Prop := C 9 m = onC (J 48 (42 + m)) ∧ C 10 m = onC (J 48 (48 + m)) ∧ C 13 m = J 48 (60 + m) ∧ ((J 48 (42 + m) = iM 1 ∧ J 48 (48 + m) = iM 1) ∨ ∃ k s, k < xk X ∧ s < xs X k ∧ J 48 (42 + m) = iN k ∧ J 48 (48 + m) = iN s)
/-- tasks, before anybody is at work -/
def SG (X : Xt) (C J : Ji) : Prop := (∃ a : Nat → Nat, (∀ k, k < xk X → J 48 k = iN (a k) ∧ C 8 k = iN (a k) ∧ a k ≤ 999) ∧ VD X (J 48) a) ∧ ∀ k s, k < xk X → s < xs X k → C (2 + k) s = J 48 (6 + 6 * k + s)
/-- n men have got up -/
def GU (X : Xt) (l n : Nat) (C J : Ji) : Prop := (∀ m, m < n → MR X C J m ∧ J 50 m ≠ iN 2) ∧ (∀ m, n ≤ m → m < xm X → GM X C J m) ∧ SG X C J ∧ NK X C J ∧ TxJ J l X ∧ C 0 13 = 0
/-- a night's change to one man's own cells keeps the rest -/
theorem GU.one {l : Nat} {m : Nat} {C J C2 J2 : Ji} (hX : TxV X) (h : GU X l m C J) (hm : m < xm X) (c1 : ∀ o, o ≠ 12 → o ≠ 14 → o ≠ 25 + m → C2 o = C o) (c2 : ∀ o i, i ≠ m → (o = 12 ∨ o = 14) → C2 o i = C o i) (j1 : ∀ o, o ≠ 48 → (o < 50 ∨ 56 < o) → J2 o = J o) (j2 : ∀ i, i ≠ 66 + m → J2 48 i = J 48 i) (j3 : ∀ o i, i ≠ m → 50 ≤ o → o ≤ 56 → J2 o i = J o i) (hM : MR X C2 J2 m) (hb : J2 50 m ≠ iN 2) : GU X l (m + 1) C2 J2 ∧ nF J J2 := by
  obtain ⟨h1, h2, ⟨⟨a, s1, s2⟩, s3⟩, h4, h5, h6⟩ := h
  have hm6 := hX.1.2.2.2.2.1
  have hk6 := hX.1.2.2.2.1
  have hr8 := hX.1.1
  have ht6 := hX.1.2.2.1
  have hF : nF J J2 := ⟨fun o a c => j1 o (by omega) (by omega), fun i _ => by rw [j1 0 (by omega) (by omega)]⟩
  refine ⟨⟨fun m' hm' => ?_, fun m' hm' hm2 => ?_, ⟨⟨a, fun k hk => ?_, fun k s hk hs => ?_⟩, fun k s hk hs => ?_⟩, ?_, hF.tx hX h5, ?_⟩, hF⟩
  · by_cases c : m' = m
    · subst c
      exact ⟨hM, hb⟩
    · obtain ⟨g1, g2⟩ := h1 m' (by omega)
      refine ⟨g1.cg ?_ ?_ ?_ ?_ ?_ ?_ ?_ ?_ ?_ ?_ ?_ ?_ ?_ ?_ ?_ ?_ ?_, by rw [j3 50 m' c (by omega) (by omega)]; exact g2⟩
      · rw [c1 _ (by omega) (by omega) (by omega)]
      · rw [c1 _ (by omega) (by omega) (by omega)]
      · rw [c2 12 m' c (Or.inl rfl)]
      · rw [c1 _ (by omega) (by omega) (by omega)]
      · rw [c2 14 m' c (Or.inr rfl)]
      · rw [c1 _ (by omega) (by omega) (by omega)]
      · rw [j2 _ (by omega)]
      · rw [j2 _ (by omega)]
      · rw [j2 _ (by omega)]
      · rw [j2 _ (by omega)]
      all_goals rw [j3 _ m' c (by omega) (by omega)]
  · obtain ⟨g1, g2, g3, g4⟩ := h2 m' (by omega) hm2
    unfold GM
    rw [c1 9 (by omega) (by omega) (by omega), c1 10 (by omega) (by omega) (by omega), c1 13 (by omega) (by omega) (by omega), j2 (42 + m') (by omega), j2 (48 + m') (by omega), j2 (60 + m') (by omega)]
    exact ⟨g1, g2, g3, g4⟩
  · rw [j2 _ (by omega), c1 8 (by omega) (by omega) (by omega)]
    exact s1 k hk
  · have := (hX.2.2.2.1 k hk).2.2
    rw [j2 _ (by omega)]
    exact s2 k s hk hs
  · have := (hX.2.2.2.1 k hk).2.2
    rw [j2 _ (by omega), c1 (2 + k) (by omega) (by omega) (by omega)]
    exact s3 k s hk hs
  · obtain ⟨a1, a2, a3, a4, a5, a6⟩ := h4
    refine ⟨fun t ht => ?_, fun t ht => ?_, ?_, ?_, ?_, fun a c ha hc => ?_, fun a c ha hc => ?_⟩
    · rw [j2 _ (by omega), c1 11 (by omega) (by omega) (by omega)]
      exact a1 t ht
    · rw [j2 _ (by omega)]
      exact a2 t ht
    · rw [j2 _ (by omega), c1 0 (by omega) (by omega) (by omega)]
      exact a3
    · rw [j2 _ (by omega), c1 0 (by omega) (by omega) (by omega)]
      exact a4
    · rw [j2 _ (by omega)]
      exact a5
    · rw [j1 49 (by omega) (by omega), c1 (16 + a) (by omega) (by omega) (by omega)]
      exact a6.1 a c ha hc
    · rw [j1 49 (by omega) (by omega)]
      exact a6.2 a c ha hc
  · rw [c1 0 (by omega) (by omega) (by omega)]
    exact h6
theorem pl_gets (hX : TxV X) (hT : TxT T tx X b e) {C J : Ji} {m : Nat} (h : GU X l m C J) (hm : m < xm X) : Bo (P_getsUp T m tx (iN m) C) (M_getsUp (iN m) J) (fun C1 J1 => GU X l (m + 1) C1 J1 ∧ nF J J1) := by
  have h0 := h
  obtain ⟨h1, h2, h3, h4, h5, h6⟩ := h
  have hm6 := hX.1.2.2.2.2.1
  have hk6 := hX.1.2.2.2.1
  have hr8 := hX.1.1
  have hl := h5.l2
  obtain ⟨g1, g2, g3, g4⟩ := h2 m (Nat.le_refl _) hm
  have a01 : (0 : Int32) &&& 1 = 0 := by decide
  have hz : (0 : Int32) = iN 0 := rfl
  rcases g4 with ⟨w1, w2⟩ | ⟨k, s, hk, hs, w1, w2⟩
  · have n1 : ¬ (0 : Int32) ≤ iM 1 := by decide
    have n2 : ¬ (0 : Int32) ≤ iM 2 := by decide
    rw [w1, onC_m] at g1
    rw [w2, onC_m] at g2
    have hP : P_getsUp T m tx (iN m) C = some (uJ (uJ (uJ (uJ (uJ (uJ C 12 m 0) 14 m (-2)) (25 + m) 6 0) (25 + m) 0 0) (25 + m) 1 (iM 2)) (25 + m) 2 (iM 2)) := by
      simp (disch := omega) only [P_getsUp, stI_n, ldI_n, lt_e, uJ_o, uJ_ss, uJ_sn, g1, g2, if_neg n2]
    have hM : M_getsUp (iN m) J = some (uJ (uJ (uJ (uJ (uJ J 50 m 0) 55 m 0) 56 m 0) 48 (66 + m) (-2)) 54 m (iM 1)) := by
      simp (disch := omega) only [M_getsUp, i_42, i_48, i_66, iN_add, ldI_n, stI_n, uJ_o, uJ_sn, w1, w2, a01, if_neg n1]
    rw [hP, hM]
    refine Bo.mk (h0.one hX hm (fun o o1 o2 o3 => ?_) (fun o i hi ho => ?_) (fun o o1 o2 => ?_) (fun i hi => ?_) (fun o i hi o1 o2 => ?_) ?_ ?_)
    · simp (disch := omega) only [uJ_o]
    · rcases ho with rfl | rfl <;> simp (disch := omega) only [uJ_o, uJ_sn]
    · simp (disch := omega) only [uJ_o]
    · simp (disch := omega) only [uJ_o, uJ_sn]
    · simp (disch := omega) only [uJ_ap, if_neg (show ¬ (o = 54 ∧ i = m) by omega), if_neg (show ¬ (o = 48 ∧ i = 66 + m) by omega), if_neg (show ¬ (o = 56 ∧ i = m) by omega), if_neg (show ¬ (o = 55 ∧ i = m) by omega), if_neg (show ¬ (o = 50 ∧ i = m) by omega)]
    · unfold MR
      simp (disch := omega) only [uJ_o, uJ_ss, uJ_sn, w1, w2, g1, g2, g3, onC_m, Int32.add_zero, true_and, and_true]
      exact Or.inl ⟨rfl, rfl, rfl⟩
    · simp (disch := omega) only [uJ_o, uJ_ss]
      decide
  · rw [w1, onC_n (by omega)] at g1
    have hs6 := (hX.2.2.2.1 k hk).2.2
    rw [w2, onC_n (by omega)] at g2
    have n1 : (0 : Int32) ≤ iN k := by rw [i_0, iN_le (by omega) (by omega)]; omega
    obtain ⟨x1, x2⟩ := hX.2.2.2.2.2 m hm
    have x3 := (hX.2.2.2.1 k hk).1
    have w30 := (h5.2.2.2.2.2 m hm).1
    have w20 := (h5.2.2.2.1 k hk).1
    have hway := h4.2.2.2.2.2.1 (tb X 30 m) (tb X 20 k) x1 x3
    obtain ⟨w, v1, v2, v3⟩ := h4.2.2.2.2.2.2 (tb X 30 m) (tb X 20 k) (by omega) (by omega)
    have hP : P_getsUp T m tx (iN m) C = if w < 1000000 then some (uJ (uJ (uJ (uJ (uJ (uJ (uJ (uJ C 12 m 0) 14 m (-2)) (25 + m) 6 0) (25 + m) 0 0) (25 + m) 1 (iN k)) (25 + m) 2 (iN s)) (25 + m) 4 (iN w)) (25 + m) 0 1) else some (uJ (uJ (uJ (uJ (uJ (uJ (uJ (uJ (uJ (uJ C 12 m 0) 14 m (-2)) (25 + m) 6 0) (25 + m) 0 0) (25 + m) 1 (iN k)) (25 + m) 2 (iN s)) (25 + m) 4 (iN w)) (25 + m) 0 1) (25 + m) 0 0) 14 m 0) := by
      simp (disch := omega) only [P_getsUp, P_liesDown, stI_n, ldI_n, lt_e, uJ_o, uJ_ss, uJ_sn, g1, g2, if_pos n1, hT.r4, hT.g4 hm, hT.cm hm, hT.m1 hm, Option.bind_some, ix_n, hT.r3, hT.g3 hk, hT.ck hk, hT.k1 hk, hway, v1, i_far, iN_lt]
    have hM : M_getsUp (iN m) J = if w = 1000000 then some (uJ (uJ (uJ (uJ (uJ (uJ (uJ (uJ J 50 m 0) 55 m 0) 56 m 0) 48 (66 + m) (-2)) 54 m (iN s)) 50 m 3) 51 m (iN w)) 48 (66 + m) 0) else some (uJ (uJ (uJ (uJ (uJ (uJ (uJ J 50 m 0) 55 m 0) 56 m 0) 48 (66 + m) (-2)) 54 m (iN s)) 50 m 1) 51 m (iN w)) := by
      have n8 : (8 : Int32) = iN 8 := rfl
      have n6 : (6 : Int32) = iN 6 := rfl
      simp (disch := omega) only [M_getsUp, M_getsUp_B117, i_42, i_48, i_66, iN_add, ldI_n, stI_n, uJ_o, uJ_sn, w1, w2, a01, if_pos n1, n6, h5.lv, iN_mul, w30, w20, n8, v1, i_far, iN_eq]
      by_cases c : w = 1000000
      · simp only [if_pos c]
      · simp only [if_neg c]
    rw [hP, hM]
    by_cases c : w = 1000000
    · rw [if_neg (by omega), if_pos c]
      refine Bo.mk (h0.one hX hm (fun o o1 o2 o3 => ?_) (fun o i hi ho => ?_) (fun o o1 o2 => ?_) (fun i hi => ?_) (fun o i hi o1 o2 => ?_) ?_ ?_)
      · simp (disch := omega) only [uJ_o]
      · rcases ho with rfl | rfl <;> simp (disch := omega) only [uJ_o, uJ_sn]
      · simp (disch := omega) only [uJ_o]
      · simp (disch := omega) only [uJ_o, uJ_sn]
      · simp (disch := omega) only [uJ_ap, if_neg (show ¬ (o = 54 ∧ i = m) by omega), if_neg (show ¬ (o = 48 ∧ i = 66 + m) by omega), if_neg (show ¬ (o = 56 ∧ i = m) by omega), if_neg (show ¬ (o = 55 ∧ i = m) by omega), if_neg (show ¬ (o = 50 ∧ i = m) by omega), if_neg (show ¬ (o = 51 ∧ i = m) by omega)]
      · unfold MR
        simp (disch := omega) only [uJ_o, uJ_ss, uJ_sn, w1, w2, g1, g2, g3, onC_n, Int32.add_zero, true_and, and_true]
        exact Or.inr ⟨k, s, hk, hs, rfl, rfl, rfl, rfl, Or.inl ⟨rfl, rfl, Or.inl rfl⟩⟩
      · simp (disch := omega) only [uJ_o, uJ_ss]
        decide
    · rw [if_pos (by omega), if_neg c]
      refine Bo.mk (h0.one hX hm (fun o o1 o2 o3 => ?_) (fun o i hi ho => ?_) (fun o o1 o2 => ?_) (fun i hi => ?_) (fun o i hi o1 o2 => ?_) ?_ ?_)
      · simp (disch := omega) only [uJ_o]
      · rcases ho with rfl | rfl <;> simp (disch := omega) only [uJ_o, uJ_sn]
      · simp (disch := omega) only [uJ_o]
      · simp (disch := omega) only [uJ_o, uJ_sn]
      · simp (disch := omega) only [uJ_ap, if_neg (show ¬ (o = 54 ∧ i = m) by omega), if_neg (show ¬ (o = 48 ∧ i = 66 + m) by omega), if_neg (show ¬ (o = 56 ∧ i = m) by omega), if_neg (show ¬ (o = 55 ∧ i = m) by omega), if_neg (show ¬ (o = 50 ∧ i = m) by omega), if_neg (show ¬ (o = 51 ∧ i = m) by omega)]
      · unfold MR
        simp (disch := omega) only [uJ_o, uJ_ss, uJ_sn, w1, w2, g1, g2, g3, onC_n, Int32.add_zero, true_and, and_true]
        exact Or.inr ⟨k, s, hk, hs, rfl, rfl, rfl, rfl, Or.inr (Or.inl ⟨rfl, rfl, rfl⟩)⟩
      · simp (disch := omega) only [uJ_o, uJ_ss]
        decide
theorem GU.nr {C J : Ji} (hX : TxV X) (h : GU X l (xm X) C J) : NR X l C J := by
  obtain ⟨h1, h2, ⟨⟨a, s1, s2⟩, s3⟩, h4, h5, h6⟩ := h
  have ht6 := hX.1.2.2.1
  have hB : ∀ m t, m < xm X → ¬ Bz X J m t := fun m t hm hb => (h1 m hm).2 hb.1
  refine ⟨fun m hm => (h1 m hm).1, ⟨fun t ht => ?_, fun t m m' ht hm hm' b1 b2 => absurd b1 (hB m t hm), fun t m k ht hm b1 _ _ => absurd b1 (hB m t hm)⟩, ⟨⟨a, s1, ?_⟩, s3⟩, h4, h5⟩
  · rw [h6]
    exact ⟨fun hb => absurd hb (bt_0 (by omega)), fun ⟨m, a1, a2⟩ => absurd a2 (hB m t a1)⟩
  · have : (fun k => a k + nbz J k (xm X)) = a := by
      funext k
      rw [nbz_0 (xm X) (fun m hm => (h1 m hm).2)]
      rfl
    rw [this]
    exact s2
/-- where the minutes end: the component is about to leave what is left -/
def Bq (X : Xt) (l F : Nat) (T : Th) (tx : Nat) (J0 : Ji) (x y : Option Ji) : Prop := ∃ C1 J1, x = V_nightTill_L139 F T F tx 0 C1 ∧ y = some J1 ∧ NR X l C1 J1 ∧ nF J0 J1
theorem ni_beg (hX : TxV X) (hF : 900 ≤ F) (hT : TxT T tx X b e) {J0 : Ji} {E mi : Nat} (hE : E ≤ xn X) (hmi : mi < xn X) {k43 : Nat → Int32 → Int32 → Ji → Option Ji} {k27 : Int32 → Int32 → Ji → Option Ji} (hk : ∀ C J, NR X l C J → nF J0 J → Bq X l F T tx J0 (k43 tx (iN E) (iN (mi + 1)) C) (k27 (iN E) (iN (mi + 1)) J)) : ∀ n i C J, xm X < n + i → i ≤ xm X → NR X l C J → nF J0 J → Bq X l F T tx J0 (V_nightTill_L98 F k43 T n tx (iN E) (iN mi) (iN i) C) (M_goesTill_L75 F k27 n (iN E) (iN mi) (iN i) J) := by
  have hm6 := hX.1.2.2.2.2.1
  have hn6 := hX.1.2.2.2.2.2.2
  intro n
  induction n with
  | zero => intro i C J h1 h2; omega
  | succ n ih =>
    intro i C J h1 h2 hN hf
    have hJ := hN.2.2.2.2
    have hl := hJ.l2
    by_cases hi : i < xm X
    · obtain ⟨C1, J1, e1, e2, e3, e4⟩ := pl_begins (mi := iN mi) hX hF hT hN hi
      have hM : M_goesTill_B75 F k27 (M_goesTill_L75 F k27 n) (iN E) (iN mi) (iN i) J = (mBeg F (iN i) (iN mi) J).bind fun r => M_goesTill_L75 F k27 n (iN E) (iN mi) (iN (i + 1)) r := by
        have e : iN i + 1 = iN (i + 1) := by rw [i_1, iN_add]
        simp (disch := omega) only [M_goesTill_B75, mBeg, hJ.men, Option.bind_some, iN_le, if_neg (show ¬ xm X ≤ i by omega), hJ.lv, ldI_n, hJ.n, if_neg (show ¬ xn X ≤ mi by omega), lt_e, e]
        by_cases c1 : J 50 i = 1
        · simp only [if_pos c1]
          by_cases c2 : iN mi < J 51 i
          · simp only [if_pos c2, Option.bind_some]
          · simp only [if_neg c2]
        · simp only [if_neg c1, Option.bind_some]
      simp only [M_goesTill_L75]
      rw [hM, e2, Option.bind_some]
      simp (disch := omega) only [V_nightTill_L98, V_nightTill_B98, hT.r4, Option.bind_some, hT.z4, iN_le, if_neg (show ¬ xm X ≤ i by omega), ix_n, e1, lt_e, i_1, iN_add]
      exact ih (i + 1) C1 J1 (by omega) (by omega) e3 (hf.tr e4)
    · have : i = xm X := by omega
      subst this
      simp (disch := omega) only [V_nightTill_L98, V_nightTill_B98, M_goesTill_L75, M_goesTill_B75, hT.r4, Option.bind_some, hT.z4, hJ.men, iN_le, if_pos (Nat.le_refl _), lt_e, i_1, iN_add]
      exact hk C J hN hf
theorem ni_end (hX : TxV X) (hF : 900 ≤ F) (hT : TxT T tx X b e) {J0 : Ji} {E mi : Nat} (hE : E ≤ xn X) (hmi : mi ≤ xn X) {k43 : Nat → Int32 → Int32 → Ji → Option Ji} {k27 : Int32 → Int32 → Ji → Option Ji} (hk : ∀ C J, NR X l C J → nF J0 J → Bq X l F T tx J0 (k43 tx (iN E) (iN (mi + 1)) C) (k27 (iN E) (iN (mi + 1)) J)) : ∀ n i C J, xm X < n + i → i ≤ xm X → NR X l C J → nF J0 J → Bq X l F T tx J0 (V_nightTill_L51 F k43 T n tx (iN E) (iN mi) (iN i) C) (M_goesTill_L34 F k27 n (iN E) (iN mi) (iN i) J) := by
  have hm6 := hX.1.2.2.2.2.1
  have hn6 := hX.1.2.2.2.2.2.2
  intro n
  induction n with
  | zero => intro i C J h1 h2; omega
  | succ n ih =>
    intro i C J h1 h2 hN hf
    have hJ := hN.2.2.2.2
    have hl := hJ.l2
    by_cases hi : i < xm X
    · obtain ⟨C1, J1, e1, e2, e3, e4⟩ := pl_ends (mi := iN mi) hX hT hN hi
      have hM : M_goesTill_B34 F k27 (M_goesTill_L34 F k27 n) (iN E) (iN mi) (iN i) J = (mEnds (iN i) (iN mi) J).bind fun r => M_goesTill_L34 F k27 n (iN E) (iN mi) (iN (i + 1)) r := by
        have e : iN i + 1 = iN (i + 1) := by rw [i_1, iN_add]
        simp (disch := omega) only [M_goesTill_B34, mEnds, hJ.men, Option.bind_some, iN_le, if_neg (show ¬ xm X ≤ i by omega), ldI_n, lt_e, e]
        by_cases c1 : J 50 i = 2
        · simp only [if_pos c1]
          by_cases c2 : J 52 i = iN mi
          · simp only [if_pos c2]
          · simp only [if_neg c2, Option.bind_some]
        · simp only [if_neg c1, Option.bind_some]
      simp only [M_goesTill_L34]
      rw [hM, e2, Option.bind_some]
      simp (disch := omega) only [V_nightTill_L51, V_nightTill_B51, hT.r4, Option.bind_some, hT.z4, iN_le, if_neg (show ¬ xm X ≤ i by omega), ix_n, e1, lt_e, i_1, iN_add]
      exact ih (i + 1) C1 J1 (by omega) (by omega) e3 (hf.tr e4)
    · have : i = xm X := by omega
      subst this
      by_cases cn : mi = xn X
      · have hlast : M_goesTill_L75 F k27 F (iN E) (iN mi) 0 J = k27 (iN E) (iN (mi + 1)) J := by
          obtain ⟨g, rfl⟩ : ∃ g, F = g + 1 := ⟨F - 1, by omega⟩
          by_cases c0 : xm X = 0
          · simp (disch := omega) only [M_goesTill_L75, M_goesTill_B75, hJ.men, Option.bind_some, i_0, iN_le, if_pos (show xm X ≤ 0 by omega), lt_e, i_1, iN_add]
          · simp (disch := omega) only [M_goesTill_L75, M_goesTill_B75, hJ.men, Option.bind_some, i_0, iN_le, if_neg (show ¬ xm X ≤ 0 by omega), hJ.lv, ldI_n, hJ.n, if_pos (show xn X ≤ mi by omega), lt_e, i_1, iN_add]
        simp (disch := omega) only [V_nightTill_L51, V_nightTill_B51, M_goesTill_L34, M_goesTill_B34, hT.r4, Option.bind_some, hT.z4, hJ.men, iN_le, if_pos (Nat.le_refl _), hT.n, iN_eq, if_pos cn, lt_e, hlast]
        rw [i_1, iN_add]
        exact hk C J hN hf
      · simp (disch := omega) only [V_nightTill_L51, V_nightTill_B51, M_goesTill_L34, M_goesTill_B34, hT.r4, Option.bind_some, hT.z4, hJ.men, iN_le, if_pos (Nat.le_refl _), hT.n, iN_eq, if_neg cn, i_0]
        exact ni_beg hX hF hT hE (by omega) hk F 0 C J (by omega) (by omega) hN hf
theorem ni_min (hX : TxV X) (hF : 900 ≤ F) (hT : TxT T tx X b e) {J0 : Ji} {E : Nat} (hE : E ≤ xn X) : ∀ n mi C J, E + 1 < n + mi → mi ≤ E + 1 → NR X l C J → nF J0 J → Bq X l F T tx J0 (V_nightTill_L43 F T n tx (iN E) (iN mi) C) (M_goesTill_L27 F n (iN E) (iN mi) J) := by
  have hm6 := hX.1.2.2.2.2.1
  have hn6 := hX.1.2.2.2.2.2.2
  intro n
  induction n with
  | zero => intro mi C J h1 h2; omega
  | succ n ih =>
    intro mi C J h1 h2 hN hf
    by_cases hi : mi ≤ E
    · simp (disch := omega) only [V_nightTill_L43, V_nightTill_B43, M_goesTill_L27, M_goesTill_B27, iN_lt, if_neg (show ¬ E < mi by omega), i_0]
      exact ni_end hX hF hT hE (by omega) (fun C1 J1 g1 g2 => ih (mi + 1) C1 J1 (by omega) (by omega) g1 g2) F 0 C J (by omega) (by omega) hN hf
    · have : mi = E + 1 := by omega
      subst this
      refine ⟨C, J, ?_, ?_, hN, hf⟩
      · simp (disch := omega) only [V_nightTill_L43, V_nightTill_B43, iN_lt, if_pos (show E < E + 1 by omega)]
      · simp (disch := omega) only [M_goesTill_L27, M_goesTill_B27, iN_lt, if_pos (show E < E + 1 by omega)]
theorem ni_get (hX : TxV X) (hF : 900 ≤ F) (hT : TxT T tx X b e) {J0 : Ji} {E : Nat} (hE : E ≤ xn X) : ∀ n m C J, xm X < n + m → m ≤ xm X → GU X l m C J → nF J0 J → Bq X l F T tx J0 (V_nightTill_L12 F T n tx (iN E) (iN m) C) (M_goesTill_L6 F n (iN E) (iN m) J) := by
  have hm6 := hX.1.2.2.2.2.1
  have hn6 := hX.1.2.2.2.2.2.2
  intro n
  induction n with
  | zero => intro m C J h1 h2; omega
  | succ n ih =>
    intro m C J h1 h2 hG hf
    have hJ := hG.2.2.2.2.1
    by_cases hi : m < xm X
    · obtain ⟨C1, J1, e1, e2, e3, e4⟩ := pl_gets hX hT hG hi
      simp (disch := omega) only [V_nightTill_L12, V_nightTill_B12, M_goesTill_L6, M_goesTill_B6, hT.r4, Option.bind_some, hT.z4, hJ.men, iN_le, if_neg (show ¬ xm X ≤ m by omega), ix_n, e1, e2, lt_e, i_1, iN_add]
      exact ih (m + 1) C1 J1 (by omega) (by omega) e3 (hf.tr e4)
    · have : m = xm X := by omega
      subst this
      simp (disch := omega) only [V_nightTill_L12, V_nightTill_B12, M_goesTill_L6, M_goesTill_B6, hT.r4, Option.bind_some, hT.z4, hJ.men, iN_le, if_pos (Nat.le_refl _), i_0]
      exact ni_min hX hF hT hE F 0 C J (by omega) (by omega) (hG.nr hX) hf
/-- the night up to a minute -/
theorem pl_till (hX : TxV X) (hF : 900 ≤ F) (hT : TxT T tx X b e) {C J : Ji} (hJ : TxJ J l X) (hR : VR X C (J 48)) (hV : VV X (J 48)) {E : Nat} (hE : E ≤ xn X) : Bq X l F T tx J (V_nightTill F T tx (iN E) C) (M_goesTill F (iN E) J) := by
  have hm6 := hX.1.2.2.2.2.1
  have hk6 := hX.1.2.2.2.1
  have hr8 := hX.1.1
  have ht6 := hX.1.2.2.1
  obtain ⟨r1, r2, r3, r4, r5, r6⟩ := hR
  obtain ⟨⟨w, v1, v2⟩, v3, v4, v5⟩ := hV
  obtain ⟨C1, J1, e1, e2, e3, e4, e5⟩ := pl_ways (F := F) hX hT hJ (by omega) r5
  have hG : GU X l 0 (uJ C1 0 13 0) J1 := by
    refine ⟨fun m hm => by omega, fun m _ hm => ?_, ⟨⟨w, fun k hk => ?_, fun k s hk hs => ?_⟩, fun k s hk hs => ?_⟩, ⟨fun t ht => ?_, fun t ht => ?_, ?_, ?_, ?_, fun a c ha hc => ?_, e3.2⟩, ?_, uJ_ss⟩
    · obtain ⟨a1, a2, a3, a4, a5⟩ := r3 m hm
      unfold GM
      rw [uJ_o (by omega), uJ_o (by omega), uJ_o (by omega), e4 9 (by omega), e4 10 (by omega), e4 13 (by omega), e5 48 (by omega)]
      exact ⟨a1, a2, a4, v3 m hm⟩
    · rw [uJ_o (by omega), e4 8 (by omega), e5 48 (by omega), r1 k hk]
      exact ⟨(v1 k hk).1, (v1 k hk).1, (v1 k hk).2⟩
    · rw [e5 48 (by omega)]
      exact v2 k s hk hs
    · rw [uJ_o (by omega), e4 (2 + k) (by omega), e5 48 (by omega)]
      exact r2 k s hk hs
    · rw [uJ_o (by omega), e4 11 (by omega), e5 48 (by omega)]
      exact r4 t ht
    · rw [e5 48 (by omega)]
      exact v4 t ht
    · rw [uJ_sn (by omega), e4 0 (by omega), e5 48 (by omega)]
      exact r5
    · rw [uJ_sn (by omega), e4 0 (by omega), e5 48 (by omega)]
      exact r6
    · rw [e5 48 (by omega)]
      exact v5
    · rw [uJ_o (by omega)]
      exact e3.1 a c ha hc
    · exact hJ.fo hX (by rw [e5 0 (by omega)]) (fun o o1 o2 => e5 o (by omega))
  have hf : nF J J1 := ⟨fun o o1 o2 => e5 o (by omega), fun i _ => by rw [e5 0 (by omega)]⟩
  simp only [V_nightTill, M_goesTill, e1, e2, Option.bind_some, lt_e, i_0]
  rw [i_0] at hG
  exact ni_get hX hF hT hE F 0 _ J1 (by omega) (by omega) hG hf
/-- what is left in the morning: n men have left it -/
def LQ (X : Xt) (l n : Nat) (C J : Ji) : Prop := (∀ m, m < n → (C 9 m = onC (J 48 (42 + m)) ∧ C 10 m = onC (J 48 (48 + m)) ∧ C 12 m = J 48 (54 + m) ∧ C 13 m = J 48 (60 + m) ∧ C 14 m = J 48 (66 + m)) ∧ J 48 (54 + m) = J 55 m ∧ ((J 48 (42 + m) = iM 1 ∧ J 48 (48 + m) = iM 1) ∨ ∃ k s, k < xk X ∧ s < xs X k ∧ J 48 (42 + m) = iN k ∧ J 48 (48 + m) = iN s)) ∧ (∀ m, n ≤ m → m < xm X → MR X C J m) ∧ SG X C J ∧ NK X C J ∧ TxJ J l X
theorem LQ.one {l : Nat} {m : Nat} {C J C2 J2 : Ji} (hX : TxV X) (h : LQ X l m C J) (hm : m < xm X) (c1 : ∀ o, o ≠ 9 → o ≠ 10 → C2 o = C o) (c2 : ∀ o i, i ≠ m → C2 o i = C o i) (j1 : ∀ o, o ≠ 48 → J2 o = J o) (j2 : ∀ i, i ≠ 42 + m → i ≠ 48 + m → i ≠ 54 + m → i ≠ 60 + m → J2 48 i = J 48 i) (q1 : C2 9 m = onC (J2 48 (42 + m)) ∧ C2 10 m = onC (J2 48 (48 + m)) ∧ C2 12 m = J2 48 (54 + m) ∧ C2 13 m = J2 48 (60 + m) ∧ C2 14 m = J2 48 (66 + m)) (q2 : J2 48 (54 + m) = J 55 m) (q3 : (J2 48 (42 + m) = iM 1 ∧ J2 48 (48 + m) = iM 1) ∨ ∃ k s, k < xk X ∧ s < xs X k ∧ J2 48 (42 + m) = iN k ∧ J2 48 (48 + m) = iN s) : LQ X l (m + 1) C2 J2 ∧ nF J J2 ∧ J2 55 = J 55 := by
  obtain ⟨h1, h2, ⟨⟨a, s1, s2⟩, s3⟩, h4, h5⟩ := h
  have hm6 := hX.1.2.2.2.2.1
  have hk6 := hX.1.2.2.2.1
  have hr8 := hX.1.1
  have ht6 := hX.1.2.2.1
  have hF : nF J J2 := ⟨fun o a c => j1 o (by omega), fun i _ => by rw [j1 0 (by omega)]⟩
  have e55 : J2 55 = J 55 := j1 55 (by omega)
  refine ⟨⟨fun m' hm' => ?_, fun m' hm' hm2 => ?_, ⟨⟨a, fun k hk => ?_, fun k s hk hs => ?_⟩, fun k s hk hs => ?_⟩, ?_, hF.tx hX h5⟩, hF, e55⟩
  · by_cases c : m' = m
    · subst c
      rw [e55]
      exact ⟨q1, q2, q3⟩
    · rw [c2 9 m' c, c2 10 m' c, c2 12 m' c, c2 13 m' c, c2 14 m' c, j2 (42 + m') (by omega) (by omega) (by omega) (by omega), j2 (48 + m') (by omega) (by omega) (by omega) (by omega), j2 (54 + m') (by omega) (by omega) (by omega) (by omega), j2 (60 + m') (by omega) (by omega) (by omega) (by omega), j2 (66 + m') (by omega) (by omega) (by omega) (by omega), e55]
      exact h1 m' (by omega)
  · have c : m' ≠ m := by omega
    refine (h2 m' (by omega) hm2).cg ?_ ?_ ?_ ?_ ?_ ?_ ?_ ?_ ?_ ?_ ?_ ?_ ?_ ?_ ?_ ?_ ?_
    · rw [c2 _ m' c]
    · rw [c2 _ m' c]
    · rw [c2 _ m' c]
    · rw [c2 _ m' c]
    · rw [c2 _ m' c]
    · rw [c1 _ (by omega) (by omega)]
    · rw [j2 _ (by omega) (by omega) (by omega) (by omega)]
    · rw [j2 _ (by omega) (by omega) (by omega) (by omega)]
    · rw [j2 _ (by omega) (by omega) (by omega) (by omega)]
    · rw [j2 _ (by omega) (by omega) (by omega) (by omega)]
    all_goals rw [j1 _ (by omega)]
  · rw [j2 _ (by omega) (by omega) (by omega) (by omega), c1 8 (by omega) (by omega)]
    exact s1 k hk
  · have := (hX.2.2.2.1 k hk).2.2
    rw [j2 _ (by omega) (by omega) (by omega) (by omega)]
    exact s2 k s hk hs
  · have := (hX.2.2.2.1 k hk).2.2
    rw [j2 _ (by omega) (by omega) (by omega) (by omega), c1 (2 + k) (by omega) (by omega)]
    exact s3 k s hk hs
  · obtain ⟨a1, a2, a3, a4, a5, a6⟩ := h4
    refine ⟨fun t ht => ?_, fun t ht => ?_, ?_, ?_, ?_, fun a c ha hc => ?_, fun a c ha hc => ?_⟩
    · rw [j2 _ (by omega) (by omega) (by omega) (by omega), c1 11 (by omega) (by omega)]
      exact a1 t ht
    · rw [j2 _ (by omega) (by omega) (by omega) (by omega)]
      exact a2 t ht
    · rw [j2 _ (by omega) (by omega) (by omega) (by omega), c1 0 (by omega) (by omega)]
      exact a3
    · rw [j2 _ (by omega) (by omega) (by omega) (by omega), c1 0 (by omega) (by omega)]
      exact a4
    · rw [j2 _ (by omega) (by omega) (by omega) (by omega)]
      exact a5
    · rw [j1 49 (by omega), c1 (16 + a) (by omega) (by omega)]
      exact a6.1 a c ha hc
    · rw [j1 49 (by omega)]
      exact a6.2 a c ha hc
/-- the morning: both sides leave what is left -/
theorem ni_morn (hX : TxV X) (hF : 900 ≤ F) (hT : TxT T tx X b e) {was : Int32} : ∀ n m C J, xm X < n + m → m ≤ xm X → LQ X l m C J → ∃ C2 J2, V_nightTill_L139 F T n tx (iN m) C = some C2 ∧ (M_wholeNight_L20 F n was (iN m) J = (M_worthNow F J2).bind fun r7 => some (r7 - was, J2)) ∧ VR X C2 (J2 48) ∧ VV X (J2 48) ∧ nF J J2 ∧ ∀ m, m < xm X → J2 48 (54 + m) = J 55 m := by
  have hm6 := hX.1.2.2.2.2.1
  have hk6 := hX.1.2.2.2.1
  have ht6 := hX.1.2.2.1
  intro n
  induction n with
  | zero => intro m C J h1 h2; omega
  | succ n ih =>
    intro m C J h1 h2 hQ
    have hJ := hQ.2.2.2.2
    by_cases hm : m < xm X
    · obtain ⟨⟨a1, a2, a3, a4⟩, hr⟩ := hQ.2.1 m (Nat.le_refl _) hm
      have em1 : (-1 : Int32) = iM 1 := rfl
      have em2 : (-2 : Int32) = iM 2 := rfl
      -- the model's step
      let J3 := uJ (uJ (uJ J 48 (54 + m) (J 55 m)) 48 (60 + m) (J 48 (60 + m) + J 55 m)) 48 (48 + m) (J 54 m)
      have f3 : ∀ o, o ≠ 48 → J3 o = J o := fun o ho => by
        show uJ (uJ (uJ J 48 (54 + m) (J 55 m)) 48 (60 + m) (J 48 (60 + m) + J 55 m)) 48 (48 + m) (J 54 m) o = J o
        rw [uJ_o ho, uJ_o ho, uJ_o ho]
      have f3a : ∀ i, i ≠ 48 + m → i ≠ 54 + m → i ≠ 60 + m → J3 48 i = J 48 i := fun i i1 i2 i3 => by
        show uJ (uJ (uJ J 48 (54 + m) (J 55 m)) 48 (60 + m) (J 48 (60 + m) + J 55 m)) 48 (48 + m) (J 54 m) 48 i = J 48 i
        rw [uJ_sn i1, uJ_sn i3, uJ_sn i2]
      have f54 : J3 48 (54 + m) = J 55 m := by
        show uJ (uJ (uJ J 48 (54 + m) (J 55 m)) 48 (60 + m) (J 48 (60 + m) + J 55 m)) 48 (48 + m) (J 54 m) 48 (54 + m) = _
        rw [uJ_sn (by omega), uJ_sn (by omega), uJ_ss]
      have f60 : J3 48 (60 + m) = J 48 (60 + m) + J 55 m := by
        show uJ (uJ (uJ J 48 (54 + m) (J 55 m)) 48 (60 + m) (J 48 (60 + m) + J 55 m)) 48 (48 + m) (J 54 m) 48 (60 + m) = _
        rw [uJ_sn (by omega), uJ_ss]
      have f48 : J3 48 (48 + m) = J 54 m := by
        show uJ (uJ (uJ J 48 (54 + m) (J 55 m)) 48 (60 + m) (J 48 (60 + m) + J 55 m)) 48 (48 + m) (J 54 m) 48 (48 + m) = _
        rw [uJ_ss]
      have hM : M_wholeNight_L20 F (n + 1) was (iN m) J = if J 56 m = 0 then M_wholeNight_L20 F n was (iN (m + 1)) J3 else M_wholeNight_L20 F n was (iN (m + 1)) (uJ (uJ J3 48 (42 + m) (-1)) 48 (48 + m) (-1)) := by
        have e1 : iN m + 1 = iN (m + 1) := by rw [i_1, iN_add]
        simp (disch := omega) only [M_wholeNight_L20, M_wholeNight_B20, hJ.men, Option.bind_some, iN_le, if_neg (show ¬ xm X ≤ m by omega), ldI_n, stI_n, i_54, i_60, i_48, i_42, iN_add, uJ_o, uJ_sn, lt_e, e1]
        rfl
      have hC : V_nightTill_L139 F T (n + 1) tx (iN m) C = (P_leaves T m (iN m) C).bind fun r29 => V_nightTill_L139 F T n tx (iN (m + 1)) r29 := by
        simp (disch := omega) only [V_nightTill_L139, V_nightTill_B139, hT.r4, Option.bind_some, hT.z4, iN_le, if_neg (show ¬ xm X ≤ m by omega), ix_n, lt_e, i_1, iN_add]
      have go : ∀ C2 J2, LQ X l (m + 1) C2 J2 ∧ nF J J2 ∧ J2 55 = J 55 → ∃ C3 J3, V_nightTill_L139 F T n tx (iN (m + 1)) C2 = some C3 ∧ (M_wholeNight_L20 F n was (iN (m + 1)) J2 = (M_worthNow F J3).bind fun r7 => some (r7 - was, J3)) ∧ VR X C3 (J3 48) ∧ VV X (J3 48) ∧ nF J J3 ∧ ∀ m, m < xm X → J3 48 (54 + m) = J 55 m := by
        rintro C2 J2 ⟨g1, g2, g3⟩
        obtain ⟨C3, J3, u1, u2, u3, u4, u5, u6⟩ := ih (m + 1) C2 J2 (by omega) (by omega) g1
        exact ⟨C3, J3, u1, u2, u3, u4, g2.tr u5, fun m' hm' => by rw [u6 m' hm', g3]⟩
      rw [hC, hM]
      rcases hr with ⟨c1, c2, c2', c3, c4, c5, c6, c7⟩ | ⟨k, s, hk, hs, b1, b2, b3, b4, b5, b6⟩
      · have hP : P_leaves T m (iN m) C = some C := by
          simp only [P_leaves, c5, if_neg (show ¬ (0 : Int32) ≤ iM 2 by decide)]
        rw [hP, c7, if_pos (show iN 0 = 0 by decide), Option.bind_some]
        refine go C J3 (hQ.one hX hm (fun _ _ _ => rfl) (fun _ _ _ => rfl) f3 (fun i i1 i2 i3 i4 => f3a i i2 i3 i4) ⟨?_, ?_, ?_, ?_, ?_⟩ f54 (Or.inl ⟨?_, ?_⟩))
        · rw [f3a _ (by omega) (by omega) (by omega)]; exact a1
        · rw [f48, c6, c2']; rfl
        · rw [f54]; exact a2
        · rw [f60]; exact a3
        · rw [f3a _ (by omega) (by omega) (by omega)]; exact a4
        · rw [f3a _ (by omega) (by omega) (by omega)]; exact c1
        · rw [f48]; exact c6
      · have hs6 := (hX.2.2.2.1 k hk).2.2
        have n1 : (0 : Int32) ≤ iN k := by rw [i_0, iN_le (by omega) (by omega)]; omega
        have h56 : J 56 m = iN 0 ∨ (J 56 m = iN 1 ∧ C (25 + m) 0 = iN 0) := by
          rcases b6 with ⟨_, q, q1 | q1⟩ | ⟨_, _, q1, _⟩ | ⟨_, _, q1, _⟩
          · exact Or.inl q1
          · exact Or.inr ⟨q1, q⟩
          · exact Or.inl q1
          · exact Or.inl q1
        rcases h56 with h56 | ⟨h56, h00⟩
        · have z : C (25 + m) 6 = 0 := by rw [b5, h56]; rfl
          have hP : P_leaves T m (iN m) C = some (uJ (uJ C 9 m (iN k)) 10 m (iN s)) := by
            simp (disch := omega) only [P_leaves, P_leaves_B32, P_leaves_B36, P_leaves_B61, P_leaves_B65, b2, if_pos n1, z, if_true, stI_n, uJ_o, b4]
          rw [hP, h56, if_pos (show iN 0 = 0 by decide), Option.bind_some]
          refine go _ J3 (hQ.one hX hm (fun o o1 o2 => ?_) (fun o i hi => ?_) f3 (fun i i1 i2 i3 i4 => f3a i i2 i3 i4) ⟨?_, ?_, ?_, ?_, ?_⟩ f54 (Or.inr ⟨k, s, hk, hs, ?_, ?_⟩))
          · rw [uJ_o o2, uJ_o o1]
          · rw [uJ_ap, if_neg (by omega), uJ_ap, if_neg (by omega)]
          · rw [uJ_o (by omega), uJ_ss, f3a _ (by omega) (by omega) (by omega), b1, onC_n (by omega)]
          · rw [uJ_ss, f48, b3, onC_n (by omega)]
          · rw [uJ_o (by omega), uJ_o (by omega), f54]; exact a2
          · rw [uJ_o (by omega), uJ_o (by omega), f60]; exact a3
          · rw [uJ_o (by omega), uJ_o (by omega), f3a _ (by omega) (by omega) (by omega)]; exact a4
          · rw [f3a _ (by omega) (by omega) (by omega)]; exact b1
          · rw [f48]; exact b3
        · have z : ¬ C (25 + m) 6 = 0 := by rw [b5, h56]; decide
          have z0 : C (25 + m) 0 = 0 := h00
          have hP : P_leaves T m (iN m) C = some (uJ (uJ C 9 m (-2)) 10 m (-2)) := by
            simp (disch := omega) only [P_leaves, P_leaves_B36, P_leaves_B65, b2, if_pos n1, if_neg z, if_pos z0, stI_n, uJ_o]
          rw [hP, h56, if_neg (show ¬ iN 1 = 0 by decide), Option.bind_some]
          refine go _ _ (hQ.one hX hm (fun o o1 o2 => ?_) (fun o i hi => ?_) (fun o ho => ?_) (fun i i1 i2 i3 i4 => ?_) ⟨?_, ?_, ?_, ?_, ?_⟩ ?_ (Or.inl ⟨?_, ?_⟩))
          · rw [uJ_o o2, uJ_o o1]
          · rw [uJ_ap, if_neg (by omega), uJ_ap, if_neg (by omega)]
          · rw [uJ_o ho, uJ_o ho, f3 o ho]
          · rw [uJ_sn i2, uJ_sn i1, f3a i i2 i3 i4]
          · rw [uJ_o (by omega), uJ_ss, uJ_sn (by omega), uJ_ss]; rfl
          · rw [uJ_ss, uJ_ss]; rfl
          · rw [uJ_o (by omega), uJ_o (by omega), uJ_sn (by omega), uJ_sn (by omega), f54]; exact a2
          · rw [uJ_o (by omega), uJ_o (by omega), uJ_sn (by omega), uJ_sn (by omega), f60]; exact a3
          · rw [uJ_o (by omega), uJ_o (by omega), uJ_sn (by omega), uJ_sn (by omega), f3a _ (by omega) (by omega) (by omega)]; exact a4
          · rw [uJ_sn (by omega), uJ_sn (by omega)]; exact f54
          · rw [uJ_sn (by omega), uJ_ss]; rfl
          · rw [uJ_ss]; rfl
    · have : m = xm X := by omega
      subst this
      obtain ⟨h3, h4, ⟨⟨a, s1, s2⟩, s3⟩, ⟨k1, k2, k3, k4, k5, k6⟩, h6⟩ := hQ
      refine ⟨uJ C 0 9 (C 0 9 + 1), uJ J 48 79 (J 48 79 + 1), ?_, ?_, ⟨fun k hk => ?_, fun k s hk hs => ?_, fun m hm => ?_, fun t ht => ?_, ?_, ?_⟩, ⟨⟨a, fun k hk => ?_, fun k s hk hs => ?_⟩, fun m hm => ?_, fun t ht => ?_, ?_⟩, nF.u (by omega) (by omega) (by omega), fun m hm => ?_⟩
      · simp (disch := omega) only [V_nightTill_L139, V_nightTill_B139, hT.r4, Option.bind_some, hT.z4, iN_le, if_pos (Nat.le_refl _), lt_e]
      · simp (disch := omega) only [M_wholeNight_L20, M_wholeNight_B20, hJ.men, Option.bind_some, iN_le, if_pos (Nat.le_refl _), i_79, ldI_n, stI_n]
      · rw [uJ_o (by omega), uJ_sn (by omega), (s1 k hk).1, (s1 k hk).2.1]
      · have := (hX.2.2.2.1 k hk).2.2
        rw [uJ_o (by omega), uJ_sn (by omega)]
        exact s3 k s hk hs
      · have := (h3 m hm).1
        simp (disch := omega) only [uJ_o, uJ_sn]
        exact this
      · rw [uJ_o (by omega), uJ_sn (by omega)]
        exact k1 t ht
      · rw [uJ_sn (by omega), uJ_sn (by omega)]
        exact k3
      · rw [uJ_ss, uJ_ss, k4]
      · rw [uJ_sn (by omega)]
        exact ⟨(s1 k hk).1, (s1 k hk).2.2⟩
      · have := (hX.2.2.2.1 k hk).2.2
        rw [uJ_sn (by omega)]
        exact s2 k s hk hs
      · rw [uJ_sn (by omega), uJ_sn (by omega)]
        exact (h3 m hm).2.2
      · rw [uJ_sn (by omega)]
        exact k2 t ht
      · rw [uJ_sn (by omega)]
        exact k5
      · rw [uJ_sn (by omega)]
        exact (h3 m hm).2.1
theorem NR.lq {C J : Ji} (h : NR X l C J) : LQ X l 0 C J := by
  obtain ⟨h1, h2, ⟨⟨a, s1, s2⟩, s3⟩, h4, h5⟩ := h
  refine ⟨fun m hm => by omega, fun m _ hm => h1 m hm, ⟨⟨a, s1, fun k s hk hs => ?_⟩, s3⟩, h4, h5⟩
  obtain ⟨d, d1, d2⟩ := s2 k s hk hs
  have d2 : d + (a k + nbz J k (xm X)) ≤ 999 := d2
  exact ⟨d, d1, by omega⟩
/-- a whole night: its gain is the same on both sides -/
theorem pl_night (hX : TxV X) (hF : 900 ≤ F) (hT : TxT T tx X b e) {C J : Ji} (hJ : TxJ J l X) (hR : VR X C (J 48)) (hV : VV X (J 48)) : ∃ w1 w2 C2 J2, V_worthOfAll F T C tx = some w1 ∧ V_night F T tx C = some C2 ∧ V_worthOfAll F T C2 tx = some w2 ∧ M_wholeNight F J = some (w2 - w1, J2) ∧ VR X C2 (J2 48) ∧ VV X (J2 48) ∧ nF J J2 := by
  obtain ⟨⟨w, v1, v2⟩, v3⟩ := hV
  obtain ⟨w1, p1, p2⟩ := pl_worthAll (F := F) hX hT hJ hR v2 (by omega)
  obtain ⟨C1, J1, e1, e2, e3, e4⟩ := pl_till hX hF hT hJ hR ⟨⟨w, v1, v2⟩, v3⟩ (Nat.le_refl (xn X))
  have hm6 := hX.1.2.2.2.2.1
  obtain ⟨C2, J2, u1, u2, u3, u4, u5, u6⟩ := ni_morn (was := w1) hX hF hT F 0 C1 J1 (by omega) (by omega) e3.lq
  obtain ⟨⟨w', y1, y2⟩, y3⟩ := u4
  have hJ2 := u5.tx hX (e4.tx hX hJ)
  obtain ⟨w2, z1, z2⟩ := pl_worthAll (F := F) hX hT hJ2 u3 y2 (by omega)
  have hl := hJ.l2
  refine ⟨w1, w2, C2, J2, p1, ?_, z1, ?_, u3, ⟨⟨w', y1, y2⟩, y3⟩, e4.tr u5⟩
  · simp only [V_night, hT.n, e1, i_0, u1, Option.bind_some]
  · simp (disch := omega) only [M_wholeNight, p2, Option.bind_some, hJ.lv, ldI_n, hJ.n, e2, i_0, u2, z2]
/-- strokes up to a minute -/
theorem pl_strokes (hX : TxV X) (hF : 900 ≤ F) (hT : TxT T tx X b e) {C J : Ji} (hJ : TxJ J l X) (hR : VR X C (J 48)) (hV : VV X (J 48)) {E : Nat} (hE : E ≤ xn X) : ∃ C2 J1, V_nightTill F T tx (iN E) C = some C2 ∧ M_goesTill F (iN E) J = some J1 ∧ nF J J1 ∧ ∀ m, m < xm X → C2 12 m = J1 55 m := by
  obtain ⟨C1, J1, e1, e2, e3, e4⟩ := pl_till hX hF hT hJ hR hV hE
  have hm6 := hX.1.2.2.2.2.1
  obtain ⟨C2, J2, u1, u2, u3, u4, u5, u6⟩ := ni_morn (was := 0) hX hF hT F 0 C1 J1 (by omega) (by omega) e3.lq
  refine ⟨C2, J1, ?_, e2, e4, fun m hm => ?_⟩
  · rw [e1, i_0]
    exact u1
  · rw [(u3.2.2.1 m hm).2.2.1, u6 m hm]
end NI
