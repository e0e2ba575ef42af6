/-! PURE LAW 4: ways -/
set_option maxRecDepth 100000
theorem TxJ.fo {J J1 : Ji} {l : Nat} {X : Xt} (h : TxJ J l X) (hV : TxV X) (h0 : J1 0 18 = J 0 18) (hq : ∀ o, 11 ≤ o → o ≤ 43 → J1 o = J o) : TxJ J1 l X := h.fr hV (fun o i ho => by
  by_cases c : o = 0
  · subst c
    have hi : i = 18 := by simpa [lv_] using ho
    subst hi
    exact h0
  · have h1 : 11 ≤ o ∧ o ≤ 43 := by
      unfold lv_ at ho
      split at ho <;> first | omega | (exact absurd ho (by decide))
    rw [hq o h1.1 h1.2])
theorem iN_div {a b : Nat} (ha : a < 2147483648) (hb : b < 2147483648) : iN a / iN b = iN (a / b) := (Int32.ofNat_div (show a < 2 ^ 31 from ha) (show b < 2 ^ 31 from hb)).symm
/-- the ways' first worths -/
def w0 (a b : Nat) : Int32 := if a = b then iN 0 else iN 1000000
section WAYS
variable {T : Th} {tx : Nat} {X : Xt} {b : Nat → Nat} {e : Nat → Nat → Nat} {l F : Nat}
theorem wy_m0 : ∀ n i (J : Ji), 64 < n + i → i ≤ 64 → ∃ J1, M_fillsWays_L2 F n (iN i) J = M_fillsWays_L40 F F 0 J1 ∧ (∀ o, o ≠ 49 → J1 o = J o) ∧ (∀ j, j < i → J1 49 j = J 49 j) ∧ ∀ a c, c < 8 → i ≤ 8 * a + c → 8 * a + c < 64 → J1 49 (8 * a + c) = w0 a c := by
  intro n
  induction n with
  | zero => intro i J h1 h2; omega
  | succ n ih =>
    intro i J h1 h2
    by_cases hi : i < 64
    · obtain ⟨J1, e1, e2, e3, e4⟩ := ih (i + 1) (uJ J 49 i (if i / 8 = i - i / 8 * 8 then iN 0 else iN 1000000)) (by omega) (by omega)
      refine ⟨J1, ?_, ?_, ?_, ?_⟩
      · rw [← e1]
        simp (disch := omega) only [M_fillsWays_L2, M_fillsWays_B2, M_fillsWays_B31, i_64, i_8, iN_le, if_neg (show ¬ 64 ≤ i by omega), iN_div, iN_mul, iN_sub, iN_eq, lt_e, stI_n, i_0, i_1, i_far, iN_add]
        by_cases c : i / 8 = i - i / 8 * 8
        · rw [if_pos c, if_pos c]
        · rw [if_neg c, if_neg c]
      · intro o ho
        rw [e2 o ho, uJ_o ho]
      · intro j hj
        rw [e3 j (by omega), uJ_sn (by omega)]
      · intro a c hc h3 h4
        by_cases hq : i = 8 * a + c
        · rw [e3 _ (by omega), hq, uJ_ss]
          unfold w0
          have q1 : (8 * a + c) / 8 = a := by omega
          rw [q1]
          by_cases hac : a = c
          · rw [if_pos (by omega), if_pos hac]
          · rw [if_neg (by omega), if_neg hac]
        · exact e4 a c hc (by omega) h4
    · have : i = 64 := by omega
      subst this
      refine ⟨J, ?_, fun _ _ => rfl, fun _ _ => rfl, fun a c _ h3 h4 => by omega⟩
      simp (disch := omega) only [M_fillsWays_L2, M_fillsWays_B2, i_64, iN_le, if_pos (Nat.le_refl _)]
theorem wy_c0i {k10 : Nat → Int32 → Int32 → Ji → Option Ji} {n a : Nat} (hn : n ≤ 8) (ha : a < n) : ∀ m j (C : Ji), n < m + j → j ≤ n → ∃ C1, V_laysWays_L18 F k10 T m tx (iN n) (iN a) (iN j) C = k10 tx (iN n) (iN (a + 1)) C1 ∧ (∀ o, o ≠ 16 + a → C1 o = C o) ∧ (∀ i, i < j → C1 (16 + a) i = C (16 + a) i) ∧ ∀ i, j ≤ i → i < n → C1 (16 + a) i = w0 a i := by
  intro m
  induction m with
  | zero => intro j C h1 h2; omega
  | succ m ih =>
    intro j C h1 h2
    by_cases hj : j < n
    · obtain ⟨C1, e1, e2, e3, e4⟩ := ih (j + 1) (uJ C (16 + a) j (w0 a j)) (by omega) (by omega)
      refine ⟨C1, ?_, ?_, ?_, ?_⟩
      · rw [← e1]
        simp (disch := omega) only [V_laysWays_L18, V_laysWays_B18, V_laysWays_B44, iN_le, if_neg (show ¬ n ≤ j by omega), ix_n, Option.bind_some, iN_eq, lt_e, stI_n, i_0, i_1, i_far, iN_add]
        unfold w0
        by_cases c : a = j
        · rw [if_pos c, if_pos c]
        · rw [if_neg c, if_neg c]
      · intro o ho
        rw [e2 o ho, uJ_o ho]
      · intro i hi
        rw [e3 i (by omega), uJ_sn (by omega)]
      · intro i h3 h4
        by_cases hq : i = j
        · subst hq
          rw [e3 _ (by omega), uJ_ss]
        · exact e4 i (by omega) h4
    · have : j = n := by omega
      subst this
      refine ⟨C, ?_, fun _ _ => rfl, fun _ _ => rfl, fun i h3 h4 => by omega⟩
      simp (disch := omega) only [V_laysWays_L18, V_laysWays_B18, iN_le, if_pos (Nat.le_refl _), lt_e, i_1, iN_add]
theorem wy_c0 {n : Nat} (hn : n ≤ 8) (hF : 10 ≤ F) : ∀ m a (C : Ji), n < m + a → a ≤ n → ∃ C1, V_laysWays_L10 F T m tx (iN n) (iN a) C = V_laysWays_L59 F T F tx (iN n) 0 C1 ∧ (∀ o, (o < 16 + a ∨ 16 + n ≤ o) → C1 o = C o) ∧ ∀ c i, a ≤ c → c < n → i < n → C1 (16 + c) i = w0 c i := by
  intro m
  induction m with
  | zero => intro a C h1 h2; omega
  | succ m ih =>
    intro a C h1 h2
    by_cases ha : a < n
    · obtain ⟨C1, e1, e2, e3, e4⟩ := wy_c0i (F := F) (T := T) (tx := tx) (k10 := V_laysWays_L10 F T m) hn ha F 0 C (by omega) (by omega)
      obtain ⟨C2, g1, g2, g3⟩ := ih (a + 1) C1 (by omega) (by omega)
      refine ⟨C2, ?_, ?_, ?_⟩
      · rw [← g1, ← e1]
        simp (disch := omega) only [V_laysWays_L10, V_laysWays_B10, iN_le, if_neg (show ¬ n ≤ a by omega), i_0]
      · intro o ho
        rw [g2 o (by omega), e2 o (by omega)]
      · intro c i h3 h4 h5
        by_cases hq : c = a
        · subst hq
          rw [g2 _ (by omega)]
          exact e4 i (by omega) h5
        · exact g3 c i (by omega) h4 h5
    · have : a = n := by omega
      subst this
      refine ⟨C, ?_, fun _ _ => rfl, fun c i h3 h4 => by omega⟩
      simp (disch := omega) only [V_laysWays_L10, V_laysWays_B10, iN_le, if_pos (Nat.le_refl _)]
/-- what the ways' numbers are, in the model -/
def WJ (n : Nat) (J : Ji) : Prop := ∀ a c, a < 8 → c < 8 → ∃ w, J 49 (8 * a + c) = iN w ∧ w ≤ 1000000 ∧ (a ≠ c → (n ≤ a ∨ n ≤ c) → w = 1000000)
/-- both sides' ways -/
def WR (n : Nat) (C J : Ji) : Prop := (∀ a c, a < n → c < n → C (16 + a) c = J 49 (8 * a + c)) ∧ WJ n J
theorem w0_w {n a c : Nat} : ∃ w, w0 a c = iN w ∧ w ≤ 1000000 ∧ (a ≠ c → (n ≤ a ∨ n ≤ c) → w = 1000000) := by
  unfold w0
  by_cases h : a = c
  · exact ⟨0, by rw [if_pos h], by omega, fun h1 => absurd h h1⟩
  · exact ⟨1000000, by rw [if_neg h], by omega, fun _ _ => rfl⟩
theorem wy_d (hX : TxV X) (hT : TxT T tx X b e) : ∀ m d (C J : Ji), xd X < m + d → d ≤ xd X → TxJ J l X → C 0 8 = J 48 78 → WR (xr X) C J → (∀ a c, a < xr X → c < xr X → J 49 (8 * a + c) = J 49 (8 * c + a)) → ∃ C1 J1, V_laysWays_L59 F T m tx (iN (xr X)) (iN d) C = V_laysWays_L178 F T F (iN (xr X)) 0 C1 ∧ M_fillsWays_L40 F m (iN d) J = M_fillsWays_L170 F F 0 J1 ∧ WR (xr X) C1 J1 ∧ (∀ o, (o < 16 ∨ 24 ≤ o) → C1 o = C o) ∧ ∀ o, o ≠ 49 → J1 o = J o := by
  have hr8 := hX.1.1
  have hd12 := hX.1.2.1
  intro m
  induction m with
  | zero => intro d C J h1 h2; omega
  | succ m ih =>
    intro d C J h1 h2 hJ hs hW hy
    have hl := hJ.l2
    by_cases hd : d < xd X
    · obtain ⟨t1, t2, t3, t4, t5⟩ := hX.2.1 d hd
      obtain ⟨j1, j2, j3, j4⟩ := hJ.2.1 d hd
      have hC : ∀ k59 : Nat → Int32 → Int32 → Ji → Option Ji, V_laysWays_B59 F k59 T tx (iN (xr X)) (iN d) C = (if ((J 48 78 >>> (iN d &&& 31)) &&& 1) = 1 then k59 tx (iN (xr X)) (iN d + 1) C else k59 tx (iN (xr X)) (iN d + 1) (uJ (uJ C (16 + tb X 13 d) (tb X 14 d) (if iN (tb X 15 d) < C (16 + tb X 13 d) (tb X 14 d) then iN (tb X 15 d) else C (16 + tb X 13 d) (tb X 14 d))) (16 + tb X 14 d) (tb X 13 d) (if iN (tb X 15 d) < C (16 + tb X 13 d) (tb X 14 d) then iN (tb X 15 d) else C (16 + tb X 13 d) (tb X 14 d)))) := by
        intro k59
        simp (disch := omega) only [V_laysWays_B59, hT.r1, hT.z1, hT.g1 hd, hT.cd hd, hT.d0 hd, hT.d1 hd, hT.d2 hd, Option.bind_some, iN_le, if_neg (show ¬ xd X ≤ d by omega), hs, ix_n, ldI_n, stI_n, lt_e, uJ_ss]
      have hM : ∀ k40 : Int32 → Ji → Option Ji, M_fillsWays_B40 F k40 (iN d) J = (if ((J 48 78 >>> (iN d &&& 31)) &&& 1) = 1 then k40 (iN d + 1) J else if iN (tb X 15 d) < J 49 (8 * tb X 13 d + tb X 14 d) then k40 (iN d + 1) (uJ (uJ J 49 (8 * tb X 13 d + tb X 14 d) (iN (tb X 15 d))) 49 (8 * tb X 14 d + tb X 13 d) (iN (tb X 15 d))) else k40 (iN d + 1) J) := by
        intro k40
        simp (disch := omega) only [M_fillsWays_B40, hJ.lv, ldI_n, hJ.d, iN_le, if_neg (show ¬ xd X ≤ d by omega), i_78, i_12, i_8, iN_mul, iN_add, j1, j2, j3, stI_n, lt_e]
      simp only [V_laysWays_L59, M_fillsWays_L40]
      rw [hC, hM, show iN d + 1 = iN (d + 1) by rw [i_1, iN_add]]
      by_cases c0 : ((J 48 78 >>> (iN d &&& 31)) &&& 1) = 1
      · rw [if_pos c0, if_pos c0]
        exact ih (d + 1) C J (by omega) (by omega) hJ hs hW hy
      · rw [if_neg c0, if_neg c0]
        have hv := hW.1 _ _ t1 t2
        rw [hv]
        obtain ⟨x, x1, x2, x3⟩ := hW.2 (tb X 13 d) (tb X 14 d) (by omega) (by omega)
        have key : ∀ y : Nat, y ≤ 1000000 → ∀ J1 : Ji, (∀ o, o ≠ 49 → J1 o = J o) → (∀ a c, a < 8 → c < 8 → J1 49 (8 * a + c) = if (a = tb X 13 d ∧ c = tb X 14 d) ∨ (a = tb X 14 d ∧ c = tb X 13 d) then iN y else J 49 (8 * a + c)) → ∃ C2 J2, V_laysWays_L59 F T m tx (iN (xr X)) (iN (d + 1)) (uJ (uJ C (16 + tb X 13 d) (tb X 14 d) (iN y)) (16 + tb X 14 d) (tb X 13 d) (iN y)) = V_laysWays_L178 F T F (iN (xr X)) 0 C2 ∧ M_fillsWays_L40 F m (iN (d + 1)) J1 = M_fillsWays_L170 F F 0 J2 ∧ WR (xr X) C2 J2 ∧ (∀ o, (o < 16 ∨ 24 ≤ o) → C2 o = C o) ∧ ∀ o, o ≠ 49 → J2 o = J o := by
          intro y hy6 J1 hJ1 hv1
          obtain ⟨C2, J2, g1, g2, g3, g4, g5⟩ := ih (d + 1) (uJ (uJ C (16 + tb X 13 d) (tb X 14 d) (iN y)) (16 + tb X 14 d) (tb X 13 d) (iN y)) J1 (by omega) (by omega) (hJ.fo hX (by rw [hJ1 0 (by omega)]) (fun o _ _ => hJ1 o (by omega))) (by rw [uJ_o (by omega), uJ_o (by omega), hJ1 48 (by omega)]; exact hs) ⟨fun a c ha hc => by
              rw [hv1 a c (by omega) (by omega), uJ_ap, uJ_ap]
              by_cases q1 : a = tb X 14 d ∧ c = tb X 13 d
              · rw [if_pos (by omega), if_pos (Or.inr q1)]
              · rw [if_neg (by omega)]
                by_cases q2 : a = tb X 13 d ∧ c = tb X 14 d
                · rw [if_pos (by omega), if_pos (Or.inl q2)]
                · rw [if_neg (by omega), if_neg (by omega)]
                  exact hW.1 a c ha hc, fun a c ha hc => by
              rw [hv1 a c ha hc]
              by_cases q : (a = tb X 13 d ∧ c = tb X 14 d) ∨ (a = tb X 14 d ∧ c = tb X 13 d)
              · rw [if_pos q]
                exact ⟨y, rfl, hy6, fun _ h => by omega⟩
              · rw [if_neg q]
                exact hW.2 a c ha hc⟩ (fun a c ha hc => by
              rw [hv1 a c (by omega) (by omega), hv1 c a (by omega) (by omega)]
              by_cases q : (a = tb X 13 d ∧ c = tb X 14 d) ∨ (a = tb X 14 d ∧ c = tb X 13 d)
              · rw [if_pos q, if_pos (by omega)]
              · rw [if_neg q, if_neg (by omega)]
                exact hy a c ha hc)
          refine ⟨C2, J2, g1, g2, g3, fun o ho => ?_, fun o ho => ?_⟩
          · rw [g4 o ho, uJ_o (by omega), uJ_o (by omega)]
          · rw [g5 o ho, hJ1 o ho]
        by_cases c1 : iN (tb X 15 d) < J 49 (8 * tb X 13 d + tb X 14 d)
        · simp only [if_pos c1]
          refine key _ (by omega) _ (fun o ho => by rw [uJ_o ho, uJ_o ho]) (fun a c ha hc => ?_)
          rw [uJ_s, uJ_s]
          by_cases q1 : a = tb X 14 d ∧ c = tb X 13 d
          · rw [if_pos (by omega), if_pos (Or.inr q1)]
          · rw [if_neg (by omega)]
            by_cases q2 : a = tb X 13 d ∧ c = tb X 14 d
            · rw [if_pos (by omega), if_pos (Or.inl q2)]
            · rw [if_neg (by omega), if_neg (by omega)]
        · simp only [if_neg c1]
          rw [x1]
          refine key x x2 J (fun _ _ => rfl) (fun a c ha hc => ?_)
          by_cases q : (a = tb X 13 d ∧ c = tb X 14 d) ∨ (a = tb X 14 d ∧ c = tb X 13 d)
          · rw [if_pos q]
            rcases q with ⟨rfl, rfl⟩ | ⟨rfl, rfl⟩
            · exact x1
            · rw [← hy _ _ t1 t2]; exact x1
          · rw [if_neg q]
    · have : d = xd X := by omega
      subst this
      refine ⟨C, J, ?_, ?_, hW, fun _ _ => rfl, fun _ _ => rfl⟩
      · simp (disch := omega) only [V_laysWays_L59, V_laysWays_B59, hT.r1, hT.z1, Option.bind_some, iN_le, if_pos (Nat.le_refl _)]
      · simp (disch := omega) only [M_fillsWays_L40, M_fillsWays_B40, hJ.lv, ldI_n, hJ.d, iN_le, if_pos (Nat.le_refl _)]
/-! by way of a third room -/
theorem wy_t1 {n y a : Nat} {J : Ji} {k170 : Int32 → Ji → Option Ji} {km : Int32 → Int32 → Ji → Option Ji} (hW : WJ n J) (hy : y < 8) (ha : a < 8) : ∀ m j, 8 < m + j → j ≤ 8 → (n ≤ y ∨ n ≤ a ∨ n ≤ j) → M_fillsWays_L186 F k170 km m (iN y) (iN a) (iN j) J = km (iN y) (iN (a + 1)) J := by
  intro m
  induction m with
  | zero => intro j h1 h2; omega
  | succ m ih =>
    intro j h1 h2 h3
    by_cases hj : j < 8
    · obtain ⟨w1, a1, a2, a3⟩ := hW a y ha hy
      obtain ⟨w2, b1, b2, b3⟩ := hW y j hy hj
      obtain ⟨w3, c1, c2, c3⟩ := hW a j ha hj
      have hw : w3 ≤ w1 + w2 := by
        by_cases q1 : n ≤ y
        · by_cases q2 : a = y
          · subst q2
            have : iN w2 = iN w3 := by rw [← b1, ← c1]
            rw [iN_eq (by omega) (by omega)] at this
            omega
          · have := a3 q2 (Or.inr q1); omega
        · by_cases q3 : n ≤ a
          · have := a3 (by omega) (Or.inl q3); omega
          · have := b3 (by omega) (Or.inr (by omega)); omega
      simp (disch := omega) only [M_fillsWays_L186, M_fillsWays_B186, i_8, i_1, iN_le, if_neg (show ¬ 8 ≤ j by omega), iN_mul, iN_add, ldI_n, a1, b1, c1, if_pos hw, lt_e]
      exact ih (j + 1) (by omega) (by omega) (by omega)
    · have : j = 8 := by omega
      subst this
      simp (disch := omega) only [M_fillsWays_L186, M_fillsWays_B186, i_8, i_1, iN_le, if_pos (Nat.le_refl _), lt_e, iN_add]
theorem wy_t2 {n y : Nat} {J : Ji} {k170 : Int32 → Ji → Option Ji} (hF : 10 ≤ F) (hW : WJ n J) (hy : y < 8) : ∀ m a, 8 < m + a → a ≤ 8 → (n ≤ y ∨ n ≤ a) → M_fillsWays_L178 F k170 m (iN y) (iN a) J = k170 (iN (y + 1)) J := by
  intro m
  induction m with
  | zero => intro a h1 h2; omega
  | succ m ih =>
    intro a h1 h2 h3
    by_cases ha : a < 8
    · have h := wy_t1 (F := F) (k170 := k170) (km := M_fillsWays_L178 F k170 m) hW hy ha F 0 (by omega) (by omega) (by omega)
      simp (disch := omega) only [M_fillsWays_L178, M_fillsWays_B178, i_8, i_0, iN_le, if_neg (show ¬ 8 ≤ a by omega)]
      rw [h]
      exact ih (a + 1) (by omega) (by omega) (by omega)
    · have : a = 8 := by omega
      subst this
      simp (disch := omega) only [M_fillsWays_L178, M_fillsWays_B178, i_8, i_1, iN_le, if_pos (Nat.le_refl _), lt_e, iN_add]
theorem wy_t3 {n : Nat} {J : Ji} (hF : 10 ≤ F) (hW : WJ n J) : ∀ m y, 8 < m + y → y ≤ 8 → n ≤ y → M_fillsWays_L170 F m (iN y) J = some J := by
  intro m
  induction m with
  | zero => intro y h1 h2; omega
  | succ m ih =>
    intro y h1 h2 h3
    by_cases hy : y < 8
    · have h := wy_t2 (k170 := M_fillsWays_L170 F m) hF hW hy F 0 (by omega) (by omega) (Or.inl h3)
      simp (disch := omega) only [M_fillsWays_L170, M_fillsWays_B170, i_8, i_0, iN_le, if_neg (show ¬ 8 ≤ y by omega)]
      rw [h]
      exact ih (y + 1) (by omega) (by omega) (by omega)
    · have : y = 8 := by omega
      subst this
      simp (disch := omega) only [M_fillsWays_L170, M_fillsWays_B170, i_8, iN_le, if_pos (Nat.le_refl _)]
/-- ways, and all else as it was -/
def WF (n : Nat) (C0 J0 C J : Ji) : Prop := WR n C J ∧ (∀ o, (o < 16 ∨ 24 ≤ o) → C o = C0 o) ∧ ∀ o, o ≠ 49 → J o = J0 o
theorem wy_f1 {n y a : Nat} {C0 J0 : Ji} {R : Ji → Ji → Prop} {c178 : Int32 → Int32 → Ji → Option Ji} {kc : Int32 → Int32 → Int32 → Ji → Option Ji} {k170 : Int32 → Ji → Option Ji} {km : Int32 → Int32 → Ji → Option Ji} (hn : n ≤ 8) (hy : y < n) (ha : a < n) (hk : ∀ C J, WF n C0 J0 C J → Bo (kc (iN n) (iN y) (iN (a + 1)) C) (km (iN y) (iN (a + 1)) J) R) : ∀ m j C J, 8 < m + j → j ≤ n → WF n C0 J0 C J → Bo (V_laysWays_L195 F c178 kc T m (iN n) (iN y) (iN a) (iN j) C) (M_fillsWays_L186 F k170 km m (iN y) (iN a) (iN j) J) R := by
  intro m
  induction m with
  | zero => intro j C J h1 h2; omega
  | succ m ih =>
    intro j C J h1 h2 h3
    obtain ⟨⟨hE, hW⟩, f1, f2⟩ := h3
    by_cases hj : j < n
    · obtain ⟨w1, a1, a2, a3⟩ := hW a y (by omega) (by omega)
      obtain ⟨w2, b1, b2, b3⟩ := hW y j (by omega) (by omega)
      obtain ⟨w3, c1, c2, c3⟩ := hW a j (by omega) (by omega)
      have e1 := hE a y ha hy
      have e2 := hE y j hy hj
      have e3 := hE a j ha hj
      have nxt : ∀ (z : Nat) (J1 : Ji), z ≤ 1000000 → (∀ o, o ≠ 49 → J1 o = J o) → (∀ p q, p < 8 → q < 8 → J1 49 (8 * p + q) = if p = a ∧ q = j then iN z else J 49 (8 * p + q)) → Bo (V_laysWays_L195 F c178 kc T m (iN n) (iN y) (iN a) (iN (j + 1)) (uJ C (16 + a) j (iN z))) (M_fillsWays_L186 F k170 km m (iN y) (iN a) (iN (j + 1)) J1) R := by
        intro z J1 hz hJ1 hv
        refine ih (j + 1) _ J1 (by omega) (by omega) ⟨⟨fun p q hp hq => ?_, fun p q hp hq => ?_⟩, fun o ho => ?_, fun o ho => ?_⟩
        · rw [hv p q (by omega) (by omega), uJ_ap]
          by_cases c : p = a ∧ q = j
          · rw [if_pos (by omega), if_pos c]
          · rw [if_neg (by omega), if_neg c]
            exact hE p q hp hq
        · rw [hv p q hp hq]
          by_cases c : p = a ∧ q = j
          · rw [if_pos c]
            exact ⟨z, rfl, hz, fun _ h => by omega⟩
          · rw [if_neg c]
            exact hW p q hp hq
        · rw [uJ_o (by omega)]
          exact f1 o ho
        · rw [hJ1 o ho]
          exact f2 o ho
      simp (disch := omega) only [V_laysWays_L195, V_laysWays_B195, M_fillsWays_L186, M_fillsWays_B186, i_8, i_1, iN_le, iN_lt, if_neg (show ¬ n ≤ j by omega), if_neg (show ¬ 8 ≤ j by omega), ix_n, Option.bind_some, iN_mul, iN_add, ldI_n, stI_n, e1, e2, e3, a1, b1, c1, lt_e]
      by_cases c : w3 ≤ w1 + w2
      · rw [if_pos c, if_neg (by omega)]
        refine nxt w3 J c2 (fun _ _ => rfl) (fun p q hp hq => ?_)
        by_cases cc : p = a ∧ q = j
        · rw [if_pos cc, cc.1, cc.2, c1]
        · rw [if_neg cc]
      · rw [if_neg c, if_pos (by omega)]
        refine nxt (w1 + w2) _ (by omega) (fun o ho => uJ_o ho) (fun p q hp hq => ?_)
        rw [uJ_s]
        by_cases cc : p = a ∧ q = j
        · rw [if_pos cc, if_pos (by omega)]
        · rw [if_neg cc, if_neg (by omega)]
    · have : j = n := by omega
      subst this
      have h := wy_t1 (F := F) (k170 := k170) (km := km) hW (show y < 8 by omega) (show a < 8 by omega) (m + 1) j h1 (by omega) (by omega)
      rw [h]
      simp (disch := omega) only [V_laysWays_L195, V_laysWays_B195, iN_le, if_pos (Nat.le_refl _), lt_e, i_1, iN_add]
      exact hk C J ⟨⟨hE, hW⟩, f1, f2⟩
theorem wy_f2 {n y : Nat} {C0 J0 : Ji} {R : Ji → Ji → Prop} {kc : Int32 → Int32 → Ji → Option Ji} {km : Int32 → Ji → Option Ji} (hF : 10 ≤ F) (hn : n ≤ 8) (hy : y < n) (hk : ∀ C J, WF n C0 J0 C J → Bo (kc (iN n) (iN (y + 1)) C) (km (iN (y + 1)) J) R) : ∀ m a C J, 8 < m + a → a ≤ n → WF n C0 J0 C J → Bo (V_laysWays_L186 F kc T m (iN n) (iN y) (iN a) C) (M_fillsWays_L178 F km m (iN y) (iN a) J) R := by
  intro m
  induction m with
  | zero => intro a C J h1 h2; omega
  | succ m ih =>
    intro a C J h1 h2 h3
    by_cases ha : a < n
    · simp (disch := omega) only [V_laysWays_L186, V_laysWays_B186, M_fillsWays_L178, M_fillsWays_B178, i_8, i_0, iN_le, if_neg (show ¬ n ≤ a by omega), if_neg (show ¬ 8 ≤ a by omega)]
      exact wy_f1 hn hy ha (fun C1 J1 h4 => ih (a + 1) C1 J1 (by omega) (by omega) h4) F 0 C J (by omega) (by omega) h3
    · have : a = n := by omega
      subst this
      rw [wy_t2 (k170 := km) hF h3.1.2 (show y < 8 by omega) (m + 1) a h1 (by omega) (by omega)]
      simp (disch := omega) only [V_laysWays_L186, V_laysWays_B186, iN_le, if_pos (Nat.le_refl _), lt_e, i_1, iN_add]
      exact hk C J h3
theorem wy_f3 {n : Nat} {C0 J0 : Ji} (hF : 10 ≤ F) (hn : n ≤ 8) : ∀ m y C J, 8 < m + y → y ≤ n → WF n C0 J0 C J → Bo (V_laysWays_L178 F T m (iN n) (iN y) C) (M_fillsWays_L170 F m (iN y) J) (WF n C0 J0) := by
  intro m
  induction m with
  | zero => intro y C J h1 h2; omega
  | succ m ih =>
    intro y C J h1 h2 h3
    by_cases hy : y < n
    · simp (disch := omega) only [V_laysWays_L178, V_laysWays_B178, M_fillsWays_L170, M_fillsWays_B170, i_8, i_0, iN_le, if_neg (show ¬ n ≤ y by omega), if_neg (show ¬ 8 ≤ y by omega)]
      exact wy_f2 hF hn hy (fun C1 J1 h4 => ih (y + 1) C1 J1 (by omega) (by omega) h4) F 0 C J (by omega) (by omega) h3
    · have : y = n := by omega
      subst this
      rw [wy_t3 hF h3.1.2 (m + 1) y h1 (by omega) (by omega)]
      simp (disch := omega) only [V_laysWays_L178, V_laysWays_B178, iN_le, if_pos (Nat.le_refl _)]
      exact Bo.mk h3
/-- the ways are the same on both sides -/
theorem pl_ways (hX : TxV X) (hT : TxT T tx X b e) {C J : Ji} (hJ : TxJ J l X) (hF : 70 ≤ F) (hs : C 0 8 = J 48 78) : Bo (V_laysWays F T tx C) (M_fillsWays F J) (WF (xr X) C J) := by
  have hr8 := hX.1.1
  have hd12 := hX.1.2.1
  obtain ⟨J1, m1, m2, m3, m4⟩ := wy_m0 (F := F) F 0 J (by omega) (by omega)
  obtain ⟨C1, c1, c2, c3⟩ := wy_c0 (F := F) (T := T) (tx := tx) hr8 (by omega) F 0 C (by omega) (by omega)
  have hW : WR (xr X) C1 J1 := ⟨fun a c ha hc => by rw [c3 a c (by omega) ha hc, m4 a c (by omega) (by omega) (by omega)], fun a c ha hc => by rw [m4 a c hc (by omega) (by omega)]; exact w0_w⟩
  obtain ⟨C2, J2, d1, d2, d3, d4, d5⟩ := wy_d (F := F) hX hT F 0 C1 J1 (by omega) (by omega) (hJ.fo hX (by rw [m2 0 (by omega)]) (fun o _ _ => m2 o (by omega))) (by rw [c2 0 (by omega), m2 48 (by omega)]; exact hs) hW (fun a c ha hc => by
    rw [m4 a c (by omega) (by omega) (by omega), m4 c a (by omega) (by omega) (by omega)]
    unfold w0
    by_cases h : a = c
    · rw [if_pos h, if_pos h.symm]
    · rw [if_neg h, if_neg (fun h1 => h h1.symm)])
  have hf := wy_f3 (F := F) (T := T) (C0 := C) (J0 := J) (by omega) hr8 F 0 C2 J2 (by omega) (by omega) ⟨d3, fun o ho => by rw [d4 o ho, c2 o (by omega)], fun o ho => by rw [d5 o ho, m2 o ho]⟩
  simp only [V_laysWays, M_fillsWays, hT.r0, Option.bind_some, hT.z0]
  rw [i_0, c1, i_0, d1, i_0]
  rw [m1, i_0, d2, i_0]
  exact hf
end WAYS
