/-! PURE LAW 3: villages -/
set_option maxRecDepth 100000
/-- the component's village C is the model's row v -/
def VR (X : Xt) (C : Ji) (v : Nat → Int32) : Prop := (∀ k, k < xk X → C 8 k = v k) ∧ (∀ k s, k < xk X → s < xs X k → C (2 + k) s = v (6 + 6 * k + s)) ∧ (∀ m, m < xm X → C 9 m = onC (v (42 + m)) ∧ C 10 m = onC (v (48 + m)) ∧ C 12 m = v (54 + m) ∧ C 13 m = v (60 + m) ∧ C 14 m = v (66 + m)) ∧ (∀ t, t < xt X → C 11 t = v (72 + t)) ∧ C 0 8 = v 78 ∧ C 0 9 = v 79
/-- what is done, and what more may be (w: by task, what is left and what is under way) -/
def VD (X : Xt) (v : Nat → Int32) (w : Nat → Nat) : Prop := ∀ k s, k < xk X → s < xs X k → ∃ d, v (6 + 6 * k + s) = iN d ∧ d + w k ≤ 999
/-- somebody has left a step, or nothing -/
def VL (X : Xt) (v : Nat → Int32) : Prop := ∀ m, m < xm X → (v (42 + m) = iM 1 ∧ v (48 + m) = iM 1) ∨ ∃ k s, k < xk X ∧ s < xs X k ∧ v (42 + m) = iN k ∧ v (48 + m) = iN s
def VT (X : Xt) (v : Nat → Int32) : Prop := ∀ t, t < xt X → (∃ r, r < xr X ∧ v (72 + t) = iN r) ∨ ∃ m, m < xm X ∧ v (72 + t) = iN (100 + m)
def VS (X : Xt) (v : Nat → Int32) (w : Nat → Nat) : Prop := ∀ k, k < xk X → v k = iN (w k) ∧ w k ≤ 999
def VV (X : Xt) (v : Nat → Int32) : Prop := (∃ w, VS X v w ∧ VD X v w) ∧ VL X v ∧ VT X v ∧ ∃ b, b < 4096 ∧ v 78 = iN b
section VLG
variable {T : Th} {tx : Nat} {X : Xt} {b : Nat → Nat} {e : Nat → Nat → Nat} {J C : Ji} {l F : Nat}
theorem pl_wstep {d q g p : Nat} {acc : Int32} (hd : d ≤ 1000) (hq : q ≤ 1000) : acc + (iN g * (if iN q < iN d then iN q else iN d) - iN p * (if 0 < iN d - iN q then iN d - iN q else 0)) = (if iN q ≤ iN d then (if iN d ≤ iN q then acc + (iN q * iN g - 0 * iN p) else acc + (iN q * iN g - (iN d - iN q) * iN p)) else (if iN d ≤ iN q then acc + (iN d * iN g - 0 * iN p) else acc + (iN d * iN g - (iN d - iN q) * iN p))) := by
  have h1 : d ≤ q ∨ q < d := by omega
  rcases h1 with h1 | h1
  · have e1 : (iN q < iN d) = False := by rw [iN_lt (by omega) (by omega)]; exact eq_false (by omega)
    have e2 : (iN d ≤ iN q) = True := by rw [iN_le (by omega) (by omega)]; exact eq_true h1
    have e3 : (0 < iN d - iN q) = False := by
      rw [i_0]
      rcases Nat.lt_or_ge d q with h | h
      · rw [iN_subm h, iN_ltm (by omega) (by omega)]
      · rw [iN_sub h, iN_lt (by omega) (by omega)]; exact eq_false (by omega)
    have e4 : (iN q ≤ iN d) = (q = d) := by rw [iN_le (by omega) (by omega)]; exact propext ⟨fun h => by omega, fun h => by omega⟩
    simp only [e1, e2, e3, e4, if_false, if_true]
    by_cases h : q = d
    · subst h
      simp only [if_true]
      rw [Int32.mul_comm (iN g), Int32.mul_comm (iN p)]
    · simp only [h, if_false]
      rw [Int32.mul_comm (iN g), Int32.mul_comm (iN p)]
  · have e1 : (iN q < iN d) = True := by rw [iN_lt (by omega) (by omega)]; exact eq_true (by omega)
    have e2 : (iN d ≤ iN q) = False := by rw [iN_le (by omega) (by omega)]; exact eq_false (by omega)
    have e3 : (0 < iN d - iN q) = True := by
      rw [i_0, iN_sub (by omega), iN_lt (by omega) (by omega)]; exact eq_true (by omega)
    have e4 : (iN q ≤ iN d) = True := by rw [iN_le (by omega) (by omega)]; exact eq_true (by omega)
    simp only [e1, e2, e3, e4, if_false, if_true]
    rw [Int32.mul_comm (iN g), Int32.mul_comm (iN p)]
theorem pl_worthL (hX : TxV X) (hT : TxT T tx X b e) (hJ : TxJ J l X) (hR : VR X C (J 48)) {w : Nat → Nat} (hD : VD X (J 48) w) {k : Nat} (hk : k < xk X) : ∀ n s acc, xs X k < n + s → s ≤ xs X k → ∃ r, V_worth_L18 F T C n (iN k) (e 3 k) acc (iN s) = some r ∧ M_worthOf_L4 F J n (iN k) acc (iN s) = some r := by
  have hk6 := hX.1.2.2.2.1
  have hs6 := (hX.2.2.2.1 k hk).2.2
  have hl := hJ.l2
  intro n
  induction n with
  | zero => intro s acc h1 h2; omega
  | succ n ih =>
    intro s acc h1 h2
    by_cases hs : s < xs X k
    · obtain ⟨d, hd, hd2⟩ := hD k s hk hs
      obtain ⟨t1, t2, t3, t4, t5, t6, t7⟩ := hX.2.2.2.2.1 k s hk hs
      obtain ⟨j1, j2, j3, j4, j5, j6⟩ := hJ.2.2.2.2.1 k s hk hs
      have hc := hR.2.1 k s hk hs
      simp (disch := omega) only [V_worth_L18, V_worth_B18, M_worthOf_L4, M_worthOf_B4, M_worthOf_B61, M_worthOf_B85, hT.k3 hk, hT.ksz hk, hT.kgt hk hs, hT.cs hk hs, hT.s1 hk hs, hT.s2 hk hs, hT.s3 hk hs, Option.bind_some, hJ.steps hX hk, hJ.at_, iN_le, if_neg (show ¬ xs X k ≤ s by omega), ix_n, ldI_n, hc, hd, lt_e, i_6, iN_mul, iN_add, j1, j2, j3, j4]
      have hst := pl_wstep (d := d) (q := tb X 24 (6 * k + s)) (g := tb X 25 (6 * k + s)) (p := tb X 26 (6 * k + s)) (acc := acc) (by omega) (by omega)
      simp (disch := omega) only [iN_le, iN_mul] at hst
      have hn := ih (s + 1)
      rw [hst]
      by_cases c1 : tb X 24 (6 * k + s) ≤ d <;> by_cases c2 : d ≤ tb X 24 (6 * k + s) <;> simp only [c1, c2, if_true, if_false, i_1, iN_add] <;> exact hn _ (by omega) (by omega)
    · have : s = xs X k := by omega
      subst this
      refine ⟨acc, ?_, ?_⟩
      · simp (disch := omega) only [V_worth_L18, V_worth_B18, hT.k3 hk, hT.ksz hk, Option.bind_some, iN_le, if_pos (Nat.le_refl _)]
      · simp (disch := omega) only [M_worthOf_L4, M_worthOf_B4, hJ.steps hX hk, Option.bind_some, iN_le, if_pos (Nat.le_refl _)]
theorem pl_worth (hX : TxV X) (hT : TxT T tx X b e) (hJ : TxJ J l X) (hR : VR X C (J 48)) {w : Nat → Nat} (hD : VD X (J 48) w) (hF : 10 ≤ F) {k : Nat} (hk : k < xk X) : ∃ r, V_worth F T C tx (iN k) = some r ∧ M_worthOf F J (iN k) = some r := by
  have hs6 := (hX.2.2.2.1 k hk).2.2
  have h := pl_worthL (F := F) hX hT hJ hR hD hk F 0 0 (by omega) (by omega)
  simp only [V_worth, M_worthOf, hT.r3, Option.bind_some, hT.g3 hk, hT.ck hk]
  exact h
theorem pl_worthAllL (hX : TxV X) (hT : TxT T tx X b e) (hJ : TxJ J l X) (hR : VR X C (J 48)) {w : Nat → Nat} (hD : VD X (J 48) w) (hF : 10 ≤ F) : ∀ n k acc, xk X < n + k → k ≤ xk X → ∃ r, V_worthOfAll_L4 F T C n tx acc (iN k) = some r ∧ M_worthNow_L4 F J n acc (iN k) = some r := by
  have hk6 := hX.1.2.2.2.1
  intro n
  induction n with
  | zero => intro k acc h1 h2; omega
  | succ n ih =>
    intro k acc h1 h2
    by_cases hk : k < xk X
    · obtain ⟨r, r1, r2⟩ := pl_worth hX hT hJ hR hD hF hk
      simp (disch := omega) only [V_worthOfAll_L4, V_worthOfAll_B4, M_worthNow_L4, M_worthNow_B4, hT.r3, hT.z3, hJ.tasks, Option.bind_some, iN_le, if_neg (show ¬ xk X ≤ k by omega), r1, r2, lt_e, i_1, iN_add]
      exact ih (k + 1) _ (by omega) (by omega)
    · have : k = xk X := by omega
      subst this
      refine ⟨acc, ?_, ?_⟩
      · simp (disch := omega) only [V_worthOfAll_L4, V_worthOfAll_B4, hT.r3, hT.z3, Option.bind_some, iN_le, if_pos (Nat.le_refl _)]
      · simp (disch := omega) only [M_worthNow_L4, M_worthNow_B4, hJ.tasks, Option.bind_some, iN_le, if_pos (Nat.le_refl _)]
theorem pl_worthAll (hX : TxV X) (hT : TxT T tx X b e) (hJ : TxJ J l X) (hR : VR X C (J 48)) {w : Nat → Nat} (hD : VD X (J 48) w) (hF : 10 ≤ F) : ∃ r, V_worthOfAll F T C tx = some r ∧ M_worthNow F J = some r := by
  have hk6 := hX.1.2.2.2.1
  exact pl_worthAllL hX hT hJ hR hD hF F 0 0 (by omega) (by omega)
theorem pl_endedL (hX : TxV X) (hT : TxT T tx X b e) (hJ : TxJ J l X) (hDn : ∀ k s, k < xk X → s < xs X k → C (2 + k) s = J 48 (6 + 6 * k + s)) {k : Nat} (hk : k < xk X) : ∀ n s, xs X k < n + s → s ≤ xs X k → ∃ r, V_isEnded_L15 F T C n (iN k) (e 3 k) (iN s) = some r ∧ M_isEnded_L2 F J n (iN k) (iN s) = some r ∧ (r = 0 ∨ r = 1) := by
  have hk6 := hX.1.2.2.2.1
  have hs6 := (hX.2.2.2.1 k hk).2.2
  have hl := hJ.l2
  intro n
  induction n with
  | zero => intro s h1 h2; omega
  | succ n ih =>
    intro s h1 h2
    by_cases hs : s < xs X k
    · obtain ⟨j1, j2, j3, j4, j5, j6⟩ := hJ.2.2.2.2.1 k s hk hs
      have hc := hDn k s hk hs
      simp (disch := omega) only [V_isEnded_L15, V_isEnded_B15, M_isEnded_L2, M_isEnded_B2, hT.k3 hk, hT.ksz hk, hT.kgt hk hs, hT.cs hk hs, hT.s1 hk hs, Option.bind_some, hJ.steps hX hk, hJ.at_, iN_le, if_neg (show ¬ xs X k ≤ s by omega), ix_n, ldI_n, hc, lt_e, i_6, iN_mul, iN_add, j2]
      by_cases c : iN (tb X 24 (6 * k + s)) ≤ J 48 (6 + 6 * k + s)
      · simp only [c, if_true, i_1, iN_add]
        exact ih (s + 1) (by omega) (by omega)
      · simp only [c, if_false]
        exact ⟨0, rfl, rfl, Or.inl rfl⟩
    · have : s = xs X k := by omega
      subst this
      refine ⟨1, ?_, ?_, Or.inr rfl⟩
      · simp (disch := omega) only [V_isEnded_L15, V_isEnded_B15, hT.k3 hk, hT.ksz hk, Option.bind_some, iN_le, if_pos (Nat.le_refl _)]
      · simp (disch := omega) only [M_isEnded_L2, M_isEnded_B2, hJ.steps hX hk, Option.bind_some, iN_le, if_pos (Nat.le_refl _)]
theorem pl_ended (hX : TxV X) (hT : TxT T tx X b e) (hJ : TxJ J l X) (hDn : ∀ k s, k < xk X → s < xs X k → C (2 + k) s = J 48 (6 + 6 * k + s)) (hF : 10 ≤ F) {k : Nat} (hk : k < xk X) : ∃ r, V_isEnded F T C tx (iN k) = some r ∧ M_isEnded F J (iN k) = some r ∧ (r = 0 ∨ r = 1) := by
  have hs6 := (hX.2.2.2.1 k hk).2.2
  have h := pl_endedL (F := F) hX hT hJ hDn hk F 0 (by omega) (by omega)
  simp only [V_isEnded, M_isEnded, hT.r3, Option.bind_some, hT.g3 hk, hT.ck hk]
  exact h
/-- a step is done once more, on both sides -/
theorem pl_does (hX : TxV X) (hT : TxT T tx X b e) (hJ : TxJ J l X) (hDn : ∀ k s, k < xk X → s < xs X k → C (2 + k) s = J 48 (6 + 6 * k + s)) {w w1 : Nat → Nat} (hD : VD X (J 48) w) {k s : Nat} (hk : k < xk X) (hs : s < xs X k) (hw : ∀ i, i < xk X → i ≠ k → w1 i = w i) (hwk : w1 k + 1 = w k) : ∃ C1 J1, V_does T tx (iN k) (iN s) C = some C1 ∧ M_does (iN k) (iN s) J = some J1 ∧ (∀ k s, k < xk X → s < xs X k → C1 (2 + k) s = J1 48 (6 + 6 * k + s)) ∧ VD X (J1 48) w1 ∧ (∀ o, (o < 2 ∨ 8 ≤ o) → C1 o = C o) ∧ (∀ o, o ≠ 48 → J1 o = J o) ∧ ∀ i, (i < 6 ∨ 42 ≤ i) → J1 48 i = J 48 i := by
  have hk6 := hX.1.2.2.2.1
  have hs6 := (hX.2.2.2.1 k hk).2.2
  have hl := hJ.l2
  obtain ⟨d, hd, hd2⟩ := hD k s hk hs
  obtain ⟨t1, t1', t2, t3, t4, t5, t6⟩ := hX.2.2.2.2.1 k s hk hs
  obtain ⟨j1, j2, j3, j4, j5, j6⟩ := hJ.2.2.2.2.1 k s hk hs
  have hc := hDn k s hk hs
  have hx6 : ∀ i, i < xk X → xs X i ≤ 6 := fun i hi => (hX.2.2.2.1 i hi).2.2
  -- the first change
  have a1 : ∀ k' s', k' < xk X → s' < xs X k' → uJ C (2 + k) s (iN (d + 1)) (2 + k') s' = uJ J 48 (6 + 6 * k + s) (iN (d + 1)) 48 (6 + 6 * k' + s') := by
    intro k' s' hk' hs'
    have := hx6 k' hk'
    rw [uJ_ap, uJ_s]
    by_cases c : k' = k ∧ s' = s
    · rw [if_pos (by omega), if_pos (by omega)]
    · rw [if_neg (by omega), if_neg (by omega)]
      exact hDn k' s' hk' hs'
  have a2 : VD X (uJ J 48 (6 + 6 * k + s) (iN (d + 1)) 48) w1 := by
    intro k' s' hk' hs'
    have := hx6 k' hk'
    rw [uJ_s]
    by_cases c : k' = k ∧ s' = s
    · rw [if_pos (by omega)]
      obtain ⟨rfl, rfl⟩ := c
      exact ⟨d + 1, rfl, by omega⟩
    · rw [if_neg (by omega)]
      obtain ⟨d', h1, h2⟩ := hD k' s' hk' hs'
      refine ⟨d', h1, ?_⟩
      by_cases ck : k' = k
      · subst ck; omega
      · rw [hw k' hk' ck]; exact h2
  have f1 : ∀ o, (o < 2 ∨ 8 ≤ o) → uJ C (2 + k) s (iN (d + 1)) o = C o := fun o ho => uJ_o (by omega)
  have f2 : ∀ o, o ≠ 48 → uJ J 48 (6 + 6 * k + s) (iN (d + 1)) o = J o := fun o ho => uJ_o ho
  have f3 : ∀ i, (i < 6 ∨ 42 ≤ i) → uJ J 48 (6 + 6 * k + s) (iN (d + 1)) 48 i = J 48 i := fun i hi => uJ_sn (by omega)
  have hJ1 : TxJ (uJ J 48 (6 + 6 * k + s) (iN (d + 1))) l X := hJ.fr hX (fun o i ho => by
    rw [uJ_ap, if_neg]
    rintro ⟨rfl, _⟩
    simp [lv_] at ho)
  have hat := hJ1.at_ (k := k) (s := s)
  simp (disch := omega) only [V_does, M_does, ix_n, Option.bind_some, ldI_n, stI_n, hc, hd, i_1, i_6, iN_mul, iN_add, hT.r3, hT.g3 hk, hT.ck hk, hT.k3 hk, hT.kgt hk hs, hT.cs hk hs, hT.s5 hk hs, hat, uJ_o (show 28 ≠ 48 by omega), j6]
  generalize hu : tb X 28 (6 * k + s) = u at t6
  cases u with
  | zero =>
    simp (disch := omega) only [oM_0, oC_0, i_0, iM_ltn, if_true]
    exact ⟨_, _, rfl, rfl, a1, a2, f1, f2, f3⟩
  | succ u =>
    have hus : u < xs X k := by omega
    have b1 := a1 k u hk hus
    obtain ⟨d', e1, e2⟩ := a2 k u hk hus
    simp (disch := omega) only [oM_s, oC_s, i_0, iN_lt, iN_le, show ¬ u < 0 by omega, if_false, ldI_n, iN_add, b1, e1]
    by_cases c : d' ≤ 0
    · simp only [c, if_true]
      exact ⟨_, _, rfl, rfl, a1, a2, f1, f2, f3⟩
    · simp (disch := omega) only [c, if_false, ix_n, Option.bind_some, ldI_n, stI_n, iN_add, b1, e1, iN_sub]
      refine ⟨_, _, rfl, rfl, ?_, ?_, ?_, ?_, ?_⟩
      · intro k' s' hk' hs'
        have := hx6 k' hk'
        rw [uJ_ap, uJ_s]
        by_cases c : k' = k ∧ s' = u
        · rw [if_pos (by omega), if_pos (by omega)]
        · rw [if_neg (by omega), if_neg (by omega)]
          exact a1 k' s' hk' hs'
      · intro k' s' hk' hs'
        have := hx6 k' hk'
        rw [uJ_s]
        by_cases c : k' = k ∧ s' = u
        · rw [if_pos (by omega)]
          obtain ⟨rfl, rfl⟩ := c
          exact ⟨d' - 1, rfl, by omega⟩
        · rw [if_neg (by omega)]
          exact a2 k' s' hk' hs'
      · intro o ho
        rw [uJ_o (by omega)]
        exact f1 o ho
      · intro o ho
        rw [uJ_o ho]
        exact f2 o ho
      · intro i hi
        rw [uJ_sn (by omega)]
        exact f3 i hi
end VLG
