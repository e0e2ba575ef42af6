/-! PURE LAW 14: evenings, mornings -/
set_option maxRecDepth 100000
section EV
variable {T : Th} {tx : Nat} {X : Xt} {b : Nat → Nat} {e : Nat → Nat → Nat} {l F : Nat} {S Q : Ji} {V : Nat → Ji} {J : Ji}
/-- the state of a trial's loop -/
def TL (X : Xt) (l : Nat) (V0 : Nat → Ji) (J0 : Ji) (V : Nat → Ji) (J : Ji) : Prop := vG V0 V ∧ nG J0 J ∧ TxJ J l X ∧ VR X (V 0) (J 47) ∧ VV X (J 47)
theorem TL.go {V0 V V1 : Nat → Ji} {J0 J J1 : Ji} (hX : TxV X) (h : TL X l V0 J0 V J) (hv : vG V V1) (hj : nG J J1) : TL X l V0 J0 V1 J1 := by
  obtain ⟨h1, h2, h3, h4, h5⟩ := h
  exact ⟨h1.tr hv, h2.tr hj, hj.tx hX h3, by rw [hv 0 (by omega), hj.v47]; exact h4, by rw [hj.v47]; exact h5⟩
/-- the best of two so far -/
def B2 (X : Xt) (F : Nat) (T : Th) (tx i j : Nat) (S : Ji) (one two most : Int32) : Prop := (i = 0 ∧ j = 0 ∧ one = -1) ∨ (0 < i + j ∧ ∃ p q, p < nch X ∧ q < nch X ∧ one = iN p ∧ two = iN q ∧ most = S 0 12 ∧ S_choice F T tx (iN p) = some (S 0 13) ∧ S_choice F T tx (iN q) = some (S 0 14))
theorem b2_in (hX : TxV X) (hT : TxT T tx X b e) (hF : 900 ≤ F) {V0 : Nat → Ji} {S0 J0 : Ji} {m m2 i : Nat} {w : Int32} (hm : m < xm X) (hm2 : m2 < xm X) (hi : i < nch X) {kc : Int32 → Int32 → Int32 → Int32 → Ji → (Nat → Ji) → Option (Int32 × Ji × (Nat → Ji))} {km : Int32 → Int32 → Int32 → Int32 → Int32 → Int32 → Int32 → Ji → Option (Int32 × Ji)} (hk : ∀ S V J one two most, TL X l V0 J0 V J → sG S0 S → B2 X F T tx (i + 1) 0 S one two most → Bo (kc (iN m) (iN m2) w (iN (i + 1)) S V) (km (iN m) (iN m2) w one two most (iN (i + 1)) J) (fun x y => x.1 = y.1 ∧ sG S0 x.2.1 ∧ vG V0 x.2.2 ∧ nG J0 y.2)) : ∀ n j S V J one two most, nch X < n + j → j ≤ nch X → TL X l V0 J0 V J → sG S0 S → B2 X F T tx i j S one two most → Bo (S_bestOfTwo_L35 F kc T tx n (iN m) (iN m2) w (iN i) (iN j) S V) (M_bestOfTwo_L56 F km n (iN m) (iN m2) w one two most (iN i) (iN j) J) (fun x y => x.1 = y.1 ∧ sG S0 x.2.1 ∧ vG V0 x.2.2 ∧ nG J0 y.2) := by
  have hn := nch_le hX
  intro n
  induction n with
  | zero => intro j S V J one two most h1 h2; omega
  | succ n ih =>
    intro j S V J one two most h1 h2 hL hS hB
    have hJ := hL.2.2.1
    have ej : iN j + 1 = iN (j + 1) := by rw [i_1, iN_add]
    have ei : iN i + 1 = iN (i + 1) := by rw [i_1, iN_add]
    by_cases hj : j < nch X
    · obtain ⟨x, y, V4, V5, J1, J2, J3, t1, t2, t3, t4, t5, t6, t7, t8, t9, t10, t11, t12⟩ := tr_two hX hF hT hJ hL.2.2.2.1 hL.2.2.2.2 hm hm2 hi hj
      obtain ⟨g, C2, J4, n1, n2, n3, n4, n5⟩ := tr_night hX hF hT t10 t11 t12
      have hL1 := hL.go hX (t8.tr vG.u) (t9.g.tr n4.g) (V1 := vf_upd V5 1 C2)
      have hS1 : sG S0 (uJ (uJ (uJ S 0 12 g) 0 13 x) 0 14 y) := hS.tr ⟨fun o ho => by rw [uJ_o ho, uJ_o ho, uJ_o ho], fun q q1 q2 q3 => by rw [uJ_sn q3, uJ_sn q2, uJ_sn q1]⟩
      have hnew : B2 X F T tx i (j + 1) (uJ (uJ (uJ S 0 12 g) 0 13 x) 0 14 y) (iN i) (iN j) g := Or.inr ⟨by omega, i, j, hi, hj, rfl, rfl, by rw [uJ_sn (by omega), uJ_sn (by omega), uJ_ss], by rw [uJ_sn (by omega), uJ_ss]; exact t1, by rw [uJ_ss]; exact t3⟩
      have hgo := ih (j + 1) _ _ J4 (iN i) (iN j) g (by omega) (by omega) hL1 hS1 hnew
      rcases hB with ⟨b1, b2, b3⟩ | ⟨b0, p, q, b1, b2, b3, b4, b5, b6, b7⟩
      · have y0 : iN i + iN j ≤ 0 := by rw [b1, b2]; decide
        have y1 : one < 0 := by rw [b3]; decide
        simp (disch := omega) only [S_bestOfTwo_L35, S_bestOfTwo_B35, S_bestOfTwo_B103, M_bestOfTwo_L56, M_bestOfTwo_B56, M_bestOfTwo_B106, ch_c hX hT, ch_m hX hJ, Option.bind_some, iN_le, if_neg (show ¬ nch X ≤ j by omega), lt_e, t1, t2, t3, t4, t5, t6, t7, n1, n3, if_pos y0, if_pos y1, ej]
        exact hgo
      · have y0 : ¬ iN i + iN j ≤ 0 := by rw [iN_add, i_0, iN_le (by omega) (by omega)]; omega
        have y1 : ¬ one < 0 := by rw [b3, i_0, iN_lt (by omega) (by omega)]; omega
        by_cases cg : S 0 12 < g
        · simp (disch := omega) only [S_bestOfTwo_L35, S_bestOfTwo_B35, S_bestOfTwo_B103, M_bestOfTwo_L56, M_bestOfTwo_B56, M_bestOfTwo_B106, ch_c hX hT, ch_m hX hJ, Option.bind_some, iN_le, if_neg (show ¬ nch X ≤ j by omega), lt_e, t1, t2, t3, t4, t5, t6, t7, n1, n3, if_neg y0, if_neg y1, b5, if_pos cg, ej]
          exact hgo
        · simp (disch := omega) only [S_bestOfTwo_L35, S_bestOfTwo_B35, M_bestOfTwo_L56, M_bestOfTwo_B56, ch_c hX hT, ch_m hX hJ, Option.bind_some, iN_le, if_neg (show ¬ nch X ≤ j by omega), lt_e, t1, t2, t3, t4, t5, t6, t7, n1, n3, if_neg y0, if_neg y1, b5, if_neg cg, ej]
          exact ih (j + 1) _ _ J4 one two _ (by omega) (by omega) hL1 hS (Or.inr ⟨by omega, p, q, b1, b2, b3, b4, rfl, b6, b7⟩)
    · have : j = nch X := by omega
      subst this
      simp (disch := omega) only [S_bestOfTwo_L35, S_bestOfTwo_B35, M_bestOfTwo_L56, M_bestOfTwo_B56, ch_c hX hT, ch_m hX hJ, Option.bind_some, iN_le, if_pos (Nat.le_refl _), lt_e, ei]
      refine hk S V J one two most hL hS ?_
      rcases hB with ⟨b1, b2, b3⟩ | ⟨b0, hb⟩
      · omega
      · exact Or.inr ⟨by omega, hb⟩
theorem b2_out (hX : TxV X) (hT : TxT T tx X b e) (hF : 900 ≤ F) {V0 : Nat → Ji} {S0 J0 : Ji} {m m2 : Nat} {w : Int32} (hm : m < xm X) (hm2 : m2 < xm X) : ∀ n i S V J one two most, nch X < n + i → i ≤ nch X → TL X l V0 J0 V J → sG S0 S → B2 X F T tx i 0 S one two most → Bo (S_bestOfTwo_L23 F T tx n (iN m) (iN m2) w (iN i) S V) (M_bestOfTwo_L44 F n (iN m) (iN m2) w one two most (iN i) J) (fun x y => x.1 = y.1 ∧ sG S0 x.2.1 ∧ vG V0 x.2.2 ∧ nG J0 y.2) := by
  have hn := nch_le hX
  have hm6 := hX.1.2.2.2.2.1
  intro n
  induction n with
  | zero => intro i S V J one two most h1 h2; omega
  | succ n ih =>
    intro i S V J one two most h1 h2 hL hS hB
    have hJ := hL.2.2.1
    by_cases hi : i < nch X
    · simp (disch := omega) only [S_bestOfTwo_L23, S_bestOfTwo_B23, M_bestOfTwo_L44, M_bestOfTwo_B44, ch_c hX hT, ch_m hX hJ, Option.bind_some, iN_le, if_neg (show ¬ nch X ≤ i by omega), i_0]
      exact b2_in hX hT hF hm hm2 hi (fun S1 V1 J1 one1 two1 most1 g1 g2 g3 => ih (i + 1) S1 V1 J1 one1 two1 most1 (by omega) (by omega) g1 g2 g3) F 0 S V J one two most (by omega) (by omega) hL hS hB
    · have : i = nch X := by omega
      subst this
      rcases hB with ⟨b1, b2, b3⟩ | ⟨b0, p, q, b1, b2, b3, b4, b5, b6, b7⟩
      · omega
      · by_cases c0 : w = 0
        · simp (disch := omega) only [S_bestOfTwo_L23, S_bestOfTwo_B23, M_bestOfTwo_L44, M_bestOfTwo_B44, ch_c hX hT, ch_m hX hJ, Option.bind_some, iN_le, if_pos (Nat.le_refl _), if_pos c0]
          exact Bo.mk ⟨b5.symm, hS, hL.1, hL.2.1⟩
        · by_cases c1 : w = 1
          · obtain ⟨J2, w1, w2⟩ := ch_code (F := F) hX hT (by omega) b1 (show m < 6 by omega) hJ b6
            simp (disch := omega) only [S_bestOfTwo_L23, S_bestOfTwo_B23, M_bestOfTwo_L44, M_bestOfTwo_B44, ch_c hX hT, ch_m hX hJ, Option.bind_some, iN_le, if_pos (Nat.le_refl _), if_neg c0, if_pos c1, b3, w1]
            exact Bo.mk ⟨rfl, hS, hL.1, hL.2.1.tr w2⟩
          · obtain ⟨J2, w1, w2⟩ := ch_code (F := F) hX hT (by omega) b2 (show m2 < 6 by omega) hJ b7
            simp (disch := omega) only [S_bestOfTwo_L23, S_bestOfTwo_B23, M_bestOfTwo_L44, M_bestOfTwo_B44, ch_c hX hT, ch_m hX hJ, Option.bind_some, iN_le, if_pos (Nat.le_refl _), if_neg c0, if_neg c1, b4, w1]
            exact Bo.mk ⟨rfl, hS, hL.1, hL.2.1.tr w2⟩
theorem Cpl.tl (h : Cpl X b e l T tx S Q V J) : TL X l V J V J := ⟨vG.rf, nG.rf, h.2.2.1, h.2.2.2.1.1, h.2.2.2.1.2⟩
/-- two men, one not the other -/
theorem two_c (hX : TxV X) (hT : TxT T tx X b e) (hJ : TxJ J l X) (a c : Int32) : (∃ m m2, m < xm X ∧ m2 < xm X ∧ m ≠ m2 ∧ a = iN m ∧ c = iN m2 ∧ S_areTwo T tx a c = some 1) ∨ (S_areTwo T tx a c = some 0 ∧ (M_isMan J a = some 0 ∨ (M_isMan J a = some 1 ∧ M_isMan J c = some 0) ∨ (M_isMan J a = some 1 ∧ M_isMan J c = some 1 ∧ a = c))) := by
  have hm6 := hX.1.2.2.2.2.1
  have z10 : ¬ (1 : Int32) = 0 := by decide
  by_cases ha : idx a (xm X)
  · obtain ⟨m, hm, rfl⟩ := ha
    by_cases hc : idx c (xm X)
    · obtain ⟨m2, hm2, rfl⟩ := hc
      by_cases hq : m = m2
      · subst hq
        exact Or.inr ⟨by simp only [S_areTwo, sm_y hX hT hm, Option.bind_some, if_neg z10, if_true], Or.inr (Or.inr ⟨mm_y hX hJ hm, mm_y hX hJ hm, rfl⟩)⟩
      · refine Or.inl ⟨m, m2, hm, hm2, hq, rfl, rfl, ?_⟩
        simp (disch := omega) only [S_areTwo, sm_y hX hT hm, sm_y hX hT hm2, Option.bind_some, if_neg z10, iN_eq, if_neg hq]
    · exact Or.inr ⟨by simp only [S_areTwo, sm_y hX hT hm, sm_n hX hT hc, Option.bind_some, if_neg z10, if_true], Or.inr (Or.inl ⟨mm_y hX hJ hm, mm_n hX hJ hc⟩)⟩
  · exact Or.inr ⟨by simp only [S_areTwo, sm_n hX hT ha, Option.bind_some, if_true], Or.inl (mm_n hX hJ ha)⟩
theorem q_bestOfTwo (h : Cpl X b e l T tx S Q V J) (hF : 900 ≤ F) (a c w : Int32) : ∃ r S1 V1 J1, S_bestOfTwo F T tx a c w S V = some (r, S1, V1) ∧ M_bestOfTwo F a c w J = some (r, J1) ∧ Cpl X b e l T tx S1 Q V1 J1 := by
  have h0 := h
  obtain ⟨hX, hT, hJ, ⟨hR, hV⟩, _⟩ := h
  have hm6 := hX.1.2.2.2.2.1
  have hn := nch_le hX
  have z10 : ¬ (1 : Int32) = 0 := by decide
  rcases two_c hX hT hJ a c with ⟨m, m2, hm, hm2, hne, rfl, rfl, ht⟩ | ⟨ht, hq⟩
  · rcases in_c (a := w) (c := 0) (d := 2) with ⟨i1, i2⟩ | ⟨i1, i2, i3, i4⟩
    · refine ⟨-1, S, V, J, ?_, ?_, h0⟩
      · simp only [S_bestOfTwo, ht, Option.bind_some, if_neg z10, i1, if_true]
      · simp (disch := omega) only [M_bestOfTwo, mm_y hX hJ hm, mm_y hX hJ hm2, Option.bind_some, if_neg z10, iN_eq, if_neg hne, i2, if_true]
    · obtain ⟨x, y, e1, e2, e3, e4, e5, e6⟩ := b2_out (w := w) hX hT hF hm hm2 F 0 S V J (-1) 0 0 (by omega) (by omega) h0.tl sG.rf (Or.inl ⟨rfl, rfl, rfl⟩)
      refine ⟨x.1, x.2.1, x.2.2, y.2, ?_, ?_, h0.tr e4 e5 e6⟩
      · simp only [S_bestOfTwo, ht, Option.bind_some, if_neg z10, i1]
        rw [i_0, e1]
      · have : M_bestOfTwo F (iN m) (iN m2) w J = M_bestOfTwo_L44 F F (iN m) (iN m2) w (-1) 0 0 (iN 0) J := by
          simp (disch := omega) only [M_bestOfTwo, mm_y hX hJ hm, mm_y hX hJ hm2, Option.bind_some, if_neg z10, iN_eq, if_neg hne, i2]
          rfl
        rw [this, e2, e3]
  · refine ⟨-1, S, V, J, ?_, ?_, h0⟩
    · simp only [S_bestOfTwo, ht, Option.bind_some, if_true]
    · rcases hq with q1 | ⟨q1, q2⟩ | ⟨q1, q2, q3⟩
      · simp only [M_bestOfTwo, q1, Option.bind_some, if_true]
      · simp only [M_bestOfTwo, q1, q2, Option.bind_some, if_neg z10, if_true]
      · simp only [M_bestOfTwo, q1, q2, Option.bind_some, if_neg z10, if_pos q3]
/-! tools hidden -/
theorem VR.tool (hX : TxV X) {C : Ji} {J : Ji} {t : Nat} {x : Int32} (ht : t < xt X) (h : VR X C (J 48)) : VR X (uJ C 11 t x) (uJ J 48 (72 + t) x 48) := by
  obtain ⟨h1, h2, h3, h4, h5, h6⟩ := h
  have hm6 := hX.1.2.2.2.2.1
  have hk6 := hX.1.2.2.2.1
  have ht6 := hX.1.2.2.1
  refine ⟨fun k hk => ?_, fun k s hk hs => ?_, fun m' hm' => ?_, fun t' ht' => ?_, ?_, ?_⟩
  · simp (disch := omega) only [uJ_o, uJ_sn]; exact h1 k hk
  · have := (hX.2.2.2.1 k hk).2.2
    simp (disch := omega) only [uJ_o, uJ_sn]; exact h2 k s hk hs
  · simp (disch := omega) only [uJ_o, uJ_sn]; exact h3 m' hm'
  · by_cases c : t' = t
    · subst c
      rw [uJ_ss, uJ_ss]
    · simp (disch := omega) only [uJ_sn]; exact h4 t' ht'
  · simp (disch := omega) only [uJ_o, uJ_sn]; exact h5
  · simp (disch := omega) only [uJ_o, uJ_sn]; exact h6
theorem VV.tool (hX : TxV X) {J : Ji} {t : Nat} {x : Int32} (ht : t < xt X) (hx : (∃ r, r < xr X ∧ x = iN r) ∨ ∃ m, m < xm X ∧ x = iN (100 + m)) (h : VV X (J 48)) : VV X (uJ J 48 (72 + t) x 48) := by
  obtain ⟨⟨w, h1, h2⟩, h3, h4, h5⟩ := h
  have hm6 := hX.1.2.2.2.2.1
  have hk6 := hX.1.2.2.2.1
  have ht6 := hX.1.2.2.1
  refine ⟨⟨w, fun k hk => ?_, fun k s hk hs => ?_⟩, fun m' hm' => ?_, fun t' ht' => ?_, ?_⟩
  · simp (disch := omega) only [uJ_sn]; exact h1 k hk
  · have := (hX.2.2.2.1 k hk).2.2
    simp (disch := omega) only [uJ_sn]; exact h2 k s hk hs
  · simp (disch := omega) only [uJ_sn]; exact h3 m' hm'
  · by_cases c : t' = t
    · subst c
      rw [uJ_ss]; exact hx
    · simp (disch := omega) only [uJ_sn]; exact h4 t' ht'
  · simp (disch := omega) only [uJ_sn]; exact h5
/-- something found, and the most of it, so far -/
def Fdn (i : Nat) (fo : Int32) : Prop := (i = 0 ∧ fo = -1) ∨ (0 < i ∧ ∃ p, p < 100000 ∧ fo = iN p)
theorem hd_L (hX : TxV X) (hT : TxT T tx X b e) (hF : 900 ≤ F) {V0 : Nat → Ji} {J0 : Ji} {t : Nat} {w : Int32} (ht : t < xt X) : ∀ n i V J most fo, xr X + xm X < n + i → i ≤ xr X + xm X → TL X l V0 J0 V J → Fdn i fo → Bo (S_hide_L48 F T tx n (iN t) w most fo (iN (xr X)) (iN i) V) (M_hide_L39 F n (iN t) w fo most (iN i) J) (fun x y => x.1 = y.1 ∧ vG V0 x.2 ∧ nG J0 y.2) := by
  have hm6 := hX.1.2.2.2.2.1
  have hr8 := hX.1.1
  have ht6 := hX.1.2.2.1
  intro n
  induction n with
  | zero => intro i V J most fo h1 h2; omega
  | succ n ih =>
    intro i V J most fo h1 h2 hL hfo
    have hJ := hL.2.2.1
    have hl := hJ.l2
    have ei : iN i + 1 = iN (i + 1) := by rw [i_1, iN_add]
    by_cases hi : i < xr X + xm X
    · obtain ⟨x, hx1, hx2, hx3⟩ : ∃ x p, x = iN p ∧ p < 100000 ∧ ((∃ r, r < xr X ∧ x = iN r) ∨ ∃ m, m < xm X ∧ x = iN (100 + m)) ∧ (if iN (xr X) ≤ iN i then (100 + iN i) - iN (xr X) else iN i) = x := by
        by_cases c : xr X ≤ i
        · refine ⟨iN (100 + (i - xr X)), 100 + (i - xr X), rfl, by omega, Or.inr ⟨i - xr X, by omega, rfl⟩, ?_⟩
          rw [if_pos (by rw [iN_le (by omega) (by omega)]; exact c), i_100, iN_add, iN_sub (by omega), show 100 + i - xr X = 100 + (i - xr X) by omega]
        · refine ⟨iN i, i, rfl, by omega, Or.inl ⟨i, by omega, rfl⟩, ?_⟩
          rw [if_neg (by rw [iN_le (by omega) (by omega)]; exact c)]
      obtain ⟨hp1, hp2, hx4⟩ := hx3
      obtain ⟨J1, e1, e2, e3, e4, e5, _⟩ := tr_takes hX hF hJ hL.2.2.2.1 hL.2.2.2.2
      have g2 : nF J1 (uJ J1 48 (72 + t) x) := nF.r (fun o ho => uJ_o ho)
      obtain ⟨g, C2, J2, n1, n2, n3, n4, n5⟩ := tr_night (V := vf_upd (vf_upd V 1 (V_takes (V 0) (V 1))) 1 (uJ (vf_upd V 1 (V_takes (V 0) (V 1)) 1) 11 t x)) hX hF hT (g2.tx hX e3) (by rw [vf_self]; exact e4.tool hX ht) (e5.tool hX ht hp2)
      have hL1 := hL.go hX ((vG.u.tr vG.u).tr vG.u) ((e2.tr g2).tr n4).g (V1 := vf_upd (vf_upd (vf_upd V 1 (V_takes (V 0) (V 1))) 1 (uJ (vf_upd V 1 (V_takes (V 0) (V 1)) 1) 11 t x)) 1 C2)
      have hC : S_hide_L48 F T tx (n + 1) (iN t) w most fo (iN (xr X)) (iN i) V = S_hide_B86 F (S_hide_L48 F T tx n) T tx (iN t) w most fo (iN (xr X)) (iN i) x V := by
        rw [← hx4]
        simp (disch := omega) only [S_hide_L48, S_hide_B48, hT.r4, Option.bind_some, hT.z4, iN_add, iN_le, if_neg (show ¬ xr X + xm X ≤ i by omega)]
        by_cases c : xr X ≤ i
        · rw [if_pos c, if_pos c]
        · rw [if_neg c, if_neg c]
      have hM : M_hide_L39 F (n + 1) (iN t) w fo most (iN i) J = M_hide_B92 F (M_hide_L39 F n) (iN t) w fo most (iN i) x J := by
        rw [← hx4]
        simp (disch := omega) only [M_hide_L39, M_hide_B39, hJ.lv, ldI_n, hJ.r, hJ.men, Option.bind_some, iN_add, iN_le, if_neg (show ¬ xr X + xm X ≤ i by omega)]
        by_cases c : xr X ≤ i
        · rw [if_pos c, if_pos c]
        · rw [if_neg c, if_neg c]
      rw [hC, hM]
      have hgo := ih (i + 1) _ J2 g x (by omega) (by omega) hL1 (Or.inr ⟨by omega, hx1, hp1, hx2⟩)
      rcases hfo with ⟨b1, b2⟩ | ⟨b1, p, b2, b3⟩
      · have y1 : fo < 0 := by rw [b2]; decide
        simp (disch := omega) only [S_hide_B86, S_hide_B130, M_hide_B92, M_hide_B129, lt_e, stV_n, n1, Option.bind_some, if_pos y1, e1, i_72, iN_add, stI_n, n3, ei]
        exact hgo
      · have y1 : ¬ fo < 0 := by rw [b3, i_0, iN_lt (by omega) (by omega)]; omega
        by_cases cg : most < g
        · simp (disch := omega) only [S_hide_B86, S_hide_B130, M_hide_B92, M_hide_B129, lt_e, stV_n, n1, Option.bind_some, if_neg y1, if_pos cg, e1, i_72, iN_add, stI_n, n3, ei]
          exact hgo
        · simp (disch := omega) only [S_hide_B86, M_hide_B92, lt_e, stV_n, n1, Option.bind_some, if_neg y1, if_neg cg, e1, i_72, iN_add, stI_n, n3, ei]
          exact ih (i + 1) _ J2 most fo (by omega) (by omega) hL1 (Or.inr ⟨by omega, p, b2, b3⟩)
    · have : i = xr X + xm X := by omega
      subst this
      by_cases c0 : w = 0
      · simp (disch := omega) only [S_hide_L48, S_hide_B48, M_hide_L39, M_hide_B39, hT.r4, Option.bind_some, hT.z4, hJ.lv, ldI_n, hJ.r, hJ.men, iN_add, iN_le, if_pos (Nat.le_refl _), if_pos c0]
        exact Bo.mk ⟨rfl, hL.1, hL.2.1⟩
      · simp (disch := omega) only [S_hide_L48, S_hide_B48, M_hide_L39, M_hide_B39, hT.r4, Option.bind_some, hT.z4, hJ.lv, ldI_n, hJ.r, hJ.men, iN_add, iN_le, if_pos (Nat.le_refl _), if_neg c0]
        exact Bo.mk ⟨rfl, hL.1, hL.2.1⟩
theorem q_hide (h : Cpl X b e l T tx S Q V J) (hF : 900 ≤ F) (a w : Int32) : ∃ r V1 J1, S_hide F T tx a w V = some (r, V1) ∧ M_hide F a w J = some (r, J1) ∧ Cpl X b e l T tx S Q V1 J1 := by
  have h0 := h
  obtain ⟨hX, hT, hJ, ⟨hR, hV⟩, _⟩ := h
  have hm6 := hX.1.2.2.2.2.1
  have hr8 := hX.1.1
  have ht6 := hX.1.2.2.1
  have hl := hJ.l2
  have z10 : ¬ (1 : Int32) = 0 := by decide
  by_cases ha : idx a (xt X)
  · obtain ⟨t, ht, rfl⟩ := ha
    rcases in_c (a := w) (c := 0) (d := 1) with ⟨i1, i2⟩ | ⟨i1, i2, i3, i4⟩
    · refine ⟨-1, V, J, ?_, ?_, h0⟩
      · simp (disch := omega) only [S_hide, hT.r2, hT.z2, Option.bind_some, i1_y ht, if_neg z10, i1, if_true]
      · simp only [M_hide, mt_y hX hJ ht, Option.bind_some, if_neg z10, i2, if_true]
    · have hr : 0 < xr X := by have := hX.2.2.1 t ht; omega
      obtain ⟨x, y, e1, e2, e3, e4, e5⟩ := hd_L (w := w) hX hT hF ht F 0 V J 0 (-1) (by omega) (by omega) h0.tl (Or.inl ⟨rfl, rfl⟩)
      refine ⟨x.1, x.2, y.2, ?_, ?_, h0.tr sG.rf e4 e5⟩
      · have : S_hide F T tx (iN t) w V = S_hide_L48 F T tx F (iN t) w 0 (-1) (iN (xr X)) (iN 0) V := by
          simp (disch := omega) only [S_hide, hT.r2, hT.z2, Option.bind_some, i1_y ht, if_neg z10, i1, hT.r0, hT.z0]
          rfl
        rw [this, e1]
      · have : M_hide F (iN t) w J = M_hide_L39 F F (iN t) w (-1) 0 (iN 0) J := by
          simp (disch := omega) only [M_hide, mt_y hX hJ ht, Option.bind_some, if_neg z10, i2, hJ.lv, ldI_n, hJ.r, if_neg (show ¬ iN (xr X) = 0 by rw [i_0, iN_eq (by omega) (by omega)]; omega)]
          rfl
        rw [this, e2, e3]
  · refine ⟨-1, V, J, ?_, ?_, h0⟩
    · simp (disch := omega) only [S_hide, hT.r2, hT.z2, Option.bind_some, i1_n ha, if_true]
    · simp only [M_hide, mt_n hX hJ ha, Option.bind_some, if_true]
/-! where, how far -/
theorem vr_ways (hX : TxV X) {C C1 : Ji} {v : Nat → Int32} (h : VR X C v) (hc : ∀ o, (o < 16 ∨ 24 ≤ o) → C1 o = C o) : VR X C1 v := h.cc hX (fun o i h1 h2 _ => by rw [hc o (by omega)]) (by rw [hc 0 (by omega)]) (by rw [hc 0 (by omega)])
theorem q_where (h : Cpl X b e l T tx S Q V J) (hF : 900 ≤ F) (a w : Int32) : ∃ r V1 J1, S_where F T tx a w V = some (r, V1) ∧ M_where F a w J = some (r, J1) ∧ Cpl X b e l T tx S Q V1 J1 := by
  have h0 := h
  obtain ⟨hX, hT, hJ, ⟨hR, hV⟩, _⟩ := h
  have hm6 := hX.1.2.2.2.2.1
  have hk6 := hX.1.2.2.2.1
  have hr8 := hX.1.1
  have hn6 := hX.1.2.2.2.2.2.2
  have hl := hJ.l2
  have z10 : ¬ (1 : Int32) = 0 := by decide
  by_cases ha : idx a (xm X)
  · obtain ⟨m, hm, rfl⟩ := ha
    rcases in_c (a := w) (c := 0) (d := iN (xn X)) with ⟨i1, i2⟩ | ⟨i1, i2, i3, i4⟩
    · refine ⟨-1, V, J, ?_, ?_, h0⟩
      · simp only [S_where, S_isMinute, sm_y hX hT hm, Option.bind_some, if_neg z10, hT.n, i1, bz_0, if_true]
      · simp (disch := omega) only [M_where, mm_y hX hJ hm, Option.bind_some, if_neg z10, hJ.lv, ldI_n, hJ.n, i2, if_true]
    · obtain ⟨J1, e1, e2, e3⟩ := tk_m (F := F) (by omega) J
      have hJ1 := (nG.r e2).tx hX hJ
      obtain ⟨C2, J2, w1, w2, w3, w4, w5⟩ := pl_ways (F := F) (C := V 0) hX hT hJ1 (by omega) (by rw [e3 78 (by omega)]; exact hR.2.2.2.2.1)
      have hnG : nG J J2 := (nG.r e2).tr ⟨fun o o1 o2 => w5 o (by omega), fun i _ _ => by rw [w5 0 (by omega)]⟩
      have hJ2 := hnG.tx hX hJ
      have v42 : J2 48 (42 + m) = J 47 (42 + m) := by rw [w5 48 (by omega), e3 _ (by omega)]
      have x1 := (hX.2.2.2.2.2 m hm).1
      have w30 := (hJ2.2.2.2.2.2 m hm).1
      have hr1 := (hR.2.2.1 m hm).1
      rcases hV.2.1 m hm with ⟨q1, q2⟩ | ⟨k, s, hk, hs, q1, q2⟩
      · rw [q1, onC_m] at hr1
        refine ⟨iN (tb X 30 m), V, J2, ?_, ?_, h0.fr sG.rf (fun _ _ _ => rfl) hR hnG⟩
        · simp (disch := omega) only [S_where, S_isMinute, sm_y hX hT hm, Option.bind_some, if_neg z10, hT.n, i1, bz_1, hT.r4, hT.g4 hm, hT.cm hm, hT.m1 hm, ldI_n, hr1, if_neg (show ¬ (0 : Int32) ≤ iM 2 by decide)]
        · simp (disch := omega) only [M_where, mm_y hX hJ hm, Option.bind_some, if_neg z10, hJ.lv, ldI_n, hJ.n, i2, e1, w2, i_6, hJ2.lv, iN_mul, iN_add, w30, i_42, v42, q1, if_neg (show ¬ (0 : Int32) ≤ iM 1 by decide)]
      · rw [q1, onC_n (by omega)] at hr1
        have n1 : (0 : Int32) ≤ iN k := by rw [i_0, iN_le (by omega) (by omega)]; omega
        have x3 := (hX.2.2.2.1 k hk).1
        have w20 := (hJ2.2.2.2.1 k hk).1
        have hway := w3.1 (tb X 30 m) (tb X 20 k) x1 x3
        have hV0 : ∀ o : Ji, vf_upd V 0 o 0 = o := fun o => vf_self _ _ _
        by_cases cc : w < J2 49 (8 * tb X 30 m + tb X 20 k)
        · refine ⟨iN (tb X 30 m), vf_upd V 0 C2, J2, ?_, ?_, h0.fr sG.rf (fun k k0 _ => vf_ne _ _ k0) (by rw [vf_self]; exact vr_ways hX hR w4) hnG⟩
          · simp (disch := omega) only [S_where, S_isMinute, sm_y hX hT hm, Option.bind_some, if_neg z10, hT.n, i1, bz_1, hT.r4, hT.g4 hm, hT.cm hm, hT.m1 hm, ldI_n, hr1, if_pos n1, w1, hT.r3, hT.g3 hk, hT.ck hk, hT.k1 hk, ix_n, hV0, hway, if_pos cc]
          · have e8 : (8 : Int32) = iN 8 := rfl
            simp (disch := omega) only [M_where, mm_y hX hJ hm, Option.bind_some, if_neg z10, hJ.lv, ldI_n, hJ.n, i2, e1, w2, i_6, hJ2.lv, iN_mul, iN_add, w30, i_42, v42, q1, if_pos n1, w20, e8, if_pos cc]
        · refine ⟨iN (tb X 20 k), vf_upd V 0 C2, J2, ?_, ?_, h0.fr sG.rf (fun k k0 _ => vf_ne _ _ k0) (by rw [vf_self]; exact vr_ways hX hR w4) hnG⟩
          · simp (disch := omega) only [S_where, S_isMinute, sm_y hX hT hm, Option.bind_some, if_neg z10, hT.n, i1, bz_1, hT.r4, hT.g4 hm, hT.cm hm, hT.m1 hm, ldI_n, hr1, if_pos n1, w1, hT.r3, hT.g3 hk, hT.ck hk, hT.k1 hk, ix_n, hV0, hway, if_neg cc]
          · have e8 : (8 : Int32) = iN 8 := rfl
            simp (disch := omega) only [M_where, mm_y hX hJ hm, Option.bind_some, if_neg z10, hJ.lv, ldI_n, hJ.n, i2, e1, w2, i_6, hJ2.lv, iN_mul, iN_add, w30, i_42, v42, q1, if_pos n1, w20, e8, if_neg cc]
  · refine ⟨-1, V, J, ?_, ?_, h0⟩
    · simp only [S_where, sm_n hX hT ha, Option.bind_some, if_true]
    · simp only [M_where, mm_n hX hJ ha, Option.bind_some, if_true]
theorem q_strokes (h : Cpl X b e l T tx S Q V J) (hF : 900 ≤ F) (a w : Int32) : ∃ r V1 J1, S_strokes F T tx a w V = some (r, V1) ∧ M_strokes F a w J = some (r, J1) ∧ Cpl X b e l T tx S Q V1 J1 := by
  have h0 := h
  obtain ⟨hX, hT, hJ, ⟨hR, hV⟩, _⟩ := h
  have hm6 := hX.1.2.2.2.2.1
  have hn6 := hX.1.2.2.2.2.2.2
  have hl := hJ.l2
  have z10 : ¬ (1 : Int32) = 0 := by decide
  by_cases ha : idx a (xm X)
  · obtain ⟨m, hm, rfl⟩ := ha
    rcases in_c (a := w) (c := 0) (d := iN (xn X)) with ⟨i1, i2⟩ | ⟨i1, i2, i3, i4⟩
    · refine ⟨-1, V, J, ?_, ?_, h0⟩
      · simp only [S_strokes, S_isMinute, sm_y hX hT hm, Option.bind_some, if_neg z10, hT.n, i1, bz_0, if_true]
      · simp (disch := omega) only [M_strokes, mm_y hX hJ hm, Option.bind_some, if_neg z10, hJ.lv, ldI_n, hJ.n, i2, if_true]
    · obtain ⟨E, hE, rfl⟩ := in_n (by omega) i3 i4
      obtain ⟨J1, e1, e2, e3, e4, e5, _⟩ := tr_takes hX hF hJ hR hV
      obtain ⟨C2, J2, s1, s2, s3, s4⟩ := pl_strokes hX hF hT e3 e4 e5 hE
      rw [vf_self] at s1
      refine ⟨J2 55 m, vf_upd (vf_upd V 1 (V_takes (V 0) (V 1))) 1 C2, J2, ?_, ?_, h0.tr sG.rf (vG.u.tr vG.u) (e2.tr s3).g⟩
      · simp (disch := omega) only [S_strokes, S_isMinute, sm_y hX hT hm, Option.bind_some, if_neg z10, hT.n, i1, bz_1, lt_e, s1, vf_self, ldI_n, s4 m hm]
      · simp (disch := omega) only [M_strokes, mm_y hX hJ hm, Option.bind_some, if_neg z10, hJ.lv, ldI_n, hJ.n, i2, e1, s2]
  · refine ⟨-1, V, J, ?_, ?_, h0⟩
    · simp only [S_strokes, sm_n hX hT ha, Option.bind_some, if_true]
    · simp only [M_strokes, mm_n hX hJ ha, Option.bind_some, if_true]
end EV
