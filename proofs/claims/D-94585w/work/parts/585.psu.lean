/-! PURE LAW 15: bars, suspicions -/
set_option maxRecDepth 100000
section SU
variable {T : Th} {tx : Nat} {X : Xt} {b : Nat → Nat} {e : Nat → Nat → Nat} {l F : Nat} {S Q : Ji} {V : Nat → Ji} {J : Ji}
theorem VR.shut (hX : TxV X) {C : Ji} {J : Ji} {x : Int32} (h : VR X C (J 48)) : VR X (uJ C 0 8 x) (uJ J 48 78 x 48) := by
  obtain ⟨h1, h2, h3, h4, h5, h6⟩ := h
  have hm6 := hX.1.2.2.2.2.1
  have hk6 := hX.1.2.2.2.1
  have ht6 := hX.1.2.2.1
  refine ⟨fun k hk => ?_, fun k s hk hs => ?_, fun m' hm' => ?_, fun t' ht' => ?_, ?_, ?_⟩
  · simp (disch := omega) only [uJ_o, uJ_sn]; exact h1 k hk
  · have := (hX.2.2.2.1 k hk).2.2
    simp (disch := omega) only [uJ_o, uJ_sn]; exact h2 k s hk hs
  · simp (disch := omega) only [uJ_o, uJ_sn]; exact h3 m' hm'
  · simp (disch := omega) only [uJ_o, uJ_sn]; exact h4 t' ht'
  · rw [uJ_ss, uJ_ss]
  · simp (disch := omega) only [uJ_o, uJ_sn]; exact h6
theorem VV.shut (hX : TxV X) {J : Ji} {s : Nat} (hs : s < 4096) (h : VV X (J 48)) : VV X (uJ J 48 78 (iN s) 48) := by
  obtain ⟨⟨w, h1, h2⟩, h3, h4, h5⟩ := h
  have hm6 := hX.1.2.2.2.2.1
  have hk6 := hX.1.2.2.2.1
  have ht6 := hX.1.2.2.1
  refine ⟨⟨w, fun k hk => ?_, fun k s hk hs => ?_⟩, fun m' hm' => ?_, fun t' ht' => ?_, ⟨s, hs, uJ_ss⟩⟩
  · simp (disch := omega) only [uJ_sn]; exact h1 k hk
  · have := (hX.2.2.2.1 k hk).2.2
    simp (disch := omega) only [uJ_sn]; exact h2 k s hk hs
  · simp (disch := omega) only [uJ_sn]; exact h3 m' hm'
  · simp (disch := omega) only [uJ_sn]; exact h4 t' ht'
theorem br_L (hX : TxV X) (hT : TxT T tx X b e) (hF : 900 ≤ F) {V0 : Nat → Ji} {J0 : Ji} {w : Int32} : ∀ n i V J most be, 2 ^ xd X < n + i → i ≤ 2 ^ xd X → TL X l V0 J0 V J → ((i = 0 ∧ be = -1) ∨ (∃ p, p < 4096 ∧ be = iN p)) → Bo (S_bars_L18 F T tx n w most be (iN i) V) (M_bars_L18 F n w be most (iN i) J) (fun x y => x.1 = y.1 ∧ vG V0 x.2 ∧ nG J0 y.2) := by
  have hd12 := hX.1.2.1
  have hp := p2_le hd12
  intro n
  induction n with
  | zero => intro i V J most be h1 h2; omega
  | succ n ih =>
    intro i V J most be h1 h2 hL hbe
    have hJ := hL.2.2.1
    have hl := hJ.l2
    have ei : iN i + 1 = iN (i + 1) := by rw [i_1, iN_add]
    by_cases hi : i < 2 ^ xd X
    · obtain ⟨J1, e1, e2, e3, e4, e5, _⟩ := tr_takes hX hF hJ hL.2.2.2.1 hL.2.2.2.2
      have g2 : nF J1 (uJ J1 48 78 (iN i)) := nF.r (fun o ho => uJ_o ho)
      obtain ⟨g, C2, J2, n1, n2, n3, n4, n5⟩ := tr_night (V := vf_upd (vf_upd V 1 (V_takes (V 0) (V 1))) 1 (uJ (vf_upd V 1 (V_takes (V 0) (V 1)) 1) 0 8 (iN i))) hX hF hT (g2.tx hX e3) (by rw [vf_self]; exact e4.shut hX) (e5.shut hX (by omega))
      have hL1 := hL.go hX ((vG.u.tr vG.u).tr vG.u) ((e2.tr g2).tr n4).g (V1 := vf_upd (vf_upd (vf_upd V 1 (V_takes (V 0) (V 1))) 1 (uJ (vf_upd V 1 (V_takes (V 0) (V 1)) 1) 0 8 (iN i))) 1 C2)
      have hgo := ih (i + 1) _ J2 g (iN i) (by omega) (by omega) hL1 (Or.inr ⟨i, by omega, rfl⟩)
      have hst : ∀ be', ((i + 1 = 0 ∧ be' = -1) ∨ (∃ p, p < 4096 ∧ be' = iN p)) → _ := fun be' hb => ih (i + 1) _ J2 most be' (by omega) (by omega) hL1 hb
      rcases hbe with ⟨b1, b2⟩ | ⟨p, b2, b3⟩
      · have y1 : be < 0 := by rw [b2]; decide
        simp (disch := omega) only [S_bars_L18, S_bars_B18, S_bars_B92, M_bars_L18, M_bars_B18, M_bars_B84, hT.r1, hT.z1, Option.bind_some, hJ.lv, ldI_n, hJ.d, sh_n, iN_le, if_neg (show ¬ 2 ^ xd X ≤ i by omega), lt_e, n1, if_pos y1, e1, i_78, stI_n, n3, ei]
        exact hgo
      · subst b3
        have y1 : ¬ iN p < 0 := by rw [i_0, iN_lt (by omega) (by omega)]; omega
        by_cases cg : g < most
        · simp (disch := omega) only [S_bars_L18, S_bars_B18, M_bars_L18, M_bars_B18, hT.r1, hT.z1, Option.bind_some, hJ.lv, ldI_n, hJ.d, sh_n, iN_le, if_neg (show ¬ 2 ^ xd X ≤ i by omega), lt_e, n1, if_neg y1, if_pos cg, e1, i_78, stI_n, n3, ei]
          exact hst (iN p) (Or.inr ⟨p, b2, rfl⟩)
        · by_cases ce : g = most
          · have q1 := bm_ok (F := F) (s := i) (by omega) (by omega)
            have q2 := bm_ok (F := F) (s := p) (by omega) b2
            have q3 := bc_ok (s := i) (by omega)
            have q4 := bc_ok (s := p) b2
            rw [q3] at q1
            rw [q4] at q2
            by_cases cb : bsf (iN i) 0 12 0 < bsf (iN p) 0 12 0
            · simp (disch := omega) only [S_bars_L18, S_bars_B18, S_bars_B92, M_bars_L18, M_bars_B18, M_bars_B84, hT.r1, hT.z1, Option.bind_some, hJ.lv, ldI_n, hJ.d, sh_n, iN_le, if_neg (show ¬ 2 ^ xd X ≤ i by omega), lt_e, n1, if_neg y1, if_neg cg, if_pos ce, q1, q2, q3, q4, if_pos cb, e1, i_78, stI_n, n3, ei]
              exact hgo
            · simp (disch := omega) only [S_bars_L18, S_bars_B18, M_bars_L18, M_bars_B18, hT.r1, hT.z1, Option.bind_some, hJ.lv, ldI_n, hJ.d, sh_n, iN_le, if_neg (show ¬ 2 ^ xd X ≤ i by omega), lt_e, n1, if_neg y1, if_neg cg, if_pos ce, q1, q2, q3, q4, if_neg cb, e1, i_78, stI_n, n3, ei]
              exact hst (iN p) (Or.inr ⟨p, b2, rfl⟩)
          · simp (disch := omega) only [S_bars_L18, S_bars_B18, S_bars_B92, M_bars_L18, M_bars_B18, M_bars_B84, hT.r1, hT.z1, Option.bind_some, hJ.lv, ldI_n, hJ.d, sh_n, iN_le, if_neg (show ¬ 2 ^ xd X ≤ i by omega), lt_e, n1, if_neg y1, if_neg cg, if_neg ce, e1, i_78, stI_n, n3, ei]
            exact hgo
    · have : i = 2 ^ xd X := by omega
      subst this
      by_cases c0 : w = 0
      · simp (disch := omega) only [S_bars_L18, S_bars_B18, M_bars_L18, M_bars_B18, hT.r1, hT.z1, Option.bind_some, hJ.lv, ldI_n, hJ.d, sh_n, iN_le, if_pos (Nat.le_refl _), if_pos c0]
        exact Bo.mk ⟨rfl, hL.1, hL.2.1⟩
      · simp (disch := omega) only [S_bars_L18, S_bars_B18, M_bars_L18, M_bars_B18, hT.r1, hT.z1, Option.bind_some, hJ.lv, ldI_n, hJ.d, sh_n, iN_le, if_pos (Nat.le_refl _), if_neg c0]
        exact Bo.mk ⟨rfl, hL.1, hL.2.1⟩
theorem q_bars (h : Cpl X b e l T tx S Q V J) (hF : 4200 ≤ F) (w : Int32) : ∃ r V1 J1, S_bars F T tx w V = some (r, V1) ∧ M_bars F w J = some (r, J1) ∧ Cpl X b e l T tx S Q V1 J1 := by
  have h0 := h
  obtain ⟨hX, hT, hJ, ⟨hR, hV⟩, _⟩ := h
  have hd12 := hX.1.2.1
  have hp := p2_le hd12
  have z10 : ¬ (1 : Int32) = 0 := by decide
  rcases in_c (a := w) (c := 0) (d := 1) with ⟨i1, i2⟩ | ⟨i1, i2, i3, i4⟩
  · refine ⟨-1, V, J, ?_, ?_, h0⟩
    · simp only [S_bars, i1, Option.bind_some, if_true]
    · simp only [M_bars, i2, Option.bind_some, if_true]
  · obtain ⟨x, y, e1, e2, e3, e4, e5⟩ := br_L (F := F) (w := w) hX hT (by omega) F 0 V J 0 (-1) (by omega) (Nat.zero_le _) h0.tl (Or.inl ⟨rfl, rfl⟩)
    refine ⟨x.1, x.2, y.2, ?_, ?_, h0.tr sG.rf e4 e5⟩
    · have : S_bars F T tx w V = S_bars_L18 F T tx F w 0 (-1) (iN 0) V := by
        simp only [S_bars, i1, Option.bind_some, if_neg z10]
        rfl
      rw [this, e1]
    · have : M_bars F w J = M_bars_L18 F F w (-1) 0 (iN 0) J := by
        simp only [M_bars, i2, Option.bind_some, if_neg z10]
        rfl
      rw [this, e2, e3]
/-! what is known -/
def ToldI (X : Xt) (S J : Ji) (n : Nat) : Prop := ∀ i, i < n → S 184 i = J 58 i ∧ S 185 i = J 59 i ∧ S 186 i = J 60 i ∧ ∃ k s, k < xk X ∧ s < xs X k ∧ J 58 i = iN k ∧ J 59 i = iN s
theorem ToldI.g {S J J1 : Ji} {n : Nat} (h : ToldI X S J n) (hJ : nG J J1) : ToldI X S J1 n := fun i hi => by
  rw [hJ.1 58 (by omega) (by omega), hJ.1 59 (by omega) (by omega), hJ.1 60 (by omega) (by omega)]
  exact h i hi
theorem so_L (hX : TxV X) {N k : Nat} {V : Nat → Ji} {J : Ji} (hN : N ≤ 30) (hk : k ≤ N) (hI : ToldI X S J N) (hR : VR X (V 1) (J 48)) : ∀ n i, k < n + i → i ≤ k → ∃ r, (S_isSo_L13 F T tx S n (iN k) (iN i) V = some (r, V)) ∧ M_isSo_L7 F n (iN k) (iN i) J = some (r, J) ∧ (r = 0 ∨ r = 1) := by
  have hk6 := hX.1.2.2.2.1
  intro n
  induction n with
  | zero => intro i h1 h2; omega
  | succ n ih =>
    intro i h1 h2
    by_cases hi : i < k
    · obtain ⟨t1, t2, t3, q, s, hq, hs, t4, t5⟩ := hI i (by omega)
      have hs6 := (hX.2.2.2.1 q hq).2.2
      have hd := hR.2.1 q s hq hs
      have ei : iN i + 1 = iN (i + 1) := by rw [i_1, iN_add]
      by_cases c : J 48 (6 + 6 * q + s) = J 60 i
      · obtain ⟨r, r1, r2, r3⟩ := ih (i + 1) (by omega) (by omega)
        refine ⟨r, ?_, ?_, r3⟩
        · rw [← r1]
          simp (disch := omega) only [S_isSo_L13, S_isSo_B13, iN_le, if_neg (show ¬ k ≤ i by omega), ldI_n, t1, t2, t3, t4, t5, ix_n, Option.bind_some, hd, if_pos c, lt_e, ei]
        · rw [← r2]
          simp (disch := omega) only [M_isSo_L7, M_isSo_B7, iN_le, if_neg (show ¬ k ≤ i by omega), ldI_n, t4, t5, i_6, iN_mul, iN_add, if_pos c, lt_e, ei]
      · refine ⟨0, ?_, ?_, Or.inl rfl⟩
        · simp (disch := omega) only [S_isSo_L13, S_isSo_B13, iN_le, if_neg (show ¬ k ≤ i by omega), ldI_n, t1, t2, t3, t4, t5, ix_n, Option.bind_some, hd, if_neg c]
        · simp (disch := omega) only [M_isSo_L7, M_isSo_B7, iN_le, if_neg (show ¬ k ≤ i by omega), ldI_n, t4, t5, i_6, iN_mul, iN_add, if_neg c]
    · have : i = k := by omega
      subst this
      refine ⟨1, ?_, ?_, Or.inr rfl⟩
      · simp (disch := omega) only [S_isSo_L13, S_isSo_B13, iN_le, if_pos (Nat.le_refl _)]
      · simp (disch := omega) only [M_isSo_L7, M_isSo_B7, iN_le, if_pos (Nat.le_refl _)]
theorem q_so (hX : TxV X) (hT : TxT T tx X b e) (hF : 900 ≤ F) {N k : Nat} {V : Nat → Ji} {J : Ji} (hN : N ≤ 30) (hk : k ≤ N) (hI : ToldI X S J N) (hJ : TxJ J l X) (hR : VR X (V 1) (J 48)) (hV : VV X (J 48)) : ∃ r V1 J1, S_isSo F T tx S (iN k) V = some (r, V1) ∧ M_isSo F (iN k) J = some (r, J1) ∧ (r = 0 ∨ r = 1) ∧ vG V V1 ∧ nF J J1 := by
  obtain ⟨g, C2, J2, n1, n2, n3, n4, n5⟩ := tr_night hX hF hT hJ hR hV
  obtain ⟨r, r1, r2, r3⟩ := so_L (F := F) (T := T) (tx := tx) (S := S) (V := vf_upd V 1 C2) hX hN hk (hI.g n4.g) (by rw [vf_self]; exact n5) F 0 (by omega) (by omega)
  refine ⟨r, vf_upd V 1 C2, J2, ?_, ?_, r3, vG.u, n4⟩
  · simp only [S_isSo, n2, Option.bind_some, i_0, r1]
  · simp only [M_isSo, n3, Option.bind_some, i_0, r2]
theorem q_fit (hX : TxV X) (hT : TxT T tx X b e) (hF : 900 ≤ F) {N k m i : Nat} {V : Nat → Ji} {J : Ji} (hN : N ≤ 30) (hk : k ≤ N) (hI : ToldI X S J N) (hJ : TxJ J l X) (hR : VR X (V 0) (J 47)) (hV : VV X (J 47)) (hm : m < xm X) (hi : i < nch X) : ∃ o r V1 J1 J2 J3, chV X o ∧ S_choice F T tx (iN i) = some (chC o) ∧ S_isFit F T tx S (iN m) (chC o) (iN k) V = some (r, V1) ∧ M_takes F J = some J1 ∧ M_leaves F (iN m) (iN i) J1 = some (1, J2) ∧ M_isSo F (iN k) J2 = some (r, J3) ∧ (r = 0 ∨ r = 1) ∧ vG V V1 ∧ nF J J2 ∧ nF J J3 ∧ J2 48 (42 + m) = ch1 o ∧ J2 48 (48 + m) = ch2 o := by
  have hm6 := hX.1.2.2.2.2.1
  obtain ⟨o, o1, o2, o3, o4⟩ := ch_i (l := l) (F := F) hX hT (by omega) hi
  obtain ⟨J1, e1, e2, e3, e4, e5, _⟩ := tr_takes hX hF hJ hR hV
  have h4 := o4 J1 m e3 (by omega)
  have ht := ch_then (T := T) (tx := tx) (V := vf_upd V 1 (V_takes (V 0) (V 1))) hX o1 (show m < 6 by omega)
  have g2 : nF J1 (uJ (uJ J1 48 (42 + m) (ch1 o)) 48 (48 + m) (ch2 o)) := nF.r (fun o ho => by rw [uJ_o ho, uJ_o ho])
  obtain ⟨r, V1, J3, q1, q2, q3, q4, q5⟩ := q_so (S := S) (V := vf_upd (vf_upd (vf_upd V 1 (V_takes (V 0) (V 1))) 1 (uJ (vf_upd V 1 (V_takes (V 0) (V 1)) 1) 9 m (onC (ch1 o)))) 1 (uJ (uJ (vf_upd V 1 (V_takes (V 0) (V 1)) 1) 9 m (onC (ch1 o))) 10 m (onC (ch2 o)))) hX hT hF hN hk ((hI.g e2.g).g g2.g) (g2.tx hX e3) (by rw [vf_self]; exact e4.left hX o1 hm) (e5.left hX o1 hm)
  refine ⟨o, r, V1, J1, _, J3, o1, o3, ?_, e1, h4, q2, q3, ((vG.u.tr vG.u).tr vG.u).tr q4, e2.tr g2, (e2.tr g2).tr q5, by rw [uJ_sn (by omega), uJ_ss], uJ_ss⟩
  have hb : bz r = some r := by
    rcases q3 with rfl | rfl
    · rfl
    · rfl
  simp only [S_isFit, lt_e, ht, Option.bind_some, q1, hb]
theorem ft_L (hX : TxV X) (hT : TxT T tx X b e) (hF : 900 ≤ F) {V0 : Nat → Ji} {J0 : Ji} {N k m : Nat} {w : Int32} (hN : N ≤ 30) (hk : k ≤ N) (hm : m < xm X) : ∀ n i V J cnt, nch X < n + i → i ≤ nch X → TL X l V0 J0 V J → ToldI X S J N → Bo (S_fits_L29 F T tx S n (iN m) (iN k) w cnt (iN i) V) (M_fits_L33 F n (iN m) (iN k) w cnt (iN i) J) (fun x y => x.1 = y.1 ∧ vG V0 x.2 ∧ nG J0 y.2) := by
  have hn := nch_le hX
  have hm6 := hX.1.2.2.2.2.1
  intro n
  induction n with
  | zero => intro i V J cnt h1 h2; omega
  | succ n ih =>
    intro i V J cnt h1 h2 hL hI
    have hJ := hL.2.2.1
    have ei : iN i + 1 = iN (i + 1) := by rw [i_1, iN_add]
    have z10 : ¬ (1 : Int32) = 0 := by decide
    by_cases hi : i < nch X
    · obtain ⟨o, r, V1, J1, J2, J3, o1, o2, o3, o4, o5, o6, o7, o8, o9, o10, _, _⟩ := q_fit (S := S) hX hT hF hN hk hI hJ hL.2.2.2.1 hL.2.2.2.2 hm hi
      have hL1 := hL.go hX o8 o10.g
      rcases o7 with rfl | rfl
      · simp (disch := omega) only [S_fits_L29, S_fits_B29, M_fits_L33, M_fits_B33, ch_c hX hT, ch_m hX hJ, Option.bind_some, iN_le, if_neg (show ¬ nch X ≤ i by omega), o2, o3, o4, o5, o6, if_true, lt_e, ei]
        exact ih (i + 1) V1 J3 cnt (by omega) (by omega) hL1 (hI.g o10.g)
      · by_cases c : cnt = w
        · obtain ⟨J4, w1, w2⟩ := ch_code (F := F) hX hT (by omega) hi (show m < 6 by omega) hL1.2.2.1 o2
          simp (disch := omega) only [S_fits_L29, S_fits_B29, M_fits_L33, M_fits_B33, ch_c hX hT, ch_m hX hJ, Option.bind_some, iN_le, if_neg (show ¬ nch X ≤ i by omega), o2, o3, o4, o5, o6, if_neg z10, if_pos c, w1]
          exact Bo.mk ⟨rfl, hL1.1, hL1.2.1.tr w2⟩
        · simp (disch := omega) only [S_fits_L29, S_fits_B29, M_fits_L33, M_fits_B33, ch_c hX hT, ch_m hX hJ, Option.bind_some, iN_le, if_neg (show ¬ nch X ≤ i by omega), o2, o3, o4, o5, o6, if_neg z10, if_neg c, lt_e, ei]
          exact ih (i + 1) V1 J3 _ (by omega) (by omega) hL1 (hI.g o10.g)
    · have : i = nch X := by omega
      subst this
      by_cases c : w = -1
      · simp (disch := omega) only [S_fits_L29, S_fits_B29, M_fits_L33, M_fits_B33, ch_c hX hT, ch_m hX hJ, Option.bind_some, iN_le, if_pos (Nat.le_refl _), if_pos c]
        exact Bo.mk ⟨rfl, hL.1, hL.2.1⟩
      · simp (disch := omega) only [S_fits_L29, S_fits_B29, M_fits_L33, M_fits_B33, ch_c hX hT, ch_m hX hJ, Option.bind_some, iN_le, if_pos (Nat.le_refl _), if_neg c]
        exact Bo.mk ⟨rfl, hL.1, hL.2.1⟩
theorem q_fits (h : Cpl X b e l T tx S Q V J) (hF : 900 ≤ F) (a k w : Int32) : ∃ r V1 J1, S_fits F T tx S a k w V = some (r, V1) ∧ M_fits F a k w J = some (r, J1) ∧ Cpl X b e l T tx S Q V1 J1 := by
  have h0 := h
  obtain ⟨hX, hT, hJ, ⟨hR, hV⟩, _, _, ⟨N, hN, t1, t2, hI⟩, _⟩ := h
  have hn := nch_le hX
  have z10 : ¬ (1 : Int32) = 0 := by decide
  by_cases ha : idx a (xm X)
  · obtain ⟨m, hm, rfl⟩ := ha
    rcases in_c (a := k) (c := 0) (d := iN N) with ⟨i1, i2⟩ | ⟨i1, i2, i3, i4⟩
    · refine ⟨-1, V, J, ?_, ?_, h0⟩
      · simp only [S_fits, S_isKnown, sm_y hX hT hm, Option.bind_some, if_neg z10, t1, i1, bz_0, if_true]
      · simp only [M_fits, mm_y hX hJ hm, Option.bind_some, if_neg z10, t2, i2, if_true]
    · obtain ⟨K, hK, rfl⟩ := in_n (by omega) i3 i4
      by_cases c : (-1 : Int32) ≤ w
      · obtain ⟨x, y, e1, e2, e3, e4, e5⟩ := ft_L (w := w) hX hT hF hN hK hm F 0 V J 0 (by omega) (by omega) h0.tl hI
        refine ⟨x.1, x.2, y.2, ?_, ?_, h0.tr sG.rf e4 e5⟩
        · have : S_fits F T tx S (iN m) (iN K) w V = S_fits_L29 F T tx S F (iN m) (iN K) w 0 (iN 0) V := by
            simp only [S_fits, S_isKnown, sm_y hX hT hm, Option.bind_some, if_neg z10, t1, i1, bz_1, if_pos c]
            rfl
          rw [this, e1]
        · have : M_fits F (iN m) (iN K) w J = M_fits_L33 F F (iN m) (iN K) w 0 (iN 0) J := by
            simp only [M_fits, mm_y hX hJ hm, Option.bind_some, if_neg z10, t2, i2, if_pos c]
            rfl
          rw [this, e2, e3]
      · refine ⟨-1, V, J, ?_, ?_, h0⟩
        · simp only [S_fits, S_isKnown, sm_y hX hT hm, Option.bind_some, if_neg z10, t1, i1, bz_1, if_neg c]
        · simp only [M_fits, mm_y hX hJ hm, Option.bind_some, if_neg z10, t2, i2, if_neg c]
  · refine ⟨-1, V, J, ?_, ?_, h0⟩
    · simp only [S_fits, sm_n hX hT ha, Option.bind_some, if_true]
    · simp only [M_fits, mm_n hX hJ ha, Option.bind_some, if_true]
/-- what somebody has left now, as a choice -/
theorem lf_now (hX : TxV X) {V : Nat → Ji} {J : Ji} (hR : VR X (V 0) (J 47)) (hV : VV X (J 47)) {m : Nat} (hm : m < xm X) : ∃ o, chV X o ∧ S_leftNow T tx V (iN m) = some (chC o) ∧ J 47 (42 + m) = ch1 o ∧ J 47 (48 + m) = ch2 o := by
  have hm6 := hX.1.2.2.2.2.1
  have hk6 := hX.1.2.2.2.1
  obtain ⟨r1, r2, _⟩ := hR.2.2.1 m hm
  rcases hV.2.1 m hm with ⟨q1, q2⟩ | ⟨k, s, hk, hs, q1, q2⟩
  · rw [q1, onC_m] at r1
    refine ⟨none, trivial, ?_, q1, q2⟩
    simp (disch := omega) only [S_leftNow, ldI_n, r1, if_neg (show ¬ (0 : Int32) ≤ iM 2 by decide), chC]
  · have hs6 := (hX.2.2.2.1 k hk).2.2
    rw [q1, onC_n (by omega)] at r1
    rw [q2, onC_n (by omega)] at r2
    refine ⟨some (k, s), ⟨hk, hs⟩, ?_, q1, q2⟩
    have n1 : (0 : Int32) ≤ iN k := by rw [i_0, iN_le (by omega) (by omega)]; omega
    simp (disch := omega) only [S_leftNow, ldI_n, r1, r2, if_pos n1, i_10, iN_mul, iN_add, chC]
theorem ch_eq (hX : TxV X) {o p : Option (Nat × Nat)} (ho : chV X o) (hp : chV X p) : (chC o = chC p) ↔ (ch1 o = ch1 p ∧ ch2 o = ch2 p) := by
  have hk6 := hX.1.2.2.2.1
  rcases ch1_b hX ho with ⟨rfl, q1, q2, q3⟩ | ⟨k, s, rfl, hk, hs, q1, q2, q3⟩
  · rcases ch1_b hX hp with ⟨rfl, p1, p2, p3⟩ | ⟨k', s', rfl, hk', hs', p1, p2, p3⟩
    · simp
    · have hs6' := (hX.2.2.2.1 k' hk').2.2
      rw [q1, q2, q3, p1, p2, p3]
      constructor
      · intro h
        exact absurd h (by rw [show (-2 : Int32) = iM 2 from rfl, iM_en (by omega) (by omega) (by omega)]; exact id)
      · rintro ⟨h, _⟩
        rw [iM_en (by omega) (by omega) (by omega)] at h
        exact h.elim
  · have hs6 := (hX.2.2.2.1 k hk).2.2
    rcases ch1_b hX hp with ⟨rfl, p1, p2, p3⟩ | ⟨k', s', rfl, hk', hs', p1, p2, p3⟩
    · rw [q1, q2, q3, p1, p2, p3]
      constructor
      · intro h
        exact absurd h (by rw [show (-2 : Int32) = iM 2 from rfl, iN_em (by omega) (by omega) (by omega)]; exact id)
      · rintro ⟨h, _⟩
        rw [iN_em (by omega) (by omega) (by omega)] at h
        exact h.elim
    · have hs6' := (hX.2.2.2.1 k' hk').2.2
      rw [q1, q2, q3, p1, p2, p3, iN_eq (by omega) (by omega), iN_eq (by omega) (by omega), iN_eq (by omega) (by omega)]
      omega
theorem or_bb {x y : Int32} : (x ||| y) ||| y = x ||| y := by
  rw [Int32.or_assoc, Int32.or_self]
/-- once suspected, always: the component goes on, the model doesn't -/
theorem sp_tail (hX : TxV X) (hT : TxT T tx X b e) (hF : 900 ≤ F) {V0 : Nat → Ji} {J0 : Ji} {N k m : Nat} {st : Int32} (hN : N ≤ 30) (hk : k ≤ N) (hm : m < xm X) {kc : Int32 → Int32 → Int32 → (Nat → Ji) → Option (Int32 × (Nat → Ji))} : ∀ n i V J, nch X < n + i → i ≤ nch X → TL X l V0 J0 V J → ToldI X S J N → ∃ V1, S_suspects_L31 F kc T tx S n (iN k) (st ||| (1 <<< (iN m &&& 31))) (iN m) (iN i) V = kc (iN k) (st ||| (1 <<< (iN m &&& 31))) (iN (m + 1)) V1 ∧ vG V V1 := by
  have hn := nch_le hX
  intro n
  induction n with
  | zero => intro i V J h1 h2; omega
  | succ n ih =>
    intro i V J h1 h2 hL hI
    have hJ := hL.2.2.1
    have ei : iN i + 1 = iN (i + 1) := by rw [i_1, iN_add]
    have em : iN m + 1 = iN (m + 1) := by rw [i_1, iN_add]
    have z10 : ¬ (1 : Int32) = 0 := by decide
    by_cases hi : i < nch X
    · obtain ⟨o, r, V1, J1, J2, J3, o1, o2, o3, o4, o5, o6, o7, o8, o9, o10, o11, o12⟩ := q_fit (S := S) hX hT hF hN hk hI hJ hL.2.2.2.1 hL.2.2.2.2 hm hi
      obtain ⟨p, p1, p2, p3, p4⟩ := lf_now (T := T) (tx := tx) hX hL.2.2.2.1 hL.2.2.2.2 hm
      by_cases cq : chC o = chC p
      · obtain ⟨V2, u1, u2⟩ := ih (i + 1) V J (by omega) (by omega) hL hI
        refine ⟨V2, ?_, u2⟩
        rw [← u1]
        simp (disch := omega) only [S_suspects_L31, S_suspects_B31, ch_c hX hT, Option.bind_some, iN_le, if_neg (show ¬ nch X ≤ i by omega), o2, p2, if_pos cq, lt_e, ei]
      · obtain ⟨V2, u1, u2⟩ := ih (i + 1) V1 J3 (by omega) (by omega) (hL.go hX o8 o10.g) (hI.g o10.g)
        refine ⟨V2, ?_, o8.tr u2⟩
        rw [← u1]
        rcases o7 with rfl | rfl
        · simp (disch := omega) only [S_suspects_L31, S_suspects_B31, ch_c hX hT, Option.bind_some, iN_le, if_neg (show ¬ nch X ≤ i by omega), o2, p2, if_neg cq, o3, if_true, lt_e, ei]
        · simp (disch := omega) only [S_suspects_L31, S_suspects_B31, ch_c hX hT, Option.bind_some, iN_le, if_neg (show ¬ nch X ≤ i by omega), o2, p2, if_neg cq, o3, if_neg z10, lt_e, ei, or_bb]
    · have : i = nch X := by omega
      subst this
      refine ⟨V, ?_, vG.rf⟩
      simp (disch := omega) only [S_suspects_L31, S_suspects_B31, ch_c hX hT, Option.bind_some, iN_le, if_pos (Nat.le_refl _), lt_e, em]
theorem sp_in (hX : TxV X) (hT : TxT T tx X b e) (hF : 900 ≤ F) {V0 : Nat → Ji} {J0 : Ji} {N k m : Nat} {st : Int32} (hN : N ≤ 30) (hk : k ≤ N) (hm : m < xm X) {kc : Int32 → Int32 → Int32 → (Nat → Ji) → Option (Int32 × (Nat → Ji))} : ∀ n i V J, nch X < n + i → i ≤ nch X → TL X l V0 J0 V J → ToldI X S J N → ∃ (r : Int32) (V1 : Nat → Ji) (J1 : Ji), S_suspects_L31 F kc T tx S n (iN k) st (iN m) (iN i) V = kc (iN k) (if r = 0 then st else st ||| (1 <<< (iN m &&& 31))) (iN (m + 1)) V1 ∧ M_isSuspect_L2 F n (iN m) (iN k) (iN i) J = some (r, J1) ∧ (r = 0 ∨ r = 1) ∧ vG V V1 ∧ nG J J1 := by
  have hn := nch_le hX
  have hm6 := hX.1.2.2.2.2.1
  intro n
  induction n with
  | zero => intro i V J h1 h2; omega
  | succ n ih =>
    intro i V J h1 h2 hL hI
    have hJ := hL.2.2.1
    have ei : iN i + 1 = iN (i + 1) := by rw [i_1, iN_add]
    have em : iN m + 1 = iN (m + 1) := by rw [i_1, iN_add]
    have z10 : ¬ (1 : Int32) = 0 := by decide
    by_cases hi : i < nch X
    · obtain ⟨o, r, V1, J1, J2, J3, o1, o2, o3, o4, o5, o6, o7, o8, o9, o10, o11, o12⟩ := q_fit (S := S) hX hT hF hN hk hI hJ hL.2.2.2.1 hL.2.2.2.2 hm hi
      obtain ⟨p, p1, p2, p3, p4⟩ := lf_now (T := T) (tx := tx) hX hL.2.2.2.1 hL.2.2.2.2 hm
      have v1 : J2 47 (42 + m) = ch1 p := by rw [o9.v47]; exact p3
      have v2 : J2 47 (48 + m) = ch2 p := by rw [o9.v47]; exact p4
      by_cases cq : chC o = chC p
      · obtain ⟨c1, c2⟩ := (ch_eq hX o1 p1).1 cq
        obtain ⟨r2, V2, J4, u1, u2, u3, u4, u5⟩ := ih (i + 1) V J2 (by omega) (by omega) (hL.go hX vG.rf o9.g) (hI.g o9.g)
        refine ⟨r2, V2, J4, ?_, ?_, u3, u4, o9.g.tr u5⟩
        · rw [← u1]
          simp (disch := omega) only [S_suspects_L31, S_suspects_B31, ch_c hX hT, Option.bind_some, iN_le, if_neg (show ¬ nch X ≤ i by omega), o2, p2, if_pos cq, lt_e, ei]
        · rw [← u2]
          simp (disch := omega) only [M_isSuspect_L2, M_isSuspect_B2, ch_m hX hJ, Option.bind_some, iN_le, if_neg (show ¬ nch X ≤ i by omega), o4, o5, i_42, i_48, iN_add, ldI_n, o11, o12, v1, v2, if_pos c1, if_pos c2, lt_e, ei]
      · have hM : M_isSuspect_L2 F (n + 1) (iN m) (iN k) (iN i) J = M_isSuspect_B66 F (M_isSuspect_L2 F n) (iN m) (iN k) (iN i) J2 := by
          simp (disch := omega) only [M_isSuspect_L2, M_isSuspect_B2, ch_m hX hJ, Option.bind_some, iN_le, if_neg (show ¬ nch X ≤ i by omega), o4, o5, i_42, i_48, iN_add, ldI_n, o11, o12, v1, v2]
          by_cases c1 : ch1 o = ch1 p
          · rw [if_pos c1]
            by_cases c2 : ch2 o = ch2 p
            · exact absurd ((ch_eq hX o1 p1).2 ⟨c1, c2⟩) cq
            · rw [if_neg c2]
          · rw [if_neg c1]
        have hL1 := hL.go hX o8 o10.g
        rcases o7 with rfl | rfl
        · obtain ⟨r2, V2, J4, u1, u2, u3, u4, u5⟩ := ih (i + 1) V1 J3 (by omega) (by omega) hL1 (hI.g o10.g)
          refine ⟨r2, V2, J4, ?_, ?_, u3, o8.tr u4, o10.g.tr u5⟩
          · rw [← u1]
            simp (disch := omega) only [S_suspects_L31, S_suspects_B31, ch_c hX hT, Option.bind_some, iN_le, if_neg (show ¬ nch X ≤ i by omega), o2, p2, if_neg cq, o3, if_true, lt_e, ei]
          · rw [hM, ← u2]
            simp only [M_isSuspect_B66, o6, Option.bind_some, if_true, lt_e, ei]
        · obtain ⟨V2, u1, u2⟩ := sp_tail (S := S) (st := st) (kc := kc) (V0 := V0) (J0 := J0) hX hT hF hN hk hm n (i + 1) V1 J3 (by omega) (by omega) hL1 (hI.g o10.g)
          refine ⟨1, V2, J3, ?_, ?_, Or.inr rfl, o8.tr u2, o10.g⟩
          · rw [if_neg z10, ← u1]
            simp (disch := omega) only [S_suspects_L31, S_suspects_B31, ch_c hX hT, Option.bind_some, iN_le, if_neg (show ¬ nch X ≤ i by omega), o2, p2, if_neg cq, o3, if_neg z10, lt_e, ei]
          · rw [hM]
            simp only [M_isSuspect_B66, o6, Option.bind_some, if_neg z10]
    · have : i = nch X := by omega
      subst this
      refine ⟨0, V, J, ?_, ?_, Or.inl rfl, vG.rf, nG.rf⟩
      · simp (disch := omega) only [S_suspects_L31, S_suspects_B31, ch_c hX hT, Option.bind_some, iN_le, if_pos (Nat.le_refl _), lt_e, em, if_true]
      · simp (disch := omega) only [M_isSuspect_L2, M_isSuspect_B2, ch_m hX hJ, Option.bind_some, iN_le, if_pos (Nat.le_refl _)]
theorem sp_out (hX : TxV X) (hT : TxT T tx X b e) (hF : 900 ≤ F) {V0 : Nat → Ji} {J0 : Ji} {N k : Nat} (hN : N ≤ 30) (hk : k ≤ N) : ∀ n m V J st, xm X < n + m → m ≤ xm X → TL X l V0 J0 V J → ToldI X S J N → Bo (S_suspects_L14 F T tx S n (iN k) st (iN m) V) (M_suspects_L18 F n (iN k) st (iN m) J) (fun x y => x.1 = y.1 ∧ vG V0 x.2 ∧ nG J0 y.2) := by
  have hn := nch_le hX
  have hm6 := hX.1.2.2.2.2.1
  intro n
  induction n with
  | zero => intro m V J st h1 h2; omega
  | succ n ih =>
    intro m V J st h1 h2 hL hI
    have hJ := hL.2.2.1
    have em : iN m + 1 = iN (m + 1) := by rw [i_1, iN_add]
    have z10 : ¬ (1 : Int32) = 0 := by decide
    by_cases hm : m < xm X
    · obtain ⟨r, V1, J1, u1, u2, u3, u4, u5⟩ := sp_in (S := S) (st := st) (kc := S_suspects_L14 F T tx S n) (V0 := V0) (J0 := J0) hX hT hF hN hk hm F 0 V J (by omega) (by omega) hL hI
      have hL1 := hL.go hX u4 u5
      have hC : S_suspects_L14 F T tx S (n + 1) (iN k) st (iN m) V = S_suspects_L14 F T tx S n (iN k) (if r = 0 then st else st ||| (1 <<< (iN m &&& 31))) (iN (m + 1)) V1 := by
        rw [← u1]
        simp (disch := omega) only [S_suspects_L14, S_suspects_B14, hT.r4, Option.bind_some, hT.z4, iN_le, if_neg (show ¬ xm X ≤ m by omega), i_0]
      have hM : M_suspects_L18 F (n + 1) (iN k) st (iN m) J = M_suspects_L18 F n (iN k) (if r = 0 then st else st ||| (1 <<< (iN m &&& 31))) (iN (m + 1)) J1 := by
        have u2' : M_isSuspect F (iN m) (iN k) J = some (r, J1) := u2
        rcases u3 with rfl | rfl
        · simp (disch := omega) only [M_suspects_L18, M_suspects_B18, hJ.men, Option.bind_some, iN_le, if_neg (show ¬ xm X ≤ m by omega), u2', if_true, lt_e, em]
        · simp (disch := omega) only [M_suspects_L18, M_suspects_B18, hJ.men, Option.bind_some, iN_le, if_neg (show ¬ xm X ≤ m by omega), u2', if_neg z10, lt_e, em]
      rw [hC, hM]
      exact ih (m + 1) V1 J1 _ (by omega) (by omega) hL1 (hI.g u5)
    · have : m = xm X := by omega
      subst this
      simp (disch := omega) only [S_suspects_L14, S_suspects_B14, M_suspects_L18, M_suspects_B18, hT.r4, Option.bind_some, hT.z4, hJ.men, iN_le, if_pos (Nat.le_refl _)]
      exact Bo.mk ⟨rfl, hL.1, hL.2.1⟩
theorem q_suspects (h : Cpl X b e l T tx S Q V J) (hF : 900 ≤ F) (k : Int32) : ∃ r V1 J1, S_suspects F T tx S k V = some (r, V1) ∧ M_suspects F k J = some (r, J1) ∧ Cpl X b e l T tx S Q V1 J1 := by
  have h0 := h
  obtain ⟨hX, hT, hJ, ⟨hR, hV⟩, _, _, ⟨N, hN, t1, t2, hI⟩, _⟩ := h
  have hm6 := hX.1.2.2.2.2.1
  have z10 : ¬ (1 : Int32) = 0 := by decide
  rcases in_c (a := k) (c := 0) (d := iN N) with ⟨i1, i2⟩ | ⟨i1, i2, i3, i4⟩
  · refine ⟨-1, V, J, ?_, ?_, h0⟩
    · simp only [S_suspects, S_isKnown, Option.bind_some, t1, i1, bz_0, if_true]
    · simp only [M_suspects, Option.bind_some, t2, i2, if_true]
  · obtain ⟨K, hK, rfl⟩ := in_n (by omega) i3 i4
    obtain ⟨x, y, e1, e2, e3, e4, e5⟩ := sp_out (S := S) hX hT hF hN hK F 0 V J 0 (by omega) (by omega) h0.tl hI
    refine ⟨x.1, x.2, y.2, ?_, ?_, h0.tr sG.rf e4 e5⟩
    · have : S_suspects F T tx S (iN K) V = S_suspects_L14 F T tx S F (iN K) 0 (iN 0) V := by
        simp only [S_suspects, S_isKnown, Option.bind_some, t1, i1, bz_1, if_neg z10]
        rfl
      rw [this, e1]
    · have : M_suspects F (iN K) J = M_suspects_L18 F F (iN K) 0 (iN 0) J := by
        simp only [M_suspects, Option.bind_some, t2, i2, if_neg z10]
        rfl
      rw [this, e2, e3]
theorem pr_in (hX : TxV X) (hT : TxT T tx X b e) (hF : 900 ≤ F) {V0 : Nat → Ji} {J0 : Ji} {N k m m2 i : Nat} (hN : N ≤ 30) (hk : k ≤ N) (hm : m < xm X) (hm2 : m2 < xm X) (hi : i < nch X) {kc : Int32 → Int32 → Int32 → Int32 → Int32 → (Nat → Ji) → Option (Int32 × (Nat → Ji))} {km : Int32 → Int32 → Int32 → Int32 → Int32 → Ji → Option (Int32 × Ji)} (hkk : ∀ V J cnt, TL X l V0 J0 V J → ToldI X S J N → Bo (kc (iN m) (iN m2) (iN k) cnt (iN (i + 1)) V) (km (iN m) (iN m2) (iN k) cnt (iN (i + 1)) J) (fun x y => x.1 = y.1 ∧ vG V0 x.2 ∧ nG J0 y.2)) : ∀ n j V J cnt, nch X < n + j → j ≤ nch X → TL X l V0 J0 V J → ToldI X S J N → Bo (S_pairs_L37 F kc T tx S n (iN m) (iN m2) (iN k) cnt (iN i) (iN j) V) (M_pairs_L53 F km n (iN m) (iN m2) (iN k) cnt (iN i) (iN j) J) (fun x y => x.1 = y.1 ∧ vG V0 x.2 ∧ nG J0 y.2) := by
  have hn := nch_le hX
  intro n
  induction n with
  | zero => intro j V J cnt h1 h2; omega
  | succ n ih =>
    intro j V J cnt h1 h2 hL hI
    have hJ := hL.2.2.1
    have ej : iN j + 1 = iN (j + 1) := by rw [i_1, iN_add]
    have ei : iN i + 1 = iN (i + 1) := by rw [i_1, iN_add]
    have z10 : ¬ (1 : Int32) = 0 := by decide
    by_cases hj : j < nch X
    · obtain ⟨x, y, V4, V5, J1, J2, J3, t1, t2, t3, t4, t5, t6, t7, t8, t9, t10, t11, t12⟩ := tr_two hX hF hT hJ hL.2.2.2.1 hL.2.2.2.2 hm hm2 hi hj
      obtain ⟨r, V6, J4, q1, q2, q3, q4, q5⟩ := q_so (S := S) hX hT hF hN hk (hI.g t9.g) t10 t11 t12
      have hL1 := hL.go hX (t8.tr q4) (t9.tr q5).g
      rcases q3 with rfl | rfl
      · simp (disch := omega) only [S_pairs_L37, S_pairs_B37, S_pairs_B94, M_pairs_L53, M_pairs_B53, ch_c hX hT, ch_m hX hJ, Option.bind_some, iN_le, if_neg (show ¬ nch X ≤ j by omega), lt_e, t1, t2, t3, t4, t5, t6, t7, q1, q2, if_true, Int32.add_zero, ej]
        exact ih (j + 1) V6 J4 cnt (by omega) (by omega) hL1 (hI.g (t9.tr q5).g)
      · simp (disch := omega) only [S_pairs_L37, S_pairs_B37, S_pairs_B94, M_pairs_L53, M_pairs_B53, ch_c hX hT, ch_m hX hJ, Option.bind_some, iN_le, if_neg (show ¬ nch X ≤ j by omega), lt_e, t1, t2, t3, t4, t5, t6, t7, q1, q2, if_neg z10, ej]
        exact ih (j + 1) V6 J4 _ (by omega) (by omega) hL1 (hI.g (t9.tr q5).g)
    · have : j = nch X := by omega
      subst this
      simp (disch := omega) only [S_pairs_L37, S_pairs_B37, M_pairs_L53, M_pairs_B53, ch_c hX hT, ch_m hX hJ, Option.bind_some, iN_le, if_pos (Nat.le_refl _), lt_e, ei]
      exact hkk V J cnt hL hI
theorem pr_out (hX : TxV X) (hT : TxT T tx X b e) (hF : 900 ≤ F) {V0 : Nat → Ji} {J0 : Ji} {N k m m2 : Nat} (hN : N ≤ 30) (hk : k ≤ N) (hm : m < xm X) (hm2 : m2 < xm X) : ∀ n i V J cnt, nch X < n + i → i ≤ nch X → TL X l V0 J0 V J → ToldI X S J N → Bo (S_pairs_L25 F T tx S n (iN m) (iN m2) (iN k) cnt (iN i) V) (M_pairs_L41 F n (iN m) (iN m2) (iN k) cnt (iN i) J) (fun x y => x.1 = y.1 ∧ vG V0 x.2 ∧ nG J0 y.2) := by
  have hn := nch_le hX
  intro n
  induction n with
  | zero => intro i V J cnt h1 h2; omega
  | succ n ih =>
    intro i V J cnt h1 h2 hL hI
    have hJ := hL.2.2.1
    by_cases hi : i < nch X
    · simp (disch := omega) only [S_pairs_L25, S_pairs_B25, M_pairs_L41, M_pairs_B41, ch_c hX hT, ch_m hX hJ, Option.bind_some, iN_le, if_neg (show ¬ nch X ≤ i by omega), i_0]
      exact pr_in hX hT hF hN hk hm hm2 hi (fun V1 J1 cnt1 g1 g2 => ih (i + 1) V1 J1 cnt1 (by omega) (by omega) g1 g2) F 0 V J cnt (by omega) (by omega) hL hI
    · have : i = nch X := by omega
      subst this
      simp (disch := omega) only [S_pairs_L25, S_pairs_B25, M_pairs_L41, M_pairs_B41, ch_c hX hT, ch_m hX hJ, Option.bind_some, iN_le, if_pos (Nat.le_refl _)]
      exact Bo.mk ⟨rfl, hL.1, hL.2.1⟩
theorem q_pairs (h : Cpl X b e l T tx S Q V J) (hF : 900 ≤ F) (a c k : Int32) : ∃ r V1 J1, S_pairs F T tx S a c k V = some (r, V1) ∧ M_pairs F a c k J = some (r, J1) ∧ Cpl X b e l T tx S Q V1 J1 := by
  have h0 := h
  obtain ⟨hX, hT, hJ, ⟨hR, hV⟩, _, _, ⟨N, hN, t1, t2, hI⟩, _⟩ := h
  have hm6 := hX.1.2.2.2.2.1
  have hn := nch_le hX
  have z10 : ¬ (1 : Int32) = 0 := by decide
  rcases two_c hX hT hJ a c with ⟨m, m2, hm, hm2, hne, rfl, rfl, ht⟩ | ⟨ht, hq⟩
  · rcases in_c (a := k) (c := 0) (d := iN N) with ⟨i1, i2⟩ | ⟨i1, i2, i3, i4⟩
    · refine ⟨-1, V, J, ?_, ?_, h0⟩
      · simp only [S_pairs, S_isKnown, ht, Option.bind_some, if_neg z10, t1, i1, bz_0, if_true]
      · simp (disch := omega) only [M_pairs, mm_y hX hJ hm, mm_y hX hJ hm2, Option.bind_some, if_neg z10, iN_eq, if_neg hne, t2, i2, if_true]
    · obtain ⟨K, hK, rfl⟩ := in_n (by omega) i3 i4
      obtain ⟨x, y, e1, e2, e3, e4, e5⟩ := pr_out (S := S) hX hT hF hN hK hm hm2 F 0 V J 0 (by omega) (by omega) h0.tl hI
      refine ⟨x.1, x.2, y.2, ?_, ?_, h0.tr sG.rf e4 e5⟩
      · have : S_pairs F T tx S (iN m) (iN m2) (iN K) V = S_pairs_L25 F T tx S F (iN m) (iN m2) (iN K) 0 (iN 0) V := by
          simp only [S_pairs, S_isKnown, ht, Option.bind_some, if_neg z10, t1, i1, bz_1]
          rfl
        rw [this, e1]
      · have : M_pairs F (iN m) (iN m2) (iN K) J = M_pairs_L41 F F (iN m) (iN m2) (iN K) 0 (iN 0) J := by
          simp (disch := omega) only [M_pairs, mm_y hX hJ hm, mm_y hX hJ hm2, Option.bind_some, if_neg z10, iN_eq, if_neg hne, t2, i2]
          rfl
        rw [this, e2, e3]
  · refine ⟨-1, V, J, ?_, ?_, h0⟩
    · simp only [S_pairs, ht, Option.bind_some, if_true]
    · rcases hq with q1 | ⟨q1, q2⟩ | ⟨q1, q2, q3⟩
      · simp only [M_pairs, q1, Option.bind_some, if_true]
      · simp only [M_pairs, q1, q2, Option.bind_some, if_neg z10, if_true]
      · simp only [M_pairs, q1, q2, Option.bind_some, if_neg z10, if_pos q3]
end SU
