/-! PURE LAW 17: what changes at once -/
set_option maxRecDepth 100000
/-- what else the model holds: all but what stands, trials -/
def nH (J J1 : Ji) : Prop := (∀ o, (o < 45 ∨ 57 ≤ o) → o ≠ 0 → J1 o = J o) ∧ ∀ i, i ≠ 63 → i ≠ 76 → J1 0 i = J 0 i
theorem nH.tx {X : Xt} {l : Nat} {J J1 : Ji} (h : nH J J1) (hX : TxV X) (hJ : TxJ J l X) : TxJ J1 l X := hJ.fo hX (h.2 18 (by omega) (by omega)) (fun o a1 a2 => h.1 o (by omega) (by omega))
theorem nH.tr {J J1 J2 : Ji} (h : nH J J1) (h2 : nH J1 J2) : nH J J2 := ⟨fun o a c => by rw [h2.1 o a c, h.1 o a c], fun i hi h3 => by rw [h2.2 i hi h3, h.2 i hi h3]⟩
theorem nG.h {J J1 : Ji} (h : nG J J1) : nH J J1 := ⟨fun o a c => h.1 o (by omega) c, h.2⟩
theorem nH.r {J J1 : Ji} (h : ∀ o, o ≠ 47 → J1 o = J o) : nH J J1 := ⟨fun o a c => h o (by omega), fun i _ _ => by rw [h 0 (by omega)]⟩
section CH
variable {T : Th} {tx : Nat} {X : Xt} {b : Nat → Nat} {e : Nat → Nat → Nat} {l F : Nat} {S Q : Ji} {V : Nat → Ji} {J : Ji}
theorem Cpl.v0 (h : Cpl X b e l T tx S Q V J) {V1 : Nat → Ji} {J1 : Ji} (hV : ∀ k, k ≠ 0 → k ≠ 1 → V1 k = V k) (hR : VR X (V1 0) (J1 47)) (hVV : VV X (J1 47)) (hJ : nH J J1) : Cpl X b e l T tx S Q V1 J1 := by
  obtain ⟨h1, h2, h3, ⟨h4, h5⟩, ⟨u, p, p1, p2, p3, p4, p5, p6⟩, h7, ⟨n, n1, n2, n3, n4⟩, ⟨m, m1, m2, m3, m4⟩, h10⟩ := h
  refine ⟨h1, h2, hJ.tx h1 h3, ⟨hR, hVV⟩, ⟨u, p, p1, p2, p3, ?_, p5, fun i hi => ?_⟩, fun s hs => ?_, ⟨n, n1, n2, ?_, fun i hi => ?_⟩, ⟨m, m1, m2, ?_, fun i hi => ?_⟩, ?_⟩
  · rw [hJ.2 74 (by omega) (by omega)]; exact p4
  · rw [hV _ (by omega) (by omega), hJ.1 57 (by omega) (by omega)]; exact p6 i hi
  · rw [hV _ (by omega) (by omega), hJ.1 61 (by omega) (by omega), hJ.1 62 (by omega) (by omega)]; exact h7 s hs
  · rw [hJ.2 77 (by omega) (by omega)]; exact n3
  · rw [hJ.1 58 (by omega) (by omega), hJ.1 59 (by omega) (by omega), hJ.1 60 (by omega) (by omega)]; exact n4 i hi
  · rw [hJ.2 2 (by omega) (by omega)]; exact m3
  · rw [hJ.1 1 (by omega) (by omega)]; exact m4 i hi
  · rw [hJ.2 17 (by omega) (by omega)]; exact h10
/-- what stands, as if it were the row -/
theorem c47 {J : Ji} {i : Nat} {x : Int32} : uJ J 47 i x 47 = uJ (fun _ => J 47) 48 i x 48 := by
  funext j
  rw [uJ_s, uJ_s]
theorem c47b {J : Ji} {i j : Nat} {x y : Int32} : uJ (uJ J 47 i x) 47 j y 47 = uJ (uJ (fun _ => J 47) 48 i x) 48 j y 48 := by
  funext k
  rw [uJ_s, uJ_s, uJ_s, uJ_s]
theorem q_leave (h : Cpl X b e l T tx S Q V J) (a c w : Int32) : ∃ r V1 J1, S_leave T tx a c w V = some (r, V1) ∧ M_leave a c w J = some (r, J1) ∧ Cpl X b e l T tx S Q V1 J1 := by
  have h0 := h
  obtain ⟨hX, hT, hJ, ⟨hR, hV⟩, _⟩ := h
  have hm6 := hX.1.2.2.2.2.1
  have hk6 := hX.1.2.2.2.1
  have z10 : ¬ (1 : Int32) = 0 := by decide
  by_cases ha : idx a (xm X)
  · obtain ⟨m, hm, rfl⟩ := ha
    have fin : ∀ o, chV X o → Cpl X b e l T tx S Q (vf_upd (vf_upd V 0 (uJ (V 0) 9 m (onC (ch1 o)))) 0 (uJ (uJ (V 0) 9 m (onC (ch1 o))) 10 m (onC (ch2 o)))) (uJ (uJ J 47 (42 + m) (ch1 o)) 47 (48 + m) (ch2 o)) := by
      intro o ho
      refine h0.v0 (fun k k0 _ => by rw [vf_ne _ _ k0, vf_ne _ _ k0]) ?_ ?_ (nH.r (fun o ho => by rw [uJ_o ho, uJ_o ho]))
      · rw [vf_self, c47b]
        exact VR.left (J := fun _ => J 47) hX ho hm hR
      · rw [c47b]
        exact VV.left (J := fun _ => J 47) hX ho hm hV
    by_cases hc : c = -1 ∧ w = -1
    · obtain ⟨rfl, rfl⟩ := hc
      refine ⟨1, _, _, ?_, ?_, fin none trivial⟩
      · have e : onC (ch1 none) = -2 := by decide
        have e2 : onC (ch2 none) = -2 := by decide
        simp (disch := omega) only [S_leave, S_leave_B15, S_leave_B41, S_leave_B60, S_leave_B80, if_true, sm_y hX hT hm, Option.bind_some, if_neg z10, stV_n, vf_self, e, e2]
      · simp (disch := omega) only [M_leave, M_isLeft, mm_y hX hJ hm, Option.bind_some, if_neg z10, if_true, i_42, i_48, iN_add, stI_n]
        rfl
    · have nC : S_leave T tx (iN m) c w V = S_leave_B15 T tx (iN m) c w 0 V := by
        by_cases c1 : c = -1
        · have c2 : ¬ w = -1 := fun hh => hc ⟨c1, hh⟩
          simp only [S_leave, S_leave_B14, if_pos c1, if_neg c2]
        · simp only [S_leave, S_leave_B14, if_neg c1]
      have nM : M_isLeft J c w = M_isLeft_B10 J c w := by
        by_cases c1 : c = -1
        · have c2 : ¬ w = -1 := fun hh => hc ⟨c1, hh⟩
          simp only [M_isLeft, if_pos c1, if_neg c2]
        · simp only [M_isLeft, if_neg c1]
      by_cases hs : idS X c w
      · obtain ⟨k, s, hk, hs, rfl, rfl⟩ := hs
        have hs6 := (hX.2.2.2.1 k hk).2.2
        refine ⟨1, _, _, ?_, ?_, fin (some (k, s)) ⟨hk, hs⟩⟩
        · have e : onC (ch1 (some (k, s))) = iN k := onC_n (by omega)
          have e2 : onC (ch2 (some (k, s))) = iN s := onC_n (by omega)
          rw [nC]
          simp (disch := omega) only [S_leave_B15, S_leave_B41, S_leave_B60, S_leave_B80, if_true, sm_y hX hT hm, ss_y hX hT hk hs, Option.bind_some, if_neg z10, stV_n, vf_self, e, e2]
        · simp (disch := omega) only [M_leave, nM, M_isLeft_B10, mm_y hX hJ hm, ms_y hX hJ hk hs, Option.bind_some, if_neg z10, i_42, i_48, iN_add, stI_n]
          rfl
      · refine ⟨0, V, J, ?_, ?_, h0⟩
        · rw [nC]
          simp only [S_leave_B15, if_true, sm_y hX hT hm, ss_n hX hT hs, Option.bind_some, if_neg z10]
        · simp only [M_leave, nM, M_isLeft_B10, mm_y hX hJ hm, ms_n hX hJ hs, Option.bind_some, if_neg z10, if_true]
  · refine ⟨0, V, J, ?_, ?_, h0⟩
    · have : ∀ s0, S_leave_B15 T tx a c w s0 V = some (0, V) := fun s0 => by
        simp only [S_leave_B15, sm_n hX hT ha, Option.bind_some, if_true]
      by_cases c1 : c = -1
      · by_cases c2 : w = -1
        · simp only [S_leave, if_pos c1, if_pos c2, this]
        · simp only [S_leave, S_leave_B14, if_pos c1, if_neg c2, this]
      · simp only [S_leave, S_leave_B14, if_neg c1, this]
    · simp only [M_leave, mm_n hX hJ ha, Option.bind_some, if_true]
theorem q_lay (h : Cpl X b e l T tx S Q V J) (a c : Int32) : ∃ r V1 J1, S_lay T tx a c V = some (r, V1) ∧ M_lay a c J = some (r, J1) ∧ Cpl X b e l T tx S Q V1 J1 := by
  have h0 := h
  obtain ⟨hX, hT, hJ, ⟨hR, hV⟩, _⟩ := h
  have ht6 := hX.1.2.2.1
  have z10 : ¬ (1 : Int32) = 0 := by decide
  by_cases ha : idx a (xt X)
  · obtain ⟨t, ht, rfl⟩ := ha
    by_cases hc : idx c (xr X)
    · obtain ⟨r, hr, rfl⟩ := hc
      refine ⟨1, vf_upd V 0 (uJ (V 0) 11 t (iN r)), uJ J 47 (72 + t) (iN r), ?_, ?_, h0.v0 (fun k k0 _ => vf_ne _ _ k0) ?_ ?_ (nH.r (fun o ho => uJ_o ho))⟩
      · simp (disch := omega) only [S_lay, hT.r2, hT.z2, Option.bind_some, i1_y ht, if_neg z10, sr_y hX hT hr, stV_n]
      · simp (disch := omega) only [M_lay, mt_y hX hJ ht, mr_y hX hJ hr, Option.bind_some, if_neg z10, i_72, iN_add, stI_n]
      · rw [vf_self, c47]
        exact VR.tool (J := fun _ => J 47) hX ht hR
      · rw [c47]
        exact VV.tool (J := fun _ => J 47) hX ht (Or.inl ⟨r, hr, rfl⟩) hV
    · refine ⟨0, V, J, ?_, ?_, h0⟩
      · simp (disch := omega) only [S_lay, hT.r2, hT.z2, Option.bind_some, i1_y ht, if_neg z10, sr_n hX hT hc, if_true]
      · simp only [M_lay, mt_y hX hJ ht, mr_n hX hJ hc, Option.bind_some, if_neg z10, if_true]
  · refine ⟨0, V, J, ?_, ?_, h0⟩
    · simp (disch := omega) only [S_lay, hT.r2, hT.z2, Option.bind_some, i1_n ha, if_true]
    · simp only [M_lay, mt_n hX hJ ha, Option.bind_some, if_true]
theorem q_give (h : Cpl X b e l T tx S Q V J) (a c : Int32) : ∃ r V1 J1, S_give T tx a c V = some (r, V1) ∧ M_give a c J = some (r, J1) ∧ Cpl X b e l T tx S Q V1 J1 := by
  have h0 := h
  obtain ⟨hX, hT, hJ, ⟨hR, hV⟩, _⟩ := h
  have ht6 := hX.1.2.2.1
  have z10 : ¬ (1 : Int32) = 0 := by decide
  by_cases ha : idx a (xt X)
  · obtain ⟨t, ht, rfl⟩ := ha
    by_cases hc : idx c (xm X)
    · obtain ⟨m, hm, rfl⟩ := hc
      refine ⟨1, vf_upd V 0 (uJ (V 0) 11 t (iN (100 + m))), uJ J 47 (72 + t) (iN (100 + m)), ?_, ?_, h0.v0 (fun k k0 _ => vf_ne _ _ k0) ?_ ?_ (nH.r (fun o ho => uJ_o ho))⟩
      · simp (disch := omega) only [S_give, hT.r2, hT.z2, Option.bind_some, i1_y ht, if_neg z10, sm_y hX hT hm, i_100, iN_add, stV_n]
      · simp (disch := omega) only [M_give, mt_y hX hJ ht, mm_y hX hJ hm, Option.bind_some, if_neg z10, i_72, i_100, iN_add, stI_n]
      · rw [vf_self, c47]
        exact VR.tool (J := fun _ => J 47) hX ht hR
      · rw [c47]
        exact VV.tool (J := fun _ => J 47) hX ht (Or.inr ⟨m, hm, rfl⟩) hV
    · refine ⟨0, V, J, ?_, ?_, h0⟩
      · simp (disch := omega) only [S_give, hT.r2, hT.z2, Option.bind_some, i1_y ht, if_neg z10, sm_n hX hT hc, if_true]
      · simp only [M_give, mt_y hX hJ ht, mm_n hX hJ hc, Option.bind_some, if_neg z10, if_true]
  · refine ⟨0, V, J, ?_, ?_, h0⟩
    · simp (disch := omega) only [S_give, hT.r2, hT.z2, Option.bind_some, i1_n ha, if_true]
    · simp only [M_give, mt_n hX hJ ha, Option.bind_some, if_true]
/-- sets of doors stay small -/
theorem iN_bv {n : Nat} : (iN n).toBitVec = BitVec.ofNat 32 n := rfl
theorem bv_iN {x : Int32} {n : Nat} (h : x.toBitVec.toNat = n) : x = iN n := by
  rw [← Int32.toBitVec_inj, iN_bv]
  apply BitVec.eq_of_toNat_eq
  rw [h, BitVec.toNat_ofNat, Nat.mod_eq_of_lt]
  rw [← h]
  exact x.toBitVec.isLt
theorem or_sm {s t : Nat} (hs : s < 4096) (ht : t < 4096) : ∃ u, u < 4096 ∧ iN s ||| iN t = iN u := by
  refine ⟨s ||| t, ?_, bv_iN ?_⟩
  · have : s ||| t < 2 ^ 12 := Nat.or_lt_two_pow (by omega) (by omega)
    omega
  · rw [Int32.toBitVec_or, iN_bv, iN_bv, BitVec.toNat_or, BitVec.toNat_ofNat, BitVec.toNat_ofNat, Nat.mod_eq_of_lt (by omega), Nat.mod_eq_of_lt (by omega)]
theorem and_sm {s : Nat} {y : Int32} (hs : s < 4096) : ∃ u, u < 4096 ∧ iN s &&& y = iN u := by
  refine ⟨s &&& y.toBitVec.toNat, ?_, bv_iN ?_⟩
  · have : s &&& y.toBitVec.toNat ≤ s := Nat.and_le_left
    omega
  · rw [Int32.toBitVec_and, iN_bv, BitVec.toNat_and, BitVec.toNat_ofNat, Nat.mod_eq_of_lt (by omega)]
theorem q_bar (h : Cpl X b e l T tx S Q V J) (a c : Int32) : ∃ r V1 J1, S_bar T tx a c V = some (r, V1) ∧ M_bar a c J = some (r, J1) ∧ Cpl X b e l T tx S Q V1 J1 := by
  have h0 := h
  obtain ⟨hX, hT, hJ, ⟨hR, hV⟩, _⟩ := h
  have hd12 := hX.1.2.1
  have hl := hJ.l2
  have z10 : ¬ (1 : Int32) = 0 := by decide
  by_cases ha : idx a (xd X)
  · obtain ⟨d, hd, rfl⟩ := ha
    obtain ⟨s, hs, hs2⟩ := hV.2.2.2
    have fin : ∀ x u, x = iN u → u < 4096 → Cpl X b e l T tx S Q (vf_upd V 0 (uJ (V 0) 0 8 x)) (uJ J 47 78 x) := by
      intro x u hx hu
      subst hx
      refine h0.v0 (fun k k0 _ => vf_ne _ _ k0) ?_ ?_ (nH.r (fun o ho => uJ_o ho))
      · rw [vf_self, c47]
        exact VR.shut (J := fun _ => J 47) hX hR
      · rw [c47]
        exact VV.shut (J := fun _ => J 47) hX hu hV
    have e78 := hR.2.2.2.2.1
    by_cases c0 : c = 0
    · obtain ⟨u, u1, u2⟩ := and_sm (y := (1 <<< (iN d &&& 31)) ^^^ (-1)) hs
      refine ⟨1, _, _, ?_, ?_, fin (J 47 78 &&& ((1 <<< (iN d &&& 31)) ^^^ (-1))) u (by rw [hs2]; exact u2) u1⟩
      · simp (disch := omega) only [S_bar, S_bar_B54, hT.r1, hT.z1, Option.bind_some, i1_y hd, if_neg z10, if_pos c0, e78, lt_e]
      · simp (disch := omega) only [M_bar, M_bar_B58, hJ.lv, ldI_n, hJ.d, m1_y hd, Option.bind_some, if_neg z10, if_pos c0, i_78, stI_n]
    · obtain ⟨u, u1, u2⟩ := or_sm (t := 2 ^ d) hs (by
        have : 2 ^ d ≤ 2 ^ 11 := Nat.pow_le_pow_right (by omega) (by omega)
        omega)
      refine ⟨1, _, _, ?_, ?_, fin (J 47 78 ||| (1 <<< (iN d &&& 31))) u (by rw [hs2, sh_n (by omega)]; exact u2) u1⟩
      · simp (disch := omega) only [S_bar, S_bar_B54, hT.r1, hT.z1, Option.bind_some, i1_y hd, if_neg z10, if_neg c0, e78, lt_e]
      · simp (disch := omega) only [M_bar, M_bar_B58, hJ.lv, ldI_n, hJ.d, m1_y hd, Option.bind_some, if_neg z10, if_neg c0, i_78, stI_n]
  · refine ⟨0, V, J, ?_, ?_, h0⟩
    · simp (disch := omega) only [S_bar, hT.r1, hT.z1, Option.bind_some, i1_n ha, if_true]
    · simp (disch := omega) only [M_bar, hJ.lv, ldI_n, hJ.d, m1_n ha, Option.bind_some, if_true]
/-! by hand -/
theorem wk_L : ∀ n i (J : Ji), 100 < n + i → i ≤ 100 → ∃ J1, M_work_L42 F n (iN i) J = some (1, J1) ∧ (∀ o, o ≠ 47 → J1 o = J o) ∧ (∀ j, j < i → J1 47 j = J 47 j) ∧ ∀ j, i ≤ j → j < 100 → J1 47 j = J 48 j := by
  intro n
  induction n with
  | zero => intro i J h1 h2; omega
  | succ n ih =>
    intro i J h1 h2
    by_cases hi : i < 100
    · obtain ⟨J1, e1, e2, e3, e4⟩ := ih (i + 1) (uJ J 47 i (J 48 i)) (by omega) (by omega)
      refine ⟨J1, ?_, fun o ho => by rw [e2 o ho, uJ_o ho], fun j hj => by rw [e3 j (by omega), uJ_sn (by omega)], fun j h3 h4 => ?_⟩
      · rw [← e1]
        simp (disch := omega) only [M_work_L42, M_work_B42, i_100, i_1, iN_le, if_neg (show ¬ 100 ≤ i by omega), ldI_n, stI_n, lt_e, iN_add]
      · by_cases c : j = i
        · subst c
          rw [e3 j (by omega), uJ_ss]
        · rw [e4 j (by omega) h4, uJ_o (by omega)]
    · have : i = 100 := by omega
      subst this
      refine ⟨J, ?_, fun _ _ => rfl, fun _ _ => rfl, fun j h3 h4 => by omega⟩
      simp (disch := omega) only [M_work_L42, M_work_B42, i_100, iN_le, if_pos (Nat.le_refl _)]
theorem q_work (h : Cpl X b e l T tx S Q V J) (hF : 900 ≤ F) (a c : Int32) : ∃ r V1 J1, S_work T tx a c V = some (r, V1) ∧ M_work F a c J = some (r, J1) ∧ Cpl X b e l T tx S Q V1 J1 := by
  have h0 := h
  obtain ⟨hX, hT, hJ, ⟨hR, hV⟩, _⟩ := h
  have hk6 := hX.1.2.2.2.1
  have hm6 := hX.1.2.2.2.2.1
  have ht6 := hX.1.2.2.1
  have z10 : ¬ (1 : Int32) = 0 := by decide
  by_cases ha : idS X a c
  · obtain ⟨k, s, hk, hs, rfl, rfl⟩ := ha
    obtain ⟨⟨w, w1, w2⟩, w3, w4, w5⟩ := hV
    have hk8 := hR.1 k hk
    obtain ⟨wk1, wk2⟩ := w1 k hk
    by_cases cz : w k = 0
    · have y2 : J 47 k = 0 := by rw [wk1, cz]; rfl
      refine ⟨0, V, J, ?_, ?_, h0⟩
      · simp (disch := omega) only [S_work, ss_y hX hT hk hs, Option.bind_some, if_neg z10, ldI_n, hk8, if_pos y2]
      · simp (disch := omega) only [M_work, ms_y hX hJ hk hs, Option.bind_some, if_neg z10, ldI_n, if_pos y2]
    · obtain ⟨a0, ha0⟩ : ∃ a0, w k = a0 + 1 := ⟨w k - 1, by omega⟩
      have y2 : ¬ J 47 k = 0 := by rw [wk1, i_0, iN_eq (by omega) (by omega)]; exact cz
      obtain ⟨J1, e1, e2, e3⟩ := tk_m (F := F) (by omega) J
      have hJ1 := (nG.r e2).tx hX hJ
      have hsub : iN (w k) - 1 = iN a0 := by rw [ha0, i_1, iN_sub (by omega)]; rfl
      have hJ2 : TxJ (uJ J1 48 k (iN a0)) l X := hJ1.fo hX (by rw [uJ_o (by omega)]) (fun o _ _ => uJ_o (by omega))
      have hx6 : ∀ i, i < xk X → xs X i ≤ 6 := fun i hi => (hX.2.2.2.1 i hi).2.2
      obtain ⟨C1, J3, d1, d2, d3, d4, d5, d6, d7⟩ := pl_does (C := uJ (V 0) 8 k (iN a0)) (w := w) (w1 := fun i => if i = k then a0 else w i) hX hT hJ2 (fun k' s' hk' hs' => by
        have := hx6 k' hk'
        rw [uJ_o (by omega), uJ_sn (by omega), e3 _ (by omega)]
        exact hR.2.1 k' s' hk' hs') (fun k' s' hk' hs' => by
        have := hx6 k' hk'
        rw [uJ_sn (by omega), e3 _ (by omega)]
        exact w2 k' s' hk' hs') hk hs (fun i hi hne => if_neg hne) (by rw [if_pos rfl]; omega)
      obtain ⟨J4, f1, f2, f3, f4⟩ := wk_L (F := F) F 0 J3 (by omega) (by omega)
      have f4 : ∀ j, j < 100 → J4 47 j = J3 48 j := fun j hj => f4 j (by omega) hj
      have r48 : ∀ i, (i < 6 ∨ 42 ≤ i) → i < 100 → J4 47 i = if i = k then iN a0 else J 47 i := fun i hi hi2 => by
        rw [f4 i hi2, d7 i hi, uJ_s]
        by_cases ci : i = k
        · rw [if_pos ci, if_pos ci]
        · rw [if_neg ci, if_neg ci, e3 i hi2]
      have hnH : nH J J4 := by
        have q1 : nH J J1 := (nG.r e2).h
        have q2 : nH J1 J3 := ⟨fun o o1 o2 => by rw [d6 o (by omega), uJ_o (by omega)], fun i _ _ => by rw [d6 0 (by omega), uJ_o (by omega)]⟩
        exact (q1.tr q2).tr (nH.r f2)
      refine ⟨1, vf_upd (vf_upd V 0 (uJ (V 0) 8 k (iN a0))) 0 C1, J4, ?_, ?_, h0.v0 (fun k k0 _ => by rw [vf_ne _ _ k0, vf_ne _ _ k0]) ?_ ?_ hnH⟩
      · simp (disch := omega) only [S_work, ss_y hX hT hk hs, Option.bind_some, if_neg z10, ldI_n, hk8, if_neg y2, if_neg (show ¬ iN (w k) = 0 by rw [← wk1]; exact y2), wk1, hsub, stV_n, vf_self, d1]
      · have hk48 : J1 48 k = iN (w k) := by rw [e3 k (by omega)]; exact wk1
        simp (disch := omega) only [M_work, ms_y hX hJ hk hs, Option.bind_some, if_neg z10, ldI_n, if_neg y2, e1, hk48, hsub, stI_n, d2]
        exact f1
      · rw [vf_self]
        obtain ⟨h1, h2, h3, h4, h5, h6⟩ := hR
        refine ⟨fun k' hk' => ?_, fun k' s' hk' hs' => ?_, fun m hm => ?_, fun t ht => ?_, ?_, ?_⟩
        · rw [r48 k' (by omega) (by omega), d5 8 (by omega), uJ_s]
          by_cases ck : k' = k
          · rw [if_pos ck, if_pos ck]
          · rw [if_neg ck, if_neg ck]; exact h1 k' hk'
        · have := hx6 k' hk'
          rw [f4 _ (by omega)]
          exact d3 k' s' hk' hs'
        · rw [r48 _ (by omega) (by omega), r48 _ (by omega) (by omega), r48 _ (by omega) (by omega), r48 _ (by omega) (by omega), r48 _ (by omega) (by omega), if_neg (by omega), if_neg (by omega), if_neg (by omega), if_neg (by omega), if_neg (by omega), d5 9 (by omega), d5 10 (by omega), d5 12 (by omega), d5 13 (by omega), d5 14 (by omega), uJ_o (by omega), uJ_o (by omega), uJ_o (by omega), uJ_o (by omega), uJ_o (by omega)]
          exact h3 m hm
        · rw [r48 _ (by omega) (by omega), if_neg (by omega), d5 11 (by omega), uJ_o (by omega)]
          exact h4 t ht
        · rw [r48 _ (by omega) (by omega), if_neg (by omega), d5 0 (by omega), uJ_o (by omega)]
          exact h5
        · rw [r48 _ (by omega) (by omega), if_neg (by omega), d5 0 (by omega), uJ_o (by omega)]
          exact h6
      · refine ⟨⟨fun i => if i = k then a0 else w i, fun k' hk' => ?_, fun k' s' hk' hs' => ?_⟩, fun m hm => ?_, fun t ht => ?_, ?_⟩
        · rw [r48 k' (by omega) (by omega)]
          by_cases ck : k' = k
          · subst ck
            simp only [if_true]
            exact ⟨trivial, by omega⟩
          · simp only [if_neg ck]
            exact w1 k' hk'
        · have := hx6 k' hk'
          rw [f4 _ (by omega)]
          exact d4 k' s' hk' hs'
        · rw [r48 _ (by omega) (by omega), r48 _ (by omega) (by omega), if_neg (by omega), if_neg (by omega)]
          exact w3 m hm
        · rw [r48 _ (by omega) (by omega), if_neg (by omega)]
          exact w4 t ht
        · rw [r48 _ (by omega) (by omega), if_neg (by omega)]
          exact w5
  · refine ⟨0, V, J, ?_, ?_, h0⟩
    · simp only [S_work, ss_n hX hT ha, Option.bind_some, if_true]
    · simp only [M_work, ms_n hX hJ ha, Option.bind_some, if_true]
theorem q_tell (h : Cpl X b e l T tx S Q V J) (a c w : Int32) : ∃ r S1 J1, S_tell T tx a c w S = some (r, S1) ∧ M_tell_2 a c w J = some (r, J1) ∧ Cpl X b e l T tx S1 Q V J1 := by
  have h0 := h
  obtain ⟨hX, hT, hJ, ⟨hR, hV⟩, hP, hS, ⟨N, hN, t1, t2, hI⟩, hp, hpl⟩ := h
  have z10 : ¬ (1 : Int32) = 0 := by decide
  by_cases ha : idS X a c
  · obtain ⟨k, s, hk, hs, rfl, rfl⟩ := ha
    rcases in_c (a := w) (c := 0) (d := 999) with ⟨i1, i2⟩ | ⟨i1, i2, i3, i4⟩
    · refine ⟨-1, S, J, ?_, ?_, h0⟩
      · simp only [S_tell, ss_y hX hT hk hs, Option.bind_some, if_neg z10, i1, if_true]
      · by_cases c30 : J 0 77 = 30
        · simp only [M_tell_2, if_pos c30]
        · simp only [M_tell_2, if_neg c30, ms_y hX hJ hk hs, Option.bind_some, if_neg z10, i2, if_true]
    · by_cases c30 : N = 30
      · have q1 : S 0 15 = 30 := by rw [t1, c30]; rfl
        have q2 : J 0 77 = 30 := by rw [t2, c30]; rfl
        refine ⟨-1, S, J, ?_, ?_, h0⟩
        · simp only [S_tell, ss_y hX hT hk hs, Option.bind_some, if_neg z10, i1, if_pos q1]
        · simp only [M_tell_2, if_pos q2]
      · have q1 : ¬ S 0 15 = 30 := by rw [t1, i_30, iN_eq (by omega) (by omega)]; exact c30
        have q2 : ¬ J 0 77 = 30 := by rw [t2, i_30, iN_eq (by omega) (by omega)]; exact c30
        refine ⟨iN N, uJ (uJ (uJ (uJ S 184 N (iN k)) 185 N (iN s)) 186 N w) 0 15 (iN (N + 1)), uJ (uJ (uJ (uJ J 58 N (iN k)) 59 N (iN s)) 60 N w) 0 77 (iN (N + 1)), ?_, ?_, ?_⟩
        · have e1 : iN (N + 1) - 1 = iN N := by rw [i_1, iN_sub (by omega)]; rfl
          have e2 : iN N + 1 = iN (N + 1) := by rw [i_1, iN_add]
          simp (disch := omega) only [S_tell, ss_y hX hT hk hs, Option.bind_some, if_neg z10, i1, if_neg q1, if_neg (show ¬ iN N = 30 by rw [← t1]; exact q1), t1, stI_n, uJ_o, lt_e, e2, uJ_ss, e1]
        · have e1 : iN (N + 1) - 1 = iN N := by rw [i_1, iN_sub (by omega)]; rfl
          have e2 : iN N + 1 = iN (N + 1) := by rw [i_1, iN_add]
          simp (disch := omega) only [M_tell_2, if_neg q2, if_neg (show ¬ iN N = 30 by rw [← t2]; exact q2), ms_y hX hJ hk hs, Option.bind_some, if_neg z10, i2, t2, stI_n, uJ_o, lt_e, e2, uJ_ss, e1]
        · obtain ⟨u, p, p1, p2, p3, p4, p5, p6⟩ := hP
          obtain ⟨m, m1, m2, m3, m4⟩ := hp
          refine ⟨hX, hT, hJ.fo hX (by simp (disch := omega) only [uJ_o, uJ_sn]) (fun o o1 o2 => by simp (disch := omega) only [uJ_o]), ⟨by simp (disch := omega) only [uJ_o]; exact hR, by simp (disch := omega) only [uJ_o]; exact hV⟩, ⟨u, p, p1, p2, by simp (disch := omega) only [uJ_o, uJ_sn]; exact p3, by simp (disch := omega) only [uJ_o, uJ_sn]; exact p4, by simp (disch := omega) only [uJ_o, uJ_sn]; exact p5, fun i hi => by simp (disch := omega) only [uJ_o]; exact p6 i hi⟩, fun s hs => by simp (disch := omega) only [uJ_o]; exact hS s hs, ⟨N + 1, by omega, uJ_ss, uJ_ss, fun i hi => ?_⟩, ⟨m, m1, m2, by simp (disch := omega) only [uJ_o, uJ_sn]; exact m3, fun i hi => by simp (disch := omega) only [uJ_o]; exact m4 i hi⟩, by simp (disch := omega) only [uJ_o, uJ_sn]; exact hpl⟩
          by_cases ci : i = N
          · subst ci
            simp (disch := omega) only [uJ_o, uJ_ss]
            exact ⟨trivial, trivial, trivial, k, s, hk, hs, rfl, rfl⟩
          · simp (disch := omega) only [uJ_o, uJ_sn]
            exact hI i (by omega)
  · refine ⟨-1, S, J, ?_, ?_, h0⟩
    · simp only [S_tell, ss_n hX hT ha, Option.bind_some, if_true]
    · by_cases c30 : J 0 77 = 30
      · simp only [M_tell_2, if_pos c30]
      · simp only [M_tell_2, if_neg c30, ms_n hX hJ ha, Option.bind_some, if_true]
theorem q_forget (h : Cpl X b e l T tx S Q V J) : ∃ r S1 J1, S_forget T tx S = some (r, S1) ∧ M_forget J = some (r, J1) ∧ Cpl X b e l T tx S1 Q V J1 := by
  obtain ⟨hX, hT, hJ, ⟨hR, hV⟩, ⟨u, p, p1, p2, p3, p4, p5, p6⟩, hS, ⟨N, hN, t1, t2, hI⟩, ⟨m, m1, m2, m3, m4⟩, hpl⟩ := h
  refine ⟨iN N, uJ S 0 15 0, uJ J 0 77 0, ?_, ?_, ⟨hX, hT, hJ.fo hX (by rw [uJ_sn (by omega)]) (fun o o1 o2 => uJ_o (by omega)), ⟨by rw [uJ_o (by omega)]; exact hR, by rw [uJ_o (by omega)]; exact hV⟩, ⟨u, p, p1, p2, by rw [uJ_sn (by omega)]; exact p3, by rw [uJ_sn (by omega)]; exact p4, by rw [uJ_sn (by omega)]; exact p5, fun i hi => by rw [uJ_o (by omega)]; exact p6 i hi⟩, fun s hs => by rw [uJ_o (by omega), uJ_o (by omega), uJ_o (by omega)]; exact hS s hs, ⟨0, by omega, uJ_ss, uJ_ss, fun i hi => by omega⟩, ⟨m, m1, m2, by rw [uJ_sn (by omega)]; exact m3, fun i hi => by rw [uJ_o (by omega)]; exact m4 i hi⟩, by rw [uJ_sn (by omega), uJ_sn (by omega)]; exact hpl⟩⟩
  · simp only [S_forget, lt_e, t1]
  · simp only [M_forget, lt_e, t2]
end CH
