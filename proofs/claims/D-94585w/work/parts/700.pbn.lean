/-! PURE LAW 64: a village begins -/
set_option maxRecDepth 100000
/-- doors that are shut, from the i-th on -/
def shf (X : Xt) : Nat → Nat → Int32 → Int32
  | 0, _, c => c
  | d + 1, i, c => shf X d (i + 1) (if tb X 16 i = 0 then c else c ||| (1 <<< (iN i &&& 31)))
theorem shf_sm {X : Xt} : ∀ d i c, i + d ≤ 12 → (∃ u, u < 4096 ∧ c = iN u) → ∃ u, u < 4096 ∧ shf X d i c = iN u := by
  intro d
  induction d with
  | zero => intro i c _ h; exact h
  | succ d ih =>
    intro i c hi h
    refine ih (i + 1) _ (by omega) ?_
    by_cases c0 : tb X 16 i = 0
    · rw [if_pos c0]; exact h
    · rw [if_neg c0]
      obtain ⟨u, u1, u2⟩ := h
      have hp : 2 ^ i < 4096 := by
        have : 2 ^ i ≤ 2 ^ 11 := Nat.pow_le_pow_right (by omega) (by omega)
        have : 2 ^ 11 = 2048 := by decide
        omega
      obtain ⟨w, w1, w2⟩ := or_sm u1 hp
      exact ⟨w, w1, by rw [u2, sh_n (by omega)]; exact w2⟩
section BN
variable {T : Th} {tx : Nat} {X : Xt} {b : Nat → Nat} {e : Nat → Nat → Nat} {F l : Nat}
theorem bm_2 : ∀ d m i (J : Ji), i + d = 100 → d < m → ∃ J1, M_begins_L2 F m (iN i) J = M_begins_L23 F F (iN 0) J1 ∧ (∀ p, p ≠ 47 → J1 p = J p) ∧ ∀ k, J1 47 k = if i ≤ k ∧ k < 100 then 0 else J 47 k := by
  intro d
  induction d with
  | zero =>
    intro m i J hd hm
    obtain ⟨m, rfl⟩ : ∃ m', m = m' + 1 := ⟨m - 1, by omega⟩
    refine ⟨J, ?_, fun _ _ => rfl, fun k => by rw [if_neg (by omega)]⟩
    show M_begins_B2 F (M_begins_L2 F m) (iN i) J = _
    unfold M_begins_B2
    rw [if_pos (by rw [i_100, iN_le (by omega) (by omega)]; omega), i_0]
  | succ d ih =>
    intro m i J hd hm
    obtain ⟨m, rfl⟩ : ∃ m', m = m' + 1 := ⟨m - 1, by omega⟩
    obtain ⟨J1, q1, q2, q3⟩ := ih m (i + 1) (uJ J 47 i 0) (by omega) (by omega)
    refine ⟨J1, ?_, fun p hp => by rw [q2 p hp, uJ_o hp], fun k => ?_⟩
    · rw [← q1]
      show M_begins_B2 F (M_begins_L2 F m) (iN i) J = _
      unfold M_begins_B2
      rw [if_neg (by rw [i_100, iN_le (by omega) (by omega)]; omega), stI_n (by omega) (by omega), lt_e, i_1, iN_add]
    · rw [q3, uJ_ap]
      by_cases c : i ≤ k ∧ k < 100
      · rw [if_pos c]
        by_cases c2 : k = i
        · rw [if_neg (by omega), if_pos ⟨rfl, c2⟩]
        · rw [if_pos (by omega)]
      · rw [if_neg c, if_neg (by omega), if_neg (by omega)]
theorem bm_23 (hX : TxV X) : ∀ d m i (J : Ji), TxJ J l X → i + d = xk X → d < m → ∃ J1, M_begins_L23 F m (iN i) J = M_begins_L59 F F (iN 0) J1 ∧ (∀ p, p ≠ 47 → J1 p = J p) ∧ ∀ k, J1 47 k = if i ≤ k ∧ k < xk X then iN (tb X 21 k) else J 47 k := by
  have hk6 := hX.1.2.2.2.1
  intro d
  induction d with
  | zero =>
    intro m i J hJ hd hm
    obtain ⟨m, rfl⟩ : ∃ m', m = m' + 1 := ⟨m - 1, by omega⟩
    refine ⟨J, ?_, fun _ _ => rfl, fun k => by rw [if_neg (by omega)]⟩
    show M_begins_B23 F (M_begins_L23 F m) (iN i) J = _
    unfold M_begins_B23
    rw [hJ.tasks, Option.bind_some, if_pos (by rw [iN_le (by omega) (by omega)]; omega), i_0]
  | succ d ih =>
    intro m i J hJ hd hm
    have hl := hJ.l2
    obtain ⟨m, rfl⟩ : ∃ m', m = m' + 1 := ⟨m - 1, by omega⟩
    have z := (hJ.2.2.2.1 i (by omega)).2.1
    obtain ⟨J1, q1, q2, q3⟩ := ih m (i + 1) (uJ J 47 i (iN (tb X 21 i))) (hJ.fo hX (by rw [uJ_o (by omega)]) (fun o o1 o2 => uJ_o (by omega))) (by omega) (by omega)
    refine ⟨J1, ?_, fun p hp => by rw [q2 p hp, uJ_o hp], fun k => ?_⟩
    · rw [← q1]
      show M_begins_B23 F (M_begins_L23 F m) (iN i) J = _
      unfold M_begins_B23
      rw [hJ.tasks, Option.bind_some, if_neg (by rw [iN_le (by omega) (by omega)]; omega), hJ.lv, i_6, iN_mul, iN_add, ldI_n (by omega) (by omega), z, stI_n (by omega) (by omega), lt_e, i_1, iN_add]
    · rw [q3, uJ_ap]
      by_cases c : i ≤ k ∧ k < xk X
      · rw [if_pos c]
        by_cases c2 : k = i
        · rw [if_neg (by omega), if_pos ⟨rfl, c2⟩, c2]
        · rw [if_pos (by omega)]
      · rw [if_neg c, if_neg (by omega), if_neg (by omega)]
theorem bm_59 (hX : TxV X) : ∀ d m i (J : Ji), TxJ J l X → i + d = xm X → d < m → ∃ J1, M_begins_L59 F m (iN i) J = M_begins_L132 F F (iN 0) J1 ∧ (∀ p, p ≠ 47 → J1 p = J p) ∧ ∀ k, J1 47 k = if 42 + i ≤ k ∧ k < 42 + xm X then oM (tb X 31 (k - 42)) else if 48 + i ≤ k ∧ k < 48 + xm X then oM (tb X 32 (k - 48)) else if 66 + i ≤ k ∧ k < 66 + xm X then -2 else J 47 k := by
  have hm6 := hX.1.2.2.2.2.1
  intro d
  induction d with
  | zero =>
    intro m i J hJ hd hm
    obtain ⟨m, rfl⟩ : ∃ m', m = m' + 1 := ⟨m - 1, by omega⟩
    refine ⟨J, ?_, fun _ _ => rfl, fun k => by rw [if_neg (by omega), if_neg (by omega), if_neg (by omega)]⟩
    show M_begins_B59 F (M_begins_L59 F m) (iN i) J = _
    unfold M_begins_B59
    rw [hJ.men, Option.bind_some, if_pos (by rw [iN_le (by omega) (by omega)]; omega), i_0]
  | succ d ih =>
    intro m i J hJ hd hm
    have hl := hJ.l2
    obtain ⟨m, rfl⟩ : ∃ m', m = m' + 1 := ⟨m - 1, by omega⟩
    obtain ⟨_, z1, z2, _⟩ := hJ.2.2.2.2.2 i (by omega)
    obtain ⟨J1, q1, q2, q3⟩ := ih m (i + 1) (uJ (uJ (uJ J 47 (42 + i) (oM (tb X 31 i))) 47 (48 + i) (oM (tb X 32 i))) 47 (66 + i) (-2)) (hJ.fo hX (by rw [uJ_o (by omega), uJ_o (by omega), uJ_o (by omega)]) (fun o o1 o2 => by rw [uJ_o (by omega), uJ_o (by omega), uJ_o (by omega)])) (by omega) (by omega)
    refine ⟨J1, ?_, fun p hp => by rw [q2 p hp, uJ_o hp, uJ_o hp, uJ_o hp], fun k => ?_⟩
    · rw [← q1]
      show M_begins_B59 F (M_begins_L59 F m) (iN i) J = _
      unfold M_begins_B59
      rw [hJ.men, Option.bind_some, if_neg (by rw [iN_le (by omega) (by omega)]; omega), hJ.lv, i_6, iN_mul, iN_add, ldI_n (by omega) (by omega), z1, i_42, iN_add, stI_n (by omega) (by omega), uJ_o (show 0 ≠ 47 by omega), hJ.lv, iN_mul, iN_add, ldI_n (by omega) (by omega), uJ_o (show 32 ≠ 47 by omega), z2, i_48, iN_add, stI_n (by omega) (by omega), i_66, iN_add, stI_n (by omega) (by omega), lt_e, i_1, iN_add]
    · rw [q3, uJ_ap, uJ_ap, uJ_ap]
      by_cases c1 : 42 + i ≤ k ∧ k < 42 + xm X
      · rw [if_pos c1]
        by_cases c2 : k = 42 + i
        · rw [if_neg (by omega), if_neg (by omega), if_neg (by omega), if_neg (by omega), if_neg (by omega), if_pos ⟨rfl, c2⟩, c2]
          congr 2; omega
        · rw [if_pos (by omega)]
      · rw [if_neg c1, if_neg (show ¬ (42 + (i + 1) ≤ k ∧ k < 42 + xm X) by omega)]
        by_cases c3 : 48 + i ≤ k ∧ k < 48 + xm X
        · rw [if_pos c3]
          by_cases c2 : k = 48 + i
          · rw [if_neg (by omega), if_neg (by omega), if_neg (by omega), if_pos ⟨rfl, c2⟩, c2]
            congr 2; omega
          · rw [if_pos (by omega)]
        · rw [if_neg c3, if_neg (show ¬ (48 + (i + 1) ≤ k ∧ k < 48 + xm X) by omega)]
          by_cases c4 : 66 + i ≤ k ∧ k < 66 + xm X
          · rw [if_pos c4]
            by_cases c2 : k = 66 + i
            · rw [if_neg (by omega), if_pos ⟨rfl, c2⟩]
            · rw [if_pos (by omega)]
          · rw [if_neg c4, if_neg (by omega), if_neg (by omega), if_neg (by omega), if_neg (by omega)]
theorem bm_132 (hX : TxV X) : ∀ d m i (J : Ji), TxJ J l X → i + d = xt X → d < m → ∃ J1, M_begins_L132 F m (iN i) J = M_begins_L176 F F (iN 0) J1 ∧ (∀ p, p ≠ 47 → J1 p = J p) ∧ ∀ k, J1 47 k = if 72 + i ≤ k ∧ k < 72 + xt X then iN (tb X 18 (k - 72)) else J 47 k := by
  have ht6 := hX.1.2.2.1
  intro d
  induction d with
  | zero =>
    intro m i J hJ hd hm
    have hl := hJ.l2
    obtain ⟨m, rfl⟩ : ∃ m', m = m' + 1 := ⟨m - 1, by omega⟩
    refine ⟨J, ?_, fun _ _ => rfl, fun k => by rw [if_neg (by omega)]⟩
    show M_begins_B132 F (M_begins_L132 F m) (iN i) J = _
    unfold M_begins_B132
    rw [hJ.lv, ldI_n (by omega) (by omega), hJ.t, if_pos (by rw [iN_le (by omega) (by omega)]; omega), i_0]
  | succ d ih =>
    intro m i J hJ hd hm
    have hl := hJ.l2
    obtain ⟨m, rfl⟩ : ∃ m', m = m' + 1 := ⟨m - 1, by omega⟩
    have z := hJ.2.2.1 i (by omega)
    obtain ⟨J1, q1, q2, q3⟩ := ih m (i + 1) (uJ J 47 (72 + i) (iN (tb X 18 i))) (hJ.fo hX (by rw [uJ_o (by omega)]) (fun o o1 o2 => uJ_o (by omega))) (by omega) (by omega)
    refine ⟨J1, ?_, fun p hp => by rw [q2 p hp, uJ_o hp], fun k => ?_⟩
    · rw [← q1]
      show M_begins_B132 F (M_begins_L132 F m) (iN i) J = _
      unfold M_begins_B132
      rw [hJ.lv, ldI_n (by omega) (by omega), hJ.t, if_neg (by rw [iN_le (by omega) (by omega)]; omega), i_6, iN_mul, iN_add, ldI_n (by omega) (by omega), z, i_72, iN_add, stI_n (by omega) (by omega), lt_e, i_1, iN_add]
    · rw [q3, uJ_ap]
      by_cases c : 72 + i ≤ k ∧ k < 72 + xt X
      · rw [if_pos c]
        by_cases c2 : k = 72 + i
        · rw [if_neg (by omega), if_pos ⟨rfl, c2⟩, c2]
          congr 2; omega
        · rw [if_pos (by omega)]
      · rw [if_neg c, if_neg (by omega), if_neg (by omega)]
theorem bm_176 (hX : TxV X) : ∀ d m i (J : Ji), TxJ J l X → i + d = xd X → d < m → ∃ J1, M_begins_L176 F m (iN i) J = some J1 ∧ (∀ p, p ≠ 47 → J1 p = J p) ∧ ∀ k, J1 47 k = if k = 78 then shf X d i (J 47 78) else J 47 k := by
  have hd12 := hX.1.2.1
  intro d
  induction d with
  | zero =>
    intro m i J hJ hd hm
    have hl := hJ.l2
    obtain ⟨m, rfl⟩ : ∃ m', m = m' + 1 := ⟨m - 1, by omega⟩
    refine ⟨J, ?_, fun _ _ => rfl, fun k => ?_⟩
    · show M_begins_B176 F (M_begins_L176 F m) (iN i) J = _
      unfold M_begins_B176
      rw [hJ.lv, ldI_n (by omega) (by omega), hJ.d, if_pos (by rw [iN_le (by omega) (by omega)]; omega)]
    · by_cases c : k = 78
      · rw [if_pos c, c]; rfl
      · rw [if_neg c]
  | succ d ih =>
    intro m i J hJ hd hm
    have hl := hJ.l2
    obtain ⟨m, rfl⟩ : ∃ m', m = m' + 1 := ⟨m - 1, by omega⟩
    have z := (hJ.2.1 i (by omega)).2.2.2
    have z1 := (hX.2.1 i (by omega)).2.2.2.1
    by_cases c0 : tb X 16 i = 0
    · obtain ⟨J1, q1, q2, q3⟩ := ih m (i + 1) J hJ (by omega) (by omega)
      refine ⟨J1, ?_, q2, fun k => ?_⟩
      · rw [← q1]
        show M_begins_B176 F (M_begins_L176 F m) (iN i) J = _
        unfold M_begins_B176
        rw [hJ.lv, ldI_n (by omega) (by omega), hJ.d, if_neg (by rw [iN_le (by omega) (by omega)]; omega), i_12, iN_mul, iN_add, ldI_n (by omega) (by omega), z, if_pos (by rw [c0]; rfl), lt_e, i_1, iN_add]
      · rw [q3]
        show _ = if k = 78 then shf X d (i + 1) (if tb X 16 i = 0 then _ else _) else _
        rw [if_pos c0]
    · obtain ⟨J1, q1, q2, q3⟩ := ih m (i + 1) (uJ J 47 78 (J 47 78 ||| (1 <<< (iN i &&& 31)))) (hJ.fo hX (by rw [uJ_o (by omega)]) (fun o o1 o2 => uJ_o (by omega))) (by omega) (by omega)
      refine ⟨J1, ?_, fun p hp => by rw [q2 p hp, uJ_o hp], fun k => ?_⟩
      · rw [← q1]
        show M_begins_B176 F (M_begins_L176 F m) (iN i) J = _
        unfold M_begins_B176
        rw [hJ.lv, ldI_n (by omega) (by omega), hJ.d, if_neg (by rw [iN_le (by omega) (by omega)]; omega), i_12, iN_mul, iN_add, ldI_n (by omega) (by omega), z, if_neg (by rw [i_0, iN_eq (by omega) (by omega)]; exact c0), i_78, ldI_n (by omega) (by omega), stI_n (by omega) (by omega), lt_e, i_1, iN_add]
      · rw [q3]
        show _ = if k = 78 then shf X d (i + 1) (if tb X 16 i = 0 then _ else _) else _
        rw [if_neg c0, uJ_ss]
        by_cases c : k = 78
        · rw [if_pos c, if_pos c]
        · rw [if_neg c, if_neg c, uJ_ap, if_neg (fun hh => c hh.2)]
theorem bc_12 (hX : TxV X) (hT : TxT T tx X b e) : ∀ d m i (C : Ji), i + d = xd X → d < m → V_begins_L12 F T m tx (iN i) C = V_begins_L64 F T F tx (iN 0) (uJ C 0 8 (shf X d i (C 0 8))) := by
  have hd12 := hX.1.2.1
  have uid : ∀ C : Ji, uJ C 0 8 (C 0 8) = C := fun C => by
    funext p i
    rw [uJ_ap]
    by_cases c : p = 0 ∧ i = 8
    · rw [if_pos c, c.1, c.2]
    · rw [if_neg c]
  have uu : ∀ (C : Ji) (x y : Int32), uJ (uJ C 0 8 x) 0 8 y = uJ C 0 8 y := fun C x y => by
    funext p i
    rw [uJ_ap, uJ_ap]
    by_cases c : p = 0 ∧ i = 8
    · rw [if_pos c, uJ_ap, if_pos c]
    · rw [if_neg c, uJ_ap, if_neg c, if_neg c]
  intro d
  induction d with
  | zero =>
    intro m i C hd hm
    obtain ⟨m, rfl⟩ : ∃ m', m = m' + 1 := ⟨m - 1, by omega⟩
    show V_begins_B12 F (V_begins_L12 F T m) T tx (iN i) C = _
    unfold V_begins_B12
    rw [hT.r1, Option.bind_some, hT.z1, if_pos (by rw [iN_le (by omega) (by omega)]; omega), i_0]
    show _ = V_begins_L64 F T F tx (iN 0) (uJ C 0 8 (C 0 8))
    rw [uid]
  | succ d ih =>
    intro m i C hd hm
    obtain ⟨m, rfl⟩ : ∃ m', m = m' + 1 := ⟨m - 1, by omega⟩
    have hi : i < xd X := by omega
    show V_begins_B12 F (V_begins_L12 F T m) T tx (iN i) C = V_begins_L64 F T F tx (iN 0) (uJ C 0 8 (shf X d (i + 1) (if tb X 16 i = 0 then C 0 8 else C 0 8 ||| (1 <<< (iN i &&& 31)))))
    have z1 := (hX.2.1 i (by omega)).2.2.2.1
    have hB : ∀ s, V_begins_B52 F (V_begins_L12 F T m) T tx (iN i) s (C 0 8) C = V_begins_L64 F T F tx (iN 0) (uJ C 0 8 (shf X d (i + 1) (C 0 8 ||| s))) := fun s => by
      unfold V_begins_B52
      rw [lt_e, lt_e, i_1, iN_add, ih m (i + 1) _ (by omega) (by omega), uJ_ss, uu]
    unfold V_begins_B12
    rw [hT.r1, Option.bind_some, hT.z1, if_neg (by rw [iN_le (by omega) (by omega)]; omega), hT.r1, Option.bind_some, hT.g1 hi, Option.bind_some, hT.cd hi, hT.d3 hi, hB, hB]
    by_cases c0 : tb X 16 i = 0
    · rw [if_pos c0, if_pos (by rw [c0]; rfl), show C 0 8 ||| 0 = C 0 8 from Int32.or_zero]
    · rw [if_neg c0, if_neg (by rw [i_0, iN_eq (by omega) (by omega)]; exact c0)]
theorem bc_64 (hX : TxV X) (hT : TxT T tx X b e) : ∀ d m i (C : Ji), i + d = xt X → d < m → ∃ C1, V_begins_L64 F T m tx (iN i) C = V_begins_L103 F T F tx (iN 0) C1 ∧ (∀ p, p ≠ 11 → C1 p = C p) ∧ ∀ k, C1 11 k = if i ≤ k ∧ k < xt X then iN (tb X 18 k) else C 11 k := by
  have ht6 := hX.1.2.2.1
  intro d
  induction d with
  | zero =>
    intro m i C hd hm
    obtain ⟨m, rfl⟩ : ∃ m', m = m' + 1 := ⟨m - 1, by omega⟩
    refine ⟨C, ?_, fun _ _ => rfl, fun k => by rw [if_neg (by omega)]⟩
    show V_begins_B64 F (V_begins_L64 F T m) T tx (iN i) C = _
    unfold V_begins_B64
    rw [hT.r2, Option.bind_some, hT.z2, if_pos (by rw [iN_le (by omega) (by omega)]; omega), i_0]
  | succ d ih =>
    intro m i C hd hm
    obtain ⟨m, rfl⟩ : ∃ m', m = m' + 1 := ⟨m - 1, by omega⟩
    have hi : i < xt X := by omega
    obtain ⟨C1, q1, q2, q3⟩ := ih m (i + 1) (uJ C 11 i (iN (tb X 18 i))) (by omega) (by omega)
    refine ⟨C1, ?_, fun p hp => by rw [q2 p hp, uJ_o hp], fun k => ?_⟩
    · rw [← q1]
      show V_begins_B64 F (V_begins_L64 F T m) T tx (iN i) C = _
      unfold V_begins_B64
      rw [hT.r2, Option.bind_some, hT.z2, if_neg (by rw [iN_le (by omega) (by omega)]; omega), hT.r2, Option.bind_some, hT.g2 hi, Option.bind_some, hT.ct hi, hT.t1 hi, stI_n (by omega) (by omega), lt_e, i_1, iN_add]
    · rw [q3, uJ_ap]
      by_cases c : i ≤ k ∧ k < xt X
      · rw [if_pos c]
        by_cases c2 : k = i
        · rw [if_neg (by omega), if_pos ⟨rfl, c2⟩, c2]
        · rw [if_pos (by omega)]
      · rw [if_neg c, if_neg (by omega), if_neg (by omega)]
theorem bc_146 {k103 : Nat → Int32 → Ji → Option Ji} {k : Nat} (hk : k < 6) : ∀ d m s (C : Ji), s + d = 6 → d < m → ∃ C1, V_begins_L146 F k103 T m tx (iN k) (iN s) C = k103 tx (iN (k + 1)) C1 ∧ (∀ p, p ≠ 2 + k → C1 p = C p) ∧ ∀ i, C1 (2 + k) i = if s ≤ i ∧ i < 6 then 0 else C (2 + k) i := by
  intro d
  induction d with
  | zero =>
    intro m s C hd hm
    obtain ⟨m, rfl⟩ : ∃ m', m = m' + 1 := ⟨m - 1, by omega⟩
    refine ⟨C, ?_, fun _ _ => rfl, fun k => by rw [if_neg (by omega)]⟩
    show V_begins_B146 F k103 (V_begins_L146 F k103 T m) T tx (iN k) (iN s) C = _
    unfold V_begins_B146
    rw [if_pos (by rw [i_6, iN_le (by omega) (by omega)]; omega), lt_e, i_1, iN_add]
  | succ d ih =>
    intro m s C hd hm
    obtain ⟨m, rfl⟩ : ∃ m', m = m' + 1 := ⟨m - 1, by omega⟩
    obtain ⟨C1, q1, q2, q3⟩ := ih m (s + 1) (uJ C (2 + k) s 0) (by omega) (by omega)
    refine ⟨C1, ?_, fun p hp => by rw [q2 p hp, uJ_o hp], fun i => ?_⟩
    · rw [← q1]
      show V_begins_B146 F k103 (V_begins_L146 F k103 T m) T tx (iN k) (iN s) C = _
      unfold V_begins_B146
      rw [if_neg (by rw [i_6, iN_le (by omega) (by omega)]; omega), ix_n (by omega) (by omega), Option.bind_some, stI_n (by omega) (by omega), lt_e, i_1, iN_add]
    · rw [q3, uJ_ap]
      by_cases c : s ≤ i ∧ i < 6
      · rw [if_pos c]
        by_cases c2 : i = s
        · rw [if_neg (by omega), if_pos ⟨rfl, c2⟩]
        · rw [if_pos (by omega)]
      · rw [if_neg c, if_neg (by omega), if_neg (by omega)]
theorem bc_103 (hF : 2100 ≤ F) (hX : TxV X) (hT : TxT T tx X b e) : ∀ d m k (C : Ji), k + d = 6 → d < m → ∃ C1, V_begins_L103 F T m tx (iN k) C = V_begins_L175 F T F tx (iN 0) C1 ∧ (∀ p, p ≠ 8 → (p < 2 ∨ 8 ≤ p) → C1 p = C p) ∧ (∀ q, k ≤ q → q < xk X → C1 8 q = iN (tb X 21 q)) ∧ (∀ q s, k ≤ q → q < 6 → s < 6 → C1 (2 + q) s = 0) ∧ (∀ q, q < k → C1 8 q = C 8 q) ∧ ∀ q s, q < k → C1 (2 + q) s = C (2 + q) s := by
  have hk6 := hX.1.2.2.2.1
  intro d
  induction d with
  | zero =>
    intro m k C hd hm
    obtain ⟨m, rfl⟩ : ∃ m', m = m' + 1 := ⟨m - 1, by omega⟩
    refine ⟨C, ?_, fun _ _ _ => rfl, fun q h1 h2 => by omega, fun q s h1 h2 _ => by omega, fun _ _ => rfl, fun _ _ _ => rfl⟩
    show V_begins_B103 F (V_begins_L103 F T m) T tx (iN k) C = _
    unfold V_begins_B103
    rw [if_pos (by rw [i_6, iN_le (by omega) (by omega)]; omega), i_0]
  | succ d ih =>
    intro m k C hd hm
    obtain ⟨m, rfl⟩ : ∃ m', m = m' + 1 := ⟨m - 1, by omega⟩
    obtain ⟨v, hv, hB⟩ : ∃ v, (k < xk X → v = iN (tb X 21 k)) ∧ V_begins_B103 F (V_begins_L103 F T m) T tx (iN k) C = V_begins_B143 F (V_begins_L103 F T m) T tx (iN k) v (iN k) C := by
      by_cases ck : k < xk X
      · refine ⟨iN (tb X 21 k), fun _ => rfl, ?_⟩
        unfold V_begins_B103
        rw [if_neg (by rw [i_6, iN_le (by omega) (by omega)]; omega), hT.r3, Option.bind_some, hT.z3, if_neg (by rw [iN_le (by omega) (by omega)]; omega), hT.r3, Option.bind_some, hT.g3 ck, Option.bind_some, hT.ck ck, hT.k2 ck]
      · refine ⟨0, fun hh => absurd hh ck, ?_⟩
        unfold V_begins_B103
        rw [if_neg (by rw [i_6, iN_le (by omega) (by omega)]; omega), hT.r3, Option.bind_some, hT.z3, if_pos (by rw [iN_le (by omega) (by omega)]; omega)]
    obtain ⟨C1, q1, q2, q3⟩ := bc_146 (F := F) (T := T) (tx := tx) (k103 := V_begins_L103 F T m) (k := k) (by omega) 6 F 0 (uJ C 8 k v) (by omega) (by omega)
    obtain ⟨C2, r1, r2, r3, r4, r5, r6⟩ := ih m (k + 1) C1 (by omega) (by omega)
    refine ⟨C2, ?_, fun p p1 p2 => by rw [r2 p p1 p2, q2 p (by omega), uJ_o p1], fun q h1 h2 => ?_, fun q s h1 h2 h3 => ?_, fun q hq => ?_, fun q s hq => ?_⟩
    · show V_begins_B103 F (V_begins_L103 F T m) T tx (iN k) C = _
      rw [hB]
      unfold V_begins_B143
      rw [stI_n (by omega) (by omega), i_0, q1, r1]
    · by_cases c : q = k
      · rw [r5 q (by omega), q2 8 (by omega), c, uJ_ss]; exact hv (by omega)
      · exact r3 q (by omega) h2
    · by_cases c : q = k
      · rw [r6 q s (by omega), c, q3, if_pos ⟨by omega, h3⟩]
      · exact r4 q s (by omega) h2 h3
    · rw [r5 q (by omega), q2 8 (by omega), uJ_ap, if_neg (by omega)]
    · rw [r6 q s (by omega), q2 (2 + q) (by omega), uJ_o (by omega)]
theorem bc_175 (hX : TxV X) (hT : TxT T tx X b e) : ∀ d n m (C : Ji), m + d = xm X → d < n → ∃ C1, V_begins_L175 F T n tx (iN m) C = some C1 ∧ (∀ p, p ≠ 9 → p ≠ 10 → p ≠ 12 → p ≠ 13 → p ≠ 14 → C1 p = C p) ∧ (∀ q, m ≤ q → q < xm X → C1 9 q = oC (tb X 31 q) ∧ C1 10 q = oC (tb X 32 q) ∧ C1 12 q = 0 ∧ C1 13 q = 0 ∧ C1 14 q = -2) ∧ ∀ p q, q < m → C1 p q = C p q := by
  have hm6 := hX.1.2.2.2.2.1
  intro d
  induction d with
  | zero =>
    intro n m C hd hm
    obtain ⟨n, rfl⟩ : ∃ n', n = n' + 1 := ⟨n - 1, by omega⟩
    refine ⟨C, ?_, fun _ _ _ _ _ _ => rfl, fun q h1 h2 => by omega, fun _ _ _ => rfl⟩
    show V_begins_B175 F (V_begins_L175 F T n) T tx (iN m) C = _
    unfold V_begins_B175
    rw [hT.r4, Option.bind_some, hT.z4, if_pos (by rw [iN_le (by omega) (by omega)]; omega)]
  | succ d ih =>
    intro n m C hd hm
    obtain ⟨n, rfl⟩ : ∃ n', n = n' + 1 := ⟨n - 1, by omega⟩
    have hi : m < xm X := by omega
    obtain ⟨C1, q1, q2, q3, q4⟩ := ih n (m + 1) (uJ (uJ (uJ (uJ (uJ C 9 m (oC (tb X 31 m))) 10 m (oC (tb X 32 m))) 12 m 0) 13 m 0) 14 m (-2)) (by omega) (by omega)
    refine ⟨C1, ?_, fun p h1 h2 h3 h4 h5 => by rw [q2 p h1 h2 h3 h4 h5, uJ_o h5, uJ_o h4, uJ_o h3, uJ_o h2, uJ_o h1], fun q h1 h2 => ?_, fun p q hq => by rw [q4 p q (by omega), uJ_ap, if_neg (by omega), uJ_ap, if_neg (by omega), uJ_ap, if_neg (by omega), uJ_ap, if_neg (by omega), uJ_ap, if_neg (by omega)]⟩
    · rw [← q1]
      show V_begins_B175 F (V_begins_L175 F T n) T tx (iN m) C = _
      unfold V_begins_B175
      rw [hT.r4, Option.bind_some, hT.z4, if_neg (by rw [iN_le (by omega) (by omega)]; omega), hT.r4, Option.bind_some, hT.g4 hi, Option.bind_some, hT.cm hi, hT.m2 hi, stI_n (by omega) (by omega), hT.r4, Option.bind_some, hT.g4 hi, Option.bind_some, hT.cm hi, hT.m3 hi, stI_n (by omega) (by omega), stI_n (by omega) (by omega), stI_n (by omega) (by omega), stI_n (by omega) (by omega), lt_e, i_1, iN_add]
    · by_cases c : q = m
      · subst c
        rw [q4 9 q (by omega), q4 10 q (by omega), q4 12 q (by omega), q4 13 q (by omega), q4 14 q (by omega)]
        refine ⟨?_, ?_, ?_, ?_, ?_⟩
        · rw [uJ_o (by omega), uJ_o (by omega), uJ_o (by omega), uJ_o (by omega), uJ_ss]
        · rw [uJ_o (by omega), uJ_o (by omega), uJ_o (by omega), uJ_ss]
        · rw [uJ_o (by omega), uJ_o (by omega), uJ_ss]
        · rw [uJ_o (by omega), uJ_ss]
        · rw [uJ_ss]
      · exact q3 q (by omega) h2
/-- a village begins, on both sides -/
theorem bn_ok (hF : 2100 ≤ F) (hX : TxV X) (hT : TxT T tx X b e) {J : Ji} (hJ : TxJ J l X) (C : Ji) : ∃ C1 J1, V_begins F T tx C = some C1 ∧ M_begins F J = some J1 ∧ VR X C1 (J1 47) ∧ VV X (J1 47) ∧ ∀ p, p ≠ 47 → J1 p = J p := by
  have hk6 := hX.1.2.2.2.1
  have hm6 := hX.1.2.2.2.2.1
  have ht6 := hX.1.2.2.1
  have hd12 := hX.1.2.1
  have fo : ∀ {J1 J2 : Ji}, TxJ J1 l X → (∀ p, p ≠ 47 → J2 p = J1 p) → TxJ J2 l X := fun h hp => h.fo hX (by rw [hp 0 (by omega)]) (fun o o1 o2 => hp o (by omega))
  obtain ⟨J2, a1, a2, a3⟩ := bm_2 (F := F) 100 F 0 J (by omega) (by omega)
  have hJ2 := fo hJ a2
  obtain ⟨J3, b1, b2, b3⟩ := bm_23 (F := F) hX (xk X) F 0 J2 hJ2 (by omega) (by omega)
  have hJ3 := fo hJ2 b2
  obtain ⟨J4, c1, c2, c3⟩ := bm_59 (F := F) hX (xm X) F 0 J3 hJ3 (by omega) (by omega)
  have hJ4 := fo hJ3 c2
  obtain ⟨J5, d1, d2, d3⟩ := bm_132 (F := F) hX (xt X) F 0 J4 hJ4 (by omega) (by omega)
  have hJ5 := fo hJ4 d2
  obtain ⟨J6, e1, e2, e3⟩ := bm_176 (F := F) hX (xd X) F 0 J5 hJ5 (by omega) (by omega)
  have hM : M_begins F J = some J6 := by
    unfold M_begins
    rw [i_0, a1, b1, c1, d1, e1]
  have v : ∀ k, k < 100 → J6 47 k = if k = 78 then shf X (xd X) 0 0 else if 72 ≤ k ∧ k < 72 + xt X then iN (tb X 18 (k - 72)) else if 42 ≤ k ∧ k < 42 + xm X then oM (tb X 31 (k - 42)) else if 48 ≤ k ∧ k < 48 + xm X then oM (tb X 32 (k - 48)) else if 66 ≤ k ∧ k < 66 + xm X then -2 else if k < xk X then iN (tb X 21 k) else 0 := fun k hk => by
    have z78 : J5 47 78 = 0 := by rw [d3, if_neg (by omega), c3, if_neg (by omega), if_neg (by omega), if_neg (by omega), b3, if_neg (by omega), a3, if_pos (by omega)]
    rw [e3, z78, d3, c3, b3, a3]
    simp only [Nat.zero_le, true_and, Nat.add_zero, hk, if_true]
  have u1 := bc_12 (F := F) hX hT (xd X) F 0 (uJ (uJ C 0 8 0) 0 9 0) (by omega) (by omega)
  obtain ⟨C2, f1, f2, f3⟩ := bc_64 (F := F) hX hT (xt X) F 0 (uJ (uJ (uJ C 0 8 0) 0 9 0) 0 8 (shf X (xd X) 0 ((uJ (uJ C 0 8 0) 0 9 0) 0 8))) (by omega) (by omega)
  obtain ⟨C3, g1, g2, g3, g4, g5, g6⟩ := bc_103 hF hX hT 6 F 0 C2 (by omega) (by omega)
  obtain ⟨C4, h1, h2, h3, h4⟩ := bc_175 (F := F) hX hT (xm X) F 0 C3 (by omega) (by omega)
  have hC : V_begins F T tx C = some C4 := by
    unfold V_begins
    rw [lt_e, lt_e]
    show V_begins_L12 F T F tx (iN 0) (uJ (uJ C 0 8 0) 0 9 0) = some C4
    rw [u1, f1, g1, h1]
  have z08 : C4 0 8 = shf X (xd X) 0 0 := by
    rw [h2 0 (by omega) (by omega) (by omega) (by omega) (by omega), g2 0 (by omega) (by omega), f2 0 (by omega), uJ_ss, uJ_sn (by omega), uJ_ss]
  have z09 : C4 0 9 = 0 := by
    rw [h2 0 (by omega) (by omega) (by omega) (by omega) (by omega), g2 0 (by omega) (by omega), f2 0 (by omega), uJ_sn (by omega), uJ_ss]
  have hb31 : ∀ m, m < xm X → tb X 31 m < 2147483648 ∧ tb X 32 m < 2147483648 := fun m hm => by
    rcases (hX.2.2.2.2.2 m hm).2 with ⟨q1, q2⟩ | ⟨k, s, q1, q2, q3, q4⟩
    · omega
    · have := (hX.2.2.2.1 k q3).2.2; omega
  refine ⟨C4, J6, hC, hM, ⟨fun k hk => ?_, fun k s hk hs => ?_, fun m hm => ?_, fun t ht => ?_, ?_, ?_⟩, ⟨⟨fun k => tb X 21 k, fun k hk => ⟨?_, (hX.2.2.2.1 k hk).2.1⟩, fun k s hk hs => ⟨0, ?_, by show 0 + tb X 21 k ≤ 999; have := (hX.2.2.2.1 k hk).2.1; omega⟩⟩, fun m hm => ?_, fun t ht => Or.inl ⟨tb X 18 t, hX.2.2.1 t ht, ?_⟩, ?_⟩, fun p hp => by rw [e2 p hp, d2 p hp, c2 p hp, b2 p hp, a2 p hp]⟩
  · rw [h2 8 (by omega) (by omega) (by omega) (by omega) (by omega), g3 k (by omega) hk, v k (by omega), if_neg (by omega), if_neg (by omega), if_neg (by omega), if_neg (by omega), if_neg (by omega), if_pos hk]
  · have := (hX.2.2.2.1 k hk).2.2
    rw [h2 (2 + k) (by omega) (by omega) (by omega) (by omega) (by omega), g4 k s (by omega) (by omega) (by omega), v _ (by omega), if_neg (by omega), if_neg (by omega), if_neg (by omega), if_neg (by omega), if_neg (by omega), if_neg (by omega)]
  · obtain ⟨w1, w2, w3, w4, w5⟩ := h3 m (by omega) hm
    refine ⟨?_, ?_, ?_, ?_, ?_⟩
    · rw [w1, v _ (by omega), if_neg (by omega), if_neg (by omega), if_pos (by omega), Nat.add_sub_cancel_left, oM_on (hb31 m hm).1]
    · rw [w2, v _ (by omega), if_neg (by omega), if_neg (by omega), if_neg (by omega), if_pos (by omega), Nat.add_sub_cancel_left, oM_on (hb31 m hm).2]
    · rw [w3, v _ (by omega), if_neg (by omega), if_neg (by omega), if_neg (by omega), if_neg (by omega), if_neg (by omega), if_neg (by omega)]
    · rw [w4, v _ (by omega), if_neg (by omega), if_neg (by omega), if_neg (by omega), if_neg (by omega), if_neg (by omega), if_neg (by omega)]
    · rw [w5, v _ (by omega), if_neg (by omega), if_neg (by omega), if_neg (by omega), if_neg (by omega), if_pos (by omega)]
  · rw [h2 11 (by omega) (by omega) (by omega) (by omega) (by omega), g2 11 (by omega) (by omega), f3, if_pos (by omega), v _ (by omega), if_neg (by omega), if_pos (by omega), Nat.add_sub_cancel_left]
  · rw [z08, v 78 (by omega), if_pos rfl]
  · rw [z09, v 79 (by omega), if_neg (by omega), if_neg (by omega), if_neg (by omega), if_neg (by omega), if_neg (by omega), if_neg (by omega)]
  · rw [v k (by omega), if_neg (by omega), if_neg (by omega), if_neg (by omega), if_neg (by omega), if_neg (by omega), if_pos hk]
  · have := (hX.2.2.2.1 k hk).2.2
    rw [v _ (by omega), if_neg (by omega), if_neg (by omega), if_neg (by omega), if_neg (by omega), if_neg (by omega), if_neg (by omega)]; rfl
  · rw [v (42 + m) (by omega), if_neg (by omega), if_neg (by omega), if_pos (by omega), Nat.add_sub_cancel_left, v (48 + m) (by omega), if_neg (by omega), if_neg (by omega), if_neg (by omega), if_pos (by omega), Nat.add_sub_cancel_left]
    rcases (hX.2.2.2.2.2 m hm).2 with ⟨q1, q2⟩ | ⟨k, s, q1, q2, q3, q4⟩
    · rw [q1, q2]; exact Or.inl ⟨rfl, rfl⟩
    · rw [q1, q2]; exact Or.inr ⟨k, s, q3, q4, rfl, rfl⟩
  · rw [v _ (by omega), if_neg (by omega), if_pos (by omega), Nat.add_sub_cancel_left]
  · rw [v 78 (by omega), if_pos rfl]
    exact shf_sm (xd X) 0 0 (by omega) ⟨0, by omega, rfl⟩
end BN
