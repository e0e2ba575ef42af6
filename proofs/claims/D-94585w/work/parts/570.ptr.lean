/-! PURE LAW 12: what might be: takes, choices, trials -/
set_option maxRecDepth 100000
theorem VR.ev {X : Xt} {C : Ji} {v v1 : Nat → Int32} (hX : TxV X) (h : VR X C v) (hv : ∀ i, i < 100 → v1 i = v i) : VR X C v1 := by
  obtain ⟨h1, h2, h3, h4, h5, h6⟩ := h
  have hm6 := hX.1.2.2.2.2.1
  have hk6 := hX.1.2.2.2.1
  have ht6 := hX.1.2.2.1
  refine ⟨fun k hk => ?_, fun k s hk hs => ?_, fun m hm => ?_, fun t ht => ?_, ?_, ?_⟩
  · rw [hv k (by omega)]; exact h1 k hk
  · have := (hX.2.2.2.1 k hk).2.2
    rw [hv _ (by omega)]; exact h2 k s hk hs
  · rw [hv _ (by omega), hv _ (by omega), hv _ (by omega), hv _ (by omega), hv _ (by omega)]; exact h3 m hm
  · rw [hv _ (by omega)]; exact h4 t ht
  · rw [hv _ (by omega)]; exact h5
  · rw [hv _ (by omega)]; exact h6
theorem VV.ev {X : Xt} {v v1 : Nat → Int32} (hX : TxV X) (h : VV X v) (hv : ∀ i, i < 100 → v1 i = v i) : VV X v1 := by
  obtain ⟨⟨w, h1, h2⟩, h3, h4, h5⟩ := h
  have hm6 := hX.1.2.2.2.2.1
  have hk6 := hX.1.2.2.2.1
  have ht6 := hX.1.2.2.1
  refine ⟨⟨w, fun k hk => ?_, fun k s hk hs => ?_⟩, fun m hm => ?_, fun t ht => ?_, ?_⟩
  · rw [hv k (by omega)]; exact h1 k hk
  · have := (hX.2.2.2.1 k hk).2.2
    rw [hv _ (by omega)]; exact h2 k s hk hs
  · rw [hv _ (by omega), hv _ (by omega)]; exact h3 m hm
  · rw [hv _ (by omega)]; exact h4 t ht
  · rw [hv _ (by omega)]; exact h5
/-- a village of which all that counts is as in another -/
theorem VR.cc {X : Xt} {C C1 : Ji} {v : Nat → Int32} (hX : TxV X) (h : VR X C v) (hc : ∀ o i, 2 ≤ o → o ≤ 14 → i < 6 → C1 o i = C o i) (h8 : C1 0 8 = C 0 8) (h9 : C1 0 9 = C 0 9) : VR X C1 v := by
  obtain ⟨h1, h2, h3, h4, h5, h6⟩ := h
  have hm6 := hX.1.2.2.2.2.1
  have hk6 := hX.1.2.2.2.1
  have ht6 := hX.1.2.2.1
  refine ⟨fun k hk => ?_, fun k s hk hs => ?_, fun m hm => ?_, fun t ht => ?_, ?_, ?_⟩
  · rw [hc 8 k (by omega) (by omega) (by omega)]; exact h1 k hk
  · have := (hX.2.2.2.1 k hk).2.2
    rw [hc (2 + k) s (by omega) (by omega) (by omega)]; exact h2 k s hk hs
  · rw [hc 9 m (by omega) (by omega) (by omega), hc 10 m (by omega) (by omega) (by omega), hc 12 m (by omega) (by omega) (by omega), hc 13 m (by omega) (by omega) (by omega), hc 14 m (by omega) (by omega) (by omega)]; exact h3 m hm
  · rw [hc 11 t (by omega) (by omega) (by omega)]; exact h4 t ht
  · rw [h8]; exact h5
  · rw [h9]; exact h6
theorem cp_s {A B : Ji} {o i : Nat} (hi : i < 6) : cpJ A o B o i = A o i := by
  unfold cpJ va_cpy
  rw [vf_self]
  simp [hi]
theorem cp_o {A B : Ji} {o p : Nat} (h : p ≠ o) : cpJ A o B p = B p := vf_ne _ _ h
theorem tk_c {A B : Ji} {o i : Nat} (h2 : 2 ≤ o) (h14 : o ≤ 14) (hi : i < 6) : V_takes A B o i = A o i := by
  unfold V_takes
  rw [uJ_o (by omega), uJ_o (by omega)]
  have : o = 2 ∨ o = 3 ∨ o = 4 ∨ o = 5 ∨ o = 6 ∨ o = 7 ∨ o = 8 ∨ o = 9 ∨ o = 10 ∨ o = 11 ∨ o = 12 ∨ o = 13 ∨ o = 14 := by omega
  rcases this with rfl | rfl | rfl | rfl | rfl | rfl | rfl | rfl | rfl | rfl | rfl | rfl | rfl <;> simp (disch := omega) only [cp_o, cp_s]
theorem tk_8 {A B : Ji} : V_takes A B 0 8 = A 0 8 := by
  unfold V_takes
  rw [uJ_sn (by omega), uJ_ss]
theorem tk_9 {A B : Ji} : V_takes A B 0 9 = A 0 9 := by
  unfold V_takes
  rw [uJ_ss]
theorem tk_vr {X : Xt} {A B : Ji} {v : Nat → Int32} (hX : TxV X) (h : VR X A v) : VR X (V_takes A B) v := h.cc hX (fun o i h1 h2 h3 => tk_c h1 h2 h3) tk_8 tk_9
theorem tk_mL {F : Nat} : ∀ n i (J : Ji), 100 < n + i → i ≤ 100 → ∃ J1, M_takes_L2 F n (iN i) J = some J1 ∧ (∀ o, o ≠ 48 → J1 o = J o) ∧ (∀ j, j < i → J1 48 j = J 48 j) ∧ ∀ j, i ≤ j → j < 100 → J1 48 j = J 47 j := by
  intro n
  induction n with
  | zero => intro i J h1 h2; omega
  | succ n ih =>
    intro i J h1 h2
    by_cases hi : i < 100
    · obtain ⟨J1, e1, e2, e3, e4⟩ := ih (i + 1) (uJ J 48 i (J 47 i)) (by omega) (by omega)
      refine ⟨J1, ?_, fun o ho => by rw [e2 o ho, uJ_o ho], fun j hj => by rw [e3 j (by omega), uJ_sn (by omega)], fun j h3 h4 => ?_⟩
      · rw [← e1]
        simp (disch := omega) only [M_takes_L2, M_takes_B2, i_100, i_1, iN_le, if_neg (show ¬ 100 ≤ i by omega), ldI_n, stI_n, lt_e, iN_add]
      · by_cases c : j = i
        · subst c
          rw [e3 j (by omega), uJ_ss]
        · rw [e4 j (by omega) h4, uJ_o (by omega)]
    · have : i = 100 := by omega
      subst this
      refine ⟨J, ?_, fun _ _ => rfl, fun _ _ => rfl, fun j h3 h4 => by omega⟩
      simp (disch := omega) only [M_takes_L2, M_takes_B2, i_100, iN_le, if_pos (Nat.le_refl _)]
theorem tk_m {F : Nat} (hF : 200 ≤ F) (J : Ji) : ∃ J1, M_takes F J = some J1 ∧ (∀ o, o ≠ 48 → J1 o = J o) ∧ ∀ j, j < 100 → J1 48 j = J 47 j := by
  obtain ⟨J1, e1, e2, e3, e4⟩ := tk_mL (F := F) F 0 J (by omega) (by omega)
  exact ⟨J1, e1, e2, fun j hj => e4 j (by omega) hj⟩
/-- what else the model holds, over trials -/
def nG (J J1 : Ji) : Prop := (∀ o, (o < 45 ∨ o = 47 ∨ 57 ≤ o) → o ≠ 0 → J1 o = J o) ∧ ∀ i, i ≠ 63 → i ≠ 76 → J1 0 i = J 0 i
theorem nG.rf {J : Ji} : nG J J := ⟨fun _ _ _ => rfl, fun _ _ _ => rfl⟩
theorem nG.tr {J J1 J2 : Ji} (h : nG J J1) (h2 : nG J1 J2) : nG J J2 := ⟨fun o a c => by rw [h2.1 o a c, h.1 o a c], fun i hi h3 => by rw [h2.2 i hi h3, h.2 i hi h3]⟩
theorem nF.g {J J1 : Ji} (h : nF J J1) : nG J J1 := ⟨h.1, fun i hi _ => h.2 i hi⟩
theorem nG.r {J J1 : Ji} (h : ∀ o, o ≠ 48 → J1 o = J o) : nG J J1 := ⟨fun o a c => h o (by omega), fun i _ _ => by rw [h 0 (by omega)]⟩
theorem nF.r {J J1 : Ji} (h : ∀ o, o ≠ 48 → J1 o = J o) : nF J J1 := ⟨fun o a c => h o (by omega), fun i _ => by rw [h 0 (by omega)]⟩
theorem nF.v47 {J J1 : Ji} (h : nF J J1) : J1 47 = J 47 := h.1 47 (by omega) (by omega)
theorem nG.tx {J J1 : Ji} {l : Nat} {X : Xt} (h : nG J J1) (hX : TxV X) (hJ : TxJ J l X) : TxJ J1 l X := hJ.fo hX (h.2 18 (by omega) (by omega)) (fun o a1 a2 => h.1 o (by omega) (by omega))
theorem nG.v47 {J J1 : Ji} (h : nG J J1) : J1 47 = J 47 := h.1 47 (by omega) (by omega)
def vG (V V1 : Nat → Ji) : Prop := ∀ k, k ≠ 1 → V1 k = V k
theorem vG.rf {V : Nat → Ji} : vG V V := fun _ _ => rfl
theorem vG.tr {V V1 V2 : Nat → Ji} (h : vG V V1) (h2 : vG V1 V2) : vG V V2 := fun k hk => by rw [h2 k hk, h k hk]
theorem vG.u {V : Nat → Ji} {C : Ji} : vG V (vf_upd V 1 C) := fun _ hk => vf_ne _ _ hk
/-! choices -/
def cs (X : Xt) : Nat → Nat
  | 0 => 0
  | k + 1 => cs X k + xs X k
theorem cs_le {X : Xt} (hX : TxV X) : ∀ k, k ≤ xk X → cs X k ≤ 6 * k := by
  intro k
  induction k with
  | zero => intro _; exact Nat.le_refl _
  | succ k ih =>
    intro h
    have := ih (by omega)
    have := (hX.2.2.2.1 k (by omega)).2.2
    show cs X k + xs X k ≤ 6 * (k + 1)
    omega
def nch (X : Xt) : Nat := cs X (xk X) + 1
def chC (o : Option (Nat × Nat)) : Int32 := match o with
  | none => -2
  | some p => iN (10 * p.1 + p.2)
def ch1 (o : Option (Nat × Nat)) : Int32 := match o with
  | none => iM 1
  | some p => iN p.1
def ch2 (o : Option (Nat × Nat)) : Int32 := match o with
  | none => iM 1
  | some p => iN p.2
def chV (X : Xt) (o : Option (Nat × Nat)) : Prop := match o with
  | none => True
  | some p => p.1 < xk X ∧ p.2 < xs X p.1
section TR
variable {T : Th} {tx : Nat} {X : Xt} {b : Nat → Nat} {e : Nat → Nat → Nat} {l F : Nat}
theorem nch_le (hX : TxV X) : 1 ≤ nch X ∧ nch X ≤ 37 := by
  have := cs_le hX (xk X) (Nat.le_refl _)
  have := hX.1.2.2.2.1
  unfold nch
  omega
theorem ch_cL (hX : TxV X) (hT : TxT T tx X b e) : ∀ n k, xk X < n + k → k ≤ xk X → S_choices_L4 F T tx n (iN (cs X k + 1)) (iN k) = some (iN (nch X)) := by
  have hk6 := hX.1.2.2.2.1
  intro n
  induction n with
  | zero => intro k h1 h2; omega
  | succ n ih =>
    intro k h1 h2
    by_cases hk : k < xk X
    · have := ih (k + 1) (by omega) (by omega)
      simp (disch := omega) only [S_choices_L4, S_choices_B4, hT.r3, Option.bind_some, hT.z3, iN_le, if_neg (show ¬ xk X ≤ k by omega), hT.g3 hk, hT.ck hk, hT.k3 hk, hT.ksz hk, lt_e, i_1, iN_add]
      rw [← this]
      congr 2
      show cs X k + 1 + xs X k = cs X k + xs X k + 1
      omega
    · have : k = xk X := by omega
      subst this
      simp (disch := omega) only [S_choices_L4, S_choices_B4, hT.r3, Option.bind_some, hT.z3, iN_le, if_pos (Nat.le_refl _)]
      rfl
theorem ch_c (hX : TxV X) (hT : TxT T tx X b e) (hF : 10 ≤ F) : S_choices F T tx = some (iN (nch X)) := by
  have hk6 := hX.1.2.2.2.1
  exact ch_cL (F := F) hX hT F 0 (by omega) (by omega)
theorem ch_mL (hX : TxV X) {J : Ji} (hJ : TxJ J l X) : ∀ n k, xk X < n + k → k ≤ xk X → M_options_L4 F J n (iN (cs X k + 1)) (iN k) = some (iN (nch X)) := by
  have hk6 := hX.1.2.2.2.1
  intro n
  induction n with
  | zero => intro k h1 h2; omega
  | succ n ih =>
    intro k h1 h2
    by_cases hk : k < xk X
    · have := ih (k + 1) (by omega) (by omega)
      simp (disch := omega) only [M_options_L4, M_options_B4, hJ.tasks, Option.bind_some, iN_le, if_neg (show ¬ xk X ≤ k by omega), hJ.steps hX hk, lt_e, i_1, iN_add]
      rw [← this]
      congr 2
      show cs X k + 1 + xs X k = cs X k + xs X k + 1
      omega
    · have : k = xk X := by omega
      subst this
      simp (disch := omega) only [M_options_L4, M_options_B4, hJ.tasks, Option.bind_some, iN_le, if_pos (Nat.le_refl _)]
      rfl
theorem ch_m (hX : TxV X) {J : Ji} (hJ : TxJ J l X) (hF : 10 ≤ F) : M_options F J = some (iN (nch X)) := by
  have hk6 := hX.1.2.2.2.1
  exact ch_mL (F := F) hX hJ F 0 (by omega) (by omega)
theorem ch_iL (hX : TxV X) (hT : TxT T tx X b e) : ∀ n k left, xk X < n + k → k ≤ xk X → left + cs X k < cs X (xk X) → ∃ p : Nat × Nat, chV X (some p) ∧ S_choice_L13 F T tx n (iN left) (iN k) = some (chC (some p)) ∧ ∀ (J : Ji) (m : Nat), TxJ J l X → m < 6 → M_leaves_L7 F n (iN m) (iN left) (iN k) J = some (1, uJ (uJ J 48 (42 + m) (ch1 (some p))) 48 (48 + m) (ch2 (some p))) := by
  have hk6 := hX.1.2.2.2.1
  have hc := cs_le hX (xk X) (Nat.le_refl _)
  intro n
  induction n with
  | zero => intro k left h1 h2; omega
  | succ n ih =>
    intro k left h1 h2 h3
    have hk : k < xk X := by
      rcases Nat.lt_or_ge k (xk X) with h | h
      · exact h
      · have : k = xk X := by omega
        subst this
        omega
    have hs6 := (hX.2.2.2.1 k hk).2.2
    by_cases c : xs X k ≤ left
    · obtain ⟨p, p1, p2, p3⟩ := ih (k + 1) (left - xs X k) (by omega) (by omega) (by show left - xs X k + (cs X k + xs X k) < _; omega)
      refine ⟨p, p1, ?_, fun J m hJ hm => ?_⟩
      · rw [← p2]
        simp (disch := omega) only [S_choice_L13, S_choice_B13, hT.r3, Option.bind_some, hT.z3, iN_le, if_neg (show ¬ xk X ≤ k by omega), hT.g3 hk, hT.ck hk, hT.k3 hk, hT.ksz hk, if_pos c, lt_e, i_1, iN_add, iN_sub]
      · rw [← p3 J m hJ hm]
        simp (disch := omega) only [M_leaves_L7, M_leaves_B7, i_0, iN_lt, show ¬ left < 0 by omega, if_false, hJ.tasks, Option.bind_some, iN_le, if_neg (show ¬ xk X ≤ k by omega), hJ.steps hX hk, if_neg (show ¬ left < xs X k by omega), iN_sub, lt_e, i_1, iN_add]
    · refine ⟨(k, left), ⟨hk, show left < xs X k by omega⟩, ?_, fun J m hJ hm => ?_⟩
      · simp (disch := omega) only [S_choice_L13, S_choice_B13, hT.r3, Option.bind_some, hT.z3, iN_le, if_neg (show ¬ xk X ≤ k by omega), hT.g3 hk, hT.ck hk, hT.k3 hk, hT.ksz hk, if_neg c, i_10, iN_mul, iN_add, chC]
      · have z : (0 : Int32) ≤ iN left := by rw [i_0, iN_le (by omega) (by omega)]; omega
        have nz : ¬ iN left < 0 := by rw [i_0, iN_lt (by omega) (by omega)]; omega
        simp (disch := omega) only [M_leaves_L7, M_leaves_B7, M_leaves_B45, M_leaves_B60, M_leaves_B78, M_leaves_B96, if_neg nz, hJ.tasks, Option.bind_some, iN_le, if_neg (show ¬ xk X ≤ k by omega), hJ.steps hX hk, iN_lt, if_pos (show left < xs X k by omega), iN_eq, if_neg (show ¬ k = xk X by omega), if_pos z, i_42, i_48, iN_add, stI_n, ch1, ch2]
/-- a choice is the same on both sides -/
theorem ch_i (hX : TxV X) (hT : TxT T tx X b e) (hF : 10 ≤ F) {i : Nat} (hi : i < nch X) : ∃ o, chV X o ∧ (o = none ↔ i = 0) ∧ S_choice F T tx (iN i) = some (chC o) ∧ ∀ (J : Ji) (m : Nat), TxJ J l X → m < 6 → M_leaves F (iN m) (iN i) J = some (1, uJ (uJ J 48 (42 + m) (ch1 o)) 48 (48 + m) (ch2 o)) := by
  have hk6 := hX.1.2.2.2.1
  have hc := cs_le hX (xk X) (Nat.le_refl _)
  unfold nch at hi
  by_cases c : i = 0
  · subst c
    have e1 : iN 0 - 1 = iM 1 := by rw [i_1, iN_subm (by omega)]
    refine ⟨none, trivial, by simp, ?_, fun J m hJ hm => ?_⟩
    · simp only [S_choice, lt_e, e1, if_neg (show ¬ (0 : Int32) ≤ iM 1 by decide), chC]
    · obtain ⟨g, rfl⟩ : ∃ g, F = g + 1 := ⟨F - 1, by omega⟩
      have e2 : iM 1 < 0 := by decide
      have e3 : ¬ (0 : Int32) ≤ iM 1 := by decide
      have e4 : (-1 : Int32) = iM 1 := rfl
      have hB : M_leaves_B45 (g + 1) (iN m) (iM 1) 0 J = M_leaves_B60 (g + 1) (iN m) (iM 1) 0 J := by
        simp only [M_leaves_B45, hJ.tasks, Option.bind_some, if_pos e2]
        by_cases c : (0 : Int32) = iN (xk X)
        · rw [if_pos c]
        · rw [if_neg c]
      simp (disch := omega) only [M_leaves, lt_e, e1, M_leaves_L7, M_leaves_B7, if_pos e2, hB, M_leaves_B60, M_leaves_B78, M_leaves_B96, if_neg e3, i_42, i_48, iN_add, stI_n, e4, ch1, ch2]
  · have e1 : iN i - 1 = iN (i - 1) := by rw [i_1, iN_sub (by omega)]
    obtain ⟨p, p1, p2, p3⟩ := ch_iL (F := F) (l := l) hX hT F 0 (i - 1) (by omega) (by omega) (by show i - 1 + 0 < _; omega)
    refine ⟨some p, p1, by simp [c], ?_, fun J m hJ hm => ?_⟩
    · rw [← p2]
      simp (disch := omega) only [S_choice, lt_e, e1, i_0, iN_le, Nat.zero_le, if_true]
    · rw [← p3 J m hJ hm]
      simp only [M_leaves, lt_e, e1, i_0]
theorem ch1_b {o : Option (Nat × Nat)} (hX : TxV X) (h : chV X o) : (o = none ∧ ch1 o = iM 1 ∧ ch2 o = iM 1 ∧ chC o = -2) ∨ ∃ k s, o = some (k, s) ∧ k < xk X ∧ s < xs X k ∧ ch1 o = iN k ∧ ch2 o = iN s ∧ chC o = iN (10 * k + s) := by
  rcases o with _ | ⟨k, s⟩
  · exact Or.inl ⟨rfl, rfl, rfl, rfl⟩
  · exact Or.inr ⟨k, s, rfl, h.1, h.2, rfl, rfl, rfl⟩
theorem ch_code (hX : TxV X) (hT : TxT T tx X b e) (hF : 10 ≤ F) {i m : Nat} (hi : i < nch X) (hm : m < 6) {J : Ji} (hJ : TxJ J l X) {x : Int32} (hx : S_choice F T tx (iN i) = some x) : ∃ J1, M_codeOf F (iN m) (iN i) J = some (x, J1) ∧ nG J J1 := by
  obtain ⟨o, o1, o2, o3, o4⟩ := ch_i (l := l) hX hT hF hi
  have hk6 := hX.1.2.2.2.1
  have ho : x = chC o := by
    rw [o3] at hx
    exact (Option.some.inj hx).symm
  subst ho
  refine ⟨uJ (uJ J 48 (42 + m) (ch1 o)) 48 (48 + m) (ch2 o), ?_, nG.r (fun o ho => by rw [uJ_o ho, uJ_o ho])⟩
  simp (disch := omega) only [M_codeOf, o4 J m hJ hm, Option.bind_some, if_neg (show ¬ (1 : Int32) = 0 by decide), i_42, i_48, iN_add, ldI_n, uJ_ss, uJ_sn]
  rcases ch1_b hX o1 with ⟨rfl, q1, q2, q3⟩ | ⟨k, s, rfl, hk, hs, q1, q2, q3⟩
  · rw [q1, if_pos (show iM 1 < 0 by decide), q3]
  · have hs6 := (hX.2.2.2.1 k hk).2.2
    rw [q1, q2, q3, if_neg (show ¬ iN k < 0 by rw [i_0, iN_lt (by omega) (by omega)]; omega), i_10, iN_mul, iN_add]
/-- what is left in the trial -/
theorem VR.left (hX : TxV X) {C : Ji} {J : Ji} {m : Nat} {o : Option (Nat × Nat)} (ho : chV X o) (hm : m < xm X) (h : VR X C (J 48)) : VR X (uJ (uJ C 9 m (onC (ch1 o))) 10 m (onC (ch2 o))) (uJ (uJ J 48 (42 + m) (ch1 o)) 48 (48 + m) (ch2 o) 48) := by
  obtain ⟨h1, h2, h3, h4, h5, h6⟩ := h
  have hm6 := hX.1.2.2.2.2.1
  have hk6 := hX.1.2.2.2.1
  have ht6 := hX.1.2.2.1
  refine ⟨fun k hk => ?_, fun k s hk hs => ?_, fun m' hm' => ?_, fun t ht => ?_, ?_, ?_⟩
  · simp (disch := omega) only [uJ_o, uJ_sn]; exact h1 k hk
  · have := (hX.2.2.2.1 k hk).2.2
    simp (disch := omega) only [uJ_o, uJ_sn]; exact h2 k s hk hs
  · by_cases c : m' = m
    · subst c
      simp (disch := omega) only [uJ_o, uJ_sn, uJ_ss]
      exact ⟨trivial, trivial, (h3 m' hm').2.2⟩
    · simp (disch := omega) only [uJ_o, uJ_sn]
      exact h3 m' hm'
  · simp (disch := omega) only [uJ_o, uJ_sn]; exact h4 t ht
  · simp (disch := omega) only [uJ_o, uJ_sn]; exact h5
  · simp (disch := omega) only [uJ_o, uJ_sn]; exact h6
theorem VV.left (hX : TxV X) {J : Ji} {m : Nat} {o : Option (Nat × Nat)} (ho : chV X o) (hm : m < xm X) (h : VV X (J 48)) : VV X (uJ (uJ J 48 (42 + m) (ch1 o)) 48 (48 + m) (ch2 o) 48) := by
  obtain ⟨⟨w, h1, h2⟩, h3, h4, h5⟩ := h
  have hm6 := hX.1.2.2.2.2.1
  have hk6 := hX.1.2.2.2.1
  have ht6 := hX.1.2.2.1
  refine ⟨⟨w, fun k hk => ?_, fun k s hk hs => ?_⟩, fun m' hm' => ?_, fun t ht => ?_, ?_⟩
  · simp (disch := omega) only [uJ_sn]; exact h1 k hk
  · have := (hX.2.2.2.1 k hk).2.2
    simp (disch := omega) only [uJ_sn]; exact h2 k s hk hs
  · by_cases c : m' = m
    · subst c
      simp (disch := omega) only [uJ_sn, uJ_ss]
      rcases ch1_b hX ho with ⟨rfl, q1, q2, q3⟩ | ⟨k, s, rfl, hk, hs, q1, q2, q3⟩
      · exact Or.inl ⟨q1, q2⟩
      · exact Or.inr ⟨k, s, hk, hs, q1, q2⟩
    · simp (disch := omega) only [uJ_sn]
      exact h3 m' hm'
  · simp (disch := omega) only [uJ_sn]; exact h4 t ht
  · simp (disch := omega) only [uJ_sn]; exact h5
theorem ch_then (hX : TxV X) {V : Nat → Ji} {m : Nat} {o : Option (Nat × Nat)} (ho : chV X o) (hm : m < 6) : S_leavesThen T tx (iN m) (chC o) V = some (vf_upd (vf_upd V 1 (uJ (V 1) 9 m (onC (ch1 o)))) 1 (uJ (uJ (V 1) 9 m (onC (ch1 o))) 10 m (onC (ch2 o)))) := by
  have hk6 := hX.1.2.2.2.1
  rcases ch1_b hX ho with ⟨rfl, q1, q2, q3⟩ | ⟨k, s, rfl, hk, hs, q1, q2, q3⟩
  · rw [q1, q2, q3]
    have n0 : ¬ (0 : Int32) ≤ -2 := by decide
    have e : onC (iM 1) = -2 := by decide
    simp (disch := omega) only [S_leavesThen, S_leavesThen_B21, S_leavesThen_B43, if_neg n0, stV_n, e, vf_self]
  · have hs6 := (hX.2.2.2.1 k hk).2.2
    rw [q1, q2, q3, onC_n (by omega), onC_n (by omega)]
    have n0 : (0 : Int32) ≤ iN (10 * k + s) := by rw [i_0, iN_le (by omega) (by omega)]; omega
    have e1 : iN (10 * k + s) / 10 = iN k := by
      rw [i_10, iN_div (by omega) (by omega), show (10 * k + s) / 10 = k by omega]
    have e2 : iN (10 * k + s) - iN k * 10 = iN s := by
      rw [i_10, iN_mul, iN_sub (by omega), show 10 * k + s - k * 10 = s by omega]
    simp (disch := omega) only [S_leavesThen, S_leavesThen_B21, S_leavesThen_B43, if_pos n0, stV_n, e1, e2, vf_self]
/-- both sides begin a trial -/
theorem tr_takes (hX : TxV X) (hF : 900 ≤ F) {V : Nat → Ji} {J : Ji} (hJ : TxJ J l X) (hR : VR X (V 0) (J 47)) (hV : VV X (J 47)) : ∃ J1, M_takes F J = some J1 ∧ nF J J1 ∧ TxJ J1 l X ∧ VR X (vf_upd V 1 (V_takes (V 0) (V 1)) 1) (J1 48) ∧ VV X (J1 48) ∧ ∀ i, i < 100 → J1 48 i = J 47 i := by
  obtain ⟨J1, e1, e2, e3⟩ := tk_m (F := F) (by omega) J
  refine ⟨J1, e1, nF.r e2, (nF.r e2).tx hX hJ, ?_, hV.ev hX e3, e3⟩
  rw [vf_self]
  exact (tk_vr hX hR).ev hX e3
/-- a night in the trial -/
theorem tr_night (hX : TxV X) (hF : 900 ≤ F) (hT : TxT T tx X b e) {V : Nat → Ji} {J : Ji} (hJ : TxJ J l X) (hR : VR X (V 1) (J 48)) (hV : VV X (J 48)) : ∃ g C2 J2, S_brings F T tx V = some (g, vf_upd V 1 C2) ∧ V_night F T tx (V 1) = some C2 ∧ M_wholeNight F J = some (g, J2) ∧ nF J J2 ∧ VR X C2 (J2 48) := by
  obtain ⟨w1, w2, C2, J2, p1, p2, p3, p4, p5, p6, p7⟩ := pl_night hX hF hT hJ hR hV
  refine ⟨w2 - w1, C2, J2, ?_, p2, p4, p7, p5⟩
  simp only [S_brings, p1, p2, Option.bind_some, vf_self, p3]
/-- one man's choice tried -/
theorem tr_one (hX : TxV X) (hF : 900 ≤ F) (hT : TxT T tx X b e) {V : Nat → Ji} {J : Ji} (hJ : TxJ J l X) (hR : VR X (V 0) (J 47)) (hV : VV X (J 47)) {m i : Nat} (hm : m < xm X) (hi : i < nch X) : ∃ x g V4 V5 J1, S_choice F T tx (iN i) = some x ∧ S_leavesThen T tx (iN m) x (vf_upd V 1 (V_takes (V 0) (V 1))) = some V4 ∧ S_brings F T tx V4 = some (g, V5) ∧ vG V V5 ∧ M_gainBy F (iN m) (iN i) J = some (g, J1) ∧ nF J J1 ∧ (i = 0 → x = -2) := by
  have hm6 := hX.1.2.2.2.2.1
  obtain ⟨o, o1, o2, o3, o4⟩ := ch_i (l := l) (F := F) hX hT (by omega) hi
  obtain ⟨J1, e1, e2, e3, e4, e5, _⟩ := tr_takes hX hF hJ hR hV
  have h4 := o4 J1 m e3 (by omega)
  have ht := ch_then (T := T) (tx := tx) (V := vf_upd V 1 (V_takes (V 0) (V 1))) hX o1 (show m < 6 by omega)
  have g2 : nF J1 (uJ (uJ J1 48 (42 + m) (ch1 o)) 48 (48 + m) (ch2 o)) := nF.r (fun o ho => by rw [uJ_o ho, uJ_o ho])
  obtain ⟨g, C2, J2, n1, n2, n3, n4, n5⟩ := tr_night (V := vf_upd (vf_upd (vf_upd V 1 (V_takes (V 0) (V 1))) 1 (uJ (vf_upd V 1 (V_takes (V 0) (V 1)) 1) 9 m (onC (ch1 o)))) 1 (uJ (uJ (vf_upd V 1 (V_takes (V 0) (V 1)) 1) 9 m (onC (ch1 o))) 10 m (onC (ch2 o)))) hX hF hT (g2.tx hX e3) (by rw [vf_self]; exact e4.left hX o1 hm) (e5.left hX o1 hm)
  refine ⟨chC o, g, _, _, J2, o3, ht, n1, ?_, ?_, (e2.tr g2).tr n4, fun h0 => ?_⟩
  · intro k hk
    rw [vf_ne _ _ hk, vf_ne _ _ hk, vf_ne _ _ hk, vf_ne _ _ hk]
  · simp only [M_gainBy, e1, Option.bind_some, h4, n3]
  · rw [o2.2 h0]
    rfl
/-- two men's -/
theorem tr_two (hX : TxV X) (hF : 900 ≤ F) (hT : TxT T tx X b e) {V : Nat → Ji} {J : Ji} (hJ : TxJ J l X) (hR : VR X (V 0) (J 47)) (hV : VV X (J 47)) {m m2 i j : Nat} (hm : m < xm X) (hm2 : m2 < xm X) (hi : i < nch X) (hj : j < nch X) : ∃ x y V4 V5 J1 J2 J3, S_choice F T tx (iN i) = some x ∧ S_leavesThen T tx (iN m) x (vf_upd V 1 (V_takes (V 0) (V 1))) = some V4 ∧ S_choice F T tx (iN j) = some y ∧ S_leavesThen T tx (iN m2) y V4 = some V5 ∧ M_takes F J = some J1 ∧ M_leaves F (iN m) (iN i) J1 = some (1, J2) ∧ M_leaves F (iN m2) (iN j) J2 = some (1, J3) ∧ vG V V5 ∧ nF J J3 ∧ TxJ J3 l X ∧ VR X (V5 1) (J3 48) ∧ VV X (J3 48) := by
  have hm6 := hX.1.2.2.2.2.1
  obtain ⟨o, o1, o2, o3, o4⟩ := ch_i (l := l) (F := F) hX hT (by omega) hi
  obtain ⟨p, p1, p2, p3, p4⟩ := ch_i (l := l) (F := F) hX hT (by omega) hj
  obtain ⟨J1, e1, e2, e3, e4, e5, _⟩ := tr_takes hX hF hJ hR hV
  have h4 := o4 J1 m e3 (by omega)
  have g2 : nF J1 (uJ (uJ J1 48 (42 + m) (ch1 o)) 48 (48 + m) (ch2 o)) := nF.r (fun o ho => by rw [uJ_o ho, uJ_o ho])
  have h5 := p4 _ m2 (g2.tx hX e3) (by omega)
  have g3 : nF (uJ (uJ J1 48 (42 + m) (ch1 o)) 48 (48 + m) (ch2 o)) (uJ (uJ (uJ (uJ J1 48 (42 + m) (ch1 o)) 48 (48 + m) (ch2 o)) 48 (42 + m2) (ch1 p)) 48 (48 + m2) (ch2 p)) := nF.r (fun o ho => by rw [uJ_o ho, uJ_o ho])
  have r1 := e4.left hX o1 hm
  have v1 := e5.left hX o1 hm
  have r2 := r1.left hX p1 hm2
  have v2 := v1.left hX p1 hm2
  have ht := ch_then (T := T) (tx := tx) (V := vf_upd V 1 (V_takes (V 0) (V 1))) hX o1 (show m < 6 by omega)
  have ht2 := ch_then (T := T) (tx := tx) (V := vf_upd (vf_upd (vf_upd V 1 (V_takes (V 0) (V 1))) 1 (uJ (vf_upd V 1 (V_takes (V 0) (V 1)) 1) 9 m (onC (ch1 o)))) 1 (uJ (uJ (vf_upd V 1 (V_takes (V 0) (V 1)) 1) 9 m (onC (ch1 o))) 10 m (onC (ch2 o)))) hX p1 (show m2 < 6 by omega)
  refine ⟨chC o, chC p, _, _, J1, _, _, o3, ht, p3, ht2, e1, h4, h5, ?_, (e2.tr g2).tr g3, g3.tx hX (g2.tx hX e3), ?_, v2⟩
  · intro k hk
    rw [vf_ne _ _ hk, vf_ne _ _ hk, vf_ne _ _ hk, vf_ne _ _ hk, vf_ne _ _ hk]
  · rw [vf_self, vf_self]
    exact r2
end TR
