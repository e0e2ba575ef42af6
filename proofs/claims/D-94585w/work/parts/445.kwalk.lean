set_option maxRecDepth 100000
theorem a_ldcL {X : Ctx} {cc : ByteArray} {own : String} {D : Dd} {d : Nat → Prop} {L : Nat × Nat × Nat × Nat} {mL fr lo : Nat} {c z : Nat} {R : Heap → Prop} {T : Th} {pc : Nat} {lv : List (Nat × Value)} {stk : List Value} {α : Type} {out : α} {tx : String} {index : Nat} {f : Nat → Option α} (hX : Ax X cc own D d L mL fr lo) (hdg : decode cc pc = .ok (.ldc index, 2)) (hE : lS D own index tx f = some out) (kk : ∀ b, f b = some out → Wk X c z (RD D R d L T) (pc + 2) lv (.ref b :: stk)) : Wk X c z (RD D R d L T) pc lv stk := by
  obtain ⟨b, h1, hE⟩ := ob_ hE
  unfold sK at h1
  rw [Option.map_eq_some_iff] at h1
  obtain ⟨⟨o, i, t, q⟩, h2, h3⟩ := h1
  have h4 := List.mem_of_find?_eq_some h2
  have h5 := List.find?_some h2
  simp only [decide_eq_true_eq] at h5
  obtain ⟨e1, e2, e3⟩ := h5
  subst e1
  subst e2
  subst e3
  have h3 : q = b := h3
  subst h3
  exact a_ldcS hX h4 hdg (kk _ hE)
theorem dv_X0 : ∀ k, k < 19 → defaultValue (tyX0 k) = if isR 0 k = true then .null else .int 0 := by
  intro k hk
  match k, hk with
  | 0, _ => rfl
  | 1, _ => rfl
  | 2, _ => rfl
  | 3, _ => rfl
  | 4, _ => rfl
  | 5, _ => rfl
  | 6, _ => rfl
  | 7, _ => rfl
  | 8, _ => rfl
  | 9, _ => rfl
  | 10, _ => rfl
  | 11, _ => rfl
  | 12, _ => rfl
  | 13, _ => rfl
  | 14, _ => rfl
  | 15, _ => rfl
  | 16, _ => rfl
  | 17, _ => rfl
  | 18, _ => rfl
  | k + 19, hk => exact absurd hk (by omega)
theorem dv_X1 : ∀ k, k < 8 → defaultValue (tyX1 k) = if isR 1 k = true then .null else .int 0 := by
  intro k hk
  match k, hk with
  | 0, _ => rfl
  | 1, _ => rfl
  | 2, _ => rfl
  | 3, _ => rfl
  | 4, _ => rfl
  | 5, _ => rfl
  | 6, _ => rfl
  | 7, _ => rfl
  | k + 8, hk => exact absurd hk (by omega)
theorem dv_X2 : ∀ k, k < 8 → defaultValue (tyX2 k) = if isR 2 k = true then .null else .int 0 := by
  intro k hk
  match k, hk with
  | 0, _ => rfl
  | 1, _ => rfl
  | 2, _ => rfl
  | 3, _ => rfl
  | 4, _ => rfl
  | 5, _ => rfl
  | 6, _ => rfl
  | 7, _ => rfl
  | k + 8, hk => exact absurd hk (by omega)
theorem dv_X3 : ∀ k, k < 7 → defaultValue (tyX3 k) = if isR 3 k = true then .null else .int 0 := by
  intro k hk
  match k, hk with
  | 0, _ => rfl
  | 1, _ => rfl
  | 2, _ => rfl
  | 3, _ => rfl
  | 4, _ => rfl
  | 5, _ => rfl
  | 6, _ => rfl
  | k + 7, hk => exact absurd hk (by omega)
theorem dv_X5 : ∀ k, k < 14 → defaultValue (tyX5 k) = if isR 5 k = true then .null else .int 0 := by
  intro k hk
  match k, hk with
  | 0, _ => rfl
  | 1, _ => rfl
  | 2, _ => rfl
  | 3, _ => rfl
  | 4, _ => rfl
  | 5, _ => rfl
  | 6, _ => rfl
  | 7, _ => rfl
  | 8, _ => rfl
  | 9, _ => rfl
  | 10, _ => rfl
  | 11, _ => rfl
  | 12, _ => rfl
  | 13, _ => rfl
  | k + 14, hk => exact absurd hk (by omega)
theorem dv_X6 : ∀ k, k < 7 → defaultValue (tyX6 k) = if isR 6 k = true then .null else .int 0 := by
  intro k hk
  match k, hk with
  | 0, _ => rfl
  | 1, _ => rfl
  | 2, _ => rfl
  | 3, _ => rfl
  | 4, _ => rfl
  | 5, _ => rfl
  | 6, _ => rfl
  | k + 7, hk => exact absurd hk (by omega)
theorem dv_X7 : ∀ k, k < 2 → defaultValue (tyX7 k) = if isR 7 k = true then .null else .int 0 := by
  intro k hk
  match k, hk with
  | 0, _ => rfl
  | 1, _ => rfl
  | k + 2, hk => exact absurd hk (by omega)
theorem dv_X8 : ∀ k, k < 83 → defaultValue (tyX8 k) = if isR 8 k = true then .null else .int 0 := by
  intro k hk
  match k, hk with
  | 0, _ => rfl
  | 1, _ => rfl
  | 2, _ => rfl
  | 3, _ => rfl
  | 4, _ => rfl
  | 5, _ => rfl
  | 6, _ => rfl
  | 7, _ => rfl
  | 8, _ => rfl
  | 9, _ => rfl
  | 10, _ => rfl
  | 11, _ => rfl
  | 12, _ => rfl
  | 13, _ => rfl
  | 14, _ => rfl
  | 15, _ => rfl
  | 16, _ => rfl
  | 17, _ => rfl
  | 18, _ => rfl
  | 19, _ => rfl
  | 20, _ => rfl
  | 21, _ => rfl
  | 22, _ => rfl
  | 23, _ => rfl
  | 24, _ => rfl
  | 25, _ => rfl
  | 26, _ => rfl
  | 27, _ => rfl
  | 28, _ => rfl
  | 29, _ => rfl
  | 30, _ => rfl
  | 31, _ => rfl
  | 32, _ => rfl
  | 33, _ => rfl
  | 34, _ => rfl
  | 35, _ => rfl
  | 36, _ => rfl
  | 37, _ => rfl
  | 38, _ => rfl
  | 39, _ => rfl
  | 40, _ => rfl
  | 41, _ => rfl
  | 42, _ => rfl
  | 43, _ => rfl
  | 44, _ => rfl
  | 45, _ => rfl
  | 46, _ => rfl
  | 47, _ => rfl
  | 48, _ => rfl
  | 49, _ => rfl
  | 50, _ => rfl
  | 51, _ => rfl
  | 52, _ => rfl
  | 53, _ => rfl
  | 54, _ => rfl
  | 55, _ => rfl
  | 56, _ => rfl
  | 57, _ => rfl
  | 58, _ => rfl
  | 59, _ => rfl
  | 60, _ => rfl
  | 61, _ => rfl
  | 62, _ => rfl
  | 63, _ => rfl
  | 64, _ => rfl
  | 65, _ => rfl
  | 66, _ => rfl
  | 67, _ => rfl
  | 68, _ => rfl
  | 69, _ => rfl
  | 70, _ => rfl
  | 71, _ => rfl
  | 72, _ => rfl
  | 73, _ => rfl
  | 74, _ => rfl
  | 75, _ => rfl
  | 76, _ => rfl
  | 77, _ => rfl
  | 78, _ => rfl
  | 79, _ => rfl
  | 80, _ => rfl
  | 81, _ => rfl
  | 82, _ => rfl
  | k + 83, hk => exact absurd hk (by omega)
theorem gD_X0_10_X0 {X : Ctx} {cc : ByteArray} {D : Dd} {cells slots : Nat} {P : Heap → Prop} {pc : Nat} {lv : List (Nat × Value)} {stk : List Value} {T : Th} {α : Type} {out : α} {a : Nat} {f : Option Nat → Option α} (hC : Cx X cc RX0 vwCl arTy D) (hDy : ∀ H, P H → Dy D T H) (hdg : decode cc pc = .ok (.getfield 10, 3)) (hE : dR T a 0 0 f = some out) (kk : ∀ x, f x = some out → Wk X cells slots P (pc + 3) lv (va_rf x :: stk)) : Wk X cells slots P pc lv (.ref a :: stk) := by
  obtain ⟨ha, hE⟩ := dR_of hE
  exact dy_get (ref := TX0 0 |>.1) hC hDy ha cl_X0 in_X0 0 (by decide) q517 rfl hdg (kk _ hE)
theorem gD_X0_19_X0 {X : Ctx} {cc : ByteArray} {D : Dd} {cells slots : Nat} {P : Heap → Prop} {pc : Nat} {lv : List (Nat × Value)} {stk : List Value} {T : Th} {α : Type} {out : α} {a : Nat} {f : Option Nat → Option α} (hC : Cx X cc RX0 vwCl arTy D) (hDy : ∀ H, P H → Dy D T H) (hdg : decode cc pc = .ok (.getfield 19, 3)) (hE : dR T a 0 1 f = some out) (kk : ∀ x, f x = some out → Wk X cells slots P (pc + 3) lv (va_rf x :: stk)) : Wk X cells slots P pc lv (.ref a :: stk) := by
  obtain ⟨ha, hE⟩ := dR_of hE
  exact dy_get (ref := TX0 1 |>.1) hC hDy ha cl_X0 in_X0 1 (by decide) q518 rfl hdg (kk _ hE)
theorem gD_X0_53_X0 {X : Ctx} {cc : ByteArray} {D : Dd} {cells slots : Nat} {P : Heap → Prop} {pc : Nat} {lv : List (Nat × Value)} {stk : List Value} {T : Th} {α : Type} {out : α} {a : Nat} {f : Option Nat → Option α} (hC : Cx X cc RX0 vwCl arTy D) (hDy : ∀ H, P H → Dy D T H) (hdg : decode cc pc = .ok (.getfield 53, 3)) (hE : dR T a 0 9 f = some out) (kk : ∀ x, f x = some out → Wk X cells slots P (pc + 3) lv (va_rf x :: stk)) : Wk X cells slots P pc lv (.ref a :: stk) := by
  obtain ⟨ha, hE⟩ := dR_of hE
  exact dy_get (ref := TX0 9 |>.1) hC hDy ha cl_X0 in_X0 9 (by decide) q526 rfl hdg (kk _ hE)
set_option maxHeartbeats 4000000 in
theorem w_K_Sleeper {X : Ctx} {D : Dd} {R : Heap → Prop} {d : Nat → Prop} {L : Nat × Nat × Nat × Nat} {T : Th} {out : Unit} (hX : Ax X cX6_init RX6 D d L 1 1 24) (hSt : Stb R d) (hR : RtA X none (RD D R d L T) none D L) (hin : "<init>" = "<init>" → X.2.2.2.2.2.2.2.2.1.name = "<init>") (a0 : Nat) (hE : K_Sleeper a0 = some out) (c z : Nat) : Wk X c z (RD D R d L T) 0 [(0, .ref a0)] [] := by
  have hC := hX.1
  have hnL := hX.2.2.1
  have hDy : ∀ {T : Th} (H : Heap), RD D R d L T H → Dy D T H := fun _ h => h.2.1
  unfold K_Sleeper at hE
  refine k_aload_n (pc := 0) hC dX6_init_0 rfl 0 rfl ?_
  refine a_objInit (pc := 1) hX q411 dX6_init_1 (Nat.le_of_ble_eq_true rfl) (Nat.le_of_ble_eq_true rfl) ?_
  cases hE
  exact a_vret (pc := 4) hX hR dX6_init_4 (by rfl) (fun _ h => h)
theorem ct_K_Sleeper (l : Launch) (D : Dd) (A : Nat → Prop) (R : Heap → Prop) (d : Nat → Prop) (L : Nat × Nat × Nat × Nat) (T : Th) (hSt : Stb R d) (hdA : ∀ q, d q → A q) (hAB : ∀ q, A q → D.2.2.2.1.heap.size ≤ q) (a0 : Nat) (out : Unit) (hE : K_Sleeper a0 = some out) : Ct l yX6_init (ws_ yX6_init cX6_init 1 none) (rmA 1 24 L T) vwCl arTy D A [.ref a0] (RD D R d L T) (RD D R d L T) none (L.1 - tN T) (L.2.1 - tZ T) := by
  refine Ct.ofA (lv := [(0, .ref a0)]) (by decide) (Nat.le_of_ble_eq_true rfl) rfl hdA hAB ?_
  intro X hl hX hR hXA hin
  exact w_K_Sleeper hX hSt hR hin a0 hE
theorem cw_K_Sleeper_X5 {X : Ctx} {cc : ByteArray} {D : Dd} {d : Nat → Prop} {L : Nat × Nat × Nat × Nat} {mL fr lo : Nat} {T : Th} (hX : Ax X cc RX5 D d L mL fr lo) (h1 : 1 + 1 ≤ fr) (h2 : 8 + (1 + 11) + 24 ≤ lo) : va_CN X.2.2.2.1 X.2.2.2.2.1 X.2.2.2.2.2.2.1 RX5 43 yX6_init "SleepWork" cX6_init 1 none (ws_ yX6_init cX6_init 1 none) (rmA 1 24 L T) (L.1 - tN T) (L.2.1 - tZ T) 0 ∧ yX6_init.name = "<init>" ∧ (Cond.instanceMethod yX6_init).before X.2.2.2.2.2.2.1 X.2.2.2.2.1 = true := ⟨va_cnB 0 (cx_w hX.1) (lw_meth q410) rfl rfl rfl (hX.1.K.2.2.1 _ q408 rfl) (cx_w hX.1 _ q126) (by decide +kernel) (by rw [hX.2.2.2.1, hX.2.2.2.2.1]; exact ⟨h1, h2⟩), rfl, cx_w hX.1 _ q409⟩
set_option maxHeartbeats 4000000 in
theorem w_K_Asked {X : Ctx} {D : Dd} {R : Heap → Prop} {d : Nat → Prop} {L : Nat × Nat × Nat × Nat} {out : Th} (hX : Ax X cX7_init RX7 D d L 1 1 24) (hSt : Stb R d) (hR : RtA X none (RD D R d L out) none D L) (hin : "<init>" = "<init>" → X.2.2.2.2.2.2.2.2.1.name = "<init>") (a0 : Nat) (T : Th) (hE : K_Asked a0 T = some out) (c z : Nat) : Wk X c z (RD D R d L T) 0 [(0, .ref a0)] [] := by
  have hC := hX.1
  have hnL := hX.2.2.1
  have hDy : ∀ {T : Th} (H : Heap), RD D R d L T H → Dy D T H := fun _ h => h.2.1
  unfold K_Asked at hE
  refine k_aload_n (pc := 0) hC dX7_init_0 rfl 0 rfl ?_
  refine a_objInit (pc := 1) hX q440 dX7_init_1 (Nat.le_of_ble_eq_true rfl) (Nat.le_of_ble_eq_true rfl) ?_
  refine k_aload_n (pc := 4) hC dX7_init_4 rfl 0 rfl ?_
  refine k_bipush (pc := 5) (v := 6) hC dX7_init_5 (by decide) ?_
  refine a_newI (pc := 7) hX hSt dX7_init_7 hE (fun T1 eT1 hE c z => ?_)
  refine a_putFR (pc := 9) (y := ((some (tN T)))) hX hSt cl_X7 in_X7 0 (by decide) rfl tyX7 tyX7_ok nmX7 (by exact q441) rfl rfl rfl (hin rfl) (by first | rfl | (cases hE <;> rfl)) (by first | rfl | (cases hE <;> rfl)) dX7_init_9 hE (fun T2 _ hE => ?_)
  cases hE
  exact a_vret (pc := 12) hX hR dX7_init_12 (by rfl) (fun _ h => h)
theorem ct_K_Asked (l : Launch) (D : Dd) (A : Nat → Prop) (R : Heap → Prop) (d : Nat → Prop) (L : Nat × Nat × Nat × Nat) (T : Th) (hSt : Stb R d) (hdA : ∀ q, d q → A q) (hAB : ∀ q, A q → D.2.2.2.1.heap.size ≤ q) (a0 : Nat) (out : Th) (hE : K_Asked a0 T = some out) : Ct l yX7_init (ws_ yX7_init cX7_init 1 none) (rmA 1 24 L T) vwCl arTy D A [.ref a0] (RD D R d L T) (RD D R d L out) none (L.1 - tN T) (L.2.1 - tZ T) := by
  refine Ct.ofA (lv := [(0, .ref a0)]) (by decide) (Nat.le_of_ble_eq_true rfl) rfl hdA hAB ?_
  intro X hl hX hR hXA hin
  exact w_K_Asked hX hSt hR hin a0 T hE
theorem cw_K_Asked_X5 {X : Ctx} {cc : ByteArray} {D : Dd} {d : Nat → Prop} {L : Nat × Nat × Nat × Nat} {mL fr lo : Nat} {T : Th} (hX : Ax X cc RX5 D d L mL fr lo) (h1 : 1 + 1 ≤ fr) (h2 : 8 + (1 + 11) + 24 ≤ lo) : va_CN X.2.2.2.1 X.2.2.2.2.1 X.2.2.2.2.2.2.1 RX5 50 yX7_init "SleepWork" cX7_init 1 none (ws_ yX7_init cX7_init 1 none) (rmA 1 24 L T) (L.1 - tN T) (L.2.1 - tZ T) 0 ∧ yX7_init.name = "<init>" ∧ (Cond.instanceMethod yX7_init).before X.2.2.2.2.2.2.1 X.2.2.2.2.1 = true := ⟨va_cnB 0 (cx_w hX.1) (lw_meth q439) rfl rfl rfl (hX.1.K.2.2.1 _ q437 rfl) (cx_w hX.1 _ q127) (by decide +kernel) (by rw [hX.2.2.2.1, hX.2.2.2.2.1]; exact ⟨h1, h2⟩), rfl, cx_w hX.1 _ q438⟩
set_option maxHeartbeats 4000000 in
theorem w_K_Village {X : Ctx} {D : Dd} {R : Heap → Prop} {d : Nat → Prop} {L : Nat × Nat × Nat × Nat} {out : Th} (hX : Ax X cX5_init RX5 D d L 1 2 44) (hSt : Stb R d) (hR : RtA X none (RD D R d L out) none D L) (hin : "<init>" = "<init>" → X.2.2.2.2.2.2.2.2.1.name = "<init>") (a0 : Nat) (T : Th) (hE : K_Village a0 T = some out) (c z : Nat) : Wk X c z (RD D R d L T) 0 [(0, .ref a0)] [] := by
  have hC := hX.1
  have hnL := hX.2.2.1
  have hDy : ∀ {T : Th} (H : Heap), RD D R d L T H → Dy D T H := fun _ h => h.2.1
  unfold K_Village at hE
  refine k_aload_n (pc := 0) hC dX5_init_0 rfl 0 rfl ?_
  refine a_objInit (pc := 1) hX q402 dX5_init_1 (Nat.le_of_ble_eq_true rfl) (Nat.le_of_ble_eq_true rfl) ?_
  refine k_aload_n (pc := 4) hC dX5_init_4 rfl 0 rfl ?_
  refine k_bipush (pc := 5) (v := 6) hC dX5_init_5 (by decide) ?_
  refine k_bipush (pc := 7) (v := 6) hC dX5_init_7 (by decide) ?_
  refine a_newM (pc := 9) hX hSt q403 dX5_init_9 hE (fun T1 eT1 hE c z => ?_)
  refine a_putFR (pc := 13) (y := ((some (tN T)))) hX hSt cl_X5 in_X5 0 (by decide) rfl tyX5 tyX5_ok nmX5 (by exact q452) rfl rfl rfl (hin rfl) (by first | rfl | (cases hE <;> rfl)) (by first | rfl | (cases hE <;> rfl)) dX5_init_13 hE (fun T2 _ hE => ?_)
  refine k_aload_n (pc := 16) hC dX5_init_16 rfl 0 rfl ?_
  refine k_bipush (pc := 17) (v := 6) hC dX5_init_17 (by decide) ?_
  refine a_newI (pc := 19) hX hSt dX5_init_19 hE (fun T3 eT3 hE c z => ?_)
  refine a_putFR (pc := 21) (y := ((some (tN T2)))) hX hSt cl_X5 in_X5 1 (by decide) rfl tyX5 tyX5_ok nmX5 (by exact q455) rfl rfl rfl (hin rfl) (by first | rfl | (cases hE <;> rfl)) (by first | rfl | (cases hE <;> rfl)) dX5_init_21 hE (fun T4 _ hE => ?_)
  refine k_aload_n (pc := 24) hC dX5_init_24 rfl 0 rfl ?_
  refine k_bipush (pc := 25) (v := 6) hC dX5_init_25 (by decide) ?_
  refine a_newI (pc := 27) hX hSt dX5_init_27 hE (fun T5 eT5 hE c z => ?_)
  refine a_putFR (pc := 29) (y := ((some (tN T4)))) hX hSt cl_X5 in_X5 2 (by decide) rfl tyX5 tyX5_ok nmX5 (by exact q458) rfl rfl rfl (hin rfl) (by first | rfl | (cases hE <;> rfl)) (by first | rfl | (cases hE <;> rfl)) dX5_init_29 hE (fun T6 _ hE => ?_)
  refine k_aload_n (pc := 32) hC dX5_init_32 rfl 0 rfl ?_
  refine k_bipush (pc := 33) (v := 6) hC dX5_init_33 (by decide) ?_
  refine a_newI (pc := 35) hX hSt dX5_init_35 hE (fun T7 eT7 hE c z => ?_)
  refine a_putFR (pc := 37) (y := ((some (tN T6)))) hX hSt cl_X5 in_X5 3 (by decide) rfl tyX5 tyX5_ok nmX5 (by exact q461) rfl rfl rfl (hin rfl) (by first | rfl | (cases hE <;> rfl)) (by first | rfl | (cases hE <;> rfl)) dX5_init_37 hE (fun T8 _ hE => ?_)
  refine k_aload_n (pc := 40) hC dX5_init_40 rfl 0 rfl ?_
  refine k_bipush (pc := 41) (v := 6) hC dX5_init_41 (by decide) ?_
  refine a_newI (pc := 43) hX hSt dX5_init_43 hE (fun T9 eT9 hE c z => ?_)
  refine a_putFR (pc := 45) (y := ((some (tN T8)))) hX hSt cl_X5 in_X5 4 (by decide) rfl tyX5 tyX5_ok nmX5 (by exact q464) rfl rfl rfl (hin rfl) (by first | rfl | (cases hE <;> rfl)) (by first | rfl | (cases hE <;> rfl)) dX5_init_45 hE (fun T10 _ hE => ?_)
  refine k_aload_n (pc := 48) hC dX5_init_48 rfl 0 rfl ?_
  refine k_bipush (pc := 49) (v := 6) hC dX5_init_49 (by decide) ?_
  refine a_newI (pc := 51) hX hSt dX5_init_51 hE (fun T11 eT11 hE c z => ?_)
  refine a_putFR (pc := 53) (y := ((some (tN T10)))) hX hSt cl_X5 in_X5 5 (by decide) rfl tyX5 tyX5_ok nmX5 (by exact q466) rfl rfl rfl (hin rfl) (by first | rfl | (cases hE <;> rfl)) (by first | rfl | (cases hE <;> rfl)) dX5_init_53 hE (fun T12 _ hE => ?_)
  refine k_aload_n (pc := 56) hC dX5_init_56 rfl 0 rfl ?_
  refine k_bipush (pc := 57) (v := 6) hC dX5_init_57 (by decide) ?_
  refine a_newI (pc := 59) hX hSt dX5_init_59 hE (fun T13 eT13 hE c z => ?_)
  refine a_putFR (pc := 61) (y := ((some (tN T12)))) hX hSt cl_X5 in_X5 6 (by decide) rfl tyX5 tyX5_ok nmX5 (by exact q469) rfl rfl rfl (hin rfl) (by first | rfl | (cases hE <;> rfl)) (by first | rfl | (cases hE <;> rfl)) dX5_init_61 hE (fun T14 _ hE => ?_)
  refine k_aload_n (pc := 64) hC dX5_init_64 rfl 0 rfl ?_
  refine k_bipush (pc := 65) (v := 6) hC dX5_init_65 (by decide) ?_
  refine a_newI (pc := 67) hX hSt dX5_init_67 hE (fun T15 eT15 hE c z => ?_)
  refine a_putFR (pc := 69) (y := ((some (tN T14)))) hX hSt cl_X5 in_X5 7 (by decide) rfl tyX5 tyX5_ok nmX5 (by exact q472) rfl rfl rfl (hin rfl) (by first | rfl | (cases hE <;> rfl)) (by first | rfl | (cases hE <;> rfl)) dX5_init_69 hE (fun T16 _ hE => ?_)
  refine k_aload_n (pc := 72) hC dX5_init_72 rfl 0 rfl ?_
  refine k_bipush (pc := 73) (v := 8) hC dX5_init_73 (by decide) ?_
  refine k_bipush (pc := 75) (v := 8) hC dX5_init_75 (by decide) ?_
  refine a_newM (pc := 77) hX hSt q403 dX5_init_77 hE (fun T17 eT17 hE c z => ?_)
  refine a_putFR (pc := 81) (y := ((some (tN T16)))) hX hSt cl_X5 in_X5 10 (by decide) rfl tyX5 tyX5_ok nmX5 (by exact q479) rfl rfl rfl (hin rfl) (by first | rfl | (cases hE <;> rfl)) (by first | rfl | (cases hE <;> rfl)) dX5_init_81 hE (fun T18 _ hE => ?_)
  refine k_aload_n (pc := 84) hC dX5_init_84 rfl 0 rfl ?_
  refine k_bipush (pc := 85) (v := 6) hC dX5_init_85 (by decide) ?_
  refine a_newq (pc := 87) hX hSt (by simp [arTy]) q405 q406 dX5_init_87 hE (fun T19 eT19 hE c z => ?_)
  refine k_dup (pc := 90) hC dX5_init_90 rfl ?_
  refine k_iconst (pc := 91) (v := 0) hC dX5_init_91 (by decide) ?_
  refine a_new (pc := 92) hX hSt cl_X6 in_X6 tyX6 tyX6_ok dv_X6 q405 q407 q126 dX5_init_92 hE (fun T20 eT20 hE c z => ?_)
  refine k_dup (pc := 95) hC dX5_init_95 rfl ?_
  obtain ⟨r21, h1, hE⟩ := ob_ hE
  refine a_callIN (pc := 96) (As := []) hX (ct_K_Sleeper X.2.1 D (cxA X) R d L T20 hSt hX.2.1 hX.2.2.2.2.2.2.2.2.2 (tN T19) r21 h1) (cw_K_Sleeper_X5 hX (Nat.le_of_ble_eq_true rfl) (Nat.le_of_ble_eq_true rfl)) rfl rfl (Nat.le_of_ble_eq_true rfl) dX5_init_96 (fun c z => ?_)
  show Wk X c z (RD D R d L T20) 99 [(0, .ref a0)] [.ref (tN T19), .int 0, .ref (tN T18), .ref (tN T18), .ref a0]
  refine a_aastS (pc := 99) (E := "SleepWork$Sleeper") cl_X6 hX hSt (by simp [arTy]) dX5_init_99 hE (fun T22 hE => ?_)
  refine k_dup (pc := 100) hC dX5_init_100 rfl ?_
  refine k_iconst (pc := 101) (v := 1) hC dX5_init_101 (by decide) ?_
  refine a_new (pc := 102) hX hSt cl_X6 in_X6 tyX6 tyX6_ok dv_X6 q405 q407 q126 dX5_init_102 hE (fun T23 eT23 hE c z => ?_)
  refine k_dup (pc := 105) hC dX5_init_105 rfl ?_
  obtain ⟨r24, h1, hE⟩ := ob_ hE
  refine a_callIN (pc := 106) (As := []) hX (ct_K_Sleeper X.2.1 D (cxA X) R d L T23 hSt hX.2.1 hX.2.2.2.2.2.2.2.2.2 (tN T22) r24 h1) (cw_K_Sleeper_X5 hX (Nat.le_of_ble_eq_true rfl) (Nat.le_of_ble_eq_true rfl)) rfl rfl (Nat.le_of_ble_eq_true rfl) dX5_init_106 (fun c z => ?_)
  show Wk X c z (RD D R d L T23) 109 [(0, .ref a0)] [.ref (tN T22), .int 1, .ref (tN T18), .ref (tN T18), .ref a0]
  refine a_aastS (pc := 109) (E := "SleepWork$Sleeper") cl_X6 hX hSt (by simp [arTy]) dX5_init_109 hE (fun T25 hE => ?_)
  refine k_dup (pc := 110) hC dX5_init_110 rfl ?_
  refine k_iconst (pc := 111) (v := 2) hC dX5_init_111 (by decide) ?_
  refine a_new (pc := 112) hX hSt cl_X6 in_X6 tyX6 tyX6_ok dv_X6 q405 q407 q126 dX5_init_112 hE (fun T26 eT26 hE c z => ?_)
  refine k_dup (pc := 115) hC dX5_init_115 rfl ?_
  obtain ⟨r27, h1, hE⟩ := ob_ hE
  refine a_callIN (pc := 116) (As := []) hX (ct_K_Sleeper X.2.1 D (cxA X) R d L T26 hSt hX.2.1 hX.2.2.2.2.2.2.2.2.2 (tN T25) r27 h1) (cw_K_Sleeper_X5 hX (Nat.le_of_ble_eq_true rfl) (Nat.le_of_ble_eq_true rfl)) rfl rfl (Nat.le_of_ble_eq_true rfl) dX5_init_116 (fun c z => ?_)
  show Wk X c z (RD D R d L T26) 119 [(0, .ref a0)] [.ref (tN T25), .int 2, .ref (tN T18), .ref (tN T18), .ref a0]
  refine a_aastS (pc := 119) (E := "SleepWork$Sleeper") cl_X6 hX hSt (by simp [arTy]) dX5_init_119 hE (fun T28 hE => ?_)
  refine k_dup (pc := 120) hC dX5_init_120 rfl ?_
  refine k_iconst (pc := 121) (v := 3) hC dX5_init_121 (by decide) ?_
  refine a_new (pc := 122) hX hSt cl_X6 in_X6 tyX6 tyX6_ok dv_X6 q405 q407 q126 dX5_init_122 hE (fun T29 eT29 hE c z => ?_)
  refine k_dup (pc := 125) hC dX5_init_125 rfl ?_
  obtain ⟨r30, h1, hE⟩ := ob_ hE
  refine a_callIN (pc := 126) (As := []) hX (ct_K_Sleeper X.2.1 D (cxA X) R d L T29 hSt hX.2.1 hX.2.2.2.2.2.2.2.2.2 (tN T28) r30 h1) (cw_K_Sleeper_X5 hX (Nat.le_of_ble_eq_true rfl) (Nat.le_of_ble_eq_true rfl)) rfl rfl (Nat.le_of_ble_eq_true rfl) dX5_init_126 (fun c z => ?_)
  show Wk X c z (RD D R d L T29) 129 [(0, .ref a0)] [.ref (tN T28), .int 3, .ref (tN T18), .ref (tN T18), .ref a0]
  refine a_aastS (pc := 129) (E := "SleepWork$Sleeper") cl_X6 hX hSt (by simp [arTy]) dX5_init_129 hE (fun T31 hE => ?_)
  refine k_dup (pc := 130) hC dX5_init_130 rfl ?_
  refine k_iconst (pc := 131) (v := 4) hC dX5_init_131 (by decide) ?_
  refine a_new (pc := 132) hX hSt cl_X6 in_X6 tyX6 tyX6_ok dv_X6 q405 q407 q126 dX5_init_132 hE (fun T32 eT32 hE c z => ?_)
  refine k_dup (pc := 135) hC dX5_init_135 rfl ?_
  obtain ⟨r33, h1, hE⟩ := ob_ hE
  refine a_callIN (pc := 136) (As := []) hX (ct_K_Sleeper X.2.1 D (cxA X) R d L T32 hSt hX.2.1 hX.2.2.2.2.2.2.2.2.2 (tN T31) r33 h1) (cw_K_Sleeper_X5 hX (Nat.le_of_ble_eq_true rfl) (Nat.le_of_ble_eq_true rfl)) rfl rfl (Nat.le_of_ble_eq_true rfl) dX5_init_136 (fun c z => ?_)
  show Wk X c z (RD D R d L T32) 139 [(0, .ref a0)] [.ref (tN T31), .int 4, .ref (tN T18), .ref (tN T18), .ref a0]
  refine a_aastS (pc := 139) (E := "SleepWork$Sleeper") cl_X6 hX hSt (by simp [arTy]) dX5_init_139 hE (fun T34 hE => ?_)
  refine k_dup (pc := 140) hC dX5_init_140 rfl ?_
  refine k_iconst (pc := 141) (v := 5) hC dX5_init_141 (by decide) ?_
  refine a_new (pc := 142) hX hSt cl_X6 in_X6 tyX6 tyX6_ok dv_X6 q405 q407 q126 dX5_init_142 hE (fun T35 eT35 hE c z => ?_)
  refine k_dup (pc := 145) hC dX5_init_145 rfl ?_
  obtain ⟨r36, h1, hE⟩ := ob_ hE
  refine a_callIN (pc := 146) (As := []) hX (ct_K_Sleeper X.2.1 D (cxA X) R d L T35 hSt hX.2.1 hX.2.2.2.2.2.2.2.2.2 (tN T34) r36 h1) (cw_K_Sleeper_X5 hX (Nat.le_of_ble_eq_true rfl) (Nat.le_of_ble_eq_true rfl)) rfl rfl (Nat.le_of_ble_eq_true rfl) dX5_init_146 (fun c z => ?_)
  show Wk X c z (RD D R d L T35) 149 [(0, .ref a0)] [.ref (tN T34), .int 5, .ref (tN T18), .ref (tN T18), .ref a0]
  refine a_aastS (pc := 149) (E := "SleepWork$Sleeper") cl_X6 hX hSt (by simp [arTy]) dX5_init_149 hE (fun T37 hE => ?_)
  refine a_putFR (pc := 150) (y := ((some (tN T18)))) hX hSt cl_X5 in_X5 11 (by decide) rfl tyX5 tyX5_ok nmX5 (by exact q482) rfl rfl rfl (hin rfl) (by first | rfl | (cases hE <;> rfl)) (by first | rfl | (cases hE <;> rfl)) dX5_init_150 hE (fun T38 _ hE => ?_)
  refine k_aload_n (pc := 153) hC dX5_init_153 rfl 0 rfl ?_
  refine a_new (pc := 154) hX hSt cl_X7 in_X7 tyX7 tyX7_ok dv_X7 q435 q436 q127 dX5_init_154 hE (fun T39 eT39 hE c z => ?_)
  refine k_dup (pc := 157) hC dX5_init_157 rfl ?_
  obtain ⟨r40, h1, hE⟩ := ob_ hE
  refine a_callIN (pc := 158) (As := []) hX (ct_K_Asked X.2.1 D (cxA X) R d L T39 hSt hX.2.1 hX.2.2.2.2.2.2.2.2.2 (tN T38) r40 h1) (cw_K_Asked_X5 hX (Nat.le_of_ble_eq_true rfl) (Nat.le_of_ble_eq_true rfl)) rfl rfl (Nat.le_of_ble_eq_true rfl) dX5_init_158 (fun c z => ?_)
  show Wk X c z (RD D R d L r40) 161 [(0, .ref a0)] [.ref (tN T38), .ref a0]
  refine a_putFR (pc := 161) (y := ((some (tN T38)))) hX hSt cl_X5 in_X5 12 (by decide) rfl tyX5 tyX5_ok nmX5 (by exact q483) rfl rfl rfl (hin rfl) (by first | rfl | (cases hE <;> rfl)) (by first | rfl | (cases hE <;> rfl)) dX5_init_161 hE (fun T41 _ hE => ?_)
  cases hE
  exact a_vret (pc := 164) hX hR dX5_init_164 (by rfl) (fun _ h => h)
theorem ct_K_Village (l : Launch) (D : Dd) (A : Nat → Prop) (R : Heap → Prop) (d : Nat → Prop) (L : Nat × Nat × Nat × Nat) (T : Th) (hSt : Stb R d) (hdA : ∀ q, d q → A q) (hAB : ∀ q, A q → D.2.2.2.1.heap.size ≤ q) (a0 : Nat) (out : Th) (hE : K_Village a0 T = some out) : Ct l yX5_init (ws_ yX5_init cX5_init 1 none) (rmA 2 44 L T) vwCl arTy D A [.ref a0] (RD D R d L T) (RD D R d L out) none (L.1 - tN T) (L.2.1 - tZ T) := by
  refine Ct.ofA (lv := [(0, .ref a0)]) (by decide) (Nat.le_of_ble_eq_true rfl) rfl hdA hAB ?_
  intro X hl hX hR hXA hin
  exact w_K_Village hX hSt hR hin a0 T hE
theorem cw_K_Village_X0 {X : Ctx} {cc : ByteArray} {D : Dd} {d : Nat → Prop} {L : Nat × Nat × Nat × Nat} {mL fr lo : Nat} {T : Th} (hX : Ax X cc RX0 D d L mL fr lo) (h1 : 2 + 1 ≤ fr) (h2 : 8 + (1 + 11) + 44 ≤ lo) : va_CN X.2.2.2.1 X.2.2.2.2.1 X.2.2.2.2.2.2.1 RX0 45 yX5_init "SleepWork" cX5_init 1 none (ws_ yX5_init cX5_init 1 none) (rmA 2 44 L T) (L.1 - tN T) (L.2.1 - tZ T) 0 ∧ yX5_init.name = "<init>" ∧ (Cond.instanceMethod yX5_init).before X.2.2.2.2.2.2.1 X.2.2.2.2.1 = true := ⟨va_cnB 0 (cx_w hX.1) (lw_meth q401) rfl rfl rfl (hX.1.K.2.2.1 _ q399 rfl) (cx_w hX.1 _ q125) (by decide +kernel) (by rw [hX.2.2.2.1, hX.2.2.2.2.1]; exact ⟨h1, h2⟩), rfl, cx_w hX.1 _ q400⟩
set_option maxHeartbeats 4000000 in
theorem w_K_J0_B41 {X : Ctx} {D : Dd} {R : Heap → Prop} {d : Nat → Prop} {L : Nat × Nat × Nat × Nat} {out : Th} (hX : Ax X cJ0_init_2 RJ0 D d L 5 1 24) (hSt : Stb R d) (hR : RtA X none (RD D R d L out) none D L) (hin : "<init>" = "<init>" → X.2.2.2.2.2.2.2.2.1.name = "<init>") (a0 : Nat) (a1 : Nat) (a2 : Option Nat) (a3 : Int32) (T : Th) (hE : K_J0_B41 D a0 a1 a2 a3 T = some out) (c z : Nat) : Wk X c z (RD D R d L T) 41 [(0, .ref a0), (1, .ref a1), (2, va_rf a2), (3, .int a3)] [] := by
  have hC := hX.1
  have hnL := hX.2.2.1
  have hDy : ∀ {T : Th} (H : Heap), RD D R d L T H → Dy D T H := fun _ h => h.2.1
  unfold K_J0_B41 at hE
  refine k_aload_n (pc := 41) hC dJ0_init_2_41 rfl 0 rfl ?_
  refine k_aload_n (pc := 42) hC dJ0_init_2_42 rfl 1 rfl ?_
  refine a_putR (pc := 43) (y := ((some a1))) hX hSt cl_X1 in_X1 3 (by decide) rfl tyX1 tyX1_ok nmX1 (by exact q218) rfl rfl (by first | rfl | (cases hE <;> rfl)) (by first | rfl | (cases hE <;> rfl)) dJ0_init_2_43 hE (fun T5 _ hE => ?_)
  refine k_aload_n (pc := 46) hC dJ0_init_2_46 rfl 0 rfl ?_
  refine k_aloadR_n (pc := 47) hC dJ0_init_2_47 rfl 2 rfl ?_
  refine a_putR (pc := 48) (y := a2) hX hSt cl_X1 in_X1 0 (by decide) rfl tyX1 tyX1_ok nmX1 (by exact q219) rfl rfl (by first | rfl | (cases a2 <;> rfl)) (by first | rfl | (cases a2 <;> rfl)) dJ0_init_2_48 hE (fun T6 _ hE => ?_)
  refine k_iload_n (pc := 51) hC dJ0_init_2_51 rfl 3 rfl ?_
  refine k_if_ne (pc := 52) (tgt := 60) hC dJ0_init_2_52 (by decide) hE (fun hE => ?_) (fun hE => ?_)
  · refine k_aload_n (pc := 55) hC dJ0_init_2_55 rfl 0 rfl ?_
    refine k_null (pc := 56) hC dJ0_init_2_56 ?_
    refine a_putR (pc := 57) (y := none) hX hSt cl_X1 in_X1 2 (by decide) rfl tyX1 tyX1_ok nmX1 (by exact q221) rfl rfl (by first | rfl | (cases hE <;> rfl)) (by first | rfl | (cases hE <;> rfl)) dJ0_init_2_57 hE (fun T7 _ hE => ?_)
    cases hE
    exact a_vret (pc := 60) hX hR dJ0_init_2_60 (by rfl) (fun _ h => h)
  · cases hE
    exact a_vret (pc := 60) hX hR dJ0_init_2_60 (by rfl) (fun _ h => h)
set_option maxHeartbeats 4000000 in
theorem w_K_J0 {X : Ctx} {D : Dd} {R : Heap → Prop} {d : Nat → Prop} {L : Nat × Nat × Nat × Nat} {out : Th} (hX : Ax X cJ0_init_2 RJ0 D d L 5 1 24) (hSt : Stb R d) (hR : RtA X none (RD D R d L out) none D L) (hin : "<init>" = "<init>" → X.2.2.2.2.2.2.2.2.1.name = "<init>") (a0 : Nat) (a1 : Nat) (a3 : Int32) (a4 : Int32) (T : Th) (hE : K_J0 D a0 a1 a3 a4 T = some out) (c z : Nat) : Wk X c z (RD D R d L T) 0 [(0, .ref a0), (1, .ref a1), (2, .null), (3, .int a3), (4, .int a4)] [] := by
  have hC := hX.1
  have hnL := hX.2.2.1
  have hDy : ∀ {T : Th} (H : Heap), RD D R d L T H → Dy D T H := fun _ h => h.2.1
  unfold K_J0 at hE
  refine k_aload_n (pc := 0) hC dJ0_init_2_0 rfl 0 rfl ?_
  refine a_objInit (pc := 1) hX q186 dJ0_init_2_1 (Nat.le_of_ble_eq_true rfl) (Nat.le_of_ble_eq_true rfl) ?_
  refine k_aload_n (pc := 4) hC dJ0_init_2_4 rfl 0 rfl ?_
  refine k_aload_n (pc := 5) hC dJ0_init_2_5 rfl 0 rfl ?_
  refine a_putR (pc := 6) (y := ((some a0))) hX hSt cl_X1 in_X1 0 (by decide) rfl tyX1 tyX1_ok nmX1 (by exact q219) rfl rfl (by first | rfl | (cases hE <;> rfl)) (by first | rfl | (cases hE <;> rfl)) dJ0_init_2_6 hE (fun T1 _ hE => ?_)
  refine k_aload_n (pc := 9) hC dJ0_init_2_9 rfl 0 rfl ?_
  refine a_gets (pc := 10) hX (fun _ h => h.2.2.2.2.1) q187 dJ0_init_2_10 ?_
  refine a_putR (pc := 13) (y := D.2.2.2.2.2.2.1) hX hSt cl_X1 in_X1 1 (by decide) rfl tyX1 tyX1_ok nmX1 (by exact q220) rfl rfl (by first | rfl | (cases D.2.2.2.2.2.2.1 <;> rfl)) (by first | rfl | (cases D.2.2.2.2.2.2.1 <;> rfl)) dJ0_init_2_13 hE (fun T2 _ hE => ?_)
  refine k_aload_n (pc := 16) hC dJ0_init_2_16 rfl 0 rfl ?_
  refine a_gets (pc := 17) hX (fun _ h => h.2.2.2.2.2) q189 dJ0_init_2_17 ?_
  refine a_putR (pc := 20) (y := D.2.2.2.2.2.2.2) hX hSt cl_X1 in_X1 2 (by decide) rfl tyX1 tyX1_ok nmX1 (by exact q221) rfl rfl (by first | rfl | (cases D.2.2.2.2.2.2.2 <;> rfl)) (by first | rfl | (cases D.2.2.2.2.2.2.2 <;> rfl)) dJ0_init_2_20 hE (fun T3 _ hE => ?_)
  refine k_iload (pc := 23) hC dJ0_init_2_23 4 rfl ?_
  refine k_if_eq (pc := 25) (tgt := 36) hC dJ0_init_2_25 (by decide) hE (fun hE => ?_) (fun hE => ?_)
  · refine k_aload_n (pc := 36) hC dJ0_init_2_36 rfl 0 rfl ?_
    refine k_null (pc := 37) hC dJ0_init_2_37 ?_
    refine a_putR (pc := 38) (y := none) hX hSt cl_X1 in_X1 1 (by decide) rfl tyX1 tyX1_ok nmX1 (by exact q220) rfl rfl (by first | rfl | (cases hE <;> rfl)) (by first | rfl | (cases hE <;> rfl)) dJ0_init_2_38 hE (fun T4 _ hE => ?_)
    refine k_sub [0, 1, 2, 3] rfl ?_
    exact w_K_J0_B41 hX hSt hR hin  _ _ _ _ _ hE _ _
  · refine k_aload_n (pc := 28) hC dJ0_init_2_28 rfl 0 rfl ?_
    cases hE
theorem ct_K_J0 (l : Launch) (D : Dd) (A : Nat → Prop) (R : Heap → Prop) (d : Nat → Prop) (L : Nat × Nat × Nat × Nat) (T : Th) (hSt : Stb R d) (hdA : ∀ q, d q → A q) (hAB : ∀ q, A q → D.2.2.2.1.heap.size ≤ q) (a0 : Nat) (a1 : Nat) (a3 : Int32) (a4 : Int32) (out : Th) (hE : K_J0 D a0 a1 a3 a4 T = some out) : Ct l yJ0_init_2 (ws_ yJ0_init_2 cJ0_init_2 5 none) (rmA 1 24 L T) vwCl arTy D A [.ref a0, .ref a1, .null, .int a3, .int a4] (RD D R d L T) (RD D R d L out) none (L.1 - tN T) (L.2.1 - tZ T) := by
  refine Ct.ofA (lv := [(0, .ref a0), (1, .ref a1), (2, .null), (3, .int a3), (4, .int a4)]) (by decide) (Nat.le_of_ble_eq_true rfl) rfl hdA hAB ?_
  intro X hl hX hR hXA hin
  exact w_K_J0 hX hSt hR hin a0 a1 a3 a4 T hE
theorem cw_K_J0_J1 {X : Ctx} {cc : ByteArray} {D : Dd} {d : Nat → Prop} {L : Nat × Nat × Nat × Nat} {mL fr lo : Nat} {T : Th} (hX : Ax X cc RJ1 D d L mL fr lo) (h1 : 1 + 1 ≤ fr) (h2 : 8 + (5 + 11) + 24 ≤ lo) : CallB X.2.2.2.1 X.2.2.2.2.1 X.2.2.2.2.2.2.1 RJ1 16 yJ0_init_2 cJ0_init_2 5 none (ws_ yJ0_init_2 cJ0_init_2 5 none) (rmA 1 24 L T) (L.1 - tN T) (L.2.1 - tZ T) 4 ∧ yJ0_init_2.name = "<init>" ∧ (Cond.instanceMethod yJ0_init_2).before X.2.2.2.2.2.2.1 X.2.2.2.2.1 = true := cwI 4 (cx_w hX.1) (lw_meth q212) rfl rfl rfl (cx_w hX.1 _ q115) (cx_w hX.1 _ q210) (cx_w hX.1 _ q211) rfl (by decide +kernel) (by rw [hX.2.2.2.1, hX.2.2.2.2.1]; exact ⟨h1, h2⟩)
set_option maxHeartbeats 4000000 in
theorem w_K_J1 {X : Ctx} {D : Dd} {R : Heap → Prop} {d : Nat → Prop} {L : Nat × Nat × Nat × Nat} {out : Th} (hX : Ax X cJ1_init RJ1 D d L 5 2 48) (hSt : Stb R d) (hR : RtA X none (RD D R d L out) none D L) (hin : "<init>" = "<init>" → X.2.2.2.2.2.2.2.2.1.name = "<init>") (a0 : Nat) (a1 : Nat) (a3 : Int32) (a4 : Int32) (T : Th) (hE : K_J1 D a0 a1 a3 a4 T = some out) (c z : Nat) : Wk X c z (RD D R d L T) 0 [(0, .ref a0), (1, .ref a1), (2, .null), (3, .int a3), (4, .int a4)] [] := by
  have hC := hX.1
  have hnL := hX.2.2.1
  have hDy : ∀ {T : Th} (H : Heap), RD D R d L T H → Dy D T H := fun _ h => h.2.1
  unfold K_J1 at hE
  refine k_aload_n (pc := 0) hC dJ1_init_0 rfl 0 rfl ?_
  refine k_aload_n (pc := 1) hC dJ1_init_1 rfl 1 rfl ?_
  refine k_aloadN_n (pc := 2) hC dJ1_init_2 rfl 2 rfl ?_
  refine k_iload_n (pc := 3) hC dJ1_init_3 rfl 3 rfl ?_
  refine k_iload (pc := 4) hC dJ1_init_4 4 rfl ?_
  obtain ⟨r1, h1, hE⟩ := ob_ hE
  refine a_callI (pc := 6) (As := [.ref a1, .null, .int a3, .int a4]) hX (ct_K_J0 X.2.1 D (cxA X) R d L T hSt hX.2.1 hX.2.2.2.2.2.2.2.2.2 a0 a1 a3 a4 r1 h1) (cw_K_J0_J1 hX (Nat.le_of_ble_eq_true rfl) (Nat.le_of_ble_eq_true rfl)) rfl rfl (Nat.le_of_ble_eq_true rfl) dJ1_init_6 (fun c z => ?_)
  show Wk X c z (RD D R d L r1) 9 [(0, .ref a0), (1, .ref a1), (2, .null), (3, .int a3), (4, .int a4)] []
  cases hE
  exact a_vret (pc := 9) hX hR dJ1_init_9 (by rfl) (fun _ h => h)
theorem ct_K_J1 (l : Launch) (D : Dd) (A : Nat → Prop) (R : Heap → Prop) (d : Nat → Prop) (L : Nat × Nat × Nat × Nat) (T : Th) (hSt : Stb R d) (hdA : ∀ q, d q → A q) (hAB : ∀ q, A q → D.2.2.2.1.heap.size ≤ q) (a0 : Nat) (a1 : Nat) (a3 : Int32) (a4 : Int32) (out : Th) (hE : K_J1 D a0 a1 a3 a4 T = some out) : Ct l yJ1_init (ws_ yJ1_init cJ1_init 5 none) (rmA 2 48 L T) vwCl arTy D A [.ref a0, .ref a1, .null, .int a3, .int a4] (RD D R d L T) (RD D R d L out) none (L.1 - tN T) (L.2.1 - tZ T) := by
  refine Ct.ofA (lv := [(0, .ref a0), (1, .ref a1), (2, .null), (3, .int a3), (4, .int a4)]) (by decide) (Nat.le_of_ble_eq_true rfl) rfl hdA hAB ?_
  intro X hl hX hR hXA hin
  exact w_K_J1 hX hSt hR hin a0 a1 a3 a4 T hE
theorem cw_K_J1_J2 {X : Ctx} {cc : ByteArray} {D : Dd} {d : Nat → Prop} {L : Nat × Nat × Nat × Nat} {mL fr lo : Nat} {T : Th} (hX : Ax X cc RJ2 D d L mL fr lo) (h1 : 2 + 1 ≤ fr) (h2 : 8 + (5 + 11) + 48 ≤ lo) : CallB X.2.2.2.1 X.2.2.2.2.1 X.2.2.2.2.2.2.1 RJ2 16 yJ1_init cJ1_init 5 none (ws_ yJ1_init cJ1_init 5 none) (rmA 2 48 L T) (L.1 - tN T) (L.2.1 - tZ T) 4 ∧ yJ1_init.name = "<init>" ∧ (Cond.instanceMethod yJ1_init).before X.2.2.2.2.2.2.1 X.2.2.2.2.1 = true := cwI 4 (cx_w hX.1) (lw_meth q209) rfl rfl rfl (cx_w hX.1 _ q116) (cx_w hX.1 _ q207) (cx_w hX.1 _ q208) rfl (by decide +kernel) (by rw [hX.2.2.2.1, hX.2.2.2.2.1]; exact ⟨h1, h2⟩)
set_option maxHeartbeats 4000000 in
theorem w_K_J2 {X : Ctx} {D : Dd} {R : Heap → Prop} {d : Nat → Prop} {L : Nat × Nat × Nat × Nat} {out : Th} (hX : Ax X cJ2_init RJ2 D d L 5 3 72) (hSt : Stb R d) (hR : RtA X none (RD D R d L out) none D L) (hin : "<init>" = "<init>" → X.2.2.2.2.2.2.2.2.1.name = "<init>") (a0 : Nat) (a1 : Nat) (a3 : Int32) (a4 : Int32) (T : Th) (hE : K_J2 D a0 a1 a3 a4 T = some out) (c z : Nat) : Wk X c z (RD D R d L T) 0 [(0, .ref a0), (1, .ref a1), (2, .null), (3, .int a3), (4, .int a4)] [] := by
  have hC := hX.1
  have hnL := hX.2.2.1
  have hDy : ∀ {T : Th} (H : Heap), RD D R d L T H → Dy D T H := fun _ h => h.2.1
  unfold K_J2 at hE
  refine k_aload_n (pc := 0) hC dJ2_init_0 rfl 0 rfl ?_
  refine k_aload_n (pc := 1) hC dJ2_init_1 rfl 1 rfl ?_
  refine k_aloadN_n (pc := 2) hC dJ2_init_2 rfl 2 rfl ?_
  refine k_iload_n (pc := 3) hC dJ2_init_3 rfl 3 rfl ?_
  refine k_iload (pc := 4) hC dJ2_init_4 4 rfl ?_
  obtain ⟨r1, h1, hE⟩ := ob_ hE
  refine a_callI (pc := 6) (As := [.ref a1, .null, .int a3, .int a4]) hX (ct_K_J1 X.2.1 D (cxA X) R d L T hSt hX.2.1 hX.2.2.2.2.2.2.2.2.2 a0 a1 a3 a4 r1 h1) (cw_K_J1_J2 hX (Nat.le_of_ble_eq_true rfl) (Nat.le_of_ble_eq_true rfl)) rfl rfl (Nat.le_of_ble_eq_true rfl) dJ2_init_6 (fun c z => ?_)
  show Wk X c z (RD D R d L r1) 9 [(0, .ref a0), (1, .ref a1), (2, .null), (3, .int a3), (4, .int a4)] []
  cases hE
  exact a_vret (pc := 9) hX hR dJ2_init_9 (by rfl) (fun _ h => h)
theorem ct_K_J2 (l : Launch) (D : Dd) (A : Nat → Prop) (R : Heap → Prop) (d : Nat → Prop) (L : Nat × Nat × Nat × Nat) (T : Th) (hSt : Stb R d) (hdA : ∀ q, d q → A q) (hAB : ∀ q, A q → D.2.2.2.1.heap.size ≤ q) (a0 : Nat) (a1 : Nat) (a3 : Int32) (a4 : Int32) (out : Th) (hE : K_J2 D a0 a1 a3 a4 T = some out) : Ct l yJ2_init (ws_ yJ2_init cJ2_init 5 none) (rmA 3 72 L T) vwCl arTy D A [.ref a0, .ref a1, .null, .int a3, .int a4] (RD D R d L T) (RD D R d L out) none (L.1 - tN T) (L.2.1 - tZ T) := by
  refine Ct.ofA (lv := [(0, .ref a0), (1, .ref a1), (2, .null), (3, .int a3), (4, .int a4)]) (by decide) (Nat.le_of_ble_eq_true rfl) rfl hdA hAB ?_
  intro X hl hX hR hXA hin
  exact w_K_J2 hX hSt hR hin a0 a1 a3 a4 T hE
theorem cw_K_J2_X1 {X : Ctx} {cc : ByteArray} {D : Dd} {d : Nat → Prop} {L : Nat × Nat × Nat × Nat} {mL fr lo : Nat} {T : Th} (hX : Ax X cc RX1 D d L mL fr lo) (h1 : 3 + 1 ≤ fr) (h2 : 8 + (5 + 11) + 72 ≤ lo) : CallB X.2.2.2.1 X.2.2.2.2.1 X.2.2.2.2.2.2.1 RX1 3 yJ2_init cJ2_init 5 none (ws_ yJ2_init cJ2_init 5 none) (rmA 3 72 L T) (L.1 - tN T) (L.2.1 - tZ T) 4 ∧ yJ2_init.name = "<init>" ∧ (Cond.instanceMethod yJ2_init).before X.2.2.2.2.2.2.1 X.2.2.2.2.1 = true := cwI 4 (cx_w hX.1) (lw_meth q206) rfl rfl rfl (cx_w hX.1 _ q117) (cx_w hX.1 _ q204) (cx_w hX.1 _ q205) rfl (by decide +kernel) (by rw [hX.2.2.2.1, hX.2.2.2.2.1]; exact ⟨h1, h2⟩)
set_option maxHeartbeats 4000000 in
theorem w_K_X1 {X : Ctx} {D : Dd} {R : Heap → Prop} {d : Nat → Prop} {L : Nat × Nat × Nat × Nat} {out : Th} (hX : Ax X cX1_init RX1 D d L 1 4 96) (hSt : Stb R d) (hR : RtA X none (RD D R d L out) none D L) (hin : "<init>" = "<init>" → X.2.2.2.2.2.2.2.2.1.name = "<init>") (a0 : Nat) (T : Th) (hE : K_X1 D a0 T = some out) (c z : Nat) : Wk X c z (RD D R d L T) 0 [(0, .ref a0)] [] := by
  have hC := hX.1
  have hnL := hX.2.2.1
  have hDy : ∀ {T : Th} (H : Heap), RD D R d L T H → Dy D T H := fun _ h => h.2.1
  unfold K_X1 at hE
  refine k_aload_n (pc := 0) hC dX1_init_0 rfl 0 rfl ?_
  refine a_ldcL (pc := 1) hX dX1_init_1 hE (fun b1 hE => ?_)
  refine k_null (pc := 3) hC dX1_init_3 ?_
  refine k_iconst (pc := 4) (v := 0) hC dX1_init_4 (by decide) ?_
  refine k_iconst (pc := 5) (v := 0) hC dX1_init_5 (by decide) ?_
  obtain ⟨r2, h1, hE⟩ := ob_ hE
  refine a_callI (pc := 6) (As := [.ref b1, .null, .int 0, .int 0]) hX (ct_K_J2 X.2.1 D (cxA X) R d L T hSt hX.2.1 hX.2.2.2.2.2.2.2.2.2 a0 b1 0 0 r2 h1) (cw_K_J2_X1 hX (Nat.le_of_ble_eq_true rfl) (Nat.le_of_ble_eq_true rfl)) rfl rfl (Nat.le_of_ble_eq_true rfl) dX1_init_6 (fun c z => ?_)
  show Wk X c z (RD D R d L r2) 9 [(0, .ref a0)] []
  cases hE
  exact a_vret (pc := 9) hX hR dX1_init_9 (by rfl) (fun _ h => h)
theorem ct_K_X1 (l : Launch) (D : Dd) (A : Nat → Prop) (R : Heap → Prop) (d : Nat → Prop) (L : Nat × Nat × Nat × Nat) (T : Th) (hSt : Stb R d) (hdA : ∀ q, d q → A q) (hAB : ∀ q, A q → D.2.2.2.1.heap.size ≤ q) (a0 : Nat) (out : Th) (hE : K_X1 D a0 T = some out) : Ct l yX1_init (ws_ yX1_init cX1_init 1 none) (rmA 4 96 L T) vwCl arTy D A [.ref a0] (RD D R d L T) (RD D R d L out) none (L.1 - tN T) (L.2.1 - tZ T) := by
  refine Ct.ofA (lv := [(0, .ref a0)]) (by decide) (Nat.le_of_ble_eq_true rfl) rfl hdA hAB ?_
  intro X hl hX hR hXA hin
  exact w_K_X1 hX hSt hR hin a0 T hE
theorem cw_K_X1_X0 {X : Ctx} {cc : ByteArray} {D : Dd} {d : Nat → Prop} {L : Nat × Nat × Nat × Nat} {mL fr lo : Nat} {T : Th} (hX : Ax X cc RX0 D d L mL fr lo) (h1 : 4 + 1 ≤ fr) (h2 : 8 + (1 + 11) + 96 ≤ lo) : CallB X.2.2.2.1 X.2.2.2.2.1 X.2.2.2.2.2.2.1 RX0 9 yX1_init cX1_init 1 none (ws_ yX1_init cX1_init 1 none) (rmA 4 96 L T) (L.1 - tN T) (L.2.1 - tZ T) 0 ∧ yX1_init.name = "<init>" ∧ (Cond.instanceMethod yX1_init).before X.2.2.2.2.2.2.1 X.2.2.2.2.1 = true := cwI 0 (cx_w hX.1) (lw_meth q202) rfl rfl rfl (cx_w hX.1 _ q118) (cx_w hX.1 _ q200) (cx_w hX.1 _ q201) rfl (by decide +kernel) (by rw [hX.2.2.2.1, hX.2.2.2.2.1]; exact ⟨h1, h2⟩)
set_option maxHeartbeats 4000000 in
theorem w_K_Tokens {X : Ctx} {D : Dd} {R : Heap → Prop} {d : Nat → Prop} {L : Nat × Nat × Nat × Nat} {out : Th} (hX : Ax X cX2_init RX2 D d L 1 1 24) (hSt : Stb R d) (hR : RtA X none (RD D R d L out) none D L) (hin : "<init>" = "<init>" → X.2.2.2.2.2.2.2.2.1.name = "<init>") (a0 : Nat) (T : Th) (hE : K_Tokens D a0 T = some out) (c z : Nat) : Wk X c z (RD D R d L T) 0 [(0, .ref a0)] [] := by
  have hC := hX.1
  have hnL := hX.2.2.1
  have hDy : ∀ {T : Th} (H : Heap), RD D R d L T H → Dy D T H := fun _ h => h.2.1
  unfold K_Tokens at hE
  refine k_aload_n (pc := 0) hC dX2_init_0 rfl 0 rfl ?_
  refine a_objInit (pc := 1) hX q240 dX2_init_1 (Nat.le_of_ble_eq_true rfl) (Nat.le_of_ble_eq_true rfl) ?_
  refine k_aload_n (pc := 4) hC dX2_init_4 rfl 0 rfl ?_
  refine k_bipush (pc := 5) (v := 21) hC dX2_init_5 (by decide) ?_
  refine a_newq (pc := 7) hX hSt (by simp [arTy]) q241 q242 dX2_init_7 hE (fun T1 eT1 hE c z => ?_)
  refine k_dup (pc := 10) hC dX2_init_10 rfl ?_
  refine k_iconst (pc := 11) (v := 0) hC dX2_init_11 (by decide) ?_
  refine a_ldcL (pc := 12) hX dX2_init_12 hE (fun b2 hE => ?_)
  refine a_aastS (pc := 14) (E := "java/lang/String") cl_J6 hX hSt (by simp [arTy]) dX2_init_14 hE (fun T3 hE => ?_)
  refine k_dup (pc := 15) hC dX2_init_15 rfl ?_
  refine k_iconst (pc := 16) (v := 1) hC dX2_init_16 (by decide) ?_
  refine a_ldcL (pc := 17) hX dX2_init_17 hE (fun b4 hE => ?_)
  refine a_aastS (pc := 19) (E := "java/lang/String") cl_J6 hX hSt (by simp [arTy]) dX2_init_19 hE (fun T5 hE => ?_)
  refine k_dup (pc := 20) hC dX2_init_20 rfl ?_
  refine k_iconst (pc := 21) (v := 2) hC dX2_init_21 (by decide) ?_
  refine a_ldcL (pc := 22) hX dX2_init_22 hE (fun b6 hE => ?_)
  refine a_aastS (pc := 24) (E := "java/lang/String") cl_J6 hX hSt (by simp [arTy]) dX2_init_24 hE (fun T7 hE => ?_)
  refine k_dup (pc := 25) hC dX2_init_25 rfl ?_
  refine k_iconst (pc := 26) (v := 3) hC dX2_init_26 (by decide) ?_
  refine a_ldcL (pc := 27) hX dX2_init_27 hE (fun b8 hE => ?_)
  refine a_aastS (pc := 29) (E := "java/lang/String") cl_J6 hX hSt (by simp [arTy]) dX2_init_29 hE (fun T9 hE => ?_)
  refine k_dup (pc := 30) hC dX2_init_30 rfl ?_
  refine k_iconst (pc := 31) (v := 4) hC dX2_init_31 (by decide) ?_
  refine a_ldcL (pc := 32) hX dX2_init_32 hE (fun b10 hE => ?_)
  refine a_aastS (pc := 34) (E := "java/lang/String") cl_J6 hX hSt (by simp [arTy]) dX2_init_34 hE (fun T11 hE => ?_)
  refine k_dup (pc := 35) hC dX2_init_35 rfl ?_
  refine k_iconst (pc := 36) (v := 5) hC dX2_init_36 (by decide) ?_
  refine a_ldcL (pc := 37) hX dX2_init_37 hE (fun b12 hE => ?_)
  refine a_aastS (pc := 39) (E := "java/lang/String") cl_J6 hX hSt (by simp [arTy]) dX2_init_39 hE (fun T13 hE => ?_)
  refine k_dup (pc := 40) hC dX2_init_40 rfl ?_
  refine k_bipush (pc := 41) (v := 6) hC dX2_init_41 (by decide) ?_
  refine a_ldcL (pc := 43) hX dX2_init_43 hE (fun b14 hE => ?_)
  refine a_aastS (pc := 45) (E := "java/lang/String") cl_J6 hX hSt (by simp [arTy]) dX2_init_45 hE (fun T15 hE => ?_)
  refine k_dup (pc := 46) hC dX2_init_46 rfl ?_
  refine k_bipush (pc := 47) (v := 7) hC dX2_init_47 (by decide) ?_
  refine a_ldcL (pc := 49) hX dX2_init_49 hE (fun b16 hE => ?_)
  refine a_aastS (pc := 51) (E := "java/lang/String") cl_J6 hX hSt (by simp [arTy]) dX2_init_51 hE (fun T17 hE => ?_)
  refine k_dup (pc := 52) hC dX2_init_52 rfl ?_
  refine k_bipush (pc := 53) (v := 8) hC dX2_init_53 (by decide) ?_
  refine a_ldcL (pc := 55) hX dX2_init_55 hE (fun b18 hE => ?_)
  refine a_aastS (pc := 57) (E := "java/lang/String") cl_J6 hX hSt (by simp [arTy]) dX2_init_57 hE (fun T19 hE => ?_)
  refine k_dup (pc := 58) hC dX2_init_58 rfl ?_
  refine k_bipush (pc := 59) (v := 9) hC dX2_init_59 (by decide) ?_
  refine a_ldcL (pc := 61) hX dX2_init_61 hE (fun b20 hE => ?_)
  refine a_aastS (pc := 63) (E := "java/lang/String") cl_J6 hX hSt (by simp [arTy]) dX2_init_63 hE (fun T21 hE => ?_)
  refine k_dup (pc := 64) hC dX2_init_64 rfl ?_
  refine k_bipush (pc := 65) (v := 10) hC dX2_init_65 (by decide) ?_
  refine a_ldcL (pc := 67) hX dX2_init_67 hE (fun b22 hE => ?_)
  refine a_aastS (pc := 69) (E := "java/lang/String") cl_J6 hX hSt (by simp [arTy]) dX2_init_69 hE (fun T23 hE => ?_)
  refine k_dup (pc := 70) hC dX2_init_70 rfl ?_
  refine k_bipush (pc := 71) (v := 11) hC dX2_init_71 (by decide) ?_
  refine a_ldcL (pc := 73) hX dX2_init_73 hE (fun b24 hE => ?_)
  refine a_aastS (pc := 75) (E := "java/lang/String") cl_J6 hX hSt (by simp [arTy]) dX2_init_75 hE (fun T25 hE => ?_)
  refine k_dup (pc := 76) hC dX2_init_76 rfl ?_
  refine k_bipush (pc := 77) (v := 12) hC dX2_init_77 (by decide) ?_
  refine a_ldcL (pc := 79) hX dX2_init_79 hE (fun b26 hE => ?_)
  refine a_aastS (pc := 81) (E := "java/lang/String") cl_J6 hX hSt (by simp [arTy]) dX2_init_81 hE (fun T27 hE => ?_)
  refine k_dup (pc := 82) hC dX2_init_82 rfl ?_
  refine k_bipush (pc := 83) (v := 13) hC dX2_init_83 (by decide) ?_
  refine a_ldcL (pc := 85) hX dX2_init_85 hE (fun b28 hE => ?_)
  refine a_aastS (pc := 87) (E := "java/lang/String") cl_J6 hX hSt (by simp [arTy]) dX2_init_87 hE (fun T29 hE => ?_)
  refine k_dup (pc := 88) hC dX2_init_88 rfl ?_
  refine k_bipush (pc := 89) (v := 14) hC dX2_init_89 (by decide) ?_
  refine a_ldcL (pc := 91) hX dX2_init_91 hE (fun b30 hE => ?_)
  refine a_aastS (pc := 93) (E := "java/lang/String") cl_J6 hX hSt (by simp [arTy]) dX2_init_93 hE (fun T31 hE => ?_)
  refine k_dup (pc := 94) hC dX2_init_94 rfl ?_
  refine k_bipush (pc := 95) (v := 15) hC dX2_init_95 (by decide) ?_
  refine a_ldcL (pc := 97) hX dX2_init_97 hE (fun b32 hE => ?_)
  refine a_aastS (pc := 99) (E := "java/lang/String") cl_J6 hX hSt (by simp [arTy]) dX2_init_99 hE (fun T33 hE => ?_)
  refine k_dup (pc := 100) hC dX2_init_100 rfl ?_
  refine k_bipush (pc := 101) (v := 16) hC dX2_init_101 (by decide) ?_
  refine a_ldcL (pc := 103) hX dX2_init_103 hE (fun b34 hE => ?_)
  refine a_aastS (pc := 105) (E := "java/lang/String") cl_J6 hX hSt (by simp [arTy]) dX2_init_105 hE (fun T35 hE => ?_)
  refine k_dup (pc := 106) hC dX2_init_106 rfl ?_
  refine k_bipush (pc := 107) (v := 17) hC dX2_init_107 (by decide) ?_
  refine a_ldcL (pc := 109) hX dX2_init_109 hE (fun b36 hE => ?_)
  refine a_aastS (pc := 111) (E := "java/lang/String") cl_J6 hX hSt (by simp [arTy]) dX2_init_111 hE (fun T37 hE => ?_)
  refine k_dup (pc := 112) hC dX2_init_112 rfl ?_
  refine k_bipush (pc := 113) (v := 18) hC dX2_init_113 (by decide) ?_
  refine a_ldcL (pc := 115) hX dX2_init_115 hE (fun b38 hE => ?_)
  refine a_aastS (pc := 117) (E := "java/lang/String") cl_J6 hX hSt (by simp [arTy]) dX2_init_117 hE (fun T39 hE => ?_)
  refine k_dup (pc := 118) hC dX2_init_118 rfl ?_
  refine k_bipush (pc := 119) (v := 19) hC dX2_init_119 (by decide) ?_
  refine a_ldcL (pc := 121) hX dX2_init_121 hE (fun b40 hE => ?_)
  refine a_aastS (pc := 123) (E := "java/lang/String") cl_J6 hX hSt (by simp [arTy]) dX2_init_123 hE (fun T41 hE => ?_)
  refine k_dup (pc := 124) hC dX2_init_124 rfl ?_
  refine k_bipush (pc := 125) (v := 20) hC dX2_init_125 (by decide) ?_
  refine a_ldcL (pc := 127) hX dX2_init_127 hE (fun b42 hE => ?_)
  refine a_aastS (pc := 129) (E := "java/lang/String") cl_J6 hX hSt (by simp [arTy]) dX2_init_129 hE (fun T43 hE => ?_)
  refine a_putFR (pc := 130) (y := ((some (tN T)))) hX hSt cl_X2 in_X2 0 (by decide) rfl tyX2 tyX2_ok nmX2 (by exact q264) rfl rfl rfl (hin rfl) (by first | rfl | (cases hE <;> rfl)) (by first | rfl | (cases hE <;> rfl)) dX2_init_130 hE (fun T44 _ hE => ?_)
  refine k_aload_n (pc := 133) hC dX2_init_133 rfl 0 rfl ?_
  refine k_sipush (pc := 134) (v := 2000) hC dX2_init_134 (by decide) ?_
  refine a_newb (pc := 137) hX hSt dX2_init_137 hE (fun T45 eT45 hE c z => ?_)
  refine a_putFR (pc := 139) (y := ((some (tN T44)))) hX hSt cl_X2 in_X2 1 (by decide) rfl tyX2 tyX2_ok nmX2 (by exact q265) rfl rfl rfl (hin rfl) (by first | rfl | (cases hE <;> rfl)) (by first | rfl | (cases hE <;> rfl)) dX2_init_139 hE (fun T46 _ hE => ?_)
  refine k_aload_n (pc := 142) hC dX2_init_142 rfl 0 rfl ?_
  refine k_sipush (pc := 143) (v := 2001) hC dX2_init_143 (by decide) ?_
  refine a_newb (pc := 146) hX hSt dX2_init_146 hE (fun T47 eT47 hE c z => ?_)
  refine a_putFR (pc := 148) (y := ((some (tN T46)))) hX hSt cl_X2 in_X2 3 (by decide) rfl tyX2 tyX2_ok nmX2 (by exact q269) rfl rfl rfl (hin rfl) (by first | rfl | (cases hE <;> rfl)) (by first | rfl | (cases hE <;> rfl)) dX2_init_148 hE (fun T48 _ hE => ?_)
  refine k_aload_n (pc := 151) hC dX2_init_151 rfl 0 rfl ?_
  refine k_sipush (pc := 152) (v := 2001) hC dX2_init_152 (by decide) ?_
  refine a_newS (pc := 155) hX hSt dX2_init_155 hE (fun T49 eT49 hE c z => ?_)
  refine a_putFR (pc := 157) (y := ((some (tN T48)))) hX hSt cl_X2 in_X2 4 (by decide) rfl tyX2 tyX2_ok nmX2 (by exact q271) rfl rfl rfl (hin rfl) (by first | rfl | (cases hE <;> rfl)) (by first | rfl | (cases hE <;> rfl)) dX2_init_157 hE (fun T50 _ hE => ?_)
  refine k_aload_n (pc := 160) hC dX2_init_160 rfl 0 rfl ?_
  refine k_sipush (pc := 161) (v := 2001) hC dX2_init_161 (by decide) ?_
  refine a_newS (pc := 164) hX hSt dX2_init_164 hE (fun T51 eT51 hE c z => ?_)
  refine a_putFR (pc := 166) (y := ((some (tN T50)))) hX hSt cl_X2 in_X2 5 (by decide) rfl tyX2 tyX2_ok nmX2 (by exact q273) rfl rfl rfl (hin rfl) (by first | rfl | (cases hE <;> rfl)) (by first | rfl | (cases hE <;> rfl)) dX2_init_166 hE (fun T52 _ hE => ?_)
  refine k_aload_n (pc := 169) hC dX2_init_169 rfl 0 rfl ?_
  refine k_sipush (pc := 170) (v := 2001) hC dX2_init_170 (by decide) ?_
  refine a_newS (pc := 173) hX hSt dX2_init_173 hE (fun T53 eT53 hE c z => ?_)
  refine a_putFR (pc := 175) (y := ((some (tN T52)))) hX hSt cl_X2 in_X2 6 (by decide) rfl tyX2 tyX2_ok nmX2 (by exact q274) rfl rfl rfl (hin rfl) (by first | rfl | (cases hE <;> rfl)) (by first | rfl | (cases hE <;> rfl)) dX2_init_175 hE (fun T54 _ hE => ?_)
  cases hE
  exact a_vret (pc := 178) hX hR dX2_init_178 (by rfl) (fun _ h => h)
theorem ct_K_Tokens (l : Launch) (D : Dd) (A : Nat → Prop) (R : Heap → Prop) (d : Nat → Prop) (L : Nat × Nat × Nat × Nat) (T : Th) (hSt : Stb R d) (hdA : ∀ q, d q → A q) (hAB : ∀ q, A q → D.2.2.2.1.heap.size ≤ q) (a0 : Nat) (out : Th) (hE : K_Tokens D a0 T = some out) : Ct l yX2_init (ws_ yX2_init cX2_init 1 none) (rmA 1 24 L T) vwCl arTy D A [.ref a0] (RD D R d L T) (RD D R d L out) none (L.1 - tN T) (L.2.1 - tZ T) := by
  refine Ct.ofA (lv := [(0, .ref a0)]) (by decide) (Nat.le_of_ble_eq_true rfl) rfl hdA hAB ?_
  intro X hl hX hR hXA hin
  exact w_K_Tokens hX hSt hR hin a0 T hE
theorem cw_K_Tokens_X0 {X : Ctx} {cc : ByteArray} {D : Dd} {d : Nat → Prop} {L : Nat × Nat × Nat × Nat} {mL fr lo : Nat} {T : Th} (hX : Ax X cc RX0 D d L mL fr lo) (h1 : 1 + 1 ≤ fr) (h2 : 8 + (1 + 11) + 24 ≤ lo) : va_CN X.2.2.2.1 X.2.2.2.2.1 X.2.2.2.2.2.2.1 RX0 18 yX2_init "SleepWork" cX2_init 1 none (ws_ yX2_init cX2_init 1 none) (rmA 1 24 L T) (L.1 - tN T) (L.2.1 - tZ T) 0 ∧ yX2_init.name = "<init>" ∧ (Cond.instanceMethod yX2_init).before X.2.2.2.2.2.2.1 X.2.2.2.2.1 = true := ⟨va_cnB 0 (cx_w hX.1) (lw_meth q239) rfl rfl rfl (hX.1.K.2.2.1 _ q237 rfl) (cx_w hX.1 _ q119) (by decide +kernel) (by rw [hX.2.2.2.1, hX.2.2.2.2.1]; exact ⟨h1, h2⟩), rfl, cx_w hX.1 _ q238⟩
set_option maxHeartbeats 4000000 in
theorem w_K_Parser {X : Ctx} {D : Dd} {R : Heap → Prop} {d : Nat → Prop} {L : Nat × Nat × Nat × Nat} {out : Th} (hX : Ax X cX3_init RX3 D d L 3 1 24) (hSt : Stb R d) (hR : RtA X none (RD D R d L out) none D L) (hin : "<init>" = "<init>" → X.2.2.2.2.2.2.2.2.1.name = "<init>") (a0 : Nat) (a1 : Nat) (a2 : Nat) (T : Th) (hE : K_Parser a0 a1 a2 T = some out) (c z : Nat) : Wk X c z (RD D R d L T) 0 [(0, .ref a0), (1, .ref a1), (2, .ref a2)] [] := by
  have hC := hX.1
  have hnL := hX.2.2.1
  have hDy : ∀ {T : Th} (H : Heap), RD D R d L T H → Dy D T H := fun _ h => h.2.1
  unfold K_Parser at hE
  refine k_aload_n (pc := 0) hC dX3_init_0 rfl 0 rfl ?_
  refine a_objInit (pc := 1) hX q300 dX3_init_1 (Nat.le_of_ble_eq_true rfl) (Nat.le_of_ble_eq_true rfl) ?_
  refine k_aload_n (pc := 4) hC dX3_init_4 rfl 0 rfl ?_
  refine k_aload_n (pc := 5) hC dX3_init_5 rfl 1 rfl ?_
  refine a_putFR (pc := 6) (y := ((some a1))) hX hSt cl_X3 in_X3 0 (by decide) rfl tyX3 tyX3_ok nmX3 (by exact q301) rfl rfl rfl (hin rfl) (by first | rfl | (cases hE <;> rfl)) (by first | rfl | (cases hE <;> rfl)) dX3_init_6 hE (fun T1 _ hE => ?_)
  refine k_aload_n (pc := 9) hC dX3_init_9 rfl 0 rfl ?_
  refine k_aload_n (pc := 10) hC dX3_init_10 rfl 2 rfl ?_
  refine a_putFR (pc := 11) (y := ((some a2))) hX hSt cl_X3 in_X3 1 (by decide) rfl tyX3 tyX3_ok nmX3 (by exact q302) rfl rfl rfl (hin rfl) (by first | rfl | (cases hE <;> rfl)) (by first | rfl | (cases hE <;> rfl)) dX3_init_11 hE (fun T2 _ hE => ?_)
  cases hE
  exact a_vret (pc := 14) hX hR dX3_init_14 (by rfl) (fun _ h => h)
theorem ct_K_Parser (l : Launch) (D : Dd) (A : Nat → Prop) (R : Heap → Prop) (d : Nat → Prop) (L : Nat × Nat × Nat × Nat) (T : Th) (hSt : Stb R d) (hdA : ∀ q, d q → A q) (hAB : ∀ q, A q → D.2.2.2.1.heap.size ≤ q) (a0 : Nat) (a1 : Nat) (a2 : Nat) (out : Th) (hE : K_Parser a0 a1 a2 T = some out) : Ct l yX3_init (ws_ yX3_init cX3_init 3 none) (rmA 1 24 L T) vwCl arTy D A [.ref a0, .ref a1, .ref a2] (RD D R d L T) (RD D R d L out) none (L.1 - tN T) (L.2.1 - tZ T) := by
  refine Ct.ofA (lv := [(0, .ref a0), (1, .ref a1), (2, .ref a2)]) (by decide) (Nat.le_of_ble_eq_true rfl) rfl hdA hAB ?_
  intro X hl hX hR hXA hin
  exact w_K_Parser hX hSt hR hin a0 a1 a2 T hE
theorem cw_K_Parser_X0 {X : Ctx} {cc : ByteArray} {D : Dd} {d : Nat → Prop} {L : Nat × Nat × Nat × Nat} {mL fr lo : Nat} {T : Th} (hX : Ax X cc RX0 D d L mL fr lo) (h1 : 1 + 1 ≤ fr) (h2 : 8 + (3 + 11) + 24 ≤ lo) : CallB X.2.2.2.1 X.2.2.2.2.1 X.2.2.2.2.2.2.1 RX0 25 yX3_init cX3_init 3 none (ws_ yX3_init cX3_init 3 none) (rmA 1 24 L T) (L.1 - tN T) (L.2.1 - tZ T) 2 ∧ yX3_init.name = "<init>" ∧ (Cond.instanceMethod yX3_init).before X.2.2.2.2.2.2.1 X.2.2.2.2.1 = true := cwI 2 (cx_w hX.1) (lw_meth q299) rfl rfl rfl (cx_w hX.1 _ q120) (cx_w hX.1 _ q297) (cx_w hX.1 _ q298) rfl (by decide +kernel) (by rw [hX.2.2.2.1, hX.2.2.2.2.1]; exact ⟨h1, h2⟩)
set_option maxHeartbeats 4000000 in
theorem w_K_SleepWork_B163 {X : Ctx} {D : Dd} {R : Heap → Prop} {d : Nat → Prop} {L : Nat × Nat × Nat × Nat} {out : Th} (hX : Ax X cX0_init RX0 D d L 2 5 116) (hSt : Stb R d) (hR : RtA X none (RD D R d L out) none D L) (hin : "<init>" = "<init>" → X.2.2.2.2.2.2.2.2.1.name = "<init>") (F : Nat) (k163 : Nat → Int32 → Th → Option (Th)) (hk163 : ∀ (a0 : Nat) (a1 : Int32) (T : Th) , k163 a0 a1 T = some out → ∀ c z, Wk X c z (RD D R d L T) 163 [(0, .ref a0), (1, .int a1)] []) (a0 : Nat) (a1 : Int32) (T : Th) (hE : K_SleepWork_B163 F k163 D a0 a1 T = some out) (c z : Nat) : Wk X c z (RD D R d L T) 163 [(0, .ref a0), (1, .int a1)] [] := by
  have hC := hX.1
  have hnL := hX.2.2.1
  have hDy : ∀ {T : Th} (H : Heap), RD D R d L T H → Dy D T H := fun _ h => h.2.1
  unfold K_SleepWork_B163 at hE
  refine k_iload_n (pc := 163) hC dX0_init_163 rfl 1 rfl ?_
  refine k_bipush (pc := 164) (v := 20) hC dX0_init_164 (by decide) ?_
  refine k_icmp_ge (pc := 166) (tgt := 188) hC dX0_init_166 (by decide) hE (fun hE => ?_) (fun hE => ?_)
  · cases hE
    exact a_vret (pc := 188) hX hR dX0_init_188 (by rfl) (fun _ h => h)
  · refine k_aload_n (pc := 169) hC dX0_init_169 rfl 0 rfl ?_
    refine gD_X0_53_X0 (pc := 170) hC hDy dX0_init_170 hE (fun x45 hE => ?_)
    refine k_iload_n (pc := 173) hC dX0_init_173 rfl 1 rfl ?_
    refine a_new (pc := 174) hX hSt cl_X5 in_X5 tyX5 tyX5_ok dv_X5 q397 q398 q125 dX0_init_174 hE (fun T46 eT46 hE c z => ?_)
    refine k_dup (pc := 177) hC dX0_init_177 rfl ?_
    obtain ⟨r47, h1, hE⟩ := ob_ hE
    refine a_callIN (pc := 178) (As := []) hX (ct_K_Village X.2.1 D (cxA X) R d L T46 hSt hX.2.1 hX.2.2.2.2.2.2.2.2.2 (tN T) r47 h1) (cw_K_Village_X0 hX (Nat.le_of_ble_eq_true rfl) (Nat.le_of_ble_eq_true rfl)) rfl rfl (by cases x45 <;> exact Nat.le_of_ble_eq_true rfl) dX0_init_178 (fun c z => ?_)
    show Wk X c z (RD D R d L r47) 181 [(0, .ref a0), (1, .int a1)] [.ref (tN T), .int a1, va_rf x45]
    refine k_nn (G := fun z => Wk X _ _ (RD D R d L r47) 181 [(0, .ref a0), (1, .int a1)] [.ref (tN T), .int a1, z]) hE (fun b48 hE => ?_)
    refine a_aastS (pc := 181) (E := "SleepWork$Village") cl_X5 hX hSt (by simp [arTy]) dX0_init_181 hE (fun T49 hE => ?_)
    refine k_iincE (pc := 182) (k := 1) (d := 1) (lv' := fun x50 => [(1, .int x50), (0, .ref a0)]) hC dX0_init_182 rfl (by decide) (by rw [hnL]; decide) hE (fun _ => rfl) (fun x50 hE => ?_)
    refine k_goto (pc := 185) (tgt := 163) hC dX0_init_185 (by decide) ?_
    refine k_sub [1, 0] rfl ?_
    exact hk163 _ _ _ hE _ _
theorem w_K_SleepWork_L163 {X : Ctx} {D : Dd} {R : Heap → Prop} {d : Nat → Prop} {L : Nat × Nat × Nat × Nat} {out : Th} (hX : Ax X cX0_init RX0 D d L 2 5 116) (hSt : Stb R d) (hR : RtA X none (RD D R d L out) none D L) (hin : "<init>" = "<init>" → X.2.2.2.2.2.2.2.2.1.name = "<init>") (F : Nat) (n : Nat) : ∀ (a0 : Nat) (a1 : Int32) (T : Th) , K_SleepWork_L163 F D n a0 a1 T = some out → ∀ c z, Wk X c z (RD D R d L T) 163 [(0, .ref a0), (1, .int a1)] [] := by
  induction n with
  | zero => intro a0 a1 T h; cases h
  | succ n ih => intro a0 a1 T h; exact w_K_SleepWork_B163 hX hSt hR hin F (K_SleepWork_L163 F D n) ih a0 a1 T h
set_option maxHeartbeats 4000000 in
theorem w_K_SleepWork {X : Ctx} {D : Dd} {R : Heap → Prop} {d : Nat → Prop} {L : Nat × Nat × Nat × Nat} {out : Th} (hX : Ax X cX0_init RX0 D d L 2 5 116) (hSt : Stb R d) (hR : RtA X none (RD D R d L out) none D L) (hin : "<init>" = "<init>" → X.2.2.2.2.2.2.2.2.1.name = "<init>") (F : Nat) (a0 : Nat) (T : Th) (hE : K_SleepWork F D a0 T = some out) (c z : Nat) : Wk X c z (RD D R d L T) 0 [(0, .ref a0)] [] := by
  have hC := hX.1
  have hnL := hX.2.2.1
  have hDy : ∀ {T : Th} (H : Heap), RD D R d L T H → Dy D T H := fun _ h => h.2.1
  unfold K_SleepWork at hE
  refine k_aload_n (pc := 0) hC dX0_init_0 rfl 0 rfl ?_
  refine a_objInit (pc := 1) hX q158 dX0_init_1 (Nat.le_of_ble_eq_true rfl) (Nat.le_of_ble_eq_true rfl) ?_
  refine k_aload_n (pc := 4) hC dX0_init_4 rfl 0 rfl ?_
  refine a_new (pc := 5) hX hSt cl_X1 in_X1 tyX1 tyX1_ok dv_X1 q161 q162 q118 dX0_init_5 hE (fun T1 eT1 hE c z => ?_)
  refine k_dup (pc := 8) hC dX0_init_8 rfl ?_
  obtain ⟨r2, h1, hE⟩ := ob_ hE
  refine a_callI (pc := 9) (As := []) hX (ct_K_X1 X.2.1 D (cxA X) R d L T1 hSt hX.2.1 hX.2.2.2.2.2.2.2.2.2 (tN T) r2 h1) (cw_K_X1_X0 hX (Nat.le_of_ble_eq_true rfl) (Nat.le_of_ble_eq_true rfl)) rfl rfl (Nat.le_of_ble_eq_true rfl) dX0_init_9 (fun c z => ?_)
  show Wk X c z (RD D R d L r2) 12 [(0, .ref a0)] [.ref (tN T), .ref a0]
  refine a_putFR (pc := 12) (y := ((some (tN T)))) hX hSt cl_X0 in_X0 0 (by decide) rfl tyX0 tyX0_ok nmX0 (by exact q517) rfl rfl rfl (hin rfl) (by first | rfl | (cases hE <;> rfl)) (by first | rfl | (cases hE <;> rfl)) dX0_init_12 hE (fun T3 _ hE => ?_)
  refine k_aload_n (pc := 15) hC dX0_init_15 rfl 0 rfl ?_
  refine a_new (pc := 16) hX hSt cl_X2 in_X2 tyX2 tyX2_ok dv_X2 q235 q236 q119 dX0_init_16 hE (fun T4 eT4 hE c z => ?_)
  refine k_dup (pc := 19) hC dX0_init_19 rfl ?_
  obtain ⟨r5, h1, hE⟩ := ob_ hE
  refine a_callIN (pc := 20) (As := []) hX (ct_K_Tokens X.2.1 D (cxA X) R d L T4 hSt hX.2.1 hX.2.2.2.2.2.2.2.2.2 (tN T3) r5 h1) (cw_K_Tokens_X0 hX (Nat.le_of_ble_eq_true rfl) (Nat.le_of_ble_eq_true rfl)) rfl rfl (Nat.le_of_ble_eq_true rfl) dX0_init_20 (fun c z => ?_)
  show Wk X c z (RD D R d L r5) 23 [(0, .ref a0)] [.ref (tN T3), .ref a0]
  refine a_putFR (pc := 23) (y := ((some (tN T3)))) hX hSt cl_X0 in_X0 1 (by decide) rfl tyX0 tyX0_ok nmX0 (by exact q518) rfl rfl rfl (hin rfl) (by first | rfl | (cases hE <;> rfl)) (by first | rfl | (cases hE <;> rfl)) dX0_init_23 hE (fun T6 _ hE => ?_)
  refine k_aload_n (pc := 26) hC dX0_init_26 rfl 0 rfl ?_
  refine a_new (pc := 27) hX hSt cl_X3 in_X3 tyX3 tyX3_ok dv_X3 q295 q296 q120 dX0_init_27 hE (fun T7 eT7 hE c z => ?_)
  refine k_dup (pc := 30) hC dX0_init_30 rfl ?_
  refine k_aload_n (pc := 31) hC dX0_init_31 rfl 0 rfl ?_
  refine gD_X0_19_X0 (pc := 32) hC hDy dX0_init_32 hE (fun x8 hE => ?_)
  refine k_aload_n (pc := 35) hC dX0_init_35 rfl 0 rfl ?_
  refine gD_X0_10_X0 (pc := 36) hC hDy dX0_init_36 hE (fun x9 hE => ?_)
  refine k_nn (G := fun z => Wk X _ _ (RD D R d L T7) 39 [(0, .ref a0)] [z, va_rf x8, .ref (tN T6), .ref (tN T6), .ref a0]) hE (fun b10 hE => ?_)
  refine k_nn (G := fun z => Wk X _ _ (RD D R d L T7) 39 [(0, .ref a0)] [.ref b10, z, .ref (tN T6), .ref (tN T6), .ref a0]) hE (fun b11 hE => ?_)
  obtain ⟨r12, h1, hE⟩ := ob_ hE
  refine a_callI (pc := 39) (As := [.ref b11, .ref b10]) hX (ct_K_Parser X.2.1 D (cxA X) R d L T7 hSt hX.2.1 hX.2.2.2.2.2.2.2.2.2 (tN T6) b11 b10 r12 h1) (cw_K_Parser_X0 hX (Nat.le_of_ble_eq_true rfl) (Nat.le_of_ble_eq_true rfl)) rfl rfl (Nat.le_of_ble_eq_true rfl) dX0_init_39 (fun c z => ?_)
  show Wk X c z (RD D R d L r12) 42 [(0, .ref a0)] [.ref (tN T6), .ref a0]
  refine a_putFR (pc := 42) (y := ((some (tN T6)))) hX hSt cl_X0 in_X0 2 (by decide) rfl tyX0 tyX0_ok nmX0 (by exact q519) rfl rfl rfl (hin rfl) (by first | rfl | (cases hE <;> rfl)) (by first | rfl | (cases hE <;> rfl)) dX0_init_42 hE (fun T13 _ hE => ?_)
  refine k_aload_n (pc := 45) hC dX0_init_45 rfl 0 rfl ?_
  refine a_new (pc := 46) hX hSt cl_X4 in_X4 tyX4 tyX4_ok dv_X4 q323 q324 q121 dX0_init_46 hE (fun T14 eT14 hE c z => ?_)
  refine k_dup (pc := 49) hC dX0_init_49 rfl ?_
  obtain ⟨r15, h1, hE⟩ := ob_ hE
  refine a_callIN (pc := 50) (As := []) hX (ct_A_Text X.2.1 D (cxA X) R d L T14 hSt hX.2.1 hX.2.2.2.2.2.2.2.2.2 (tN T13) r15 h1) (cw_A_Text_X0 hX (Nat.le_of_ble_eq_true rfl) (Nat.le_of_ble_eq_true rfl)) rfl rfl (Nat.le_of_ble_eq_true rfl) dX0_init_50 (fun c z => ?_)
  show Wk X c z (RD D R d L r15) 53 [(0, .ref a0)] [.ref (tN T13), .ref a0]
  refine a_putR (pc := 53) (y := ((some (tN T13)))) hX hSt cl_X0 in_X0 3 (by decide) rfl tyX0 tyX0_ok nmX0 (by exact q520) rfl rfl (by first | rfl | (cases hE <;> rfl)) (by first | rfl | (cases hE <;> rfl)) dX0_init_53 hE (fun T16 _ hE => ?_)
  refine k_aload_n (pc := 56) hC dX0_init_56 rfl 0 rfl ?_
  refine k_iconst (pc := 57) (v := (-1)) hC dX0_init_57 (by decide) ?_
  refine a_putI (pc := 58) (y := ((-1))) hX hSt cl_X0 in_X0 4 (by decide) rfl tyX0 tyX0_ok nmX0 (by exact q521) rfl rfl rfl rfl dX0_init_58 hE (fun T17 _ hE => ?_)
  refine k_aload_n (pc := 61) hC dX0_init_61 rfl 0 rfl ?_
  refine a_new (pc := 62) hX hSt cl_X5 in_X5 tyX5 tyX5_ok dv_X5 q397 q398 q125 dX0_init_62 hE (fun T18 eT18 hE c z => ?_)
  refine k_dup (pc := 65) hC dX0_init_65 rfl ?_
  obtain ⟨r19, h1, hE⟩ := ob_ hE
  refine a_callIN (pc := 66) (As := []) hX (ct_K_Village X.2.1 D (cxA X) R d L T18 hSt hX.2.1 hX.2.2.2.2.2.2.2.2.2 (tN T17) r19 h1) (cw_K_Village_X0 hX (Nat.le_of_ble_eq_true rfl) (Nat.le_of_ble_eq_true rfl)) rfl rfl (Nat.le_of_ble_eq_true rfl) dX0_init_66 (fun c z => ?_)
  show Wk X c z (RD D R d L r19) 69 [(0, .ref a0)] [.ref (tN T17), .ref a0]
  refine a_putFR (pc := 69) (y := ((some (tN T17)))) hX hSt cl_X0 in_X0 7 (by decide) rfl tyX0 tyX0_ok nmX0 (by exact q524) rfl rfl rfl (hin rfl) (by first | rfl | (cases hE <;> rfl)) (by first | rfl | (cases hE <;> rfl)) dX0_init_69 hE (fun T20 _ hE => ?_)
  refine k_aload_n (pc := 72) hC dX0_init_72 rfl 0 rfl ?_
  refine a_new (pc := 73) hX hSt cl_X5 in_X5 tyX5 tyX5_ok dv_X5 q397 q398 q125 dX0_init_73 hE (fun T21 eT21 hE c z => ?_)
  refine k_dup (pc := 76) hC dX0_init_76 rfl ?_
  obtain ⟨r22, h1, hE⟩ := ob_ hE
  refine a_callIN (pc := 77) (As := []) hX (ct_K_Village X.2.1 D (cxA X) R d L T21 hSt hX.2.1 hX.2.2.2.2.2.2.2.2.2 (tN T20) r22 h1) (cw_K_Village_X0 hX (Nat.le_of_ble_eq_true rfl) (Nat.le_of_ble_eq_true rfl)) rfl rfl (Nat.le_of_ble_eq_true rfl) dX0_init_77 (fun c z => ?_)
  show Wk X c z (RD D R d L r22) 80 [(0, .ref a0)] [.ref (tN T20), .ref a0]
  refine a_putFR (pc := 80) (y := ((some (tN T20)))) hX hSt cl_X0 in_X0 8 (by decide) rfl tyX0 tyX0_ok nmX0 (by exact q525) rfl rfl rfl (hin rfl) (by first | rfl | (cases hE <;> rfl)) (by first | rfl | (cases hE <;> rfl)) dX0_init_80 hE (fun T23 _ hE => ?_)
  refine k_aload_n (pc := 83) hC dX0_init_83 rfl 0 rfl ?_
  refine k_bipush (pc := 84) (v := 20) hC dX0_init_84 (by decide) ?_
  refine a_newq (pc := 86) hX hSt (by simp [arTy]) q397 q516 dX0_init_86 hE (fun T24 eT24 hE c z => ?_)
  refine a_putFR (pc := 89) (y := ((some (tN T23)))) hX hSt cl_X0 in_X0 9 (by decide) rfl tyX0 tyX0_ok nmX0 (by exact q526) rfl rfl rfl (hin rfl) (by first | rfl | (cases hE <;> rfl)) (by first | rfl | (cases hE <;> rfl)) dX0_init_89 hE (fun T25 _ hE => ?_)
  refine k_aload_n (pc := 92) hC dX0_init_92 rfl 0 rfl ?_
  refine k_iconst (pc := 93) (v := 3) hC dX0_init_93 (by decide) ?_
  refine a_newq (pc := 94) hX hSt (by simp [arTy]) q397 q516 dX0_init_94 hE (fun T26 eT26 hE c z => ?_)
  refine k_dup (pc := 97) hC dX0_init_97 rfl ?_
  refine k_iconst (pc := 98) (v := 0) hC dX0_init_98 (by decide) ?_
  refine a_new (pc := 99) hX hSt cl_X5 in_X5 tyX5 tyX5_ok dv_X5 q397 q398 q125 dX0_init_99 hE (fun T27 eT27 hE c z => ?_)
  refine k_dup (pc := 102) hC dX0_init_102 rfl ?_
  obtain ⟨r28, h1, hE⟩ := ob_ hE
  refine a_callIN (pc := 103) (As := []) hX (ct_K_Village X.2.1 D (cxA X) R d L T27 hSt hX.2.1 hX.2.2.2.2.2.2.2.2.2 (tN T26) r28 h1) (cw_K_Village_X0 hX (Nat.le_of_ble_eq_true rfl) (Nat.le_of_ble_eq_true rfl)) rfl rfl (Nat.le_of_ble_eq_true rfl) dX0_init_103 (fun c z => ?_)
  show Wk X c z (RD D R d L r28) 106 [(0, .ref a0)] [.ref (tN T26), .int 0, .ref (tN T25), .ref (tN T25), .ref a0]
  refine a_aastS (pc := 106) (E := "SleepWork$Village") cl_X5 hX hSt (by simp [arTy]) dX0_init_106 hE (fun T29 hE => ?_)
  refine k_dup (pc := 107) hC dX0_init_107 rfl ?_
  refine k_iconst (pc := 108) (v := 1) hC dX0_init_108 (by decide) ?_
  refine a_new (pc := 109) hX hSt cl_X5 in_X5 tyX5 tyX5_ok dv_X5 q397 q398 q125 dX0_init_109 hE (fun T30 eT30 hE c z => ?_)
  refine k_dup (pc := 112) hC dX0_init_112 rfl ?_
  obtain ⟨r31, h1, hE⟩ := ob_ hE
  refine a_callIN (pc := 113) (As := []) hX (ct_K_Village X.2.1 D (cxA X) R d L T30 hSt hX.2.1 hX.2.2.2.2.2.2.2.2.2 (tN T29) r31 h1) (cw_K_Village_X0 hX (Nat.le_of_ble_eq_true rfl) (Nat.le_of_ble_eq_true rfl)) rfl rfl (Nat.le_of_ble_eq_true rfl) dX0_init_113 (fun c z => ?_)
  show Wk X c z (RD D R d L r31) 116 [(0, .ref a0)] [.ref (tN T29), .int 1, .ref (tN T25), .ref (tN T25), .ref a0]
  refine a_aastS (pc := 116) (E := "SleepWork$Village") cl_X5 hX hSt (by simp [arTy]) dX0_init_116 hE (fun T32 hE => ?_)
  refine k_dup (pc := 117) hC dX0_init_117 rfl ?_
  refine k_iconst (pc := 118) (v := 2) hC dX0_init_118 (by decide) ?_
  refine a_new (pc := 119) hX hSt cl_X5 in_X5 tyX5 tyX5_ok dv_X5 q397 q398 q125 dX0_init_119 hE (fun T33 eT33 hE c z => ?_)
  refine k_dup (pc := 122) hC dX0_init_122 rfl ?_
  obtain ⟨r34, h1, hE⟩ := ob_ hE
  refine a_callIN (pc := 123) (As := []) hX (ct_K_Village X.2.1 D (cxA X) R d L T33 hSt hX.2.1 hX.2.2.2.2.2.2.2.2.2 (tN T32) r34 h1) (cw_K_Village_X0 hX (Nat.le_of_ble_eq_true rfl) (Nat.le_of_ble_eq_true rfl)) rfl rfl (Nat.le_of_ble_eq_true rfl) dX0_init_123 (fun c z => ?_)
  show Wk X c z (RD D R d L r34) 126 [(0, .ref a0)] [.ref (tN T32), .int 2, .ref (tN T25), .ref (tN T25), .ref a0]
  refine a_aastS (pc := 126) (E := "SleepWork$Village") cl_X5 hX hSt (by simp [arTy]) dX0_init_126 hE (fun T35 hE => ?_)
  refine a_putFR (pc := 127) (y := ((some (tN T25)))) hX hSt cl_X0 in_X0 10 (by decide) rfl tyX0 tyX0_ok nmX0 (by exact q527) rfl rfl rfl (hin rfl) (by first | rfl | (cases hE <;> rfl)) (by first | rfl | (cases hE <;> rfl)) dX0_init_127 hE (fun T36 _ hE => ?_)
  refine k_aload_n (pc := 130) hC dX0_init_130 rfl 0 rfl ?_
  refine k_iconst (pc := 131) (v := 3) hC dX0_init_131 (by decide) ?_
  refine a_newZ (pc := 132) hX hSt dX0_init_132 hE (fun T37 eT37 hE c z => ?_)
  refine a_putFR (pc := 134) (y := ((some (tN T36)))) hX hSt cl_X0 in_X0 11 (by decide) rfl tyX0 tyX0_ok nmX0 (by exact q528) rfl rfl rfl (hin rfl) (by first | rfl | (cases hE <;> rfl)) (by first | rfl | (cases hE <;> rfl)) dX0_init_134 hE (fun T38 _ hE => ?_)
  refine k_aload_n (pc := 137) hC dX0_init_137 rfl 0 rfl ?_
  refine k_bipush (pc := 138) (v := 30) hC dX0_init_138 (by decide) ?_
  refine a_newI (pc := 140) hX hSt dX0_init_140 hE (fun T39 eT39 hE c z => ?_)
  refine a_putFR (pc := 142) (y := ((some (tN T38)))) hX hSt cl_X0 in_X0 16 (by decide) rfl tyX0 tyX0_ok nmX0 (by exact q533) rfl rfl rfl (hin rfl) (by first | rfl | (cases hE <;> rfl)) (by first | rfl | (cases hE <;> rfl)) dX0_init_142 hE (fun T40 _ hE => ?_)
  refine k_aload_n (pc := 145) hC dX0_init_145 rfl 0 rfl ?_
  refine k_bipush (pc := 146) (v := 30) hC dX0_init_146 (by decide) ?_
  refine a_newI (pc := 148) hX hSt dX0_init_148 hE (fun T41 eT41 hE c z => ?_)
  refine a_putFR (pc := 150) (y := ((some (tN T40)))) hX hSt cl_X0 in_X0 17 (by decide) rfl tyX0 tyX0_ok nmX0 (by exact q534) rfl rfl rfl (hin rfl) (by first | rfl | (cases hE <;> rfl)) (by first | rfl | (cases hE <;> rfl)) dX0_init_150 hE (fun T42 _ hE => ?_)
  refine k_aload_n (pc := 153) hC dX0_init_153 rfl 0 rfl ?_
  refine k_bipush (pc := 154) (v := 30) hC dX0_init_154 (by decide) ?_
  refine a_newI (pc := 156) hX hSt dX0_init_156 hE (fun T43 eT43 hE c z => ?_)
  refine a_putFR (pc := 158) (y := ((some (tN T42)))) hX hSt cl_X0 in_X0 18 (by decide) rfl tyX0 tyX0_ok nmX0 (by exact q535) rfl rfl rfl (hin rfl) (by first | rfl | (cases hE <;> rfl)) (by first | rfl | (cases hE <;> rfl)) dX0_init_158 hE (fun T44 _ hE => ?_)
  refine k_iconst (pc := 161) (v := 0) hC dX0_init_161 (by decide) ?_
  refine k_istore_n (pc := 162) (lv' := [(1, .int 0), (0, .ref a0)]) hC dX0_init_162 rfl (by rw [hnL]; decide) rfl ?_
  refine k_sub [1, 0] rfl ?_
  exact w_K_SleepWork_L163 hX hSt hR hin F _ _ _ _ hE _ _
theorem ct_K_SleepWork (l : Launch) (D : Dd) (A : Nat → Prop) (R : Heap → Prop) (d : Nat → Prop) (L : Nat × Nat × Nat × Nat) (T : Th) (hSt : Stb R d) (hdA : ∀ q, d q → A q) (hAB : ∀ q, A q → D.2.2.2.1.heap.size ≤ q) (F : Nat) (a0 : Nat) (out : Th) (hE : K_SleepWork F D a0 T = some out) : Ct l yX0_init (ws_ yX0_init cX0_init 2 none) (rmA 5 116 L T) vwCl arTy D A [.ref a0] (RD D R d L T) (RD D R d L out) none (L.1 - tN T) (L.2.1 - tZ T) := by
  refine Ct.ofA (lv := [(0, .ref a0)]) (by decide) (Nat.le_of_ble_eq_true rfl) rfl hdA hAB ?_
  intro X hl hX hR hXA hin
  exact w_K_SleepWork hX hSt hR hin F a0 T hE
set_option maxHeartbeats 4000000 in
theorem w_K_Model {X : Ctx} {D : Dd} {R : Heap → Prop} {d : Nat → Prop} {L : Nat × Nat × Nat × Nat} {out : Th} (hX : Ax X cX8_init RX8 D d L 1 1 24) (hSt : Stb R d) (a0 : Nat) (hR : ∀ c z, Wk X c z (RD D R d L out) 508 [(0, .ref a0)] []) (hin : "<init>" = "<init>" → X.2.2.2.2.2.2.2.2.1.name = "<init>") (T : Th) (hE : K_Model a0 T = some out) (c z : Nat) : Wk X c z (RD D R d L T) 0 [(0, .ref a0)] [] := by
  have hC := hX.1
  have hnL := hX.2.2.1
  have hDy : ∀ {T : Th} (H : Heap), RD D R d L T H → Dy D T H := fun _ h => h.2.1
  unfold K_Model at hE
  refine k_aload_n (pc := 0) hC dX8_init_0 rfl 0 rfl ?_
  refine a_objInit (pc := 1) hX q1546 dX8_init_1 (Nat.le_of_ble_eq_true rfl) (Nat.le_of_ble_eq_true rfl) ?_
  refine k_aload_n (pc := 4) hC dX8_init_4 rfl 0 rfl ?_
  refine k_sipush (pc := 5) (v := 2000) hC dX8_init_5 (by decide) ?_
  refine a_newb (pc := 8) hX hSt dX8_init_8 hE (fun T1 eT1 hE c z => ?_)
  refine a_putFR (pc := 10) (y := ((some (tN T)))) hX hSt cl_X8 in_X8 1 (by decide) rfl tyX8 tyX8_ok nmX8 (by exact q1554) rfl rfl rfl (hin rfl) (by first | rfl | (cases hE <;> rfl)) (by first | rfl | (cases hE <;> rfl)) dX8_init_10 hE (fun T2 _ hE => ?_)
  refine k_aload_n (pc := 13) hC dX8_init_13 rfl 0 rfl ?_
  refine k_sipush (pc := 14) (v := 2000) hC dX8_init_14 (by decide) ?_
  refine a_newb (pc := 17) hX hSt dX8_init_17 hE (fun T3 eT3 hE c z => ?_)
  refine a_putFR (pc := 19) (y := ((some (tN T2)))) hX hSt cl_X8 in_X8 3 (by decide) rfl tyX8 tyX8_ok nmX8 (by exact q1556) rfl rfl rfl (hin rfl) (by first | rfl | (cases hE <;> rfl)) (by first | rfl | (cases hE <;> rfl)) dX8_init_19 hE (fun T4 _ hE => ?_)
  refine k_aload_n (pc := 22) hC dX8_init_22 rfl 0 rfl ?_
  refine k_sipush (pc := 23) (v := 403) hC dX8_init_23 (by decide) ?_
  refine a_newI (pc := 26) hX hSt dX8_init_26 hE (fun T5 eT5 hE c z => ?_)
  refine a_putFR (pc := 28) (y := ((some (tN T4)))) hX hSt cl_X8 in_X8 5 (by decide) rfl tyX8 tyX8_ok nmX8 (by exact q1558) rfl rfl rfl (hin rfl) (by first | rfl | (cases hE <;> rfl)) (by first | rfl | (cases hE <;> rfl)) dX8_init_28 hE (fun T6 _ hE => ?_)
  refine k_aload_n (pc := 31) hC dX8_init_31 rfl 0 rfl ?_
  refine k_sipush (pc := 32) (v := 403) hC dX8_init_32 (by decide) ?_
  refine a_newI (pc := 35) hX hSt dX8_init_35 hE (fun T7 eT7 hE c z => ?_)
  refine a_putFR (pc := 37) (y := ((some (tN T6)))) hX hSt cl_X8 in_X8 6 (by decide) rfl tyX8 tyX8_ok nmX8 (by exact q1559) rfl rfl rfl (hin rfl) (by first | rfl | (cases hE <;> rfl)) (by first | rfl | (cases hE <;> rfl)) dX8_init_37 hE (fun T8 _ hE => ?_)
  refine k_aload_n (pc := 40) hC dX8_init_40 rfl 0 rfl ?_
  refine k_sipush (pc := 41) (v := 403) hC dX8_init_41 (by decide) ?_
  refine a_newI (pc := 44) hX hSt dX8_init_44 hE (fun T9 eT9 hE c z => ?_)
  refine a_putFR (pc := 46) (y := ((some (tN T8)))) hX hSt cl_X8 in_X8 7 (by decide) rfl tyX8 tyX8_ok nmX8 (by exact q1560) rfl rfl rfl (hin rfl) (by first | rfl | (cases hE <;> rfl)) (by first | rfl | (cases hE <;> rfl)) dX8_init_46 hE (fun T10 _ hE => ?_)
  refine k_aload_n (pc := 49) hC dX8_init_49 rfl 0 rfl ?_
  refine k_sipush (pc := 50) (v := 403) hC dX8_init_50 (by decide) ?_
  refine a_newJ (pc := 53) hX hSt dX8_init_53 hE (fun T11 eT11 hE c z => ?_)
  refine a_putFR (pc := 55) (y := ((some (tN T10)))) hX hSt cl_X8 in_X8 8 (by decide) rfl tyX8 tyX8_ok nmX8 (by exact q1561) rfl rfl rfl (hin rfl) (by first | rfl | (cases hE <;> rfl)) (by first | rfl | (cases hE <;> rfl)) dX8_init_55 hE (fun T12 _ hE => ?_)
  refine k_aload_n (pc := 58) hC dX8_init_58 rfl 0 rfl ?_
  refine k_bipush (pc := 59) (v := 21) hC dX8_init_59 (by decide) ?_
  refine a_newJ (pc := 61) hX hSt dX8_init_61 hE (fun T13 eT13 hE c z => ?_)
  refine a_putFR (pc := 63) (y := ((some (tN T12)))) hX hSt cl_X8 in_X8 9 (by decide) rfl tyX8 tyX8_ok nmX8 (by exact q1562) rfl rfl rfl (hin rfl) (by first | rfl | (cases hE <;> rfl)) (by first | rfl | (cases hE <;> rfl)) dX8_init_63 hE (fun T14 _ hE => ?_)
  refine k_aload_n (pc := 66) hC dX8_init_66 rfl 0 rfl ?_
  refine k_iconst (pc := 67) (v := (-1)) hC dX8_init_67 (by decide) ?_
  refine a_putI (pc := 68) (y := ((-1))) hX hSt cl_X8 in_X8 17 (by decide) rfl tyX8 tyX8_ok nmX8 (by exact q1570) rfl rfl rfl rfl dX8_init_68 hE (fun T15 _ hE => ?_)
  refine k_aload_n (pc := 71) hC dX8_init_71 rfl 0 rfl ?_
  refine k_bipush (pc := 72) (v := 32) hC dX8_init_72 (by decide) ?_
  refine a_newJ (pc := 74) hX hSt dX8_init_74 hE (fun T16 eT16 hE c z => ?_)
  refine a_putFR (pc := 76) (y := ((some (tN T15)))) hX hSt cl_X8 in_X8 21 (by decide) rfl tyX8 tyX8_ok nmX8 (by exact q1574) rfl rfl rfl (hin rfl) (by first | rfl | (cases hE <;> rfl)) (by first | rfl | (cases hE <;> rfl)) dX8_init_76 hE (fun T17 _ hE => ?_)
  refine k_aload_n (pc := 79) hC dX8_init_79 rfl 0 rfl ?_
  refine k_bipush (pc := 80) (v := 32) hC dX8_init_80 (by decide) ?_
  refine a_newI (pc := 82) hX hSt dX8_init_82 hE (fun T18 eT18 hE c z => ?_)
  refine a_putFR (pc := 84) (y := ((some (tN T17)))) hX hSt cl_X8 in_X8 22 (by decide) rfl tyX8 tyX8_ok nmX8 (by exact q1575) rfl rfl rfl (hin rfl) (by first | rfl | (cases hE <;> rfl)) (by first | rfl | (cases hE <;> rfl)) dX8_init_84 hE (fun T19 _ hE => ?_)
  refine k_aload_n (pc := 87) hC dX8_init_87 rfl 0 rfl ?_
  refine k_bipush (pc := 88) (v := 32) hC dX8_init_88 (by decide) ?_
  refine a_newI (pc := 90) hX hSt dX8_init_90 hE (fun T20 eT20 hE c z => ?_)
  refine a_putFR (pc := 92) (y := ((some (tN T19)))) hX hSt cl_X8 in_X8 23 (by decide) rfl tyX8 tyX8_ok nmX8 (by exact q1576) rfl rfl rfl (hin rfl) (by first | rfl | (cases hE <;> rfl)) (by first | rfl | (cases hE <;> rfl)) dX8_init_92 hE (fun T21 _ hE => ?_)
  refine k_aload_n (pc := 95) hC dX8_init_95 rfl 0 rfl ?_
  refine k_iconst (pc := 96) (v := 2) hC dX8_init_96 (by decide) ?_
  refine a_newI (pc := 97) hX hSt dX8_init_97 hE (fun T22 eT22 hE c z => ?_)
  refine a_putFR (pc := 99) (y := ((some (tN T21)))) hX hSt cl_X8 in_X8 24 (by decide) rfl tyX8 tyX8_ok nmX8 (by exact q1577) rfl rfl rfl (hin rfl) (by first | rfl | (cases hE <;> rfl)) (by first | rfl | (cases hE <;> rfl)) dX8_init_99 hE (fun T23 _ hE => ?_)
  refine k_aload_n (pc := 102) hC dX8_init_102 rfl 0 rfl ?_
  refine k_iconst (pc := 103) (v := 2) hC dX8_init_103 (by decide) ?_
  refine a_newI (pc := 104) hX hSt dX8_init_104 hE (fun T24 eT24 hE c z => ?_)
  refine a_putFR (pc := 106) (y := ((some (tN T23)))) hX hSt cl_X8 in_X8 25 (by decide) rfl tyX8 tyX8_ok nmX8 (by exact q1578) rfl rfl rfl (hin rfl) (by first | rfl | (cases hE <;> rfl)) (by first | rfl | (cases hE <;> rfl)) dX8_init_106 hE (fun T25 _ hE => ?_)
  refine k_aload_n (pc := 109) hC dX8_init_109 rfl 0 rfl ?_
  refine k_bipush (pc := 110) (v := 24) hC dX8_init_110 (by decide) ?_
  refine a_newI (pc := 112) hX hSt dX8_init_112 hE (fun T26 eT26 hE c z => ?_)
  refine a_putFR (pc := 114) (y := ((some (tN T25)))) hX hSt cl_X8 in_X8 26 (by decide) rfl tyX8 tyX8_ok nmX8 (by exact q1579) rfl rfl rfl (hin rfl) (by first | rfl | (cases hE <;> rfl)) (by first | rfl | (cases hE <;> rfl)) dX8_init_114 hE (fun T27 _ hE => ?_)
  refine k_aload_n (pc := 117) hC dX8_init_117 rfl 0 rfl ?_
  refine k_bipush (pc := 118) (v := 24) hC dX8_init_118 (by decide) ?_
  refine a_newI (pc := 120) hX hSt dX8_init_120 hE (fun T28 eT28 hE c z => ?_)
  refine a_putFR (pc := 122) (y := ((some (tN T27)))) hX hSt cl_X8 in_X8 27 (by decide) rfl tyX8 tyX8_ok nmX8 (by exact q1580) rfl rfl rfl (hin rfl) (by first | rfl | (cases hE <;> rfl)) (by first | rfl | (cases hE <;> rfl)) dX8_init_122 hE (fun T29 _ hE => ?_)
  refine k_aload_n (pc := 125) hC dX8_init_125 rfl 0 rfl ?_
  refine k_bipush (pc := 126) (v := 24) hC dX8_init_126 (by decide) ?_
  refine a_newI (pc := 128) hX hSt dX8_init_128 hE (fun T30 eT30 hE c z => ?_)
  refine a_putFR (pc := 130) (y := ((some (tN T29)))) hX hSt cl_X8 in_X8 28 (by decide) rfl tyX8 tyX8_ok nmX8 (by exact q1581) rfl rfl rfl (hin rfl) (by first | rfl | (cases hE <;> rfl)) (by first | rfl | (cases hE <;> rfl)) dX8_init_130 hE (fun T31 _ hE => ?_)
  refine k_aload_n (pc := 133) hC dX8_init_133 rfl 0 rfl ?_
  refine k_bipush (pc := 134) (v := 24) hC dX8_init_134 (by decide) ?_
  refine a_newZ (pc := 136) hX hSt dX8_init_136 hE (fun T32 eT32 hE c z => ?_)
  refine a_putFR (pc := 138) (y := ((some (tN T31)))) hX hSt cl_X8 in_X8 29 (by decide) rfl tyX8 tyX8_ok nmX8 (by exact q1582) rfl rfl rfl (hin rfl) (by first | rfl | (cases hE <;> rfl)) (by first | rfl | (cases hE <;> rfl)) dX8_init_138 hE (fun T33 _ hE => ?_)
  refine k_aload_n (pc := 141) hC dX8_init_141 rfl 0 rfl ?_
  refine k_iconst (pc := 142) (v := 2) hC dX8_init_142 (by decide) ?_
  refine a_newI (pc := 143) hX hSt dX8_init_143 hE (fun T34 eT34 hE c z => ?_)
  refine a_putFR (pc := 145) (y := ((some (tN T33)))) hX hSt cl_X8 in_X8 30 (by decide) rfl tyX8 tyX8_ok nmX8 (by exact q1583) rfl rfl rfl (hin rfl) (by first | rfl | (cases hE <;> rfl)) (by first | rfl | (cases hE <;> rfl)) dX8_init_145 hE (fun T35 _ hE => ?_)
  refine k_aload_n (pc := 148) hC dX8_init_148 rfl 0 rfl ?_
  refine k_bipush (pc := 149) (v := 12) hC dX8_init_149 (by decide) ?_
  refine a_newI (pc := 151) hX hSt dX8_init_151 hE (fun T36 eT36 hE c z => ?_)
  refine a_putFR (pc := 153) (y := ((some (tN T35)))) hX hSt cl_X8 in_X8 31 (by decide) rfl tyX8 tyX8_ok nmX8 (by exact q1584) rfl rfl rfl (hin rfl) (by first | rfl | (cases hE <;> rfl)) (by first | rfl | (cases hE <;> rfl)) dX8_init_153 hE (fun T37 _ hE => ?_)
  refine k_aload_n (pc := 156) hC dX8_init_156 rfl 0 rfl ?_
  refine k_iconst (pc := 157) (v := 2) hC dX8_init_157 (by decide) ?_
  refine a_newI (pc := 158) hX hSt dX8_init_158 hE (fun T38 eT38 hE c z => ?_)
  refine a_putFR (pc := 160) (y := ((some (tN T37)))) hX hSt cl_X8 in_X8 32 (by decide) rfl tyX8 tyX8_ok nmX8 (by exact q1585) rfl rfl rfl (hin rfl) (by first | rfl | (cases hE <;> rfl)) (by first | rfl | (cases hE <;> rfl)) dX8_init_160 hE (fun T39 _ hE => ?_)
  refine k_aload_n (pc := 163) hC dX8_init_163 rfl 0 rfl ?_
  refine k_bipush (pc := 164) (v := 12) hC dX8_init_164 (by decide) ?_
  refine a_newI (pc := 166) hX hSt dX8_init_166 hE (fun T40 eT40 hE c z => ?_)
  refine a_putFR (pc := 168) (y := ((some (tN T39)))) hX hSt cl_X8 in_X8 33 (by decide) rfl tyX8 tyX8_ok nmX8 (by exact q1586) rfl rfl rfl (hin rfl) (by first | rfl | (cases hE <;> rfl)) (by first | rfl | (cases hE <;> rfl)) dX8_init_168 hE (fun T41 _ hE => ?_)
  refine k_aload_n (pc := 171) hC dX8_init_171 rfl 0 rfl ?_
  refine k_bipush (pc := 172) (v := 12) hC dX8_init_172 (by decide) ?_
  refine a_newI (pc := 174) hX hSt dX8_init_174 hE (fun T42 eT42 hE c z => ?_)
  refine a_putFR (pc := 176) (y := ((some (tN T41)))) hX hSt cl_X8 in_X8 34 (by decide) rfl tyX8 tyX8_ok nmX8 (by exact q1587) rfl rfl rfl (hin rfl) (by first | rfl | (cases hE <;> rfl)) (by first | rfl | (cases hE <;> rfl)) dX8_init_176 hE (fun T43 _ hE => ?_)
  refine k_aload_n (pc := 179) hC dX8_init_179 rfl 0 rfl ?_
  refine k_bipush (pc := 180) (v := 12) hC dX8_init_180 (by decide) ?_
  refine a_newI (pc := 182) hX hSt dX8_init_182 hE (fun T44 eT44 hE c z => ?_)
  refine a_putFR (pc := 184) (y := ((some (tN T43)))) hX hSt cl_X8 in_X8 35 (by decide) rfl tyX8 tyX8_ok nmX8 (by exact q1588) rfl rfl rfl (hin rfl) (by first | rfl | (cases hE <;> rfl)) (by first | rfl | (cases hE <;> rfl)) dX8_init_184 hE (fun T45 _ hE => ?_)
  refine k_aload_n (pc := 187) hC dX8_init_187 rfl 0 rfl ?_
  refine k_bipush (pc := 188) (v := 72) hC dX8_init_188 (by decide) ?_
  refine a_newI (pc := 190) hX hSt dX8_init_190 hE (fun T46 eT46 hE c z => ?_)
  refine a_putFR (pc := 192) (y := ((some (tN T45)))) hX hSt cl_X8 in_X8 36 (by decide) rfl tyX8 tyX8_ok nmX8 (by exact q1589) rfl rfl rfl (hin rfl) (by first | rfl | (cases hE <;> rfl)) (by first | rfl | (cases hE <;> rfl)) dX8_init_192 hE (fun T47 _ hE => ?_)
  refine k_aload_n (pc := 195) hC dX8_init_195 rfl 0 rfl ?_
  refine k_bipush (pc := 196) (v := 72) hC dX8_init_196 (by decide) ?_
  refine a_newI (pc := 198) hX hSt dX8_init_198 hE (fun T48 eT48 hE c z => ?_)
  refine a_putFR (pc := 200) (y := ((some (tN T47)))) hX hSt cl_X8 in_X8 37 (by decide) rfl tyX8 tyX8_ok nmX8 (by exact q1590) rfl rfl rfl (hin rfl) (by first | rfl | (cases hE <;> rfl)) (by first | rfl | (cases hE <;> rfl)) dX8_init_200 hE (fun T49 _ hE => ?_)
  refine k_aload_n (pc := 203) hC dX8_init_203 rfl 0 rfl ?_
  refine k_bipush (pc := 204) (v := 72) hC dX8_init_204 (by decide) ?_
  refine a_newI (pc := 206) hX hSt dX8_init_206 hE (fun T50 eT50 hE c z => ?_)
  refine a_putFR (pc := 208) (y := ((some (tN T49)))) hX hSt cl_X8 in_X8 38 (by decide) rfl tyX8 tyX8_ok nmX8 (by exact q1591) rfl rfl rfl (hin rfl) (by first | rfl | (cases hE <;> rfl)) (by first | rfl | (cases hE <;> rfl)) dX8_init_208 hE (fun T51 _ hE => ?_)
  refine k_aload_n (pc := 211) hC dX8_init_211 rfl 0 rfl ?_
  refine k_bipush (pc := 212) (v := 72) hC dX8_init_212 (by decide) ?_
  refine a_newI (pc := 214) hX hSt dX8_init_214 hE (fun T52 eT52 hE c z => ?_)
  refine a_putFR (pc := 216) (y := ((some (tN T51)))) hX hSt cl_X8 in_X8 39 (by decide) rfl tyX8 tyX8_ok nmX8 (by exact q1592) rfl rfl rfl (hin rfl) (by first | rfl | (cases hE <;> rfl)) (by first | rfl | (cases hE <;> rfl)) dX8_init_216 hE (fun T53 _ hE => ?_)
  refine k_aload_n (pc := 219) hC dX8_init_219 rfl 0 rfl ?_
  refine k_bipush (pc := 220) (v := 72) hC dX8_init_220 (by decide) ?_
  refine a_newI (pc := 222) hX hSt dX8_init_222 hE (fun T54 eT54 hE c z => ?_)
  refine a_putFR (pc := 224) (y := ((some (tN T53)))) hX hSt cl_X8 in_X8 40 (by decide) rfl tyX8 tyX8_ok nmX8 (by exact q1593) rfl rfl rfl (hin rfl) (by first | rfl | (cases hE <;> rfl)) (by first | rfl | (cases hE <;> rfl)) dX8_init_224 hE (fun T55 _ hE => ?_)
  refine k_aload_n (pc := 227) hC dX8_init_227 rfl 0 rfl ?_
  refine k_bipush (pc := 228) (v := 72) hC dX8_init_228 (by decide) ?_
  refine a_newI (pc := 230) hX hSt dX8_init_230 hE (fun T56 eT56 hE c z => ?_)
  refine a_putFR (pc := 232) (y := ((some (tN T55)))) hX hSt cl_X8 in_X8 41 (by decide) rfl tyX8 tyX8_ok nmX8 (by exact q1594) rfl rfl rfl (hin rfl) (by first | rfl | (cases hE <;> rfl)) (by first | rfl | (cases hE <;> rfl)) dX8_init_232 hE (fun T57 _ hE => ?_)
  refine k_aload_n (pc := 235) hC dX8_init_235 rfl 0 rfl ?_
  refine k_iconst (pc := 236) (v := 2) hC dX8_init_236 (by decide) ?_
  refine a_newI (pc := 237) hX hSt dX8_init_237 hE (fun T58 eT58 hE c z => ?_)
  refine a_putFR (pc := 239) (y := ((some (tN T57)))) hX hSt cl_X8 in_X8 42 (by decide) rfl tyX8 tyX8_ok nmX8 (by exact q1595) rfl rfl rfl (hin rfl) (by first | rfl | (cases hE <;> rfl)) (by first | rfl | (cases hE <;> rfl)) dX8_init_239 hE (fun T59 _ hE => ?_)
  refine k_aload_n (pc := 242) hC dX8_init_242 rfl 0 rfl ?_
  refine k_bipush (pc := 243) (v := 12) hC dX8_init_243 (by decide) ?_
  refine a_newI (pc := 245) hX hSt dX8_init_245 hE (fun T60 eT60 hE c z => ?_)
  refine a_putFR (pc := 247) (y := ((some (tN T59)))) hX hSt cl_X8 in_X8 43 (by decide) rfl tyX8 tyX8_ok nmX8 (by exact q1596) rfl rfl rfl (hin rfl) (by first | rfl | (cases hE <;> rfl)) (by first | rfl | (cases hE <;> rfl)) dX8_init_247 hE (fun T61 _ hE => ?_)
  refine k_aload_n (pc := 250) hC dX8_init_250 rfl 0 rfl ?_
  refine k_bipush (pc := 251) (v := 12) hC dX8_init_251 (by decide) ?_
  refine a_newI (pc := 253) hX hSt dX8_init_253 hE (fun T62 eT62 hE c z => ?_)
  refine a_putFR (pc := 255) (y := ((some (tN T61)))) hX hSt cl_X8 in_X8 44 (by decide) rfl tyX8 tyX8_ok nmX8 (by exact q1597) rfl rfl rfl (hin rfl) (by first | rfl | (cases hE <;> rfl)) (by first | rfl | (cases hE <;> rfl)) dX8_init_255 hE (fun T63 _ hE => ?_)
  refine k_aload_n (pc := 258) hC dX8_init_258 rfl 0 rfl ?_
  refine k_bipush (pc := 259) (v := 12) hC dX8_init_259 (by decide) ?_
  refine a_newI (pc := 261) hX hSt dX8_init_261 hE (fun T64 eT64 hE c z => ?_)
  refine a_putFR (pc := 263) (y := ((some (tN T63)))) hX hSt cl_X8 in_X8 45 (by decide) rfl tyX8 tyX8_ok nmX8 (by exact q1598) rfl rfl rfl (hin rfl) (by first | rfl | (cases hE <;> rfl)) (by first | rfl | (cases hE <;> rfl)) dX8_init_263 hE (fun T65 _ hE => ?_)
  refine k_aload_n (pc := 266) hC dX8_init_266 rfl 0 rfl ?_
  refine k_iconst (pc := 267) (v := 2) hC dX8_init_267 (by decide) ?_
  refine a_newI (pc := 268) hX hSt dX8_init_268 hE (fun T66 eT66 hE c z => ?_)
  refine a_putFR (pc := 270) (y := ((some (tN T65)))) hX hSt cl_X8 in_X8 46 (by decide) rfl tyX8 tyX8_ok nmX8 (by exact q1599) rfl rfl rfl (hin rfl) (by first | rfl | (cases hE <;> rfl)) (by first | rfl | (cases hE <;> rfl)) dX8_init_270 hE (fun T67 _ hE => ?_)
  refine k_aload_n (pc := 273) hC dX8_init_273 rfl 0 rfl ?_
  refine k_bipush (pc := 274) (v := 12) hC dX8_init_274 (by decide) ?_
  refine a_newI (pc := 276) hX hSt dX8_init_276 hE (fun T68 eT68 hE c z => ?_)
  refine a_putFR (pc := 278) (y := ((some (tN T67)))) hX hSt cl_X8 in_X8 47 (by decide) rfl tyX8 tyX8_ok nmX8 (by exact q1600) rfl rfl rfl (hin rfl) (by first | rfl | (cases hE <;> rfl)) (by first | rfl | (cases hE <;> rfl)) dX8_init_278 hE (fun T69 _ hE => ?_)
  refine k_aload_n (pc := 281) hC dX8_init_281 rfl 0 rfl ?_
  refine k_bipush (pc := 282) (v := 12) hC dX8_init_282 (by decide) ?_
  refine a_newI (pc := 284) hX hSt dX8_init_284 hE (fun T70 eT70 hE c z => ?_)
  refine a_putFR (pc := 286) (y := ((some (tN T69)))) hX hSt cl_X8 in_X8 48 (by decide) rfl tyX8 tyX8_ok nmX8 (by exact q1601) rfl rfl rfl (hin rfl) (by first | rfl | (cases hE <;> rfl)) (by first | rfl | (cases hE <;> rfl)) dX8_init_286 hE (fun T71 _ hE => ?_)
  refine k_aload_n (pc := 289) hC dX8_init_289 rfl 0 rfl ?_
  refine k_bipush (pc := 290) (v := 100) hC dX8_init_290 (by decide) ?_
  refine a_newZ (pc := 292) hX hSt dX8_init_292 hE (fun T72 eT72 hE c z => ?_)
  refine a_putFR (pc := 294) (y := ((some (tN T71)))) hX hSt cl_X8 in_X8 50 (by decide) rfl tyX8 tyX8_ok nmX8 (by exact q1603) rfl rfl rfl (hin rfl) (by first | rfl | (cases hE <;> rfl)) (by first | rfl | (cases hE <;> rfl)) dX8_init_294 hE (fun T73 _ hE => ?_)
  refine k_aload_n (pc := 297) hC dX8_init_297 rfl 0 rfl ?_
  refine k_bipush (pc := 298) (v := 100) hC dX8_init_298 (by decide) ?_
  refine a_newI (pc := 300) hX hSt dX8_init_300 hE (fun T74 eT74 hE c z => ?_)
  refine a_putFR (pc := 302) (y := ((some (tN T73)))) hX hSt cl_X8 in_X8 51 (by decide) rfl tyX8 tyX8_ok nmX8 (by exact q1604) rfl rfl rfl (hin rfl) (by first | rfl | (cases hE <;> rfl)) (by first | rfl | (cases hE <;> rfl)) dX8_init_302 hE (fun T75 _ hE => ?_)
  refine k_aload_n (pc := 305) hC dX8_init_305 rfl 0 rfl ?_
  refine k_bipush (pc := 306) (v := 100) hC dX8_init_306 (by decide) ?_
  refine a_newI (pc := 308) hX hSt dX8_init_308 hE (fun T76 eT76 hE c z => ?_)
  refine a_putFR (pc := 310) (y := ((some (tN T75)))) hX hSt cl_X8 in_X8 52 (by decide) rfl tyX8 tyX8_ok nmX8 (by exact q1605) rfl rfl rfl (hin rfl) (by first | rfl | (cases hE <;> rfl)) (by first | rfl | (cases hE <;> rfl)) dX8_init_310 hE (fun T77 _ hE => ?_)
  refine k_aload_n (pc := 313) hC dX8_init_313 rfl 0 rfl ?_
  refine k_bipush (pc := 314) (v := 100) hC dX8_init_314 (by decide) ?_
  refine a_newI (pc := 316) hX hSt dX8_init_316 hE (fun T78 eT78 hE c z => ?_)
  refine a_putFR (pc := 318) (y := ((some (tN T77)))) hX hSt cl_X8 in_X8 53 (by decide) rfl tyX8 tyX8_ok nmX8 (by exact q1606) rfl rfl rfl (hin rfl) (by first | rfl | (cases hE <;> rfl)) (by first | rfl | (cases hE <;> rfl)) dX8_init_318 hE (fun T79 _ hE => ?_)
  refine k_aload_n (pc := 321) hC dX8_init_321 rfl 0 rfl ?_
  refine k_bipush (pc := 322) (v := 100) hC dX8_init_322 (by decide) ?_
  refine a_newI (pc := 324) hX hSt dX8_init_324 hE (fun T80 eT80 hE c z => ?_)
  refine a_putFR (pc := 326) (y := ((some (tN T79)))) hX hSt cl_X8 in_X8 54 (by decide) rfl tyX8 tyX8_ok nmX8 (by exact q1607) rfl rfl rfl (hin rfl) (by first | rfl | (cases hE <;> rfl)) (by first | rfl | (cases hE <;> rfl)) dX8_init_326 hE (fun T81 _ hE => ?_)
  refine k_aload_n (pc := 329) hC dX8_init_329 rfl 0 rfl ?_
  refine k_iconst (pc := 330) (v := 2) hC dX8_init_330 (by decide) ?_
  refine a_newI (pc := 331) hX hSt dX8_init_331 hE (fun T82 eT82 hE c z => ?_)
  refine a_putFR (pc := 333) (y := ((some (tN T81)))) hX hSt cl_X8 in_X8 55 (by decide) rfl tyX8 tyX8_ok nmX8 (by exact q1608) rfl rfl rfl (hin rfl) (by first | rfl | (cases hE <;> rfl)) (by first | rfl | (cases hE <;> rfl)) dX8_init_333 hE (fun T83 _ hE => ?_)
  refine k_aload_n (pc := 336) hC dX8_init_336 rfl 0 rfl ?_
  refine k_sipush (pc := 337) (v := 840) hC dX8_init_337 (by decide) ?_
  refine a_newI (pc := 340) hX hSt dX8_init_340 hE (fun T84 eT84 hE c z => ?_)
  refine a_putFR (pc := 342) (y := ((some (tN T83)))) hX hSt cl_X8 in_X8 57 (by decide) rfl tyX8 tyX8_ok nmX8 (by exact q1610) rfl rfl rfl (hin rfl) (by first | rfl | (cases hE <;> rfl)) (by first | rfl | (cases hE <;> rfl)) dX8_init_342 hE (fun T85 _ hE => ?_)
  refine k_aload_n (pc := 345) hC dX8_init_345 rfl 0 rfl ?_
  refine k_sipush (pc := 346) (v := 840) hC dX8_init_346 (by decide) ?_
  refine a_newI (pc := 349) hX hSt dX8_init_349 hE (fun T86 eT86 hE c z => ?_)
  refine a_putFR (pc := 351) (y := ((some (tN T85)))) hX hSt cl_X8 in_X8 58 (by decide) rfl tyX8 tyX8_ok nmX8 (by exact q1611) rfl rfl rfl (hin rfl) (by first | rfl | (cases hE <;> rfl)) (by first | rfl | (cases hE <;> rfl)) dX8_init_351 hE (fun T87 _ hE => ?_)
  refine k_aload_n (pc := 354) hC dX8_init_354 rfl 0 rfl ?_
  refine k_bipush (pc := 355) (v := 64) hC dX8_init_355 (by decide) ?_
  refine a_newI (pc := 357) hX hSt dX8_init_357 hE (fun T88 eT88 hE c z => ?_)
  refine a_putFR (pc := 359) (y := ((some (tN T87)))) hX hSt cl_X8 in_X8 59 (by decide) rfl tyX8 tyX8_ok nmX8 (by exact q1612) rfl rfl rfl (hin rfl) (by first | rfl | (cases hE <;> rfl)) (by first | rfl | (cases hE <;> rfl)) dX8_init_359 hE (fun T89 _ hE => ?_)
  refine k_aload_n (pc := 362) hC dX8_init_362 rfl 0 rfl ?_
  refine k_bipush (pc := 363) (v := 6) hC dX8_init_363 (by decide) ?_
  refine a_newI (pc := 365) hX hSt dX8_init_365 hE (fun T90 eT90 hE c z => ?_)
  refine a_putFR (pc := 367) (y := ((some (tN T89)))) hX hSt cl_X8 in_X8 61 (by decide) rfl tyX8 tyX8_ok nmX8 (by exact q1614) rfl rfl rfl (hin rfl) (by first | rfl | (cases hE <;> rfl)) (by first | rfl | (cases hE <;> rfl)) dX8_init_367 hE (fun T91 _ hE => ?_)
  refine k_aload_n (pc := 370) hC dX8_init_370 rfl 0 rfl ?_
  refine k_sipush (pc := 371) (v := 400) hC dX8_init_371 (by decide) ?_
  refine a_newI (pc := 374) hX hSt dX8_init_374 hE (fun T92 eT92 hE c z => ?_)
  refine a_putFR (pc := 376) (y := ((some (tN T91)))) hX hSt cl_X8 in_X8 62 (by decide) rfl tyX8 tyX8_ok nmX8 (by exact q1615) rfl rfl rfl (hin rfl) (by first | rfl | (cases hE <;> rfl)) (by first | rfl | (cases hE <;> rfl)) dX8_init_376 hE (fun T93 _ hE => ?_)
  refine k_aload_n (pc := 379) hC dX8_init_379 rfl 0 rfl ?_
  refine k_bipush (pc := 380) (v := 100) hC dX8_init_380 (by decide) ?_
  refine a_newI (pc := 382) hX hSt dX8_init_382 hE (fun T94 eT94 hE c z => ?_)
  refine a_putFR (pc := 384) (y := ((some (tN T93)))) hX hSt cl_X8 in_X8 64 (by decide) rfl tyX8 tyX8_ok nmX8 (by exact q1617) rfl rfl rfl (hin rfl) (by first | rfl | (cases hE <;> rfl)) (by first | rfl | (cases hE <;> rfl)) dX8_init_384 hE (fun T95 _ hE => ?_)
  refine k_aload_n (pc := 387) hC dX8_init_387 rfl 0 rfl ?_
  refine k_bipush (pc := 388) (v := 100) hC dX8_init_388 (by decide) ?_
  refine a_newI (pc := 390) hX hSt dX8_init_390 hE (fun T96 eT96 hE c z => ?_)
  refine a_putFR (pc := 392) (y := ((some (tN T95)))) hX hSt cl_X8 in_X8 65 (by decide) rfl tyX8 tyX8_ok nmX8 (by exact q1618) rfl rfl rfl (hin rfl) (by first | rfl | (cases hE <;> rfl)) (by first | rfl | (cases hE <;> rfl)) dX8_init_392 hE (fun T97 _ hE => ?_)
  refine k_aload_n (pc := 395) hC dX8_init_395 rfl 0 rfl ?_
  refine k_bipush (pc := 396) (v := 64) hC dX8_init_396 (by decide) ?_
  refine a_newI (pc := 398) hX hSt dX8_init_398 hE (fun T98 eT98 hE c z => ?_)
  refine a_putFR (pc := 400) (y := ((some (tN T97)))) hX hSt cl_X8 in_X8 66 (by decide) rfl tyX8 tyX8_ok nmX8 (by exact q1619) rfl rfl rfl (hin rfl) (by first | rfl | (cases hE <;> rfl)) (by first | rfl | (cases hE <;> rfl)) dX8_init_400 hE (fun T99 _ hE => ?_)
  refine k_aload_n (pc := 403) hC dX8_init_403 rfl 0 rfl ?_
  refine k_bipush (pc := 404) (v := 6) hC dX8_init_404 (by decide) ?_
  refine a_newI (pc := 406) hX hSt dX8_init_406 hE (fun T100 eT100 hE c z => ?_)
  refine a_putFR (pc := 408) (y := ((some (tN T99)))) hX hSt cl_X8 in_X8 67 (by decide) rfl tyX8 tyX8_ok nmX8 (by exact q1620) rfl rfl rfl (hin rfl) (by first | rfl | (cases hE <;> rfl)) (by first | rfl | (cases hE <;> rfl)) dX8_init_408 hE (fun T101 _ hE => ?_)
  refine k_aload_n (pc := 411) hC dX8_init_411 rfl 0 rfl ?_
  refine k_bipush (pc := 412) (v := 6) hC dX8_init_412 (by decide) ?_
  refine a_newI (pc := 414) hX hSt dX8_init_414 hE (fun T102 eT102 hE c z => ?_)
  refine a_putFR (pc := 416) (y := ((some (tN T101)))) hX hSt cl_X8 in_X8 68 (by decide) rfl tyX8 tyX8_ok nmX8 (by exact q1621) rfl rfl rfl (hin rfl) (by first | rfl | (cases hE <;> rfl)) (by first | rfl | (cases hE <;> rfl)) dX8_init_416 hE (fun T103 _ hE => ?_)
  refine k_aload_n (pc := 419) hC dX8_init_419 rfl 0 rfl ?_
  refine k_bipush (pc := 420) (v := 6) hC dX8_init_420 (by decide) ?_
  refine a_newI (pc := 422) hX hSt dX8_init_422 hE (fun T104 eT104 hE c z => ?_)
  refine a_putFR (pc := 424) (y := ((some (tN T103)))) hX hSt cl_X8 in_X8 69 (by decide) rfl tyX8 tyX8_ok nmX8 (by exact q1622) rfl rfl rfl (hin rfl) (by first | rfl | (cases hE <;> rfl)) (by first | rfl | (cases hE <;> rfl)) dX8_init_424 hE (fun T105 _ hE => ?_)
  refine k_aload_n (pc := 427) hC dX8_init_427 rfl 0 rfl ?_
  refine k_bipush (pc := 428) (v := 6) hC dX8_init_428 (by decide) ?_
  refine a_newI (pc := 430) hX hSt dX8_init_430 hE (fun T106 eT106 hE c z => ?_)
  refine a_putFR (pc := 432) (y := ((some (tN T105)))) hX hSt cl_X8 in_X8 70 (by decide) rfl tyX8 tyX8_ok nmX8 (by exact q1623) rfl rfl rfl (hin rfl) (by first | rfl | (cases hE <;> rfl)) (by first | rfl | (cases hE <;> rfl)) dX8_init_432 hE (fun T107 _ hE => ?_)
  refine k_aload_n (pc := 435) hC dX8_init_435 rfl 0 rfl ?_
  refine k_bipush (pc := 436) (v := 6) hC dX8_init_436 (by decide) ?_
  refine a_newI (pc := 438) hX hSt dX8_init_438 hE (fun T108 eT108 hE c z => ?_)
  refine a_putFR (pc := 440) (y := ((some (tN T107)))) hX hSt cl_X8 in_X8 71 (by decide) rfl tyX8 tyX8_ok nmX8 (by exact q1624) rfl rfl rfl (hin rfl) (by first | rfl | (cases hE <;> rfl)) (by first | rfl | (cases hE <;> rfl)) dX8_init_440 hE (fun T109 _ hE => ?_)
  refine k_aload_n (pc := 443) hC dX8_init_443 rfl 0 rfl ?_
  refine k_bipush (pc := 444) (v := 6) hC dX8_init_444 (by decide) ?_
  refine a_newI (pc := 446) hX hSt dX8_init_446 hE (fun T110 eT110 hE c z => ?_)
  refine a_putFR (pc := 448) (y := ((some (tN T109)))) hX hSt cl_X8 in_X8 72 (by decide) rfl tyX8 tyX8_ok nmX8 (by exact q1625) rfl rfl rfl (hin rfl) (by first | rfl | (cases hE <;> rfl)) (by first | rfl | (cases hE <;> rfl)) dX8_init_448 hE (fun T111 _ hE => ?_)
  refine k_aload_n (pc := 451) hC dX8_init_451 rfl 0 rfl ?_
  refine k_bipush (pc := 452) (v := 6) hC dX8_init_452 (by decide) ?_
  refine a_newZ (pc := 454) hX hSt dX8_init_454 hE (fun T112 eT112 hE c z => ?_)
  refine a_putFR (pc := 456) (y := ((some (tN T111)))) hX hSt cl_X8 in_X8 73 (by decide) rfl tyX8 tyX8_ok nmX8 (by exact q1626) rfl rfl rfl (hin rfl) (by first | rfl | (cases hE <;> rfl)) (by first | rfl | (cases hE <;> rfl)) dX8_init_456 hE (fun T113 _ hE => ?_)
  refine k_aload_n (pc := 459) hC dX8_init_459 rfl 0 rfl ?_
  refine k_sipush (pc := 460) (v := 2000) hC dX8_init_460 (by decide) ?_
  refine a_newI (pc := 463) hX hSt dX8_init_463 hE (fun T114 eT114 hE c z => ?_)
  refine a_putFR (pc := 465) (y := ((some (tN T113)))) hX hSt cl_X8 in_X8 75 (by decide) rfl tyX8 tyX8_ok nmX8 (by exact q1628) rfl rfl rfl (hin rfl) (by first | rfl | (cases hE <;> rfl)) (by first | rfl | (cases hE <;> rfl)) dX8_init_465 hE (fun T115 _ hE => ?_)
  refine k_aload_n (pc := 468) hC dX8_init_468 rfl 0 rfl ?_
  refine k_bipush (pc := 469) (v := 30) hC dX8_init_469 (by decide) ?_
  refine a_newI (pc := 471) hX hSt dX8_init_471 hE (fun T116 eT116 hE c z => ?_)
  refine a_putFR (pc := 473) (y := ((some (tN T115)))) hX hSt cl_X8 in_X8 78 (by decide) rfl tyX8 tyX8_ok nmX8 (by exact q1631) rfl rfl rfl (hin rfl) (by first | rfl | (cases hE <;> rfl)) (by first | rfl | (cases hE <;> rfl)) dX8_init_473 hE (fun T117 _ hE => ?_)
  refine k_aload_n (pc := 476) hC dX8_init_476 rfl 0 rfl ?_
  refine k_bipush (pc := 477) (v := 30) hC dX8_init_477 (by decide) ?_
  refine a_newI (pc := 479) hX hSt dX8_init_479 hE (fun T118 eT118 hE c z => ?_)
  refine a_putFR (pc := 481) (y := ((some (tN T117)))) hX hSt cl_X8 in_X8 79 (by decide) rfl tyX8 tyX8_ok nmX8 (by exact q1632) rfl rfl rfl (hin rfl) (by first | rfl | (cases hE <;> rfl)) (by first | rfl | (cases hE <;> rfl)) dX8_init_481 hE (fun T119 _ hE => ?_)
  refine k_aload_n (pc := 484) hC dX8_init_484 rfl 0 rfl ?_
  refine k_bipush (pc := 485) (v := 30) hC dX8_init_485 (by decide) ?_
  refine a_newI (pc := 487) hX hSt dX8_init_487 hE (fun T120 eT120 hE c z => ?_)
  refine a_putFR (pc := 489) (y := ((some (tN T119)))) hX hSt cl_X8 in_X8 80 (by decide) rfl tyX8 tyX8_ok nmX8 (by exact q1633) rfl rfl rfl (hin rfl) (by first | rfl | (cases hE <;> rfl)) (by first | rfl | (cases hE <;> rfl)) dX8_init_489 hE (fun T121 _ hE => ?_)
  refine k_aload_n (pc := 492) hC dX8_init_492 rfl 0 rfl ?_
  refine k_iconst (pc := 493) (v := 3) hC dX8_init_493 (by decide) ?_
  refine a_newZ (pc := 494) hX hSt dX8_init_494 hE (fun T122 eT122 hE c z => ?_)
  refine a_putFR (pc := 496) (y := ((some (tN T121)))) hX hSt cl_X8 in_X8 81 (by decide) rfl tyX8 tyX8_ok nmX8 (by exact q1634) rfl rfl rfl (hin rfl) (by first | rfl | (cases hE <;> rfl)) (by first | rfl | (cases hE <;> rfl)) dX8_init_496 hE (fun T123 _ hE => ?_)
  refine k_aload_n (pc := 499) hC dX8_init_499 rfl 0 rfl ?_
  refine k_sipush (pc := 500) (v := 300) hC dX8_init_500 (by decide) ?_
  refine a_newI (pc := 503) hX hSt dX8_init_503 hE (fun T124 eT124 hE c z => ?_)
  refine a_putFR (pc := 505) (y := ((some (tN T123)))) hX hSt cl_X8 in_X8 82 (by decide) rfl tyX8 tyX8_ok nmX8 (by exact q1635) rfl rfl rfl (hin rfl) (by first | rfl | (cases hE <;> rfl)) (by first | rfl | (cases hE <;> rfl)) dX8_init_505 hE (fun T125 _ hE => ?_)
  cases hE
  exact hR _ _
