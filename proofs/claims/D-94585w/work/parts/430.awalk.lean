set_option maxRecDepth 100000
set_option maxHeartbeats 4000000 in
theorem w_A_J3_init {X : Ctx} {D : Dd} {R : Heap → Prop} {d : Nat → Prop} {L : Nat × Nat × Nat × Nat} {T : Th} {out : Unit} (hX : Ax X cJ3_init RJ3 D d L 1 1 24) (hSt : Stb R d) (hR : RtA X none (RD D R d L T) none D L) (hin : "<init>" = "<init>" → X.2.2.2.2.2.2.2.2.1.name = "<init>") (a0 : Nat) (hE : A_J3_init a0 = some out) (c z : Nat) : Wk X c z (RD D R d L T) 0 [(0, .ref a0)] [] := by
  have hC := hX.1
  have hnL := hX.2.2.1
  have hDy : ∀ {T : Th} (H : Heap), RD D R d L T H → Dy D T H := fun _ h => h.2.1
  unfold A_J3_init at hE
  refine k_aload_n (pc := 0) hC dJ3_init_0 rfl 0 rfl ?_
  refine a_objInit (pc := 1) hX q340 dJ3_init_1 (Nat.le_of_ble_eq_true rfl) (Nat.le_of_ble_eq_true rfl) ?_
  cases hE
  exact a_vret (pc := 4) hX hR dJ3_init_4 (by rfl) (fun _ h => h)
theorem ct_A_J3_init (l : Launch) (D : Dd) (A : Nat → Prop) (R : Heap → Prop) (d : Nat → Prop) (L : Nat × Nat × Nat × Nat) (T : Th) (hSt : Stb R d) (hdA : ∀ q, d q → A q) (hAB : ∀ q, A q → D.2.2.2.1.heap.size ≤ q) (a0 : Nat) (out : Unit) (hE : A_J3_init a0 = some out) : Ct l yJ3_init (ws_ yJ3_init cJ3_init 1 none) (rmA 1 24 L T) vwCl arTy D A [.ref a0] (RD D R d L T) (RD D R d L T) none (L.1 - tN T) (L.2.1 - tZ T) := by
  refine Ct.ofA (lv := [(0, .ref a0)]) (by decide) (Nat.le_of_ble_eq_true rfl) rfl hdA hAB ?_
  intro X hl hX hR hXA hin
  exact w_A_J3_init hX hSt hR hin a0 hE
theorem cw_A_J3_init_J4 {X : Ctx} {cc : ByteArray} {D : Dd} {d : Nat → Prop} {L : Nat × Nat × Nat × Nat} {mL fr lo : Nat} {T : Th} (hX : Ax X cc RJ4 D d L mL fr lo) (h1 : 1 + 1 ≤ fr) (h2 : 8 + (1 + 11) + 24 ≤ lo) : CallB X.2.2.2.1 X.2.2.2.2.1 X.2.2.2.2.2.2.1 RJ4 1 yJ3_init cJ3_init 1 none (ws_ yJ3_init cJ3_init 1 none) (rmA 1 24 L T) (L.1 - tN T) (L.2.1 - tZ T) 0 ∧ yJ3_init.name = "<init>" ∧ (Cond.instanceMethod yJ3_init).before X.2.2.2.2.2.2.1 X.2.2.2.2.1 = true := cwI 0 (cx_w hX.1) (lw_meth q339) rfl rfl rfl (cx_w hX.1 _ q122) (cx_w hX.1 _ q337) (cx_w hX.1 _ q338) rfl (by decide +kernel) (by rw [hX.2.2.2.1, hX.2.2.2.2.1]; exact ⟨h1, h2⟩)
set_option maxHeartbeats 4000000 in
theorem w_A_J4_init {X : Ctx} {D : Dd} {R : Heap → Prop} {d : Nat → Prop} {L : Nat × Nat × Nat × Nat} {out : Th} (hX : Ax X cJ4_init RJ4 D d L 1 2 44) (hSt : Stb R d) (hR : RtA X none (RD D R d L out) none D L) (hin : "<init>" = "<init>" → X.2.2.2.2.2.2.2.2.1.name = "<init>") (a0 : Nat) (T : Th) (hE : A_J4_init a0 T = some out) (c z : Nat) : Wk X c z (RD D R d L T) 0 [(0, .ref a0)] [] := by
  have hC := hX.1
  have hnL := hX.2.2.1
  have hDy : ∀ {T : Th} (H : Heap), RD D R d L T H → Dy D T H := fun _ h => h.2.1
  unfold A_J4_init at hE
  refine k_aload_n (pc := 0) hC dJ4_init_0 rfl 0 rfl ?_
  obtain ⟨r1, h1, hE⟩ := ob_ hE
  refine a_callI (pc := 1) (As := []) hX (ct_A_J3_init X.2.1 D (cxA X) R d L T hSt hX.2.1 hX.2.2.2.2.2.2.2.2.2 a0 r1 h1) (cw_A_J3_init_J4 hX (Nat.le_of_ble_eq_true rfl) (Nat.le_of_ble_eq_true rfl)) rfl rfl (Nat.le_of_ble_eq_true rfl) dJ4_init_1 (fun c z => ?_)
  show Wk X c z (RD D R d L T) 4 [(0, .ref a0)] []
  refine k_aload_n (pc := 4) hC dJ4_init_4 rfl 0 rfl ?_
  refine k_iconst (pc := 5) (v := 0) hC dJ4_init_5 (by decide) ?_
  refine a_putI (pc := 6) (y := 0) hX hSt cl_J5 in_J5 0 (by decide) rfl tyJ5 tyJ5_ok nmJ5 (by exact q345) rfl rfl rfl rfl dJ4_init_6 hE (fun T2 _ hE => ?_)
  cases hE
  exact a_vret (pc := 9) hX hR dJ4_init_9 (by rfl) (fun _ h => h)
theorem ct_A_J4_init (l : Launch) (D : Dd) (A : Nat → Prop) (R : Heap → Prop) (d : Nat → Prop) (L : Nat × Nat × Nat × Nat) (T : Th) (hSt : Stb R d) (hdA : ∀ q, d q → A q) (hAB : ∀ q, A q → D.2.2.2.1.heap.size ≤ q) (a0 : Nat) (out : Th) (hE : A_J4_init a0 T = some out) : Ct l yJ4_init (ws_ yJ4_init cJ4_init 1 none) (rmA 2 44 L T) vwCl arTy D A [.ref a0] (RD D R d L T) (RD D R d L out) none (L.1 - tN T) (L.2.1 - tZ T) := by
  refine Ct.ofA (lv := [(0, .ref a0)]) (by decide) (Nat.le_of_ble_eq_true rfl) rfl hdA hAB ?_
  intro X hl hX hR hXA hin
  exact w_A_J4_init hX hSt hR hin a0 T hE
theorem cw_A_J4_init_J5 {X : Ctx} {cc : ByteArray} {D : Dd} {d : Nat → Prop} {L : Nat × Nat × Nat × Nat} {mL fr lo : Nat} {T : Th} (hX : Ax X cc RJ5 D d L mL fr lo) (h1 : 2 + 1 ≤ fr) (h2 : 8 + (1 + 11) + 44 ≤ lo) : CallB X.2.2.2.1 X.2.2.2.2.1 X.2.2.2.2.2.2.1 RJ5 1 yJ4_init cJ4_init 1 none (ws_ yJ4_init cJ4_init 1 none) (rmA 2 44 L T) (L.1 - tN T) (L.2.1 - tZ T) 0 ∧ yJ4_init.name = "<init>" ∧ (Cond.instanceMethod yJ4_init).before X.2.2.2.2.2.2.1 X.2.2.2.2.1 = true := cwI 0 (cx_w hX.1) (lw_meth q336) rfl rfl rfl (cx_w hX.1 _ q123) (cx_w hX.1 _ q334) (cx_w hX.1 _ q335) rfl (by decide +kernel) (by rw [hX.2.2.2.1, hX.2.2.2.2.1]; exact ⟨h1, h2⟩)
set_option maxHeartbeats 4000000 in
theorem w_A_J5_init {X : Ctx} {D : Dd} {R : Heap → Prop} {d : Nat → Prop} {L : Nat × Nat × Nat × Nat} {out : Th} (hX : Ax X cJ5_init RJ5 D d L 1 3 64) (hSt : Stb R d) (hR : RtA X none (RD D R d L out) none D L) (hin : "<init>" = "<init>" → X.2.2.2.2.2.2.2.2.1.name = "<init>") (a0 : Nat) (T : Th) (hE : A_J5_init a0 T = some out) (c z : Nat) : Wk X c z (RD D R d L T) 0 [(0, .ref a0)] [] := by
  have hC := hX.1
  have hnL := hX.2.2.1
  have hDy : ∀ {T : Th} (H : Heap), RD D R d L T H → Dy D T H := fun _ h => h.2.1
  unfold A_J5_init at hE
  refine k_aload_n (pc := 0) hC dJ5_init_0 rfl 0 rfl ?_
  obtain ⟨r1, h1, hE⟩ := ob_ hE
  refine a_callI (pc := 1) (As := []) hX (ct_A_J4_init X.2.1 D (cxA X) R d L T hSt hX.2.1 hX.2.2.2.2.2.2.2.2.2 a0 r1 h1) (cw_A_J4_init_J5 hX (Nat.le_of_ble_eq_true rfl) (Nat.le_of_ble_eq_true rfl)) rfl rfl (Nat.le_of_ble_eq_true rfl) dJ5_init_1 (fun c z => ?_)
  show Wk X c z (RD D R d L r1) 4 [(0, .ref a0)] []
  refine k_aload_n (pc := 4) hC dJ5_init_4 rfl 0 rfl ?_
  refine a_know (a_e0 hX) (fun he0 => ?_)
  refine a_gets (pc := 5) hX (fun _ h => h.2.1) q341 dJ5_init_5 ?_
  rw [← he0]
  refine a_putR (pc := 8) (y := ((some (tE r1)))) hX hSt cl_J5 in_J5 1 (by decide) rfl tyJ5 tyJ5_ok nmJ5 (by exact q343) rfl rfl (by first | rfl | (cases hE <;> rfl)) (by first | rfl | (cases hE <;> rfl)) dJ5_init_8 hE (fun T2 _ hE => ?_)
  cases hE
  exact a_vret (pc := 11) hX hR dJ5_init_11 (by rfl) (fun _ h => h)
theorem ct_A_J5_init (l : Launch) (D : Dd) (A : Nat → Prop) (R : Heap → Prop) (d : Nat → Prop) (L : Nat × Nat × Nat × Nat) (T : Th) (hSt : Stb R d) (hdA : ∀ q, d q → A q) (hAB : ∀ q, A q → D.2.2.2.1.heap.size ≤ q) (a0 : Nat) (out : Th) (hE : A_J5_init a0 T = some out) : Ct l yJ5_init (ws_ yJ5_init cJ5_init 1 none) (rmA 3 64 L T) vwCl arTy D A [.ref a0] (RD D R d L T) (RD D R d L out) none (L.1 - tN T) (L.2.1 - tZ T) := by
  refine Ct.ofA (lv := [(0, .ref a0)]) (by decide) (Nat.le_of_ble_eq_true rfl) rfl hdA hAB ?_
  intro X hl hX hR hXA hin
  exact w_A_J5_init hX hSt hR hin a0 T hE
theorem cw_A_J5_init_X13 {X : Ctx} {cc : ByteArray} {D : Dd} {d : Nat → Prop} {L : Nat × Nat × Nat × Nat} {mL fr lo : Nat} {T : Th} (hX : Ax X cc RX13 D d L mL fr lo) (h1 : 3 + 1 ≤ fr) (h2 : 8 + (1 + 11) + 64 ≤ lo) : CallB X.2.2.2.1 X.2.2.2.2.1 X.2.2.2.2.2.2.1 RX13 9 yJ5_init cJ5_init 1 none (ws_ yJ5_init cJ5_init 1 none) (rmA 3 64 L T) (L.1 - tN T) (L.2.1 - tZ T) 0 ∧ yJ5_init.name = "<init>" ∧ (Cond.instanceMethod yJ5_init).before X.2.2.2.2.2.2.1 X.2.2.2.2.1 = true := cwI 0 (cx_w hX.1) (lw_meth q333) rfl rfl rfl (cx_w hX.1 _ q124) (cx_w hX.1 _ q1044) (cx_w hX.1 _ q332) rfl (by decide +kernel) (by rw [hX.2.2.2.1, hX.2.2.2.2.1]; exact ⟨h1, h2⟩)
theorem cw_A_J5_init_X4 {X : Ctx} {cc : ByteArray} {D : Dd} {d : Nat → Prop} {L : Nat × Nat × Nat × Nat} {mL fr lo : Nat} {T : Th} (hX : Ax X cc RX4 D d L mL fr lo) (h1 : 3 + 1 ≤ fr) (h2 : 8 + (1 + 11) + 64 ≤ lo) : CallB X.2.2.2.1 X.2.2.2.2.1 X.2.2.2.2.2.2.1 RX4 11 yJ5_init cJ5_init 1 none (ws_ yJ5_init cJ5_init 1 none) (rmA 3 64 L T) (L.1 - tN T) (L.2.1 - tZ T) 0 ∧ yJ5_init.name = "<init>" ∧ (Cond.instanceMethod yJ5_init).before X.2.2.2.2.2.2.1 X.2.2.2.2.1 = true := cwI 0 (cx_w hX.1) (lw_meth q333) rfl rfl rfl (cx_w hX.1 _ q124) (cx_w hX.1 _ q331) (cx_w hX.1 _ q332) rfl (by decide +kernel) (by rw [hX.2.2.2.1, hX.2.2.2.2.1]; exact ⟨h1, h2⟩)
set_option maxHeartbeats 4000000 in
theorem w_A_Named_X10 {X : Ctx} {D : Dd} {R : Heap → Prop} {d : Nat → Prop} {L : Nat × Nat × Nat × Nat} {out : Th} (hX : Ax X cX9_init RX9 D d L 2 1 24) (hSt : Stb R d) (hR : RtA X none (RD D R d L out) none D L) (hin : "<init>" = "<init>" → X.2.2.2.2.2.2.2.2.1.name = "<init>") (a0 : Nat) (a1 : Nat) (T : Th) (hE : A_Named_X10 a0 a1 T = some out) (c z : Nat) : Wk X c z (RD D R d L T) 0 [(0, .ref a0), (1, .ref a1)] [] := by
  have hC := hX.1
  have hnL := hX.2.2.1
  have hDy : ∀ {T : Th} (H : Heap), RD D R d L T H → Dy D T H := fun _ h => h.2.1
  unfold A_Named_X10 at hE
  refine k_aload_n (pc := 0) hC dX9_init_0 rfl 0 rfl ?_
  refine a_objInit (pc := 1) hX q921 dX9_init_1 (Nat.le_of_ble_eq_true rfl) (Nat.le_of_ble_eq_true rfl) ?_
  refine k_aload_n (pc := 4) hC dX9_init_4 rfl 0 rfl ?_
  refine k_aload_n (pc := 5) hC dX9_init_5 rfl 1 rfl ?_
  refine a_putFR (pc := 6) (y := ((some a1))) hX hSt cl_X10 in_X10 0 (by decide) rfl tyX10 tyX10_ok nmX10 (by exact q922) rfl rfl rfl (hin rfl) (by first | rfl | (cases hE <;> rfl)) (by first | rfl | (cases hE <;> rfl)) dX9_init_6 hE (fun T1 _ hE => ?_)
  cases hE
  exact a_vret (pc := 9) hX hR dX9_init_9 (by rfl) (fun _ h => h)
theorem ct_A_Named_X10 (l : Launch) (D : Dd) (A : Nat → Prop) (R : Heap → Prop) (d : Nat → Prop) (L : Nat × Nat × Nat × Nat) (T : Th) (hSt : Stb R d) (hdA : ∀ q, d q → A q) (hAB : ∀ q, A q → D.2.2.2.1.heap.size ≤ q) (a0 : Nat) (a1 : Nat) (out : Th) (hE : A_Named_X10 a0 a1 T = some out) : Ct l yX9_init (ws_ yX9_init cX9_init 2 none) (rmA 1 24 L T) vwCl arTy D A [.ref a0, .ref a1] (RD D R d L T) (RD D R d L out) none (L.1 - tN T) (L.2.1 - tZ T) := by
  refine Ct.ofA (lv := [(0, .ref a0), (1, .ref a1)]) (by decide) (Nat.le_of_ble_eq_true rfl) rfl hdA hAB ?_
  intro X hl hX hR hXA hin
  exact w_A_Named_X10 hX hSt hR hin a0 a1 T hE
theorem cw_A_Named_X10_X15 {X : Ctx} {cc : ByteArray} {D : Dd} {d : Nat → Prop} {L : Nat × Nat × Nat × Nat} {mL fr lo : Nat} {T : Th} (hX : Ax X cc RX15 D d L mL fr lo) (h1 : 1 + 1 ≤ fr) (h2 : 8 + (2 + 11) + 24 ≤ lo) : CallB X.2.2.2.1 X.2.2.2.2.1 X.2.2.2.2.2.2.1 RX15 1 yX9_init cX9_init 2 none (ws_ yX9_init cX9_init 2 none) (rmA 1 24 L T) (L.1 - tN T) (L.2.1 - tZ T) 1 ∧ yX9_init.name = "<init>" ∧ (Cond.instanceMethod yX9_init).before X.2.2.2.2.2.2.1 X.2.2.2.2.1 = true := cwI 1 (cx_w hX.1) (lw_meth q920) rfl rfl rfl (cx_w hX.1 _ q133) (cx_w hX.1 _ q1125) (cx_w hX.1 _ q919) rfl (by decide +kernel) (by rw [hX.2.2.2.1, hX.2.2.2.2.1]; exact ⟨h1, h2⟩)
theorem cw_A_Named_X10_X10 {X : Ctx} {cc : ByteArray} {D : Dd} {d : Nat → Prop} {L : Nat × Nat × Nat × Nat} {mL fr lo : Nat} {T : Th} (hX : Ax X cc RX10 D d L mL fr lo) (h1 : 1 + 1 ≤ fr) (h2 : 8 + (2 + 11) + 24 ≤ lo) : CallB X.2.2.2.1 X.2.2.2.2.1 X.2.2.2.2.2.2.1 RX10 1 yX9_init cX9_init 2 none (ws_ yX9_init cX9_init 2 none) (rmA 1 24 L T) (L.1 - tN T) (L.2.1 - tZ T) 1 ∧ yX9_init.name = "<init>" ∧ (Cond.instanceMethod yX9_init).before X.2.2.2.2.2.2.1 X.2.2.2.2.1 = true := cwI 1 (cx_w hX.1) (lw_meth q920) rfl rfl rfl (cx_w hX.1 _ q133) (cx_w hX.1 _ q918) (cx_w hX.1 _ q919) rfl (by decide +kernel) (by rw [hX.2.2.2.1, hX.2.2.2.2.1]; exact ⟨h1, h2⟩)
theorem cw_A_Named_X10_X13 {X : Ctx} {cc : ByteArray} {D : Dd} {d : Nat → Prop} {L : Nat × Nat × Nat × Nat} {mL fr lo : Nat} {T : Th} (hX : Ax X cc RX13 D d L mL fr lo) (h1 : 1 + 1 ≤ fr) (h2 : 8 + (2 + 11) + 24 ≤ lo) : CallB X.2.2.2.1 X.2.2.2.2.1 X.2.2.2.2.2.2.1 RX13 1 yX9_init cX9_init 2 none (ws_ yX9_init cX9_init 2 none) (rmA 1 24 L T) (L.1 - tN T) (L.2.1 - tZ T) 1 ∧ yX9_init.name = "<init>" ∧ (Cond.instanceMethod yX9_init).before X.2.2.2.2.2.2.1 X.2.2.2.2.1 = true := cwI 1 (cx_w hX.1) (lw_meth q920) rfl rfl rfl (cx_w hX.1 _ q133) (cx_w hX.1 _ q1042) (cx_w hX.1 _ q919) rfl (by decide +kernel) (by rw [hX.2.2.2.1, hX.2.2.2.2.1]; exact ⟨h1, h2⟩)
theorem cw_A_Named_X10_X12 {X : Ctx} {cc : ByteArray} {D : Dd} {d : Nat → Prop} {L : Nat × Nat × Nat × Nat} {mL fr lo : Nat} {T : Th} (hX : Ax X cc RX12 D d L mL fr lo) (h1 : 1 + 1 ≤ fr) (h2 : 8 + (2 + 11) + 24 ≤ lo) : CallB X.2.2.2.1 X.2.2.2.2.1 X.2.2.2.2.2.2.1 RX12 1 yX9_init cX9_init 2 none (ws_ yX9_init cX9_init 2 none) (rmA 1 24 L T) (L.1 - tN T) (L.2.1 - tZ T) 1 ∧ yX9_init.name = "<init>" ∧ (Cond.instanceMethod yX9_init).before X.2.2.2.2.2.2.1 X.2.2.2.2.1 = true := cwI 1 (cx_w hX.1) (lw_meth q920) rfl rfl rfl (cx_w hX.1 _ q133) (cx_w hX.1 _ q1030) (cx_w hX.1 _ q919) rfl (by decide +kernel) (by rw [hX.2.2.2.1, hX.2.2.2.2.1]; exact ⟨h1, h2⟩)
set_option maxHeartbeats 4000000 in
theorem w_A_Named_X12 {X : Ctx} {D : Dd} {R : Heap → Prop} {d : Nat → Prop} {L : Nat × Nat × Nat × Nat} {out : Th} (hX : Ax X cX9_init RX9 D d L 2 1 24) (hSt : Stb R d) (hR : RtA X none (RD D R d L out) none D L) (hin : "<init>" = "<init>" → X.2.2.2.2.2.2.2.2.1.name = "<init>") (a0 : Nat) (a1 : Nat) (T : Th) (hE : A_Named_X12 a0 a1 T = some out) (c z : Nat) : Wk X c z (RD D R d L T) 0 [(0, .ref a0), (1, .ref a1)] [] := by
  have hC := hX.1
  have hnL := hX.2.2.1
  have hDy : ∀ {T : Th} (H : Heap), RD D R d L T H → Dy D T H := fun _ h => h.2.1
  unfold A_Named_X12 at hE
  refine k_aload_n (pc := 0) hC dX9_init_0 rfl 0 rfl ?_
  refine a_objInit (pc := 1) hX q921 dX9_init_1 (Nat.le_of_ble_eq_true rfl) (Nat.le_of_ble_eq_true rfl) ?_
  refine k_aload_n (pc := 4) hC dX9_init_4 rfl 0 rfl ?_
  refine k_aload_n (pc := 5) hC dX9_init_5 rfl 1 rfl ?_
  refine a_putFR (pc := 6) (y := ((some a1))) hX hSt cl_X12 in_X12 0 (by decide) rfl tyX12 tyX12_ok nmX12 (by exact q922) rfl rfl rfl (hin rfl) (by first | rfl | (cases hE <;> rfl)) (by first | rfl | (cases hE <;> rfl)) dX9_init_6 hE (fun T1 _ hE => ?_)
  cases hE
  exact a_vret (pc := 9) hX hR dX9_init_9 (by rfl) (fun _ h => h)
theorem ct_A_Named_X12 (l : Launch) (D : Dd) (A : Nat → Prop) (R : Heap → Prop) (d : Nat → Prop) (L : Nat × Nat × Nat × Nat) (T : Th) (hSt : Stb R d) (hdA : ∀ q, d q → A q) (hAB : ∀ q, A q → D.2.2.2.1.heap.size ≤ q) (a0 : Nat) (a1 : Nat) (out : Th) (hE : A_Named_X12 a0 a1 T = some out) : Ct l yX9_init (ws_ yX9_init cX9_init 2 none) (rmA 1 24 L T) vwCl arTy D A [.ref a0, .ref a1] (RD D R d L T) (RD D R d L out) none (L.1 - tN T) (L.2.1 - tZ T) := by
  refine Ct.ofA (lv := [(0, .ref a0), (1, .ref a1)]) (by decide) (Nat.le_of_ble_eq_true rfl) rfl hdA hAB ?_
  intro X hl hX hR hXA hin
  exact w_A_Named_X12 hX hSt hR hin a0 a1 T hE
theorem cw_A_Named_X12_X15 {X : Ctx} {cc : ByteArray} {D : Dd} {d : Nat → Prop} {L : Nat × Nat × Nat × Nat} {mL fr lo : Nat} {T : Th} (hX : Ax X cc RX15 D d L mL fr lo) (h1 : 1 + 1 ≤ fr) (h2 : 8 + (2 + 11) + 24 ≤ lo) : CallB X.2.2.2.1 X.2.2.2.2.1 X.2.2.2.2.2.2.1 RX15 1 yX9_init cX9_init 2 none (ws_ yX9_init cX9_init 2 none) (rmA 1 24 L T) (L.1 - tN T) (L.2.1 - tZ T) 1 ∧ yX9_init.name = "<init>" ∧ (Cond.instanceMethod yX9_init).before X.2.2.2.2.2.2.1 X.2.2.2.2.1 = true := cwI 1 (cx_w hX.1) (lw_meth q920) rfl rfl rfl (cx_w hX.1 _ q133) (cx_w hX.1 _ q1125) (cx_w hX.1 _ q919) rfl (by decide +kernel) (by rw [hX.2.2.2.1, hX.2.2.2.2.1]; exact ⟨h1, h2⟩)
theorem cw_A_Named_X12_X10 {X : Ctx} {cc : ByteArray} {D : Dd} {d : Nat → Prop} {L : Nat × Nat × Nat × Nat} {mL fr lo : Nat} {T : Th} (hX : Ax X cc RX10 D d L mL fr lo) (h1 : 1 + 1 ≤ fr) (h2 : 8 + (2 + 11) + 24 ≤ lo) : CallB X.2.2.2.1 X.2.2.2.2.1 X.2.2.2.2.2.2.1 RX10 1 yX9_init cX9_init 2 none (ws_ yX9_init cX9_init 2 none) (rmA 1 24 L T) (L.1 - tN T) (L.2.1 - tZ T) 1 ∧ yX9_init.name = "<init>" ∧ (Cond.instanceMethod yX9_init).before X.2.2.2.2.2.2.1 X.2.2.2.2.1 = true := cwI 1 (cx_w hX.1) (lw_meth q920) rfl rfl rfl (cx_w hX.1 _ q133) (cx_w hX.1 _ q918) (cx_w hX.1 _ q919) rfl (by decide +kernel) (by rw [hX.2.2.2.1, hX.2.2.2.2.1]; exact ⟨h1, h2⟩)
theorem cw_A_Named_X12_X13 {X : Ctx} {cc : ByteArray} {D : Dd} {d : Nat → Prop} {L : Nat × Nat × Nat × Nat} {mL fr lo : Nat} {T : Th} (hX : Ax X cc RX13 D d L mL fr lo) (h1 : 1 + 1 ≤ fr) (h2 : 8 + (2 + 11) + 24 ≤ lo) : CallB X.2.2.2.1 X.2.2.2.2.1 X.2.2.2.2.2.2.1 RX13 1 yX9_init cX9_init 2 none (ws_ yX9_init cX9_init 2 none) (rmA 1 24 L T) (L.1 - tN T) (L.2.1 - tZ T) 1 ∧ yX9_init.name = "<init>" ∧ (Cond.instanceMethod yX9_init).before X.2.2.2.2.2.2.1 X.2.2.2.2.1 = true := cwI 1 (cx_w hX.1) (lw_meth q920) rfl rfl rfl (cx_w hX.1 _ q133) (cx_w hX.1 _ q1042) (cx_w hX.1 _ q919) rfl (by decide +kernel) (by rw [hX.2.2.2.1, hX.2.2.2.2.1]; exact ⟨h1, h2⟩)
theorem cw_A_Named_X12_X12 {X : Ctx} {cc : ByteArray} {D : Dd} {d : Nat → Prop} {L : Nat × Nat × Nat × Nat} {mL fr lo : Nat} {T : Th} (hX : Ax X cc RX12 D d L mL fr lo) (h1 : 1 + 1 ≤ fr) (h2 : 8 + (2 + 11) + 24 ≤ lo) : CallB X.2.2.2.1 X.2.2.2.2.1 X.2.2.2.2.2.2.1 RX12 1 yX9_init cX9_init 2 none (ws_ yX9_init cX9_init 2 none) (rmA 1 24 L T) (L.1 - tN T) (L.2.1 - tZ T) 1 ∧ yX9_init.name = "<init>" ∧ (Cond.instanceMethod yX9_init).before X.2.2.2.2.2.2.1 X.2.2.2.2.1 = true := cwI 1 (cx_w hX.1) (lw_meth q920) rfl rfl rfl (cx_w hX.1 _ q133) (cx_w hX.1 _ q1030) (cx_w hX.1 _ q919) rfl (by decide +kernel) (by rw [hX.2.2.2.1, hX.2.2.2.2.1]; exact ⟨h1, h2⟩)
set_option maxHeartbeats 4000000 in
theorem w_A_Named_X13 {X : Ctx} {D : Dd} {R : Heap → Prop} {d : Nat → Prop} {L : Nat × Nat × Nat × Nat} {out : Th} (hX : Ax X cX9_init RX9 D d L 2 1 24) (hSt : Stb R d) (hR : RtA X none (RD D R d L out) none D L) (hin : "<init>" = "<init>" → X.2.2.2.2.2.2.2.2.1.name = "<init>") (a0 : Nat) (a1 : Nat) (T : Th) (hE : A_Named_X13 a0 a1 T = some out) (c z : Nat) : Wk X c z (RD D R d L T) 0 [(0, .ref a0), (1, .ref a1)] [] := by
  have hC := hX.1
  have hnL := hX.2.2.1
  have hDy : ∀ {T : Th} (H : Heap), RD D R d L T H → Dy D T H := fun _ h => h.2.1
  unfold A_Named_X13 at hE
  refine k_aload_n (pc := 0) hC dX9_init_0 rfl 0 rfl ?_
  refine a_objInit (pc := 1) hX q921 dX9_init_1 (Nat.le_of_ble_eq_true rfl) (Nat.le_of_ble_eq_true rfl) ?_
  refine k_aload_n (pc := 4) hC dX9_init_4 rfl 0 rfl ?_
  refine k_aload_n (pc := 5) hC dX9_init_5 rfl 1 rfl ?_
  refine a_putFR (pc := 6) (y := ((some a1))) hX hSt cl_X13 in_X13 0 (by decide) rfl tyX13 tyX13_ok nmX13 (by exact q922) rfl rfl rfl (hin rfl) (by first | rfl | (cases hE <;> rfl)) (by first | rfl | (cases hE <;> rfl)) dX9_init_6 hE (fun T1 _ hE => ?_)
  cases hE
  exact a_vret (pc := 9) hX hR dX9_init_9 (by rfl) (fun _ h => h)
theorem ct_A_Named_X13 (l : Launch) (D : Dd) (A : Nat → Prop) (R : Heap → Prop) (d : Nat → Prop) (L : Nat × Nat × Nat × Nat) (T : Th) (hSt : Stb R d) (hdA : ∀ q, d q → A q) (hAB : ∀ q, A q → D.2.2.2.1.heap.size ≤ q) (a0 : Nat) (a1 : Nat) (out : Th) (hE : A_Named_X13 a0 a1 T = some out) : Ct l yX9_init (ws_ yX9_init cX9_init 2 none) (rmA 1 24 L T) vwCl arTy D A [.ref a0, .ref a1] (RD D R d L T) (RD D R d L out) none (L.1 - tN T) (L.2.1 - tZ T) := by
  refine Ct.ofA (lv := [(0, .ref a0), (1, .ref a1)]) (by decide) (Nat.le_of_ble_eq_true rfl) rfl hdA hAB ?_
  intro X hl hX hR hXA hin
  exact w_A_Named_X13 hX hSt hR hin a0 a1 T hE
theorem cw_A_Named_X13_X15 {X : Ctx} {cc : ByteArray} {D : Dd} {d : Nat → Prop} {L : Nat × Nat × Nat × Nat} {mL fr lo : Nat} {T : Th} (hX : Ax X cc RX15 D d L mL fr lo) (h1 : 1 + 1 ≤ fr) (h2 : 8 + (2 + 11) + 24 ≤ lo) : CallB X.2.2.2.1 X.2.2.2.2.1 X.2.2.2.2.2.2.1 RX15 1 yX9_init cX9_init 2 none (ws_ yX9_init cX9_init 2 none) (rmA 1 24 L T) (L.1 - tN T) (L.2.1 - tZ T) 1 ∧ yX9_init.name = "<init>" ∧ (Cond.instanceMethod yX9_init).before X.2.2.2.2.2.2.1 X.2.2.2.2.1 = true := cwI 1 (cx_w hX.1) (lw_meth q920) rfl rfl rfl (cx_w hX.1 _ q133) (cx_w hX.1 _ q1125) (cx_w hX.1 _ q919) rfl (by decide +kernel) (by rw [hX.2.2.2.1, hX.2.2.2.2.1]; exact ⟨h1, h2⟩)
theorem cw_A_Named_X13_X10 {X : Ctx} {cc : ByteArray} {D : Dd} {d : Nat → Prop} {L : Nat × Nat × Nat × Nat} {mL fr lo : Nat} {T : Th} (hX : Ax X cc RX10 D d L mL fr lo) (h1 : 1 + 1 ≤ fr) (h2 : 8 + (2 + 11) + 24 ≤ lo) : CallB X.2.2.2.1 X.2.2.2.2.1 X.2.2.2.2.2.2.1 RX10 1 yX9_init cX9_init 2 none (ws_ yX9_init cX9_init 2 none) (rmA 1 24 L T) (L.1 - tN T) (L.2.1 - tZ T) 1 ∧ yX9_init.name = "<init>" ∧ (Cond.instanceMethod yX9_init).before X.2.2.2.2.2.2.1 X.2.2.2.2.1 = true := cwI 1 (cx_w hX.1) (lw_meth q920) rfl rfl rfl (cx_w hX.1 _ q133) (cx_w hX.1 _ q918) (cx_w hX.1 _ q919) rfl (by decide +kernel) (by rw [hX.2.2.2.1, hX.2.2.2.2.1]; exact ⟨h1, h2⟩)
theorem cw_A_Named_X13_X13 {X : Ctx} {cc : ByteArray} {D : Dd} {d : Nat → Prop} {L : Nat × Nat × Nat × Nat} {mL fr lo : Nat} {T : Th} (hX : Ax X cc RX13 D d L mL fr lo) (h1 : 1 + 1 ≤ fr) (h2 : 8 + (2 + 11) + 24 ≤ lo) : CallB X.2.2.2.1 X.2.2.2.2.1 X.2.2.2.2.2.2.1 RX13 1 yX9_init cX9_init 2 none (ws_ yX9_init cX9_init 2 none) (rmA 1 24 L T) (L.1 - tN T) (L.2.1 - tZ T) 1 ∧ yX9_init.name = "<init>" ∧ (Cond.instanceMethod yX9_init).before X.2.2.2.2.2.2.1 X.2.2.2.2.1 = true := cwI 1 (cx_w hX.1) (lw_meth q920) rfl rfl rfl (cx_w hX.1 _ q133) (cx_w hX.1 _ q1042) (cx_w hX.1 _ q919) rfl (by decide +kernel) (by rw [hX.2.2.2.1, hX.2.2.2.2.1]; exact ⟨h1, h2⟩)
theorem cw_A_Named_X13_X12 {X : Ctx} {cc : ByteArray} {D : Dd} {d : Nat → Prop} {L : Nat × Nat × Nat × Nat} {mL fr lo : Nat} {T : Th} (hX : Ax X cc RX12 D d L mL fr lo) (h1 : 1 + 1 ≤ fr) (h2 : 8 + (2 + 11) + 24 ≤ lo) : CallB X.2.2.2.1 X.2.2.2.2.1 X.2.2.2.2.2.2.1 RX12 1 yX9_init cX9_init 2 none (ws_ yX9_init cX9_init 2 none) (rmA 1 24 L T) (L.1 - tN T) (L.2.1 - tZ T) 1 ∧ yX9_init.name = "<init>" ∧ (Cond.instanceMethod yX9_init).before X.2.2.2.2.2.2.1 X.2.2.2.2.1 = true := cwI 1 (cx_w hX.1) (lw_meth q920) rfl rfl rfl (cx_w hX.1 _ q133) (cx_w hX.1 _ q1030) (cx_w hX.1 _ q919) rfl (by decide +kernel) (by rw [hX.2.2.2.1, hX.2.2.2.2.1]; exact ⟨h1, h2⟩)
set_option maxHeartbeats 4000000 in
theorem w_A_Named_X15 {X : Ctx} {D : Dd} {R : Heap → Prop} {d : Nat → Prop} {L : Nat × Nat × Nat × Nat} {out : Th} (hX : Ax X cX9_init RX9 D d L 2 1 24) (hSt : Stb R d) (hR : RtA X none (RD D R d L out) none D L) (hin : "<init>" = "<init>" → X.2.2.2.2.2.2.2.2.1.name = "<init>") (a0 : Nat) (a1 : Nat) (T : Th) (hE : A_Named_X15 a0 a1 T = some out) (c z : Nat) : Wk X c z (RD D R d L T) 0 [(0, .ref a0), (1, .ref a1)] [] := by
  have hC := hX.1
  have hnL := hX.2.2.1
  have hDy : ∀ {T : Th} (H : Heap), RD D R d L T H → Dy D T H := fun _ h => h.2.1
  unfold A_Named_X15 at hE
  refine k_aload_n (pc := 0) hC dX9_init_0 rfl 0 rfl ?_
  refine a_objInit (pc := 1) hX q921 dX9_init_1 (Nat.le_of_ble_eq_true rfl) (Nat.le_of_ble_eq_true rfl) ?_
  refine k_aload_n (pc := 4) hC dX9_init_4 rfl 0 rfl ?_
  refine k_aload_n (pc := 5) hC dX9_init_5 rfl 1 rfl ?_
  refine a_putFR (pc := 6) (y := ((some a1))) hX hSt cl_X15 in_X15 0 (by decide) rfl tyX15 tyX15_ok nmX15 (by exact q922) rfl rfl rfl (hin rfl) (by first | rfl | (cases hE <;> rfl)) (by first | rfl | (cases hE <;> rfl)) dX9_init_6 hE (fun T1 _ hE => ?_)
  cases hE
  exact a_vret (pc := 9) hX hR dX9_init_9 (by rfl) (fun _ h => h)
theorem ct_A_Named_X15 (l : Launch) (D : Dd) (A : Nat → Prop) (R : Heap → Prop) (d : Nat → Prop) (L : Nat × Nat × Nat × Nat) (T : Th) (hSt : Stb R d) (hdA : ∀ q, d q → A q) (hAB : ∀ q, A q → D.2.2.2.1.heap.size ≤ q) (a0 : Nat) (a1 : Nat) (out : Th) (hE : A_Named_X15 a0 a1 T = some out) : Ct l yX9_init (ws_ yX9_init cX9_init 2 none) (rmA 1 24 L T) vwCl arTy D A [.ref a0, .ref a1] (RD D R d L T) (RD D R d L out) none (L.1 - tN T) (L.2.1 - tZ T) := by
  refine Ct.ofA (lv := [(0, .ref a0), (1, .ref a1)]) (by decide) (Nat.le_of_ble_eq_true rfl) rfl hdA hAB ?_
  intro X hl hX hR hXA hin
  exact w_A_Named_X15 hX hSt hR hin a0 a1 T hE
theorem cw_A_Named_X15_X15 {X : Ctx} {cc : ByteArray} {D : Dd} {d : Nat → Prop} {L : Nat × Nat × Nat × Nat} {mL fr lo : Nat} {T : Th} (hX : Ax X cc RX15 D d L mL fr lo) (h1 : 1 + 1 ≤ fr) (h2 : 8 + (2 + 11) + 24 ≤ lo) : CallB X.2.2.2.1 X.2.2.2.2.1 X.2.2.2.2.2.2.1 RX15 1 yX9_init cX9_init 2 none (ws_ yX9_init cX9_init 2 none) (rmA 1 24 L T) (L.1 - tN T) (L.2.1 - tZ T) 1 ∧ yX9_init.name = "<init>" ∧ (Cond.instanceMethod yX9_init).before X.2.2.2.2.2.2.1 X.2.2.2.2.1 = true := cwI 1 (cx_w hX.1) (lw_meth q920) rfl rfl rfl (cx_w hX.1 _ q133) (cx_w hX.1 _ q1125) (cx_w hX.1 _ q919) rfl (by decide +kernel) (by rw [hX.2.2.2.1, hX.2.2.2.2.1]; exact ⟨h1, h2⟩)
theorem cw_A_Named_X15_X10 {X : Ctx} {cc : ByteArray} {D : Dd} {d : Nat → Prop} {L : Nat × Nat × Nat × Nat} {mL fr lo : Nat} {T : Th} (hX : Ax X cc RX10 D d L mL fr lo) (h1 : 1 + 1 ≤ fr) (h2 : 8 + (2 + 11) + 24 ≤ lo) : CallB X.2.2.2.1 X.2.2.2.2.1 X.2.2.2.2.2.2.1 RX10 1 yX9_init cX9_init 2 none (ws_ yX9_init cX9_init 2 none) (rmA 1 24 L T) (L.1 - tN T) (L.2.1 - tZ T) 1 ∧ yX9_init.name = "<init>" ∧ (Cond.instanceMethod yX9_init).before X.2.2.2.2.2.2.1 X.2.2.2.2.1 = true := cwI 1 (cx_w hX.1) (lw_meth q920) rfl rfl rfl (cx_w hX.1 _ q133) (cx_w hX.1 _ q918) (cx_w hX.1 _ q919) rfl (by decide +kernel) (by rw [hX.2.2.2.1, hX.2.2.2.2.1]; exact ⟨h1, h2⟩)
theorem cw_A_Named_X15_X13 {X : Ctx} {cc : ByteArray} {D : Dd} {d : Nat → Prop} {L : Nat × Nat × Nat × Nat} {mL fr lo : Nat} {T : Th} (hX : Ax X cc RX13 D d L mL fr lo) (h1 : 1 + 1 ≤ fr) (h2 : 8 + (2 + 11) + 24 ≤ lo) : CallB X.2.2.2.1 X.2.2.2.2.1 X.2.2.2.2.2.2.1 RX13 1 yX9_init cX9_init 2 none (ws_ yX9_init cX9_init 2 none) (rmA 1 24 L T) (L.1 - tN T) (L.2.1 - tZ T) 1 ∧ yX9_init.name = "<init>" ∧ (Cond.instanceMethod yX9_init).before X.2.2.2.2.2.2.1 X.2.2.2.2.1 = true := cwI 1 (cx_w hX.1) (lw_meth q920) rfl rfl rfl (cx_w hX.1 _ q133) (cx_w hX.1 _ q1042) (cx_w hX.1 _ q919) rfl (by decide +kernel) (by rw [hX.2.2.2.1, hX.2.2.2.2.1]; exact ⟨h1, h2⟩)
theorem cw_A_Named_X15_X12 {X : Ctx} {cc : ByteArray} {D : Dd} {d : Nat → Prop} {L : Nat × Nat × Nat × Nat} {mL fr lo : Nat} {T : Th} (hX : Ax X cc RX12 D d L mL fr lo) (h1 : 1 + 1 ≤ fr) (h2 : 8 + (2 + 11) + 24 ≤ lo) : CallB X.2.2.2.1 X.2.2.2.2.1 X.2.2.2.2.2.2.1 RX12 1 yX9_init cX9_init 2 none (ws_ yX9_init cX9_init 2 none) (rmA 1 24 L T) (L.1 - tN T) (L.2.1 - tZ T) 1 ∧ yX9_init.name = "<init>" ∧ (Cond.instanceMethod yX9_init).before X.2.2.2.2.2.2.1 X.2.2.2.2.1 = true := cwI 1 (cx_w hX.1) (lw_meth q920) rfl rfl rfl (cx_w hX.1 _ q133) (cx_w hX.1 _ q1030) (cx_w hX.1 _ q919) rfl (by decide +kernel) (by rw [hX.2.2.2.1, hX.2.2.2.2.1]; exact ⟨h1, h2⟩)
set_option maxHeartbeats 4000000 in
theorem w_A_Room {X : Ctx} {D : Dd} {R : Heap → Prop} {d : Nat → Prop} {L : Nat × Nat × Nat × Nat} {out : Th} (hX : Ax X cX10_init RX10 D d L 2 2 45) (hSt : Stb R d) (hR : RtA X none (RD D R d L out) none D L) (hin : "<init>" = "<init>" → X.2.2.2.2.2.2.2.2.1.name = "<init>") (a0 : Nat) (a1 : Nat) (T : Th) (hE : A_Room a0 a1 T = some out) (c z : Nat) : Wk X c z (RD D R d L T) 0 [(0, .ref a0), (1, .ref a1)] [] := by
  have hC := hX.1
  have hnL := hX.2.2.1
  have hDy : ∀ {T : Th} (H : Heap), RD D R d L T H → Dy D T H := fun _ h => h.2.1
  unfold A_Room at hE
  refine k_aload_n (pc := 0) hC dX10_init_0 rfl 0 rfl ?_
  refine k_aload_n (pc := 1) hC dX10_init_1 rfl 1 rfl ?_
  obtain ⟨r1, h1, hE⟩ := ob_ hE
  refine a_callI (pc := 2) (As := [.ref a1]) hX (ct_A_Named_X10 X.2.1 D (cxA X) R d L T hSt hX.2.1 hX.2.2.2.2.2.2.2.2.2 a0 a1 r1 h1) (cw_A_Named_X10_X10 hX (Nat.le_of_ble_eq_true rfl) (Nat.le_of_ble_eq_true rfl)) rfl rfl (Nat.le_of_ble_eq_true rfl) dX10_init_2 (fun c z => ?_)
  show Wk X c z (RD D R d L r1) 5 [(0, .ref a0), (1, .ref a1)] []
  cases hE
  exact a_vret (pc := 5) hX hR dX10_init_5 (by rfl) (fun _ h => h)
theorem ct_A_Room (l : Launch) (D : Dd) (A : Nat → Prop) (R : Heap → Prop) (d : Nat → Prop) (L : Nat × Nat × Nat × Nat) (T : Th) (hSt : Stb R d) (hdA : ∀ q, d q → A q) (hAB : ∀ q, A q → D.2.2.2.1.heap.size ≤ q) (a0 : Nat) (a1 : Nat) (out : Th) (hE : A_Room a0 a1 T = some out) : Ct l yX10_init (ws_ yX10_init cX10_init 2 none) (rmA 2 45 L T) vwCl arTy D A [.ref a0, .ref a1] (RD D R d L T) (RD D R d L out) none (L.1 - tN T) (L.2.1 - tZ T) := by
  refine Ct.ofA (lv := [(0, .ref a0), (1, .ref a1)]) (by decide) (Nat.le_of_ble_eq_true rfl) rfl hdA hAB ?_
  intro X hl hX hR hXA hin
  exact w_A_Room hX hSt hR hin a0 a1 T hE
theorem cw_A_Room_X3 {X : Ctx} {cc : ByteArray} {D : Dd} {d : Nat → Prop} {L : Nat × Nat × Nat × Nat} {mL fr lo : Nat} {T : Th} (hX : Ax X cc RX3 D d L mL fr lo) (h1 : 2 + 1 ≤ fr) (h2 : 8 + (2 + 11) + 45 ≤ lo) : CallB X.2.2.2.1 X.2.2.2.2.1 X.2.2.2.2.2.2.1 RX3 127 yX10_init cX10_init 2 none (ws_ yX10_init cX10_init 2 none) (rmA 2 45 L T) (L.1 - tN T) (L.2.1 - tZ T) 1 ∧ yX10_init.name = "<init>" ∧ (Cond.instanceMethod yX10_init).before X.2.2.2.2.2.2.1 X.2.2.2.2.1 = true := cwI 1 (cx_w hX.1) (lw_meth q917) rfl rfl rfl (cx_w hX.1 _ q134) (cx_w hX.1 _ q915) (cx_w hX.1 _ q916) rfl (by decide +kernel) (by rw [hX.2.2.2.1, hX.2.2.2.2.1]; exact ⟨h1, h2⟩)
set_option maxHeartbeats 4000000 in
theorem w_A_Tool {X : Ctx} {D : Dd} {R : Heap → Prop} {d : Nat → Prop} {L : Nat × Nat × Nat × Nat} {out : Th} (hX : Ax X cX12_init RX12 D d L 2 2 45) (hSt : Stb R d) (hR : RtA X none (RD D R d L out) none D L) (hin : "<init>" = "<init>" → X.2.2.2.2.2.2.2.2.1.name = "<init>") (a0 : Nat) (a1 : Nat) (T : Th) (hE : A_Tool a0 a1 T = some out) (c z : Nat) : Wk X c z (RD D R d L T) 0 [(0, .ref a0), (1, .ref a1)] [] := by
  have hC := hX.1
  have hnL := hX.2.2.1
  have hDy : ∀ {T : Th} (H : Heap), RD D R d L T H → Dy D T H := fun _ h => h.2.1
  unfold A_Tool at hE
  refine k_aload_n (pc := 0) hC dX12_init_0 rfl 0 rfl ?_
  refine k_aload_n (pc := 1) hC dX12_init_1 rfl 1 rfl ?_
  obtain ⟨r1, h1, hE⟩ := ob_ hE
  refine a_callI (pc := 2) (As := [.ref a1]) hX (ct_A_Named_X12 X.2.1 D (cxA X) R d L T hSt hX.2.1 hX.2.2.2.2.2.2.2.2.2 a0 a1 r1 h1) (cw_A_Named_X12_X12 hX (Nat.le_of_ble_eq_true rfl) (Nat.le_of_ble_eq_true rfl)) rfl rfl (Nat.le_of_ble_eq_true rfl) dX12_init_2 (fun c z => ?_)
  show Wk X c z (RD D R d L r1) 5 [(0, .ref a0), (1, .ref a1)] []
  cases hE
  exact a_vret (pc := 5) hX hR dX12_init_5 (by rfl) (fun _ h => h)
theorem ct_A_Tool (l : Launch) (D : Dd) (A : Nat → Prop) (R : Heap → Prop) (d : Nat → Prop) (L : Nat × Nat × Nat × Nat) (T : Th) (hSt : Stb R d) (hdA : ∀ q, d q → A q) (hAB : ∀ q, A q → D.2.2.2.1.heap.size ≤ q) (a0 : Nat) (a1 : Nat) (out : Th) (hE : A_Tool a0 a1 T = some out) : Ct l yX12_init (ws_ yX12_init cX12_init 2 none) (rmA 2 45 L T) vwCl arTy D A [.ref a0, .ref a1] (RD D R d L T) (RD D R d L out) none (L.1 - tN T) (L.2.1 - tZ T) := by
  refine Ct.ofA (lv := [(0, .ref a0), (1, .ref a1)]) (by decide) (Nat.le_of_ble_eq_true rfl) rfl hdA hAB ?_
  intro X hl hX hR hXA hin
  exact w_A_Tool hX hSt hR hin a0 a1 T hE
theorem cw_A_Tool_X3 {X : Ctx} {cc : ByteArray} {D : Dd} {d : Nat → Prop} {L : Nat × Nat × Nat × Nat} {mL fr lo : Nat} {T : Th} (hX : Ax X cc RX3 D d L mL fr lo) (h1 : 2 + 1 ≤ fr) (h2 : 8 + (2 + 11) + 45 ≤ lo) : CallB X.2.2.2.1 X.2.2.2.2.1 X.2.2.2.2.2.2.1 RX3 142 yX12_init cX12_init 2 none (ws_ yX12_init cX12_init 2 none) (rmA 2 45 L T) (L.1 - tN T) (L.2.1 - tZ T) 1 ∧ yX12_init.name = "<init>" ∧ (Cond.instanceMethod yX12_init).before X.2.2.2.2.2.2.1 X.2.2.2.2.1 = true := cwI 1 (cx_w hX.1) (lw_meth q1029) rfl rfl rfl (cx_w hX.1 _ q143) (cx_w hX.1 _ q1027) (cx_w hX.1 _ q1028) rfl (by decide +kernel) (by rw [hX.2.2.2.1, hX.2.2.2.2.1]; exact ⟨h1, h2⟩)
set_option maxHeartbeats 4000000 in
theorem w_A_Task {X : Ctx} {D : Dd} {R : Heap → Prop} {d : Nat → Prop} {L : Nat × Nat × Nat × Nat} {out : Th} (hX : Ax X cX13_init RX13 D d L 2 4 84) (hSt : Stb R d) (hR : RtA X none (RD D R d L out) none D L) (hin : "<init>" = "<init>" → X.2.2.2.2.2.2.2.2.1.name = "<init>") (a0 : Nat) (a1 : Nat) (T : Th) (hE : A_Task a0 a1 T = some out) (c z : Nat) : Wk X c z (RD D R d L T) 0 [(0, .ref a0), (1, .ref a1)] [] := by
  have hC := hX.1
  have hnL := hX.2.2.1
  have hDy : ∀ {T : Th} (H : Heap), RD D R d L T H → Dy D T H := fun _ h => h.2.1
  unfold A_Task at hE
  refine k_aload_n (pc := 0) hC dX13_init_0 rfl 0 rfl ?_
  refine k_aload_n (pc := 1) hC dX13_init_1 rfl 1 rfl ?_
  obtain ⟨r1, h1, hE⟩ := ob_ hE
  refine a_callI (pc := 2) (As := [.ref a1]) hX (ct_A_Named_X13 X.2.1 D (cxA X) R d L T hSt hX.2.1 hX.2.2.2.2.2.2.2.2.2 a0 a1 r1 h1) (cw_A_Named_X13_X13 hX (Nat.le_of_ble_eq_true rfl) (Nat.le_of_ble_eq_true rfl)) rfl rfl (Nat.le_of_ble_eq_true rfl) dX13_init_2 (fun c z => ?_)
  show Wk X c z (RD D R d L r1) 5 [(0, .ref a0), (1, .ref a1)] []
  refine k_aload_n (pc := 5) hC dX13_init_5 rfl 0 rfl ?_
  refine a_new (pc := 6) hX hSt cl_J5 in_J5 tyJ5 tyJ5_ok dv_J5 q1043 q330 q124 dX13_init_6 hE (fun T2 eT2 hE c z => ?_)
  refine k_dup (pc := 9) hC dX13_init_9 rfl ?_
  obtain ⟨r3, h1, hE⟩ := ob_ hE
  refine a_callI (pc := 10) (As := []) hX (ct_A_J5_init X.2.1 D (cxA X) R d L T2 hSt hX.2.1 hX.2.2.2.2.2.2.2.2.2 (tN r1) r3 h1) (cw_A_J5_init_X13 hX (Nat.le_of_ble_eq_true rfl) (Nat.le_of_ble_eq_true rfl)) rfl rfl (Nat.le_of_ble_eq_true rfl) dX13_init_10 (fun c z => ?_)
  show Wk X c z (RD D R d L r3) 13 [(0, .ref a0), (1, .ref a1)] [.ref (tN r1), .ref a0]
  refine a_putFR (pc := 13) (y := ((some (tN r1)))) hX hSt cl_X13 in_X13 3 (by decide) rfl tyX13 tyX13_ok nmX13 (by exact q1050) rfl rfl rfl (hin rfl) (by first | rfl | (cases hE <;> rfl)) (by first | rfl | (cases hE <;> rfl)) dX13_init_13 hE (fun T4 _ hE => ?_)
  cases hE
  exact a_vret (pc := 16) hX hR dX13_init_16 (by rfl) (fun _ h => h)
theorem ct_A_Task (l : Launch) (D : Dd) (A : Nat → Prop) (R : Heap → Prop) (d : Nat → Prop) (L : Nat × Nat × Nat × Nat) (T : Th) (hSt : Stb R d) (hdA : ∀ q, d q → A q) (hAB : ∀ q, A q → D.2.2.2.1.heap.size ≤ q) (a0 : Nat) (a1 : Nat) (out : Th) (hE : A_Task a0 a1 T = some out) : Ct l yX13_init (ws_ yX13_init cX13_init 2 none) (rmA 4 84 L T) vwCl arTy D A [.ref a0, .ref a1] (RD D R d L T) (RD D R d L out) none (L.1 - tN T) (L.2.1 - tZ T) := by
  refine Ct.ofA (lv := [(0, .ref a0), (1, .ref a1)]) (by decide) (Nat.le_of_ble_eq_true rfl) rfl hdA hAB ?_
  intro X hl hX hR hXA hin
  exact w_A_Task hX hSt hR hin a0 a1 T hE
theorem cw_A_Task_X3 {X : Ctx} {cc : ByteArray} {D : Dd} {d : Nat → Prop} {L : Nat × Nat × Nat × Nat} {mL fr lo : Nat} {T : Th} (hX : Ax X cc RX3 D d L mL fr lo) (h1 : 4 + 1 ≤ fr) (h2 : 8 + (2 + 11) + 84 ≤ lo) : CallB X.2.2.2.1 X.2.2.2.2.1 X.2.2.2.2.2.2.1 RX3 155 yX13_init cX13_init 2 none (ws_ yX13_init cX13_init 2 none) (rmA 4 84 L T) (L.1 - tN T) (L.2.1 - tZ T) 1 ∧ yX13_init.name = "<init>" ∧ (Cond.instanceMethod yX13_init).before X.2.2.2.2.2.2.1 X.2.2.2.2.1 = true := cwI 1 (cx_w hX.1) (lw_meth q1041) rfl rfl rfl (cx_w hX.1 _ q144) (cx_w hX.1 _ q1039) (cx_w hX.1 _ q1040) rfl (by decide +kernel) (by rw [hX.2.2.2.1, hX.2.2.2.2.1]; exact ⟨h1, h2⟩)
set_option maxHeartbeats 4000000 in
theorem w_A_Man {X : Ctx} {D : Dd} {R : Heap → Prop} {d : Nat → Prop} {L : Nat × Nat × Nat × Nat} {out : Th} (hX : Ax X cX15_init RX15 D d L 2 2 45) (hSt : Stb R d) (hR : RtA X none (RD D R d L out) none D L) (hin : "<init>" = "<init>" → X.2.2.2.2.2.2.2.2.1.name = "<init>") (a0 : Nat) (a1 : Nat) (T : Th) (hE : A_Man a0 a1 T = some out) (c z : Nat) : Wk X c z (RD D R d L T) 0 [(0, .ref a0), (1, .ref a1)] [] := by
  have hC := hX.1
  have hnL := hX.2.2.1
  have hDy : ∀ {T : Th} (H : Heap), RD D R d L T H → Dy D T H := fun _ h => h.2.1
  unfold A_Man at hE
  refine k_aload_n (pc := 0) hC dX15_init_0 rfl 0 rfl ?_
  refine k_aload_n (pc := 1) hC dX15_init_1 rfl 1 rfl ?_
  obtain ⟨r1, h1, hE⟩ := ob_ hE
  refine a_callI (pc := 2) (As := [.ref a1]) hX (ct_A_Named_X15 X.2.1 D (cxA X) R d L T hSt hX.2.1 hX.2.2.2.2.2.2.2.2.2 a0 a1 r1 h1) (cw_A_Named_X15_X15 hX (Nat.le_of_ble_eq_true rfl) (Nat.le_of_ble_eq_true rfl)) rfl rfl (Nat.le_of_ble_eq_true rfl) dX15_init_2 (fun c z => ?_)
  show Wk X c z (RD D R d L r1) 5 [(0, .ref a0), (1, .ref a1)] []
  refine k_aload_n (pc := 5) hC dX15_init_5 rfl 0 rfl ?_
  refine k_bipush (pc := 6) (v := (-2)) hC dX15_init_6 (by decide) ?_
  refine a_putI (pc := 8) (y := ((-2))) hX hSt cl_X15 in_X15 2 (by decide) rfl tyX15 tyX15_ok nmX15 (by exact q1129) rfl rfl rfl rfl dX15_init_8 hE (fun T2 _ hE => ?_)
  refine k_aload_n (pc := 11) hC dX15_init_11 rfl 0 rfl ?_
  refine k_bipush (pc := 12) (v := (-2)) hC dX15_init_12 (by decide) ?_
  refine a_putI (pc := 14) (y := ((-2))) hX hSt cl_X15 in_X15 3 (by decide) rfl tyX15 tyX15_ok nmX15 (by exact q1132) rfl rfl rfl rfl dX15_init_14 hE (fun T3 _ hE => ?_)
  cases hE
  exact a_vret (pc := 17) hX hR dX15_init_17 (by rfl) (fun _ h => h)
theorem ct_A_Man (l : Launch) (D : Dd) (A : Nat → Prop) (R : Heap → Prop) (d : Nat → Prop) (L : Nat × Nat × Nat × Nat) (T : Th) (hSt : Stb R d) (hdA : ∀ q, d q → A q) (hAB : ∀ q, A q → D.2.2.2.1.heap.size ≤ q) (a0 : Nat) (a1 : Nat) (out : Th) (hE : A_Man a0 a1 T = some out) : Ct l yX15_init (ws_ yX15_init cX15_init 2 none) (rmA 2 45 L T) vwCl arTy D A [.ref a0, .ref a1] (RD D R d L T) (RD D R d L out) none (L.1 - tN T) (L.2.1 - tZ T) := by
  refine Ct.ofA (lv := [(0, .ref a0), (1, .ref a1)]) (by decide) (Nat.le_of_ble_eq_true rfl) rfl hdA hAB ?_
  intro X hl hX hR hXA hin
  exact w_A_Man hX hSt hR hin a0 a1 T hE
theorem cw_A_Man_X3 {X : Ctx} {cc : ByteArray} {D : Dd} {d : Nat → Prop} {L : Nat × Nat × Nat × Nat} {mL fr lo : Nat} {T : Th} (hX : Ax X cc RX3 D d L mL fr lo) (h1 : 2 + 1 ≤ fr) (h2 : 8 + (2 + 11) + 45 ≤ lo) : CallB X.2.2.2.1 X.2.2.2.2.1 X.2.2.2.2.2.2.1 RX3 231 yX15_init cX15_init 2 none (ws_ yX15_init cX15_init 2 none) (rmA 2 45 L T) (L.1 - tN T) (L.2.1 - tZ T) 1 ∧ yX15_init.name = "<init>" ∧ (Cond.instanceMethod yX15_init).before X.2.2.2.2.2.2.1 X.2.2.2.2.1 = true := cwI 1 (cx_w hX.1) (lw_meth q1124) rfl rfl rfl (cx_w hX.1 _ q146) (cx_w hX.1 _ q1122) (cx_w hX.1 _ q1123) rfl (by decide +kernel) (by rw [hX.2.2.2.1, hX.2.2.2.2.1]; exact ⟨h1, h2⟩)
set_option maxHeartbeats 4000000 in
theorem w_A_Door {X : Ctx} {D : Dd} {R : Heap → Prop} {d : Nat → Prop} {L : Nat × Nat × Nat × Nat} {T : Th} {out : Unit} (hX : Ax X cX11_init RX11 D d L 1 1 24) (hSt : Stb R d) (hR : RtA X none (RD D R d L T) none D L) (hin : "<init>" = "<init>" → X.2.2.2.2.2.2.2.2.1.name = "<init>") (a0 : Nat) (hE : A_Door a0 = some out) (c z : Nat) : Wk X c z (RD D R d L T) 0 [(0, .ref a0)] [] := by
  have hC := hX.1
  have hnL := hX.2.2.1
  have hDy : ∀ {T : Th} (H : Heap), RD D R d L T H → Dy D T H := fun _ h => h.2.1
  unfold A_Door at hE
  refine k_aload_n (pc := 0) hC dX11_init_0 rfl 0 rfl ?_
  refine a_objInit (pc := 1) hX q990 dX11_init_1 (Nat.le_of_ble_eq_true rfl) (Nat.le_of_ble_eq_true rfl) ?_
  cases hE
  exact a_vret (pc := 4) hX hR dX11_init_4 (by rfl) (fun _ h => h)
theorem ct_A_Door (l : Launch) (D : Dd) (A : Nat → Prop) (R : Heap → Prop) (d : Nat → Prop) (L : Nat × Nat × Nat × Nat) (T : Th) (hSt : Stb R d) (hdA : ∀ q, d q → A q) (hAB : ∀ q, A q → D.2.2.2.1.heap.size ≤ q) (a0 : Nat) (out : Unit) (hE : A_Door a0 = some out) : Ct l yX11_init (ws_ yX11_init cX11_init 1 none) (rmA 1 24 L T) vwCl arTy D A [.ref a0] (RD D R d L T) (RD D R d L T) none (L.1 - tN T) (L.2.1 - tZ T) := by
  refine Ct.ofA (lv := [(0, .ref a0)]) (by decide) (Nat.le_of_ble_eq_true rfl) rfl hdA hAB ?_
  intro X hl hX hR hXA hin
  exact w_A_Door hX hSt hR hin a0 hE
theorem cw_A_Door_X3 {X : Ctx} {cc : ByteArray} {D : Dd} {d : Nat → Prop} {L : Nat × Nat × Nat × Nat} {mL fr lo : Nat} {T : Th} (hX : Ax X cc RX3 D d L mL fr lo) (h1 : 1 + 1 ≤ fr) (h2 : 8 + (1 + 11) + 24 ≤ lo) : va_CN X.2.2.2.1 X.2.2.2.2.1 X.2.2.2.2.2.2.1 RX3 180 yX11_init "SleepWork" cX11_init 1 none (ws_ yX11_init cX11_init 1 none) (rmA 1 24 L T) (L.1 - tN T) (L.2.1 - tZ T) 0 ∧ yX11_init.name = "<init>" ∧ (Cond.instanceMethod yX11_init).before X.2.2.2.2.2.2.1 X.2.2.2.2.1 = true := ⟨va_cnB 0 (cx_w hX.1) (lw_meth q989) rfl rfl rfl (hX.1.K.2.2.1 _ q987 rfl) (cx_w hX.1 _ q142) (by decide +kernel) (by rw [hX.2.2.2.1, hX.2.2.2.2.1]; exact ⟨h1, h2⟩), rfl, cx_w hX.1 _ q988⟩
set_option maxHeartbeats 4000000 in
theorem w_A_Step {X : Ctx} {D : Dd} {R : Heap → Prop} {d : Nat → Prop} {L : Nat × Nat × Nat × Nat} {out : Th} (hX : Ax X cX14_init RX14 D d L 1 1 24) (hSt : Stb R d) (hR : RtA X none (RD D R d L out) none D L) (hin : "<init>" = "<init>" → X.2.2.2.2.2.2.2.2.1.name = "<init>") (a0 : Nat) (T : Th) (hE : A_Step a0 T = some out) (c z : Nat) : Wk X c z (RD D R d L T) 0 [(0, .ref a0)] [] := by
  have hC := hX.1
  have hnL := hX.2.2.1
  have hDy : ∀ {T : Th} (H : Heap), RD D R d L T H → Dy D T H := fun _ h => h.2.1
  unfold A_Step at hE
  refine k_aload_n (pc := 0) hC dX14_init_0 rfl 0 rfl ?_
  refine a_objInit (pc := 1) hX q1073 dX14_init_1 (Nat.le_of_ble_eq_true rfl) (Nat.le_of_ble_eq_true rfl) ?_
  refine k_aload_n (pc := 4) hC dX14_init_4 rfl 0 rfl ?_
  refine k_bipush (pc := 5) (v := (-2)) hC dX14_init_5 (by decide) ?_
  refine a_putI (pc := 7) (y := ((-2))) hX hSt cl_X14 in_X14 4 (by decide) rfl tyX14 tyX14_ok nmX14 (by exact q1086) rfl rfl rfl rfl dX14_init_7 hE (fun T1 _ hE => ?_)
  refine k_aload_n (pc := 10) hC dX14_init_10 rfl 0 rfl ?_
  refine k_bipush (pc := 11) (v := (-2)) hC dX14_init_11 (by decide) ?_
  refine a_putI (pc := 13) (y := ((-2))) hX hSt cl_X14 in_X14 5 (by decide) rfl tyX14 tyX14_ok nmX14 (by exact q1090) rfl rfl rfl rfl dX14_init_13 hE (fun T2 _ hE => ?_)
  cases hE
  exact a_vret (pc := 16) hX hR dX14_init_16 (by rfl) (fun _ h => h)
theorem ct_A_Step (l : Launch) (D : Dd) (A : Nat → Prop) (R : Heap → Prop) (d : Nat → Prop) (L : Nat × Nat × Nat × Nat) (T : Th) (hSt : Stb R d) (hdA : ∀ q, d q → A q) (hAB : ∀ q, A q → D.2.2.2.1.heap.size ≤ q) (a0 : Nat) (out : Th) (hE : A_Step a0 T = some out) : Ct l yX14_init (ws_ yX14_init cX14_init 1 none) (rmA 1 24 L T) vwCl arTy D A [.ref a0] (RD D R d L T) (RD D R d L out) none (L.1 - tN T) (L.2.1 - tZ T) := by
  refine Ct.ofA (lv := [(0, .ref a0)]) (by decide) (Nat.le_of_ble_eq_true rfl) rfl hdA hAB ?_
  intro X hl hX hR hXA hin
  exact w_A_Step hX hSt hR hin a0 T hE
theorem cw_A_Step_X3 {X : Ctx} {cc : ByteArray} {D : Dd} {d : Nat → Prop} {L : Nat × Nat × Nat × Nat} {mL fr lo : Nat} {T : Th} (hX : Ax X cc RX3 D d L mL fr lo) (h1 : 1 + 1 ≤ fr) (h2 : 8 + (1 + 11) + 24 ≤ lo) : va_CN X.2.2.2.1 X.2.2.2.2.1 X.2.2.2.2.2.2.1 RX3 205 yX14_init "SleepWork" cX14_init 1 none (ws_ yX14_init cX14_init 1 none) (rmA 1 24 L T) (L.1 - tN T) (L.2.1 - tZ T) 0 ∧ yX14_init.name = "<init>" ∧ (Cond.instanceMethod yX14_init).before X.2.2.2.2.2.2.1 X.2.2.2.2.1 = true := ⟨va_cnB 0 (cx_w hX.1) (lw_meth q1072) rfl rfl rfl (hX.1.K.2.2.1 _ q1070 rfl) (cx_w hX.1 _ q145) (by decide +kernel) (by rw [hX.2.2.2.1, hX.2.2.2.2.1]; exact ⟨h1, h2⟩), rfl, cx_w hX.1 _ q1071⟩
set_option maxHeartbeats 4000000 in
theorem w_A_Sum_X18 {X : Ctx} {D : Dd} {R : Heap → Prop} {d : Nat → Prop} {L : Nat × Nat × Nat × Nat} {T : Th} {out : Unit} (hX : Ax X cX17_init RX17 D d L 1 1 24) (hSt : Stb R d) (hR : RtA X none (RD D R d L T) none D L) (hin : "<init>" = "<init>" → X.2.2.2.2.2.2.2.2.1.name = "<init>") (a0 : Nat) (hE : A_Sum_X18 a0 = some out) (c z : Nat) : Wk X c z (RD D R d L T) 0 [(0, .ref a0)] [] := by
  have hC := hX.1
  have hnL := hX.2.2.1
  have hDy : ∀ {T : Th} (H : Heap), RD D R d L T H → Dy D T H := fun _ h => h.2.1
  unfold A_Sum_X18 at hE
  refine k_aload_n (pc := 0) hC dX17_init_0 rfl 0 rfl ?_
  refine a_objInit (pc := 1) hX q1204 dX17_init_1 (Nat.le_of_ble_eq_true rfl) (Nat.le_of_ble_eq_true rfl) ?_
  cases hE
  exact a_vret (pc := 4) hX hR dX17_init_4 (by rfl) (fun _ h => h)
theorem ct_A_Sum_X18 (l : Launch) (D : Dd) (A : Nat → Prop) (R : Heap → Prop) (d : Nat → Prop) (L : Nat × Nat × Nat × Nat) (T : Th) (hSt : Stb R d) (hdA : ∀ q, d q → A q) (hAB : ∀ q, A q → D.2.2.2.1.heap.size ≤ q) (a0 : Nat) (out : Unit) (hE : A_Sum_X18 a0 = some out) : Ct l yX17_init (ws_ yX17_init cX17_init 1 none) (rmA 1 24 L T) vwCl arTy D A [.ref a0] (RD D R d L T) (RD D R d L T) none (L.1 - tN T) (L.2.1 - tZ T) := by
  refine Ct.ofA (lv := [(0, .ref a0)]) (by decide) (Nat.le_of_ble_eq_true rfl) rfl hdA hAB ?_
  intro X hl hX hR hXA hin
  exact w_A_Sum_X18 hX hSt hR hin a0 hE
theorem cw_A_Sum_X18_X20 {X : Ctx} {cc : ByteArray} {D : Dd} {d : Nat → Prop} {L : Nat × Nat × Nat × Nat} {mL fr lo : Nat} {T : Th} (hX : Ax X cc RX20 D d L mL fr lo) (h1 : 1 + 1 ≤ fr) (h2 : 8 + (1 + 11) + 24 ≤ lo) : va_CN X.2.2.2.1 X.2.2.2.2.1 X.2.2.2.2.2.2.1 RX20 1 yX17_init "SleepWork" cX17_init 1 none (ws_ yX17_init cX17_init 1 none) (rmA 1 24 L T) (L.1 - tN T) (L.2.1 - tZ T) 0 ∧ yX17_init.name = "<init>" ∧ (Cond.instanceMethod yX17_init).before X.2.2.2.2.2.2.1 X.2.2.2.2.1 = true := ⟨va_cnB 0 (cx_w hX.1) (lw_meth q1203) rfl rfl rfl (hX.1.K.2.2.1 _ q1224 rfl) (cx_w hX.1 _ q148) (by decide +kernel) (by rw [hX.2.2.2.1, hX.2.2.2.2.1]; exact ⟨h1, h2⟩), rfl, cx_w hX.1 _ q1202⟩
theorem cw_A_Sum_X18_X18 {X : Ctx} {cc : ByteArray} {D : Dd} {d : Nat → Prop} {L : Nat × Nat × Nat × Nat} {mL fr lo : Nat} {T : Th} (hX : Ax X cc RX18 D d L mL fr lo) (h1 : 1 + 1 ≤ fr) (h2 : 8 + (1 + 11) + 24 ≤ lo) : va_CN X.2.2.2.1 X.2.2.2.2.1 X.2.2.2.2.2.2.1 RX18 1 yX17_init "SleepWork" cX17_init 1 none (ws_ yX17_init cX17_init 1 none) (rmA 1 24 L T) (L.1 - tN T) (L.2.1 - tZ T) 0 ∧ yX17_init.name = "<init>" ∧ (Cond.instanceMethod yX17_init).before X.2.2.2.2.2.2.1 X.2.2.2.2.1 = true := ⟨va_cnB 0 (cx_w hX.1) (lw_meth q1203) rfl rfl rfl (hX.1.K.2.2.1 _ q1201 rfl) (cx_w hX.1 _ q148) (by decide +kernel) (by rw [hX.2.2.2.1, hX.2.2.2.2.1]; exact ⟨h1, h2⟩), rfl, cx_w hX.1 _ q1202⟩
theorem cw_A_Sum_X18_X19 {X : Ctx} {cc : ByteArray} {D : Dd} {d : Nat → Prop} {L : Nat × Nat × Nat × Nat} {mL fr lo : Nat} {T : Th} (hX : Ax X cc RX19 D d L mL fr lo) (h1 : 1 + 1 ≤ fr) (h2 : 8 + (1 + 11) + 24 ≤ lo) : va_CN X.2.2.2.1 X.2.2.2.2.1 X.2.2.2.2.2.2.1 RX19 1 yX17_init "SleepWork" cX17_init 1 none (ws_ yX17_init cX17_init 1 none) (rmA 1 24 L T) (L.1 - tN T) (L.2.1 - tZ T) 0 ∧ yX17_init.name = "<init>" ∧ (Cond.instanceMethod yX17_init).before X.2.2.2.2.2.2.1 X.2.2.2.2.1 = true := ⟨va_cnB 0 (cx_w hX.1) (lw_meth q1203) rfl rfl rfl (hX.1.K.2.2.1 _ q1214 rfl) (cx_w hX.1 _ q148) (by decide +kernel) (by rw [hX.2.2.2.1, hX.2.2.2.2.1]; exact ⟨h1, h2⟩), rfl, cx_w hX.1 _ q1202⟩
set_option maxHeartbeats 4000000 in
theorem w_A_Sum_X19 {X : Ctx} {D : Dd} {R : Heap → Prop} {d : Nat → Prop} {L : Nat × Nat × Nat × Nat} {T : Th} {out : Unit} (hX : Ax X cX17_init RX17 D d L 1 1 24) (hSt : Stb R d) (hR : RtA X none (RD D R d L T) none D L) (hin : "<init>" = "<init>" → X.2.2.2.2.2.2.2.2.1.name = "<init>") (a0 : Nat) (hE : A_Sum_X19 a0 = some out) (c z : Nat) : Wk X c z (RD D R d L T) 0 [(0, .ref a0)] [] := by
  have hC := hX.1
  have hnL := hX.2.2.1
  have hDy : ∀ {T : Th} (H : Heap), RD D R d L T H → Dy D T H := fun _ h => h.2.1
  unfold A_Sum_X19 at hE
  refine k_aload_n (pc := 0) hC dX17_init_0 rfl 0 rfl ?_
  refine a_objInit (pc := 1) hX q1204 dX17_init_1 (Nat.le_of_ble_eq_true rfl) (Nat.le_of_ble_eq_true rfl) ?_
  cases hE
  exact a_vret (pc := 4) hX hR dX17_init_4 (by rfl) (fun _ h => h)
theorem ct_A_Sum_X19 (l : Launch) (D : Dd) (A : Nat → Prop) (R : Heap → Prop) (d : Nat → Prop) (L : Nat × Nat × Nat × Nat) (T : Th) (hSt : Stb R d) (hdA : ∀ q, d q → A q) (hAB : ∀ q, A q → D.2.2.2.1.heap.size ≤ q) (a0 : Nat) (out : Unit) (hE : A_Sum_X19 a0 = some out) : Ct l yX17_init (ws_ yX17_init cX17_init 1 none) (rmA 1 24 L T) vwCl arTy D A [.ref a0] (RD D R d L T) (RD D R d L T) none (L.1 - tN T) (L.2.1 - tZ T) := by
  refine Ct.ofA (lv := [(0, .ref a0)]) (by decide) (Nat.le_of_ble_eq_true rfl) rfl hdA hAB ?_
  intro X hl hX hR hXA hin
  exact w_A_Sum_X19 hX hSt hR hin a0 hE
theorem cw_A_Sum_X19_X20 {X : Ctx} {cc : ByteArray} {D : Dd} {d : Nat → Prop} {L : Nat × Nat × Nat × Nat} {mL fr lo : Nat} {T : Th} (hX : Ax X cc RX20 D d L mL fr lo) (h1 : 1 + 1 ≤ fr) (h2 : 8 + (1 + 11) + 24 ≤ lo) : va_CN X.2.2.2.1 X.2.2.2.2.1 X.2.2.2.2.2.2.1 RX20 1 yX17_init "SleepWork" cX17_init 1 none (ws_ yX17_init cX17_init 1 none) (rmA 1 24 L T) (L.1 - tN T) (L.2.1 - tZ T) 0 ∧ yX17_init.name = "<init>" ∧ (Cond.instanceMethod yX17_init).before X.2.2.2.2.2.2.1 X.2.2.2.2.1 = true := ⟨va_cnB 0 (cx_w hX.1) (lw_meth q1203) rfl rfl rfl (hX.1.K.2.2.1 _ q1224 rfl) (cx_w hX.1 _ q148) (by decide +kernel) (by rw [hX.2.2.2.1, hX.2.2.2.2.1]; exact ⟨h1, h2⟩), rfl, cx_w hX.1 _ q1202⟩
theorem cw_A_Sum_X19_X18 {X : Ctx} {cc : ByteArray} {D : Dd} {d : Nat → Prop} {L : Nat × Nat × Nat × Nat} {mL fr lo : Nat} {T : Th} (hX : Ax X cc RX18 D d L mL fr lo) (h1 : 1 + 1 ≤ fr) (h2 : 8 + (1 + 11) + 24 ≤ lo) : va_CN X.2.2.2.1 X.2.2.2.2.1 X.2.2.2.2.2.2.1 RX18 1 yX17_init "SleepWork" cX17_init 1 none (ws_ yX17_init cX17_init 1 none) (rmA 1 24 L T) (L.1 - tN T) (L.2.1 - tZ T) 0 ∧ yX17_init.name = "<init>" ∧ (Cond.instanceMethod yX17_init).before X.2.2.2.2.2.2.1 X.2.2.2.2.1 = true := ⟨va_cnB 0 (cx_w hX.1) (lw_meth q1203) rfl rfl rfl (hX.1.K.2.2.1 _ q1201 rfl) (cx_w hX.1 _ q148) (by decide +kernel) (by rw [hX.2.2.2.1, hX.2.2.2.2.1]; exact ⟨h1, h2⟩), rfl, cx_w hX.1 _ q1202⟩
theorem cw_A_Sum_X19_X19 {X : Ctx} {cc : ByteArray} {D : Dd} {d : Nat → Prop} {L : Nat × Nat × Nat × Nat} {mL fr lo : Nat} {T : Th} (hX : Ax X cc RX19 D d L mL fr lo) (h1 : 1 + 1 ≤ fr) (h2 : 8 + (1 + 11) + 24 ≤ lo) : va_CN X.2.2.2.1 X.2.2.2.2.1 X.2.2.2.2.2.2.1 RX19 1 yX17_init "SleepWork" cX17_init 1 none (ws_ yX17_init cX17_init 1 none) (rmA 1 24 L T) (L.1 - tN T) (L.2.1 - tZ T) 0 ∧ yX17_init.name = "<init>" ∧ (Cond.instanceMethod yX17_init).before X.2.2.2.2.2.2.1 X.2.2.2.2.1 = true := ⟨va_cnB 0 (cx_w hX.1) (lw_meth q1203) rfl rfl rfl (hX.1.K.2.2.1 _ q1214 rfl) (cx_w hX.1 _ q148) (by decide +kernel) (by rw [hX.2.2.2.1, hX.2.2.2.2.1]; exact ⟨h1, h2⟩), rfl, cx_w hX.1 _ q1202⟩
set_option maxHeartbeats 4000000 in
theorem w_A_Sum_X20 {X : Ctx} {D : Dd} {R : Heap → Prop} {d : Nat → Prop} {L : Nat × Nat × Nat × Nat} {T : Th} {out : Unit} (hX : Ax X cX17_init RX17 D d L 1 1 24) (hSt : Stb R d) (hR : RtA X none (RD D R d L T) none D L) (hin : "<init>" = "<init>" → X.2.2.2.2.2.2.2.2.1.name = "<init>") (a0 : Nat) (hE : A_Sum_X20 a0 = some out) (c z : Nat) : Wk X c z (RD D R d L T) 0 [(0, .ref a0)] [] := by
  have hC := hX.1
  have hnL := hX.2.2.1
  have hDy : ∀ {T : Th} (H : Heap), RD D R d L T H → Dy D T H := fun _ h => h.2.1
  unfold A_Sum_X20 at hE
  refine k_aload_n (pc := 0) hC dX17_init_0 rfl 0 rfl ?_
  refine a_objInit (pc := 1) hX q1204 dX17_init_1 (Nat.le_of_ble_eq_true rfl) (Nat.le_of_ble_eq_true rfl) ?_
  cases hE
  exact a_vret (pc := 4) hX hR dX17_init_4 (by rfl) (fun _ h => h)
theorem ct_A_Sum_X20 (l : Launch) (D : Dd) (A : Nat → Prop) (R : Heap → Prop) (d : Nat → Prop) (L : Nat × Nat × Nat × Nat) (T : Th) (hSt : Stb R d) (hdA : ∀ q, d q → A q) (hAB : ∀ q, A q → D.2.2.2.1.heap.size ≤ q) (a0 : Nat) (out : Unit) (hE : A_Sum_X20 a0 = some out) : Ct l yX17_init (ws_ yX17_init cX17_init 1 none) (rmA 1 24 L T) vwCl arTy D A [.ref a0] (RD D R d L T) (RD D R d L T) none (L.1 - tN T) (L.2.1 - tZ T) := by
  refine Ct.ofA (lv := [(0, .ref a0)]) (by decide) (Nat.le_of_ble_eq_true rfl) rfl hdA hAB ?_
  intro X hl hX hR hXA hin
  exact w_A_Sum_X20 hX hSt hR hin a0 hE
theorem cw_A_Sum_X20_X20 {X : Ctx} {cc : ByteArray} {D : Dd} {d : Nat → Prop} {L : Nat × Nat × Nat × Nat} {mL fr lo : Nat} {T : Th} (hX : Ax X cc RX20 D d L mL fr lo) (h1 : 1 + 1 ≤ fr) (h2 : 8 + (1 + 11) + 24 ≤ lo) : va_CN X.2.2.2.1 X.2.2.2.2.1 X.2.2.2.2.2.2.1 RX20 1 yX17_init "SleepWork" cX17_init 1 none (ws_ yX17_init cX17_init 1 none) (rmA 1 24 L T) (L.1 - tN T) (L.2.1 - tZ T) 0 ∧ yX17_init.name = "<init>" ∧ (Cond.instanceMethod yX17_init).before X.2.2.2.2.2.2.1 X.2.2.2.2.1 = true := ⟨va_cnB 0 (cx_w hX.1) (lw_meth q1203) rfl rfl rfl (hX.1.K.2.2.1 _ q1224 rfl) (cx_w hX.1 _ q148) (by decide +kernel) (by rw [hX.2.2.2.1, hX.2.2.2.2.1]; exact ⟨h1, h2⟩), rfl, cx_w hX.1 _ q1202⟩
theorem cw_A_Sum_X20_X18 {X : Ctx} {cc : ByteArray} {D : Dd} {d : Nat → Prop} {L : Nat × Nat × Nat × Nat} {mL fr lo : Nat} {T : Th} (hX : Ax X cc RX18 D d L mL fr lo) (h1 : 1 + 1 ≤ fr) (h2 : 8 + (1 + 11) + 24 ≤ lo) : va_CN X.2.2.2.1 X.2.2.2.2.1 X.2.2.2.2.2.2.1 RX18 1 yX17_init "SleepWork" cX17_init 1 none (ws_ yX17_init cX17_init 1 none) (rmA 1 24 L T) (L.1 - tN T) (L.2.1 - tZ T) 0 ∧ yX17_init.name = "<init>" ∧ (Cond.instanceMethod yX17_init).before X.2.2.2.2.2.2.1 X.2.2.2.2.1 = true := ⟨va_cnB 0 (cx_w hX.1) (lw_meth q1203) rfl rfl rfl (hX.1.K.2.2.1 _ q1201 rfl) (cx_w hX.1 _ q148) (by decide +kernel) (by rw [hX.2.2.2.1, hX.2.2.2.2.1]; exact ⟨h1, h2⟩), rfl, cx_w hX.1 _ q1202⟩
theorem cw_A_Sum_X20_X19 {X : Ctx} {cc : ByteArray} {D : Dd} {d : Nat → Prop} {L : Nat × Nat × Nat × Nat} {mL fr lo : Nat} {T : Th} (hX : Ax X cc RX19 D d L mL fr lo) (h1 : 1 + 1 ≤ fr) (h2 : 8 + (1 + 11) + 24 ≤ lo) : va_CN X.2.2.2.1 X.2.2.2.2.1 X.2.2.2.2.2.2.1 RX19 1 yX17_init "SleepWork" cX17_init 1 none (ws_ yX17_init cX17_init 1 none) (rmA 1 24 L T) (L.1 - tN T) (L.2.1 - tZ T) 0 ∧ yX17_init.name = "<init>" ∧ (Cond.instanceMethod yX17_init).before X.2.2.2.2.2.2.1 X.2.2.2.2.1 = true := ⟨va_cnB 0 (cx_w hX.1) (lw_meth q1203) rfl rfl rfl (hX.1.K.2.2.1 _ q1214 rfl) (cx_w hX.1 _ q148) (by decide +kernel) (by rw [hX.2.2.2.1, hX.2.2.2.2.1]; exact ⟨h1, h2⟩), rfl, cx_w hX.1 _ q1202⟩
set_option maxHeartbeats 4000000 in
theorem w_A_Number {X : Ctx} {D : Dd} {R : Heap → Prop} {d : Nat → Prop} {L : Nat × Nat × Nat × Nat} {out : Th} (hX : Ax X cX18_init RX18 D d L 2 2 44) (hSt : Stb R d) (hR : RtA X none (RD D R d L out) none D L) (hin : "<init>" = "<init>" → X.2.2.2.2.2.2.2.2.1.name = "<init>") (a0 : Nat) (a1 : Int32) (T : Th) (hE : A_Number a0 a1 T = some out) (c z : Nat) : Wk X c z (RD D R d L T) 0 [(0, .ref a0), (1, .int a1)] [] := by
  have hC := hX.1
  have hnL := hX.2.2.1
  have hDy : ∀ {T : Th} (H : Heap), RD D R d L T H → Dy D T H := fun _ h => h.2.1
  unfold A_Number at hE
  refine k_aload_n (pc := 0) hC dX18_init_0 rfl 0 rfl ?_
  obtain ⟨r1, h1, hE⟩ := ob_ hE
  refine a_callIN (pc := 1) (As := []) hX (ct_A_Sum_X18 X.2.1 D (cxA X) R d L T hSt hX.2.1 hX.2.2.2.2.2.2.2.2.2 a0 r1 h1) (cw_A_Sum_X18_X18 hX (Nat.le_of_ble_eq_true rfl) (Nat.le_of_ble_eq_true rfl)) rfl rfl (Nat.le_of_ble_eq_true rfl) dX18_init_1 (fun c z => ?_)
  show Wk X c z (RD D R d L T) 4 [(0, .ref a0), (1, .int a1)] []
  refine k_aload_n (pc := 4) hC dX18_init_4 rfl 0 rfl ?_
  refine k_iload_n (pc := 5) hC dX18_init_5 rfl 1 rfl ?_
  refine a_putFI (pc := 6) (y := a1) hX hSt cl_X18 in_X18 0 (by decide) rfl tyX18 tyX18_ok nmX18 (by exact q1205) rfl rfl rfl (hin rfl) rfl rfl dX18_init_6 hE (fun T2 _ hE => ?_)
  cases hE
  exact a_vret (pc := 9) hX hR dX18_init_9 (by rfl) (fun _ h => h)
theorem ct_A_Number (l : Launch) (D : Dd) (A : Nat → Prop) (R : Heap → Prop) (d : Nat → Prop) (L : Nat × Nat × Nat × Nat) (T : Th) (hSt : Stb R d) (hdA : ∀ q, d q → A q) (hAB : ∀ q, A q → D.2.2.2.1.heap.size ≤ q) (a0 : Nat) (a1 : Int32) (out : Th) (hE : A_Number a0 a1 T = some out) : Ct l yX18_init (ws_ yX18_init cX18_init 2 none) (rmA 2 44 L T) vwCl arTy D A [.ref a0, .int a1] (RD D R d L T) (RD D R d L out) none (L.1 - tN T) (L.2.1 - tZ T) := by
  refine Ct.ofA (lv := [(0, .ref a0), (1, .int a1)]) (by decide) (Nat.le_of_ble_eq_true rfl) rfl hdA hAB ?_
  intro X hl hX hR hXA hin
  exact w_A_Number hX hSt hR hin a0 a1 T hE
theorem cw_A_Number_X3 {X : Ctx} {cc : ByteArray} {D : Dd} {d : Nat → Prop} {L : Nat × Nat × Nat × Nat} {mL fr lo : Nat} {T : Th} (hX : Ax X cc RX3 D d L mL fr lo) (h1 : 2 + 1 ≤ fr) (h2 : 8 + (2 + 11) + 44 ≤ lo) : CallB X.2.2.2.1 X.2.2.2.2.1 X.2.2.2.2.2.2.1 RX3 282 yX18_init cX18_init 2 none (ws_ yX18_init cX18_init 2 none) (rmA 2 44 L T) (L.1 - tN T) (L.2.1 - tZ T) 1 ∧ yX18_init.name = "<init>" ∧ (Cond.instanceMethod yX18_init).before X.2.2.2.2.2.2.1 X.2.2.2.2.1 = true := cwI 1 (cx_w hX.1) (lw_meth q1200) rfl rfl rfl (cx_w hX.1 _ q149) (cx_w hX.1 _ q1198) (cx_w hX.1 _ q1199) rfl (by decide +kernel) (by rw [hX.2.2.2.1, hX.2.2.2.2.1]; exact ⟨h1, h2⟩)
set_option maxHeartbeats 4000000 in
theorem w_A_Var {X : Ctx} {D : Dd} {R : Heap → Prop} {d : Nat → Prop} {L : Nat × Nat × Nat × Nat} {out : Th} (hX : Ax X cX19_init RX19 D d L 2 2 44) (hSt : Stb R d) (hR : RtA X none (RD D R d L out) none D L) (hin : "<init>" = "<init>" → X.2.2.2.2.2.2.2.2.1.name = "<init>") (a0 : Nat) (a1 : Int32) (T : Th) (hE : A_Var a0 a1 T = some out) (c z : Nat) : Wk X c z (RD D R d L T) 0 [(0, .ref a0), (1, .int a1)] [] := by
  have hC := hX.1
  have hnL := hX.2.2.1
  have hDy : ∀ {T : Th} (H : Heap), RD D R d L T H → Dy D T H := fun _ h => h.2.1
  unfold A_Var at hE
  refine k_aload_n (pc := 0) hC dX19_init_0 rfl 0 rfl ?_
  obtain ⟨r1, h1, hE⟩ := ob_ hE
  refine a_callIN (pc := 1) (As := []) hX (ct_A_Sum_X19 X.2.1 D (cxA X) R d L T hSt hX.2.1 hX.2.2.2.2.2.2.2.2.2 a0 r1 h1) (cw_A_Sum_X19_X19 hX (Nat.le_of_ble_eq_true rfl) (Nat.le_of_ble_eq_true rfl)) rfl rfl (Nat.le_of_ble_eq_true rfl) dX19_init_1 (fun c z => ?_)
  show Wk X c z (RD D R d L T) 4 [(0, .ref a0), (1, .int a1)] []
  refine k_aload_n (pc := 4) hC dX19_init_4 rfl 0 rfl ?_
  refine k_iload_n (pc := 5) hC dX19_init_5 rfl 1 rfl ?_
  refine a_putFI (pc := 6) (y := a1) hX hSt cl_X19 in_X19 0 (by decide) rfl tyX19 tyX19_ok nmX19 (by exact q1215) rfl rfl rfl (hin rfl) rfl rfl dX19_init_6 hE (fun T2 _ hE => ?_)
  cases hE
  exact a_vret (pc := 9) hX hR dX19_init_9 (by rfl) (fun _ h => h)
theorem ct_A_Var (l : Launch) (D : Dd) (A : Nat → Prop) (R : Heap → Prop) (d : Nat → Prop) (L : Nat × Nat × Nat × Nat) (T : Th) (hSt : Stb R d) (hdA : ∀ q, d q → A q) (hAB : ∀ q, A q → D.2.2.2.1.heap.size ≤ q) (a0 : Nat) (a1 : Int32) (out : Th) (hE : A_Var a0 a1 T = some out) : Ct l yX19_init (ws_ yX19_init cX19_init 2 none) (rmA 2 44 L T) vwCl arTy D A [.ref a0, .int a1] (RD D R d L T) (RD D R d L out) none (L.1 - tN T) (L.2.1 - tZ T) := by
  refine Ct.ofA (lv := [(0, .ref a0), (1, .int a1)]) (by decide) (Nat.le_of_ble_eq_true rfl) rfl hdA hAB ?_
  intro X hl hX hR hXA hin
  exact w_A_Var hX hSt hR hin a0 a1 T hE
theorem cw_A_Var_X3 {X : Ctx} {cc : ByteArray} {D : Dd} {d : Nat → Prop} {L : Nat × Nat × Nat × Nat} {mL fr lo : Nat} {T : Th} (hX : Ax X cc RX3 D d L mL fr lo) (h1 : 2 + 1 ≤ fr) (h2 : 8 + (2 + 11) + 44 ≤ lo) : CallB X.2.2.2.1 X.2.2.2.2.1 X.2.2.2.2.2.2.1 RX3 286 yX19_init cX19_init 2 none (ws_ yX19_init cX19_init 2 none) (rmA 2 44 L T) (L.1 - tN T) (L.2.1 - tZ T) 1 ∧ yX19_init.name = "<init>" ∧ (Cond.instanceMethod yX19_init).before X.2.2.2.2.2.2.1 X.2.2.2.2.1 = true := cwI 1 (cx_w hX.1) (lw_meth q1213) rfl rfl rfl (cx_w hX.1 _ q150) (cx_w hX.1 _ q1211) (cx_w hX.1 _ q1212) rfl (by decide +kernel) (by rw [hX.2.2.2.1, hX.2.2.2.2.1]; exact ⟨h1, h2⟩)
set_option maxHeartbeats 4000000 in
theorem w_A_Joined {X : Ctx} {D : Dd} {R : Heap → Prop} {d : Nat → Prop} {L : Nat × Nat × Nat × Nat} {out : Th} (hX : Ax X cX20_init RX20 D d L 4 2 44) (hSt : Stb R d) (hR : RtA X none (RD D R d L out) none D L) (hin : "<init>" = "<init>" → X.2.2.2.2.2.2.2.2.1.name = "<init>") (a0 : Nat) (a1 : Int32) (a2 : Nat) (a3 : Nat) (T : Th) (hE : A_Joined a0 a1 a2 a3 T = some out) (c z : Nat) : Wk X c z (RD D R d L T) 0 [(0, .ref a0), (1, .int a1), (2, .ref a2), (3, .ref a3)] [] := by
  have hC := hX.1
  have hnL := hX.2.2.1
  have hDy : ∀ {T : Th} (H : Heap), RD D R d L T H → Dy D T H := fun _ h => h.2.1
  unfold A_Joined at hE
  refine k_aload_n (pc := 0) hC dX20_init_0 rfl 0 rfl ?_
  obtain ⟨r1, h1, hE⟩ := ob_ hE
  refine a_callIN (pc := 1) (As := []) hX (ct_A_Sum_X20 X.2.1 D (cxA X) R d L T hSt hX.2.1 hX.2.2.2.2.2.2.2.2.2 a0 r1 h1) (cw_A_Sum_X20_X20 hX (Nat.le_of_ble_eq_true rfl) (Nat.le_of_ble_eq_true rfl)) rfl rfl (Nat.le_of_ble_eq_true rfl) dX20_init_1 (fun c z => ?_)
  show Wk X c z (RD D R d L T) 4 [(0, .ref a0), (1, .int a1), (2, .ref a2), (3, .ref a3)] []
  refine k_aload_n (pc := 4) hC dX20_init_4 rfl 0 rfl ?_
  refine k_iload_n (pc := 5) hC dX20_init_5 rfl 1 rfl ?_
  refine a_putFI (pc := 6) (y := a1) hX hSt cl_X20 in_X20 0 (by decide) rfl tyX20 tyX20_ok nmX20 (by exact q1225) rfl rfl rfl (hin rfl) rfl rfl dX20_init_6 hE (fun T2 _ hE => ?_)
  refine k_aload_n (pc := 9) hC dX20_init_9 rfl 0 rfl ?_
  refine k_aload_n (pc := 10) hC dX20_init_10 rfl 2 rfl ?_
  refine a_putFR (pc := 11) (y := ((some a2))) hX hSt cl_X20 in_X20 1 (by decide) rfl tyX20 tyX20_ok nmX20 (by exact q1226) rfl rfl rfl (hin rfl) (by first | rfl | (cases hE <;> rfl)) (by first | rfl | (cases hE <;> rfl)) dX20_init_11 hE (fun T3 _ hE => ?_)
  refine k_aload_n (pc := 14) hC dX20_init_14 rfl 0 rfl ?_
  refine k_aload_n (pc := 15) hC dX20_init_15 rfl 3 rfl ?_
  refine a_putFR (pc := 16) (y := ((some a3))) hX hSt cl_X20 in_X20 2 (by decide) rfl tyX20 tyX20_ok nmX20 (by exact q1227) rfl rfl rfl (hin rfl) (by first | rfl | (cases hE <;> rfl)) (by first | rfl | (cases hE <;> rfl)) dX20_init_16 hE (fun T4 _ hE => ?_)
  cases hE
  exact a_vret (pc := 19) hX hR dX20_init_19 (by rfl) (fun _ h => h)
theorem ct_A_Joined (l : Launch) (D : Dd) (A : Nat → Prop) (R : Heap → Prop) (d : Nat → Prop) (L : Nat × Nat × Nat × Nat) (T : Th) (hSt : Stb R d) (hdA : ∀ q, d q → A q) (hAB : ∀ q, A q → D.2.2.2.1.heap.size ≤ q) (a0 : Nat) (a1 : Int32) (a2 : Nat) (a3 : Nat) (out : Th) (hE : A_Joined a0 a1 a2 a3 T = some out) : Ct l yX20_init (ws_ yX20_init cX20_init 4 none) (rmA 2 44 L T) vwCl arTy D A [.ref a0, .int a1, .ref a2, .ref a3] (RD D R d L T) (RD D R d L out) none (L.1 - tN T) (L.2.1 - tZ T) := by
  refine Ct.ofA (lv := [(0, .ref a0), (1, .int a1), (2, .ref a2), (3, .ref a3)]) (by decide) (Nat.le_of_ble_eq_true rfl) rfl hdA hAB ?_
  intro X hl hX hR hXA hin
  exact w_A_Joined hX hSt hR hin a0 a1 a2 a3 T hE
theorem cw_A_Joined_X3 {X : Ctx} {cc : ByteArray} {D : Dd} {d : Nat → Prop} {L : Nat × Nat × Nat × Nat} {mL fr lo : Nat} {T : Th} (hX : Ax X cc RX3 D d L mL fr lo) (h1 : 2 + 1 ≤ fr) (h2 : 8 + (4 + 11) + 44 ≤ lo) : CallB X.2.2.2.1 X.2.2.2.2.1 X.2.2.2.2.2.2.1 RX3 274 yX20_init cX20_init 4 none (ws_ yX20_init cX20_init 4 none) (rmA 2 44 L T) (L.1 - tN T) (L.2.1 - tZ T) 3 ∧ yX20_init.name = "<init>" ∧ (Cond.instanceMethod yX20_init).before X.2.2.2.2.2.2.1 X.2.2.2.2.1 = true := cwI 3 (cx_w hX.1) (lw_meth q1223) rfl rfl rfl (cx_w hX.1 _ q151) (cx_w hX.1 _ q1221) (cx_w hX.1 _ q1222) rfl (by decide +kernel) (by rw [hX.2.2.2.1, hX.2.2.2.2.1]; exact ⟨h1, h2⟩)
set_option maxHeartbeats 4000000 in
theorem w_A_Law {X : Ctx} {D : Dd} {R : Heap → Prop} {d : Nat → Prop} {L : Nat × Nat × Nat × Nat} {out : Th} (hX : Ax X cX16_init RX16 D d L 1 1 24) (hSt : Stb R d) (hR : RtA X none (RD D R d L out) none D L) (hin : "<init>" = "<init>" → X.2.2.2.2.2.2.2.2.1.name = "<init>") (a0 : Nat) (T : Th) (hE : A_Law a0 T = some out) (c z : Nat) : Wk X c z (RD D R d L T) 0 [(0, .ref a0)] [] := by
  have hC := hX.1
  have hnL := hX.2.2.1
  have hDy : ∀ {T : Th} (H : Heap), RD D R d L T H → Dy D T H := fun _ h => h.2.1
  unfold A_Law at hE
  refine k_aload_n (pc := 0) hC dX16_init_0 rfl 0 rfl ?_
  refine a_objInit (pc := 1) hX q1156 dX16_init_1 (Nat.le_of_ble_eq_true rfl) (Nat.le_of_ble_eq_true rfl) ?_
  refine k_aload_n (pc := 4) hC dX16_init_4 rfl 0 rfl ?_
  refine k_iconst (pc := 5) (v := 4) hC dX16_init_5 (by decide) ?_
  refine a_newq (pc := 6) hX hSt (by simp [arTy]) q1157 q1158 dX16_init_6 hE (fun T1 eT1 hE c z => ?_)
  refine a_putFR (pc := 9) (y := ((some (tN T)))) hX hSt cl_X16 in_X16 0 (by decide) rfl tyX16 tyX16_ok nmX16 (by exact q1159) rfl rfl rfl (hin rfl) (by first | rfl | (cases hE <;> rfl)) (by first | rfl | (cases hE <;> rfl)) dX16_init_9 hE (fun T2 _ hE => ?_)
  refine k_aload_n (pc := 12) hC dX16_init_12 rfl 0 rfl ?_
  refine k_iconst (pc := 13) (v := 4) hC dX16_init_13 (by decide) ?_
  refine a_newq (pc := 14) hX hSt (by simp [arTy]) q1157 q1158 dX16_init_14 hE (fun T3 eT3 hE c z => ?_)
  refine a_putFR (pc := 17) (y := ((some (tN T2)))) hX hSt cl_X16 in_X16 1 (by decide) rfl tyX16 tyX16_ok nmX16 (by exact q1161) rfl rfl rfl (hin rfl) (by first | rfl | (cases hE <;> rfl)) (by first | rfl | (cases hE <;> rfl)) dX16_init_17 hE (fun T4 _ hE => ?_)
  refine k_aload_n (pc := 20) hC dX16_init_20 rfl 0 rfl ?_
  refine k_iconst (pc := 21) (v := 5) hC dX16_init_21 (by decide) ?_
  refine a_newq (pc := 22) hX hSt (by simp [arTy]) q1157 q1158 dX16_init_22 hE (fun T5 eT5 hE c z => ?_)
  refine a_putFR (pc := 25) (y := ((some (tN T4)))) hX hSt cl_X16 in_X16 2 (by decide) rfl tyX16 tyX16_ok nmX16 (by exact q1163) rfl rfl rfl (hin rfl) (by first | rfl | (cases hE <;> rfl)) (by first | rfl | (cases hE <;> rfl)) dX16_init_25 hE (fun T6 _ hE => ?_)
  cases hE
  exact a_vret (pc := 28) hX hR dX16_init_28 (by rfl) (fun _ h => h)
theorem ct_A_Law (l : Launch) (D : Dd) (A : Nat → Prop) (R : Heap → Prop) (d : Nat → Prop) (L : Nat × Nat × Nat × Nat) (T : Th) (hSt : Stb R d) (hdA : ∀ q, d q → A q) (hAB : ∀ q, A q → D.2.2.2.1.heap.size ≤ q) (a0 : Nat) (out : Th) (hE : A_Law a0 T = some out) : Ct l yX16_init (ws_ yX16_init cX16_init 1 none) (rmA 1 24 L T) vwCl arTy D A [.ref a0] (RD D R d L T) (RD D R d L out) none (L.1 - tN T) (L.2.1 - tZ T) := by
  refine Ct.ofA (lv := [(0, .ref a0)]) (by decide) (Nat.le_of_ble_eq_true rfl) rfl hdA hAB ?_
  intro X hl hX hR hXA hin
  exact w_A_Law hX hSt hR hin a0 T hE
theorem cw_A_Law_X3 {X : Ctx} {cc : ByteArray} {D : Dd} {d : Nat → Prop} {L : Nat × Nat × Nat × Nat} {mL fr lo : Nat} {T : Th} (hX : Ax X cc RX3 D d L mL fr lo) (h1 : 1 + 1 ≤ fr) (h2 : 8 + (1 + 11) + 24 ≤ lo) : va_CN X.2.2.2.1 X.2.2.2.2.1 X.2.2.2.2.2.2.1 RX3 245 yX16_init "SleepWork" cX16_init 1 none (ws_ yX16_init cX16_init 1 none) (rmA 1 24 L T) (L.1 - tN T) (L.2.1 - tZ T) 0 ∧ yX16_init.name = "<init>" ∧ (Cond.instanceMethod yX16_init).before X.2.2.2.2.2.2.1 X.2.2.2.2.1 = true := ⟨va_cnB 0 (cx_w hX.1) (lw_meth q1155) rfl rfl rfl (hX.1.K.2.2.1 _ q1153 rfl) (cx_w hX.1 _ q147) (by decide +kernel) (by rw [hX.2.2.2.1, hX.2.2.2.2.1]; exact ⟨h1, h2⟩), rfl, cx_w hX.1 _ q1154⟩
set_option maxHeartbeats 4000000 in
theorem w_A_Text {X : Ctx} {D : Dd} {R : Heap → Prop} {d : Nat → Prop} {L : Nat × Nat × Nat × Nat} {out : Th} (hX : Ax X cX4_init RX4 D d L 1 4 84) (hSt : Stb R d) (hR : RtA X none (RD D R d L out) none D L) (hin : "<init>" = "<init>" → X.2.2.2.2.2.2.2.2.1.name = "<init>") (a0 : Nat) (T : Th) (hE : A_Text a0 T = some out) (c z : Nat) : Wk X c z (RD D R d L T) 0 [(0, .ref a0)] [] := by
  have hC := hX.1
  have hnL := hX.2.2.1
  have hDy : ∀ {T : Th} (H : Heap), RD D R d L T H → Dy D T H := fun _ h => h.2.1
  unfold A_Text at hE
  refine k_aload_n (pc := 0) hC dX4_init_0 rfl 0 rfl ?_
  refine a_objInit (pc := 1) hX q328 dX4_init_1 (Nat.le_of_ble_eq_true rfl) (Nat.le_of_ble_eq_true rfl) ?_
  refine k_aload_n (pc := 4) hC dX4_init_4 rfl 0 rfl ?_
  refine a_new (pc := 5) hX hSt cl_J5 in_J5 tyJ5 tyJ5_ok dv_J5 q329 q330 q124 dX4_init_5 hE (fun T1 eT1 hE c z => ?_)
  refine k_dup (pc := 8) hC dX4_init_8 rfl ?_
  obtain ⟨r2, h1, hE⟩ := ob_ hE
  refine a_callI (pc := 9) (As := []) hX (ct_A_J5_init X.2.1 D (cxA X) R d L T1 hSt hX.2.1 hX.2.2.2.2.2.2.2.2.2 (tN T) r2 h1) (cw_A_J5_init_X4 hX (Nat.le_of_ble_eq_true rfl) (Nat.le_of_ble_eq_true rfl)) rfl rfl (Nat.le_of_ble_eq_true rfl) dX4_init_9 (fun c z => ?_)
  show Wk X c z (RD D R d L r2) 12 [(0, .ref a0)] [.ref (tN T), .ref a0]
  refine a_putFR (pc := 12) (y := ((some (tN T)))) hX hSt cl_X4 in_X4 0 (by decide) rfl tyX4 tyX4_ok nmX4 (by exact q355) rfl rfl rfl (hin rfl) (by first | rfl | (cases hE <;> rfl)) (by first | rfl | (cases hE <;> rfl)) dX4_init_12 hE (fun T3 _ hE => ?_)
  refine k_aload_n (pc := 15) hC dX4_init_15 rfl 0 rfl ?_
  refine a_new (pc := 16) hX hSt cl_J5 in_J5 tyJ5 tyJ5_ok dv_J5 q329 q330 q124 dX4_init_16 hE (fun T4 eT4 hE c z => ?_)
  refine k_dup (pc := 19) hC dX4_init_19 rfl ?_
  obtain ⟨r5, h1, hE⟩ := ob_ hE
  refine a_callI (pc := 20) (As := []) hX (ct_A_J5_init X.2.1 D (cxA X) R d L T4 hSt hX.2.1 hX.2.2.2.2.2.2.2.2.2 (tN T3) r5 h1) (cw_A_J5_init_X4 hX (Nat.le_of_ble_eq_true rfl) (Nat.le_of_ble_eq_true rfl)) rfl rfl (Nat.le_of_ble_eq_true rfl) dX4_init_20 (fun c z => ?_)
  show Wk X c z (RD D R d L r5) 23 [(0, .ref a0)] [.ref (tN T3), .ref a0]
  refine a_putFR (pc := 23) (y := ((some (tN T3)))) hX hSt cl_X4 in_X4 1 (by decide) rfl tyX4 tyX4_ok nmX4 (by exact q359) rfl rfl rfl (hin rfl) (by first | rfl | (cases hE <;> rfl)) (by first | rfl | (cases hE <;> rfl)) dX4_init_23 hE (fun T6 _ hE => ?_)
  refine k_aload_n (pc := 26) hC dX4_init_26 rfl 0 rfl ?_
  refine a_new (pc := 27) hX hSt cl_J5 in_J5 tyJ5 tyJ5_ok dv_J5 q329 q330 q124 dX4_init_27 hE (fun T7 eT7 hE c z => ?_)
  refine k_dup (pc := 30) hC dX4_init_30 rfl ?_
  obtain ⟨r8, h1, hE⟩ := ob_ hE
  refine a_callI (pc := 31) (As := []) hX (ct_A_J5_init X.2.1 D (cxA X) R d L T7 hSt hX.2.1 hX.2.2.2.2.2.2.2.2.2 (tN T6) r8 h1) (cw_A_J5_init_X4 hX (Nat.le_of_ble_eq_true rfl) (Nat.le_of_ble_eq_true rfl)) rfl rfl (Nat.le_of_ble_eq_true rfl) dX4_init_31 (fun c z => ?_)
  show Wk X c z (RD D R d L r8) 34 [(0, .ref a0)] [.ref (tN T6), .ref a0]
  refine a_putFR (pc := 34) (y := ((some (tN T6)))) hX hSt cl_X4 in_X4 2 (by decide) rfl tyX4 tyX4_ok nmX4 (by exact q363) rfl rfl rfl (hin rfl) (by first | rfl | (cases hE <;> rfl)) (by first | rfl | (cases hE <;> rfl)) dX4_init_34 hE (fun T9 _ hE => ?_)
  refine k_aload_n (pc := 37) hC dX4_init_37 rfl 0 rfl ?_
  refine a_new (pc := 38) hX hSt cl_J5 in_J5 tyJ5 tyJ5_ok dv_J5 q329 q330 q124 dX4_init_38 hE (fun T10 eT10 hE c z => ?_)
  refine k_dup (pc := 41) hC dX4_init_41 rfl ?_
  obtain ⟨r11, h1, hE⟩ := ob_ hE
  refine a_callI (pc := 42) (As := []) hX (ct_A_J5_init X.2.1 D (cxA X) R d L T10 hSt hX.2.1 hX.2.2.2.2.2.2.2.2.2 (tN T9) r11 h1) (cw_A_J5_init_X4 hX (Nat.le_of_ble_eq_true rfl) (Nat.le_of_ble_eq_true rfl)) rfl rfl (Nat.le_of_ble_eq_true rfl) dX4_init_42 (fun c z => ?_)
  show Wk X c z (RD D R d L r11) 45 [(0, .ref a0)] [.ref (tN T9), .ref a0]
  refine a_putFR (pc := 45) (y := ((some (tN T9)))) hX hSt cl_X4 in_X4 3 (by decide) rfl tyX4 tyX4_ok nmX4 (by exact q367) rfl rfl rfl (hin rfl) (by first | rfl | (cases hE <;> rfl)) (by first | rfl | (cases hE <;> rfl)) dX4_init_45 hE (fun T12 _ hE => ?_)
  refine k_aload_n (pc := 48) hC dX4_init_48 rfl 0 rfl ?_
  refine a_new (pc := 49) hX hSt cl_J5 in_J5 tyJ5 tyJ5_ok dv_J5 q329 q330 q124 dX4_init_49 hE (fun T13 eT13 hE c z => ?_)
  refine k_dup (pc := 52) hC dX4_init_52 rfl ?_
  obtain ⟨r14, h1, hE⟩ := ob_ hE
  refine a_callI (pc := 53) (As := []) hX (ct_A_J5_init X.2.1 D (cxA X) R d L T13 hSt hX.2.1 hX.2.2.2.2.2.2.2.2.2 (tN T12) r14 h1) (cw_A_J5_init_X4 hX (Nat.le_of_ble_eq_true rfl) (Nat.le_of_ble_eq_true rfl)) rfl rfl (Nat.le_of_ble_eq_true rfl) dX4_init_53 (fun c z => ?_)
  show Wk X c z (RD D R d L r14) 56 [(0, .ref a0)] [.ref (tN T12), .ref a0]
  refine a_putFR (pc := 56) (y := ((some (tN T12)))) hX hSt cl_X4 in_X4 4 (by decide) rfl tyX4 tyX4_ok nmX4 (by exact q372) rfl rfl rfl (hin rfl) (by first | rfl | (cases hE <;> rfl)) (by first | rfl | (cases hE <;> rfl)) dX4_init_56 hE (fun T15 _ hE => ?_)
  refine k_aload_n (pc := 59) hC dX4_init_59 rfl 0 rfl ?_
  refine k_sipush (pc := 60) (v := 480) hC dX4_init_60 (by decide) ?_
  refine a_putI (pc := 63) (y := 480) hX hSt cl_X4 in_X4 5 (by decide) rfl tyX4 tyX4_ok nmX4 (by exact q377) rfl rfl rfl rfl dX4_init_63 hE (fun T16 _ hE => ?_)
  cases hE
  exact a_vret (pc := 66) hX hR dX4_init_66 (by rfl) (fun _ h => h)
theorem ct_A_Text (l : Launch) (D : Dd) (A : Nat → Prop) (R : Heap → Prop) (d : Nat → Prop) (L : Nat × Nat × Nat × Nat) (T : Th) (hSt : Stb R d) (hdA : ∀ q, d q → A q) (hAB : ∀ q, A q → D.2.2.2.1.heap.size ≤ q) (a0 : Nat) (out : Th) (hE : A_Text a0 T = some out) : Ct l yX4_init (ws_ yX4_init cX4_init 1 none) (rmA 4 84 L T) vwCl arTy D A [.ref a0] (RD D R d L T) (RD D R d L out) none (L.1 - tN T) (L.2.1 - tZ T) := by
  refine Ct.ofA (lv := [(0, .ref a0)]) (by decide) (Nat.le_of_ble_eq_true rfl) rfl hdA hAB ?_
  intro X hl hX hR hXA hin
  exact w_A_Text hX hSt hR hin a0 T hE
theorem cw_A_Text_X0 {X : Ctx} {cc : ByteArray} {D : Dd} {d : Nat → Prop} {L : Nat × Nat × Nat × Nat} {mL fr lo : Nat} {T : Th} (hX : Ax X cc RX0 D d L mL fr lo) (h1 : 4 + 1 ≤ fr) (h2 : 8 + (1 + 11) + 84 ≤ lo) : va_CN X.2.2.2.1 X.2.2.2.2.1 X.2.2.2.2.2.2.1 RX0 34 yX4_init "SleepWork" cX4_init 1 none (ws_ yX4_init cX4_init 1 none) (rmA 4 84 L T) (L.1 - tN T) (L.2.1 - tZ T) 0 ∧ yX4_init.name = "<init>" ∧ (Cond.instanceMethod yX4_init).before X.2.2.2.2.2.2.1 X.2.2.2.2.1 = true := ⟨va_cnB 0 (cx_w hX.1) (lw_meth q327) rfl rfl rfl (hX.1.K.2.2.1 _ q325 rfl) (cx_w hX.1 _ q121) (by decide +kernel) (by rw [hX.2.2.2.1, hX.2.2.2.2.1]; exact ⟨h1, h2⟩), rfl, cx_w hX.1 _ q326⟩
theorem cw_A_Text_X3 {X : Ctx} {cc : ByteArray} {D : Dd} {d : Nat → Prop} {L : Nat × Nat × Nat × Nat} {mL fr lo : Nat} {T : Th} (hX : Ax X cc RX3 D d L mL fr lo) (h1 : 4 + 1 ≤ fr) (h2 : 8 + (1 + 11) + 84 ≤ lo) : va_CN X.2.2.2.1 X.2.2.2.2.1 X.2.2.2.2.2.2.1 RX3 98 yX4_init "SleepWork" cX4_init 1 none (ws_ yX4_init cX4_init 1 none) (rmA 4 84 L T) (L.1 - tN T) (L.2.1 - tZ T) 0 ∧ yX4_init.name = "<init>" ∧ (Cond.instanceMethod yX4_init).before X.2.2.2.2.2.2.1 X.2.2.2.2.1 = true := ⟨va_cnB 0 (cx_w hX.1) (lw_meth q327) rfl rfl rfl (hX.1.K.2.2.1 _ q673 rfl) (cx_w hX.1 _ q121) (by decide +kernel) (by rw [hX.2.2.2.1, hX.2.2.2.2.1]; exact ⟨h1, h2⟩), rfl, cx_w hX.1 _ q326⟩
set_option maxHeartbeats 4000000 in
theorem w_A_newLength_B21 {X : Ctx} {D : Dd} {R : Heap → Prop} {d : Nat → Prop} {L : Nat × Nat × Nat × Nat} {T : Th} {out : Int32} (hX : Ax X cJ12_newLength RJ12 D d L 4 1 24) (hSt : Stb R d) (hR : RtA X (some .int) (RD D R d L T) (some (.int out)) D L) (a0 : Int32) (a1 : Int32) (hE : A_newLength_B21 T a0 a1 = some out) (c z : Nat) : Wk X c z (RD D R d L T) 21 [(0, .int a0), (1, .int a1)] [] := by
  have hC := hX.1
  have hnL := hX.2.2.1
  have hDy : ∀ {T : Th} (H : Heap), RD D R d L T H → Dy D T H := fun _ h => h.2.1
  unfold A_newLength_B21 at hE
  refine k_iload_n (pc := 21) hC dJ12_newLength_21 rfl 0 rfl ?_
  refine k_iload_n (pc := 22) hC dJ12_newLength_22 rfl 1 rfl ?_
  cases hE
set_option maxHeartbeats 4000000 in
theorem w_A_newLength {X : Ctx} {D : Dd} {R : Heap → Prop} {d : Nat → Prop} {L : Nat × Nat × Nat × Nat} {T : Th} {out : Int32} (hX : Ax X cJ12_newLength RJ12 D d L 4 1 24) (hSt : Stb R d) (hR : RtA X (some .int) (RD D R d L T) (some (.int out)) D L) (a0 : Int32) (a1 : Int32) (a2 : Int32) (hE : A_newLength T a0 a1 a2 = some out) (c z : Nat) : Wk X c z (RD D R d L T) 0 [(0, .int a0), (1, .int a1), (2, .int a2)] [] := by
  have hC := hX.1
  have hnL := hX.2.2.1
  have hDy : ∀ {T : Th} (H : Heap), RD D R d L T H → Dy D T H := fun _ h => h.2.1
  unfold A_newLength at hE
  refine k_iload_n (pc := 0) hC dJ12_newLength_0 rfl 0 rfl ?_
  refine k_iload_n (pc := 1) hC dJ12_newLength_1 rfl 1 rfl ?_
  refine k_iload_n (pc := 2) hC dJ12_newLength_2 rfl 2 rfl ?_
  refine a_tight hX ?_
  refine a_know (a_hcs hX) (fun hcs => ?_)
  refine k_mmax (pc := 3) hC q768 rfl (by rw [hX.2.2.2.1]; exact Nat.le_of_ble_eq_true rfl) (by rw [hX.2.2.2.2.1]; exact Nat.le_of_ble_eq_true rfl) (a_hc0 hcs) dJ12_newLength_3 ?_
  refine k_iadd (pc := 6) hC dJ12_newLength_6 ?_
  refine k_istoreE_n (pc := 7) (lv' := fun x1 => [(3, .int x1), (0, .int a0), (1, .int a1), (2, .int a2)]) hC dJ12_newLength_7 rfl (by rw [hnL]; decide) hE (fun _ => rfl) (fun x1 hE => ?_)
  refine k_iconst (pc := 8) (v := 0) hC dJ12_newLength_8 (by decide) ?_
  refine k_iload_n (pc := 9) hC dJ12_newLength_9 rfl 0 rfl ?_
  refine k_icmp_ge (pc := 10) (tgt := 21) hC dJ12_newLength_10 (by decide) hE (fun hE => ?_) (fun hE => ?_)
  · refine k_sub [1, 2] rfl ?_
    exact w_A_newLength_B21 hX hSt hR  _ _ hE _ _
  · refine k_iload_n (pc := 13) hC dJ12_newLength_13 rfl 0 rfl ?_
    refine k_ldc (pc := 14) (v := 2147483639) hC q771 dJ12_newLength_14 ?_
    refine k_icmp_gt (pc := 16) (tgt := 21) hC dJ12_newLength_16 (by decide) hE (fun hE => ?_) (fun hE => ?_)
    · refine k_sub [1, 2] rfl ?_
      exact w_A_newLength_B21 hX hSt hR  _ _ hE _ _
    · refine k_iload_n (pc := 19) hC dJ12_newLength_19 rfl 0 rfl ?_
      cases hE
      exact a_iret (pc := 20) hX hR dJ12_newLength_20 (by rfl) (fun _ h => h)
theorem ct_A_newLength (l : Launch) (D : Dd) (A : Nat → Prop) (R : Heap → Prop) (d : Nat → Prop) (L : Nat × Nat × Nat × Nat) (T : Th) (hSt : Stb R d) (hdA : ∀ q, d q → A q) (hAB : ∀ q, A q → D.2.2.2.1.heap.size ≤ q) (a0 : Int32) (a1 : Int32) (a2 : Int32) (out : Int32) (hE : A_newLength T a0 a1 a2 = some out) : Ct l yJ12_newLength (ws_ yJ12_newLength cJ12_newLength 4 (some .int)) (rmA 1 24 L T) vwCl arTy D A [.int a0, .int a1, .int a2] (RD D R d L T) (RD D R d L T) (some (.int out)) (L.1 - tN T) (L.2.1 - tZ T) := by
  refine Ct.ofA (lv := [(0, .int a0), (1, .int a1), (2, .int a2)]) (by decide) (Nat.le_of_ble_eq_true rfl) rfl hdA hAB ?_
  intro X hl hX hR hXA _
  exact w_A_newLength hX hSt hR a0 a1 a2 hE
theorem cw_A_newLength_J10 {X : Ctx} {cc : ByteArray} {D : Dd} {d : Nat → Prop} {L : Nat × Nat × Nat × Nat} {mL fr lo : Nat} {T : Th} (hX : Ax X cc RJ10 D d L mL fr lo) (h1 : 1 + 1 ≤ fr) (h2 : 8 + (4 + 11) + 24 ≤ lo) : CallB X.2.2.2.1 X.2.2.2.2.1 X.2.2.2.2.2.2.1 RJ10 114 yJ12_newLength cJ12_newLength 4 (some .int) (ws_ yJ12_newLength cJ12_newLength 4 (some .int)) (rmA 1 24 L T) (L.1 - tN T) (L.2.1 - tZ T) 3 ∧ (Cond.static yJ12_newLength).before X.2.2.2.2.2.2.1 X.2.2.2.2.1 = true := va_cwS 3 (cx_w hX.1) (lw_S q765 q766 q137 q767) rfl rfl rfl (by decide +kernel) (by rw [hX.2.2.2.1, hX.2.2.2.2.1]; exact ⟨h1, h2⟩)
theorem cw_A_newLength_J5 {X : Ctx} {cc : ByteArray} {D : Dd} {d : Nat → Prop} {L : Nat × Nat × Nat × Nat} {mL fr lo : Nat} {T : Th} (hX : Ax X cc RJ5 D d L mL fr lo) (h1 : 1 + 1 ≤ fr) (h2 : 8 + (4 + 11) + 24 ≤ lo) : CallB X.2.2.2.1 X.2.2.2.2.1 X.2.2.2.2.2.2.1 RJ5 73 yJ12_newLength cJ12_newLength 4 (some .int) (ws_ yJ12_newLength cJ12_newLength 4 (some .int)) (rmA 1 24 L T) (L.1 - tN T) (L.2.1 - tZ T) 3 ∧ (Cond.static yJ12_newLength).before X.2.2.2.2.2.2.1 X.2.2.2.2.1 = true := va_cwS 3 (cx_w hX.1) (lw_S q943 q766 q137 q767) rfl rfl rfl (by decide +kernel) (by rw [hX.2.2.2.1, hX.2.2.2.2.1]; exact ⟨h1, h2⟩)
set_option maxHeartbeats 4000000 in
theorem w_A_copyOfOC_B24 {X : Ctx} {D : Dd} {R : Heap → Prop} {d : Nat → Prop} {L : Nat × Nat × Nat × Nat} {out : Option Nat × Th} (hX : Ax X cJ14_copyOf_3 RJ14 D d L 4 1 24) (hSt : Stb R d) (hR : RtA X (some (.array (.object "java/lang/Object"))) (RD D R d L out.2) (some (va_rf out.1)) D L) (a0 : Nat) (a1 : Int32) (s0 : Nat) (T : Th) (hE : A_copyOfOC_B24 a0 a1 s0 T = some out) (c z : Nat) : Wk X c z (RD D R d L T) 24 [(0, .ref a0), (1, .int a1)] [.ref s0] := by
  have hC := hX.1
  have hnL := hX.2.2.1
  have hDy : ∀ {T : Th} (H : Heap), RD D R d L T H → Dy D T H := fun _ h => h.2.1
  unfold A_copyOfOC_B24 at hE
  refine k_astore_n (pc := 24) (lv' := [(3, .ref s0), (0, .ref a0), (1, .int a1)]) hC dJ14_copyOf_3_24 rfl (by rw [hnL]; decide) rfl ?_
  refine k_aload_n (pc := 25) hC dJ14_copyOf_3_25 rfl 1 rfl ?_
  refine k_iconst (pc := 26) (v := 0) hC dJ14_copyOf_3_26 (by decide) ?_
  refine k_aload_n (pc := 27) hC dJ14_copyOf_3_27 rfl 0 rfl ?_
  refine k_iconst (pc := 28) (v := 0) hC dJ14_copyOf_3_28 (by decide) ?_
  refine k_aload_n (pc := 29) hC dJ14_copyOf_3_29 rfl 1 rfl ?_
  refine dy_alen (pc := 30) (ty := .object "java/lang/Object") hC hDy (by simp [arTy]) dJ14_copyOf_3_30 hE (fun x2 hE => ?_)
  refine k_iload_n (pc := 31) hC dJ14_copyOf_3_31 rfl 2 rfl ?_
  refine a_tight hX ?_
  refine a_know (a_hcs hX) (fun hcs => ?_)
  refine k_mmin (pc := 32) hC q786 rfl (by rw [hX.2.2.2.1]; exact Nat.le_of_ble_eq_true rfl) (by rw [hX.2.2.2.2.1]; exact Nat.le_of_ble_eq_true rfl) (a_hc0 hcs) dJ14_copyOf_3_32 ?_
  refine a_copyR (pc := 35) hX hSt q789 (Nat.le_of_ble_eq_true rfl) (by decide) dJ14_copyOf_3_35 hE (fun T3 hE => ?_)
  refine k_aload_n (pc := 38) hC dJ14_copyOf_3_38 rfl 0 rfl ?_
  cases hE
  exact a_aret (pc := 39) (v := va_rf _) (rt := (.array (.object "java/lang/Object"))) (by first | exact Or.inl ⟨_, rfl⟩ | exact Or.inr ⟨_, rfl⟩) (va_rfv _) hX hR dJ14_copyOf_3_39 (by rfl) (fun _ h => h)
set_option maxHeartbeats 4000000 in
theorem w_A_copyOfOC {X : Ctx} {D : Dd} {R : Heap → Prop} {d : Nat → Prop} {L : Nat × Nat × Nat × Nat} {out : Option Nat × Th} (hX : Ax X cJ14_copyOf_3 RJ14 D d L 4 1 24) (hSt : Stb R d) (hR : RtA X (some (.array (.object "java/lang/Object"))) (RD D R d L out.2) (some (va_rf out.1)) D L) (a0 : Nat) (a1 : Int32) (T : Th) (hE : A_copyOfOC a0 a1 T = some out) (c z : Nat) : Wk X c z (RD D R d L T) 0 [(0, .ref a0), (1, .int a1), (2, .ref (miO D))] [] := by
  have hC := hX.1
  have hnL := hX.2.2.1
  have hDy : ∀ {T : Th} (H : Heap), RD D R d L T H → Dy D T H := fun _ h => h.2.1
  unfold A_copyOfOC at hE
  refine k_aload_n (pc := 0) hC dJ14_copyOf_3_0 rfl 2 rfl ?_
  refine a_ldcM (pc := 1) hX q976 dJ14_copyOf_3_1 ?_
  refine k_acmp_neS (pc := 3) (tgt := 13) hC dJ14_copyOf_3_3 (by decide) ?_
  refine k_iload_n (pc := 6) hC dJ14_copyOf_3_6 rfl 1 rfl ?_
  refine a_newq (pc := 7) hX hSt (by simp [arTy]) q978 q977 dJ14_copyOf_3_7 hE (fun T1 eT1 hE c z => ?_)
  refine k_goto (pc := 10) (tgt := 24) hC dJ14_copyOf_3_10 (by decide) ?_
  refine k_sub [0, 1] rfl ?_
  exact w_A_copyOfOC_B24 hX hSt hR  _ _ _ _ hE _ _
theorem ct_A_copyOfOC (l : Launch) (D : Dd) (A : Nat → Prop) (R : Heap → Prop) (d : Nat → Prop) (L : Nat × Nat × Nat × Nat) (T : Th) (hSt : Stb R d) (hdA : ∀ q, d q → A q) (hAB : ∀ q, A q → D.2.2.2.1.heap.size ≤ q) (a0 : Nat) (a1 : Int32) (out : Option Nat × Th) (hE : A_copyOfOC a0 a1 T = some out) : Ct l yJ14_copyOf_3 (ws_ yJ14_copyOf_3 cJ14_copyOf_3 4 (some (.array (.object "java/lang/Object")))) (rmA 1 24 L T) vwCl arTy D A [.ref a0, .int a1, .ref (miO D)] (RD D R d L T) (RD D R d L out.2) (some (va_rf out.1)) (L.1 - tN T) (L.2.1 - tZ T) := by
  refine Ct.ofA (lv := [(0, .ref a0), (1, .int a1), (2, .ref (miO D))]) (by decide) (Nat.le_of_ble_eq_true rfl) rfl hdA hAB ?_
  intro X hl hX hR hXA _
  exact w_A_copyOfOC hX hSt hR a0 a1 T hE
theorem cw_A_copyOfOC_J14 {X : Ctx} {cc : ByteArray} {D : Dd} {d : Nat → Prop} {L : Nat × Nat × Nat × Nat} {mL fr lo : Nat} {T : Th} (hX : Ax X cc RJ14 D d L mL fr lo) (h1 : 1 + 1 ≤ fr) (h2 : 8 + (4 + 11) + 24 ≤ lo) : CallB X.2.2.2.1 X.2.2.2.2.1 X.2.2.2.2.2.2.1 RJ14 300 yJ14_copyOf_3 cJ14_copyOf_3 4 (some (.array (.object "java/lang/Object"))) (ws_ yJ14_copyOf_3 cJ14_copyOf_3 4 (some (.array (.object "java/lang/Object")))) (rmA 1 24 L T) (L.1 - tN T) (L.2.1 - tZ T) 3 ∧ (Cond.static yJ14_copyOf_3).before X.2.2.2.2.2.2.1 X.2.2.2.2.1 = true := va_cwS 3 (cx_w hX.1) (lw_S q973 q974 q139 q975) rfl rfl rfl (by decide +kernel) (by rw [hX.2.2.2.1, hX.2.2.2.2.1]; exact ⟨h1, h2⟩)
set_option maxHeartbeats 4000000 in
theorem w_A_copyOfO {X : Ctx} {D : Dd} {R : Heap → Prop} {d : Nat → Prop} {L : Nat × Nat × Nat × Nat} {out : Option Nat × Th} (hX : Ax X cJ14_copyOf_2 RJ14 D d L 2 2 47) (hSt : Stb R d) (hR : RtA X (some (.array (.object "java/lang/Object"))) (RD D R d L out.2) (some (va_rf out.1)) D L) (a0 : Nat) (a1 : Int32) (T : Th) (hE : A_copyOfO a0 a1 T = some out) (c z : Nat) : Wk X c z (RD D R d L T) 0 [(0, .ref a0), (1, .int a1)] [] := by
  have hC := hX.1
  have hnL := hX.2.2.1
  have hDy : ∀ {T : Th} (H : Heap), RD D R d L T H → Dy D T H := fun _ h => h.2.1
  unfold A_copyOfO at hE
  refine k_aload_n (pc := 0) hC dJ14_copyOf_2_0 rfl 0 rfl ?_
  refine k_iload_n (pc := 1) hC dJ14_copyOf_2_1 rfl 1 rfl ?_
  refine k_aload_n (pc := 2) hC dJ14_copyOf_2_2 rfl 0 rfl ?_
  refine a_getC (pc := 3) hX q947 (Nat.le_of_ble_eq_true rfl) (Nat.le_of_ble_eq_true rfl) dJ14_copyOf_2_3 hE (fun hE => ?_)
  obtain ⟨r1, h1, hE⟩ := ob_ hE
  refine a_callS (pc := 6) (As := [.ref a0, .int a1, .ref (miO D)]) hX (ct_A_copyOfOC X.2.1 D (cxA X) R d L T hSt hX.2.1 hX.2.2.2.2.2.2.2.2.2 a0 a1 r1 h1) (cw_A_copyOfOC_J14 hX (Nat.le_of_ble_eq_true rfl) (Nat.le_of_ble_eq_true rfl)) rfl rfl (Nat.le_of_ble_eq_true rfl) dJ14_copyOf_2_6 (fun c z => ?_)
  show Wk X c z (RD D R d L r1.2) 9 [(0, .ref a0), (1, .int a1)] [va_rf r1.1]
  cases hE
  exact a_aret (pc := 9) (v := va_rf _) (rt := (.array (.object "java/lang/Object"))) (by first | exact Or.inl ⟨_, rfl⟩ | exact Or.inr ⟨_, rfl⟩) (va_rfv _) hX hR dJ14_copyOf_2_9 (by rfl) (fun _ h => h)
theorem ct_A_copyOfO (l : Launch) (D : Dd) (A : Nat → Prop) (R : Heap → Prop) (d : Nat → Prop) (L : Nat × Nat × Nat × Nat) (T : Th) (hSt : Stb R d) (hdA : ∀ q, d q → A q) (hAB : ∀ q, A q → D.2.2.2.1.heap.size ≤ q) (a0 : Nat) (a1 : Int32) (out : Option Nat × Th) (hE : A_copyOfO a0 a1 T = some out) : Ct l yJ14_copyOf_2 (ws_ yJ14_copyOf_2 cJ14_copyOf_2 2 (some (.array (.object "java/lang/Object")))) (rmA 2 47 L T) vwCl arTy D A [.ref a0, .int a1] (RD D R d L T) (RD D R d L out.2) (some (va_rf out.1)) (L.1 - tN T) (L.2.1 - tZ T) := by
  refine Ct.ofA (lv := [(0, .ref a0), (1, .int a1)]) (by decide) (Nat.le_of_ble_eq_true rfl) rfl hdA hAB ?_
  intro X hl hX hR hXA _
  exact w_A_copyOfO hX hSt hR a0 a1 T hE
theorem cw_A_copyOfO_J5 {X : Ctx} {cc : ByteArray} {D : Dd} {d : Nat → Prop} {L : Nat × Nat × Nat × Nat} {mL fr lo : Nat} {T : Th} (hX : Ax X cc RJ5 D d L mL fr lo) (h1 : 2 + 1 ≤ fr) (h2 : 8 + (2 + 11) + 47 ≤ lo) : CallB X.2.2.2.1 X.2.2.2.2.1 X.2.2.2.2.2.2.1 RJ5 66 yJ14_copyOf_2 cJ14_copyOf_2 2 (some (.array (.object "java/lang/Object"))) (ws_ yJ14_copyOf_2 cJ14_copyOf_2 2 (some (.array (.object "java/lang/Object")))) (rmA 2 47 L T) (L.1 - tN T) (L.2.1 - tZ T) 2 ∧ (Cond.static yJ14_copyOf_2).before X.2.2.2.2.2.2.1 X.2.2.2.2.1 = true := va_cwS 2 (cx_w hX.1) (lw_S q944 q945 q139 q946) rfl rfl rfl (by decide +kernel) (by rw [hX.2.2.2.1, hX.2.2.2.2.1]; exact ⟨h1, h2⟩)
set_option maxHeartbeats 4000000 in
theorem w_A_L_grow_2_B20 {X : Ctx} {D : Dd} {R : Heap → Prop} {d : Nat → Prop} {L : Nat × Nat × Nat × Nat} {out : Option Nat × Th} (hX : Ax X cJ5_grow_2 RJ5 D d L 4 3 68) (hSt : Stb R d) (hR : RtA X (some (.array (.object "java/lang/Object"))) (RD D R d L out.2) (some (va_rf out.1)) D L) (a0 : Nat) (a1 : Int32) (a2 : Int32) (T : Th) (hE : A_L_grow_2_B20 a0 a1 a2 T = some out) (c z : Nat) : Wk X c z (RD D R d L T) 20 [(0, .ref a0), (1, .int a1), (2, .int a2)] [] := by
  have hC := hX.1
  have hnL := hX.2.2.1
  have hDy : ∀ {T : Th} (H : Heap), RD D R d L T H → Dy D T H := fun _ h => h.2.1
  unfold A_L_grow_2_B20 at hE
  refine k_iload_n (pc := 20) hC dJ5_grow_2_20 rfl 2 rfl ?_
  refine k_iload_n (pc := 21) hC dJ5_grow_2_21 rfl 1 rfl ?_
  refine k_iload_n (pc := 22) hC dJ5_grow_2_22 rfl 2 rfl ?_
  refine k_isub (pc := 23) hC dJ5_grow_2_23 ?_
  refine k_iload_n (pc := 24) hC dJ5_grow_2_24 rfl 2 rfl ?_
  refine k_iconst (pc := 25) (v := 1) hC dJ5_grow_2_25 (by decide) ?_
  refine k_ishr (pc := 26) hC dJ5_grow_2_26 ?_
  obtain ⟨r8, h1, hE⟩ := ob_ hE
  refine a_callS (pc := 27) (As := [.int a2, .int (a1 - a2), .int (a2 >>> (1 &&& 31))]) hX (ct_A_newLength X.2.1 D (cxA X) R d L T hSt hX.2.1 hX.2.2.2.2.2.2.2.2.2 a2 (a1 - a2) (a2 >>> (1 &&& 31)) r8 h1) (cw_A_newLength_J5 hX (Nat.le_of_ble_eq_true rfl) (Nat.le_of_ble_eq_true rfl)) rfl rfl (Nat.le_of_ble_eq_true rfl) dJ5_grow_2_27 (fun c z => ?_)
  show Wk X c z (RD D R d L T) 30 [(0, .ref a0), (1, .int a1), (2, .int a2)] [.int r8]
  refine k_istore_n (pc := 30) (lv' := [(3, .int r8), (0, .ref a0), (1, .int a1), (2, .int a2)]) hC dJ5_grow_2_30 rfl (by rw [hnL]; decide) rfl ?_
  refine k_aload_n (pc := 31) hC dJ5_grow_2_31 rfl 1 rfl ?_
  refine k_aload_n (pc := 32) hC dJ5_grow_2_32 rfl 1 rfl ?_
  refine gD_J5_9_J5 (pc := 33) hC hDy dJ5_grow_2_33 hE (fun x9 hE => ?_)
  refine k_iload_n (pc := 36) hC dJ5_grow_2_36 rfl 0 rfl ?_
  refine k_nn (G := fun z => Wk X _ _ (RD D R d L T) 37 [(3, .int r8), (0, .ref a0), (1, .int a1), (2, .int a2)] [.int r8, z, .ref a0]) hE (fun b10 hE => ?_)
  obtain ⟨r11, h1, hE⟩ := ob_ hE
  refine a_callS (pc := 37) (As := [.ref b10, .int r8]) hX (ct_A_copyOfO X.2.1 D (cxA X) R d L T hSt hX.2.1 hX.2.2.2.2.2.2.2.2.2 b10 r8 r11 h1) (cw_A_copyOfO_J5 hX (Nat.le_of_ble_eq_true rfl) (Nat.le_of_ble_eq_true rfl)) rfl rfl (Nat.le_of_ble_eq_true rfl) dJ5_grow_2_37 (fun c z => ?_)
  show Wk X c z (RD D R d L r11.2) 40 [(3, .int r8), (0, .ref a0), (1, .int a1), (2, .int a2)] [va_rf r11.1, .ref a0]
  refine k_dup_x1 (pc := 40) hC dJ5_grow_2_40 (by cases r11.1 <;> rfl) rfl ?_
  refine a_putR (pc := 41) (y := r11.1) hX hSt cl_J5 in_J5 1 (by decide) rfl tyJ5 tyJ5_ok nmJ5 (by exact q343) rfl rfl (by first | rfl | (cases r11.1 <;> rfl)) (by first | rfl | (cases r11.1 <;> rfl)) dJ5_grow_2_41 hE (fun T12 _ hE => ?_)
  cases hE
  exact a_aret (pc := 44) (v := va_rf _) (rt := (.array (.object "java/lang/Object"))) (by first | exact Or.inl ⟨_, rfl⟩ | exact Or.inr ⟨_, rfl⟩) (va_rfv _) hX hR dJ5_grow_2_44 (by rfl) (fun _ h => h)
set_option maxHeartbeats 4000000 in
theorem w_A_L_grow_2 {X : Ctx} {D : Dd} {R : Heap → Prop} {d : Nat → Prop} {L : Nat × Nat × Nat × Nat} {out : Option Nat × Th} (hX : Ax X cJ5_grow_2 RJ5 D d L 4 3 68) (hSt : Stb R d) (hR : RtA X (some (.array (.object "java/lang/Object"))) (RD D R d L out.2) (some (va_rf out.1)) D L) (a0 : Nat) (a1 : Int32) (T : Th) (hE : A_L_grow_2 a0 a1 T = some out) (c z : Nat) : Wk X c z (RD D R d L T) 0 [(0, .ref a0), (1, .int a1)] [] := by
  have hC := hX.1
  have hnL := hX.2.2.1
  have hDy : ∀ {T : Th} (H : Heap), RD D R d L T H → Dy D T H := fun _ h => h.2.1
  unfold A_L_grow_2 at hE
  refine k_aload_n (pc := 0) hC dJ5_grow_2_0 rfl 0 rfl ?_
  refine gD_J5_9_J5 (pc := 1) hC hDy dJ5_grow_2_1 hE (fun x1 hE => ?_)
  refine k_nn (G := fun z => Wk X _ _ (RD D R d L T) 4 [(0, .ref a0), (1, .int a1)] [z]) hE (fun b2 hE => ?_)
  refine dy_alen (pc := 4) (ty := .object "java/lang/Object") hC hDy (by simp [arTy]) dJ5_grow_2_4 hE (fun x3 hE => ?_)
  refine k_istore_n (pc := 5) (lv' := [(2, .int x3), (0, .ref a0), (1, .int a1)]) hC dJ5_grow_2_5 rfl (by rw [hnL]; decide) rfl ?_
  refine k_iload_n (pc := 6) hC dJ5_grow_2_6 rfl 0 rfl ?_
  refine k_if_gt (pc := 7) (tgt := 20) hC dJ5_grow_2_7 (by decide) hE (fun hE => ?_) (fun hE => ?_)
  · refine k_sub [1, 2, 0] rfl ?_
    exact w_A_L_grow_2_B20 hX hSt hR  _ _ _ _ hE _ _
  · refine k_aload_n (pc := 10) hC dJ5_grow_2_10 rfl 1 rfl ?_
    refine gD_J5_9_J5 (pc := 11) hC hDy dJ5_grow_2_11 hE (fun x4 hE => ?_)
    refine a_know (a_e0 hX) (fun he0 => ?_)
    refine a_gets (pc := 14) hX (fun _ h => h.2.1) q341 dJ5_grow_2_14 ?_
    rw [← he0]
    refine k_nn (G := fun z => Wk X _ _ (RD D R d L T) 17 [(2, .int x3), (0, .ref a0), (1, .int a1)] [.ref (tE T), z]) hE (fun b5 hE => ?_)
    refine k_acmp_eq (pc := 17) (tgt := 45) hC dJ5_grow_2_17 (by decide) hE (fun hE => ?_) (fun hE => ?_)
    · refine k_aload_n (pc := 45) hC dJ5_grow_2_45 rfl 1 rfl ?_
      refine k_bipush (pc := 46) (v := 10) hC dJ5_grow_2_46 (by decide) ?_
      refine k_iload_n (pc := 48) hC dJ5_grow_2_48 rfl 2 rfl ?_
      refine a_tight hX ?_
      refine a_know (a_hcs hX) (fun hcs => ?_)
      refine k_mmax (pc := 49) hC q979 rfl (by rw [hX.2.2.2.1]; exact Nat.le_of_ble_eq_true rfl) (by rw [hX.2.2.2.2.1]; exact Nat.le_of_ble_eq_true rfl) (a_hc0 hcs) dJ5_grow_2_49 ?_
      refine a_newq (pc := 52) hX hSt (by simp [arTy]) q980 q977 dJ5_grow_2_52 hE (fun T6 eT6 hE c z => ?_)
      refine k_dup_x1 (pc := 55) hC dJ5_grow_2_55 rfl rfl ?_
      refine a_putR (pc := 56) (y := ((some (tN T)))) hX hSt cl_J5 in_J5 1 (by decide) rfl tyJ5 tyJ5_ok nmJ5 (by exact q343) rfl rfl (by first | rfl | (cases hE <;> rfl)) (by first | rfl | (cases hE <;> rfl)) dJ5_grow_2_56 hE (fun T7 _ hE => ?_)
      cases hE
      exact a_aret (pc := 59) (v := va_rf _) (rt := (.array (.object "java/lang/Object"))) (by first | exact Or.inl ⟨_, rfl⟩ | exact Or.inr ⟨_, rfl⟩) (va_rfv _) hX hR dJ5_grow_2_59 (by rfl) (fun _ h => h)
    · refine k_sub [1, 2, 0] rfl ?_
      exact w_A_L_grow_2_B20 hX hSt hR  _ _ _ _ hE _ _
theorem ct_A_L_grow_2 (l : Launch) (D : Dd) (A : Nat → Prop) (R : Heap → Prop) (d : Nat → Prop) (L : Nat × Nat × Nat × Nat) (T : Th) (hSt : Stb R d) (hdA : ∀ q, d q → A q) (hAB : ∀ q, A q → D.2.2.2.1.heap.size ≤ q) (a0 : Nat) (a1 : Int32) (out : Option Nat × Th) (hE : A_L_grow_2 a0 a1 T = some out) : Ct l yJ5_grow_2 (ws_ yJ5_grow_2 cJ5_grow_2 4 (some (.array (.object "java/lang/Object")))) (rmA 3 68 L T) vwCl arTy D A [.ref a0, .int a1] (RD D R d L T) (RD D R d L out.2) (some (va_rf out.1)) (L.1 - tN T) (L.2.1 - tZ T) := by
  refine Ct.ofA (lv := [(0, .ref a0), (1, .int a1)]) (by decide) (Nat.le_of_ble_eq_true rfl) rfl hdA hAB ?_
  intro X hl hX hR hXA _
  exact w_A_L_grow_2 hX hSt hR a0 a1 T hE
theorem cw_A_L_grow_2_J5 {X : Ctx} {cc : ByteArray} {D : Dd} {d : Nat → Prop} {L : Nat × Nat × Nat × Nat} {mL fr lo : Nat} {T : Th} (hX : Ax X cc RJ5 D d L mL fr lo) (h1 : 3 + 1 ≤ fr) (h2 : 8 + (4 + 11) + 68 ≤ lo) : CallW X.2.2.2.1 X.2.2.2.2.1 X.2.2.2.2.2.2.1 RJ5 RJ5 69 yJ5_grow_2 cJ5_grow_2 4 (some (.array (.object "java/lang/Object"))) (ws_ yJ5_grow_2 cJ5_grow_2 4 (some (.array (.object "java/lang/Object")))) (rmA 3 68 L T) (L.1 - tN T) (L.2.1 - tZ T) 1 := cwV 1 (cx_w hX.1) (lw_V q939 q941 qs19 q124 q942) rfl rfl rfl (by decide +kernel) (by rw [hX.2.2.2.1, hX.2.2.2.2.1]; exact ⟨h1, h2⟩)
set_option maxHeartbeats 4000000 in
theorem w_A_L_grow {X : Ctx} {D : Dd} {R : Heap → Prop} {d : Nat → Prop} {L : Nat × Nat × Nat × Nat} {out : Option Nat × Th} (hX : Ax X cJ5_grow RJ5 D d L 1 4 91) (hSt : Stb R d) (hR : RtA X (some (.array (.object "java/lang/Object"))) (RD D R d L out.2) (some (va_rf out.1)) D L) (a0 : Nat) (T : Th) (hE : A_L_grow a0 T = some out) (c z : Nat) : Wk X c z (RD D R d L T) 0 [(0, .ref a0)] [] := by
  have hC := hX.1
  have hnL := hX.2.2.1
  have hDy : ∀ {T : Th} (H : Heap), RD D R d L T H → Dy D T H := fun _ h => h.2.1
  unfold A_L_grow at hE
  refine k_aload_n (pc := 0) hC dJ5_grow_0 rfl 0 rfl ?_
  refine k_aload_n (pc := 1) hC dJ5_grow_1 rfl 0 rfl ?_
  refine gD_J5_48_J5 (pc := 2) hC hDy dJ5_grow_2 hE (fun x1 hE => ?_)
  refine k_iconst (pc := 5) (v := 1) hC dJ5_grow_5 (by decide) ?_
  refine k_iadd (pc := 6) hC dJ5_grow_6 ?_
  obtain ⟨hrv, hE⟩ := dC_of hE
  obtain ⟨r2, h1, hE⟩ := ob_ hE
  refine a_callV (pc := 7) (As := [.int (x1 + 1)]) hX (ct_A_L_grow_2 X.2.1 D (cxA X) R d L T hSt hX.2.1 hX.2.2.2.2.2.2.2.2.2 a0 (x1 + 1) r2 h1) (cw_A_L_grow_2_J5 hX (Nat.le_of_ble_eq_true rfl) (Nat.le_of_ble_eq_true rfl)) (a_recv hC cl_J5 hrv) rfl rfl (Nat.le_of_ble_eq_true rfl) dJ5_grow_7 (fun c z => ?_)
  show Wk X c z (RD D R d L r2.2) 10 [(0, .ref a0)] [va_rf r2.1]
  cases hE
  exact a_aret (pc := 10) (v := va_rf _) (rt := (.array (.object "java/lang/Object"))) (by first | exact Or.inl ⟨_, rfl⟩ | exact Or.inr ⟨_, rfl⟩) (va_rfv _) hX hR dJ5_grow_10 (by rfl) (fun _ h => h)
theorem ct_A_L_grow (l : Launch) (D : Dd) (A : Nat → Prop) (R : Heap → Prop) (d : Nat → Prop) (L : Nat × Nat × Nat × Nat) (T : Th) (hSt : Stb R d) (hdA : ∀ q, d q → A q) (hAB : ∀ q, A q → D.2.2.2.1.heap.size ≤ q) (a0 : Nat) (out : Option Nat × Th) (hE : A_L_grow a0 T = some out) : Ct l yJ5_grow (ws_ yJ5_grow cJ5_grow 1 (some (.array (.object "java/lang/Object")))) (rmA 4 91 L T) vwCl arTy D A [.ref a0] (RD D R d L T) (RD D R d L out.2) (some (va_rf out.1)) (L.1 - tN T) (L.2.1 - tZ T) := by
  refine Ct.ofA (lv := [(0, .ref a0)]) (by decide) (Nat.le_of_ble_eq_true rfl) rfl hdA hAB ?_
  intro X hl hX hR hXA _
  exact w_A_L_grow hX hSt hR a0 T hE
theorem cw_A_L_grow_J5 {X : Ctx} {cc : ByteArray} {D : Dd} {d : Nat → Prop} {L : Nat × Nat × Nat × Nat} {mL fr lo : Nat} {T : Th} (hX : Ax X cc RJ5 D d L mL fr lo) (h1 : 4 + 1 ≤ fr) (h2 : 8 + (1 + 11) + 91 ≤ lo) : CallW X.2.2.2.1 X.2.2.2.2.1 X.2.2.2.2.2.2.1 RJ5 RJ5 129 yJ5_grow cJ5_grow 1 (some (.array (.object "java/lang/Object"))) (ws_ yJ5_grow cJ5_grow 1 (some (.array (.object "java/lang/Object")))) (rmA 4 91 L T) (L.1 - tN T) (L.2.1 - tZ T) 0 := cwV 0 (cx_w hX.1) (lw_V q935 q937 qs18 q124 q938) rfl rfl rfl (by decide +kernel) (by rw [hX.2.2.2.1, hX.2.2.2.2.1]; exact ⟨h1, h2⟩)
set_option maxHeartbeats 4000000 in
theorem w_A_L_add_2_B11 {X : Ctx} {D : Dd} {R : Heap → Prop} {d : Nat → Prop} {L : Nat × Nat × Nat × Nat} {out : Th} (hX : Ax X cJ5_add_2 RJ5 D d L 4 5 111) (hSt : Stb R d) (hR : RtA X none (RD D R d L out) none D L) (a0 : Nat) (a1 : Nat) (a2 : Option Nat) (a3 : Int32) (T : Th) (hE : A_L_add_2_B11 a0 a1 a2 a3 T = some out) (c z : Nat) : Wk X c z (RD D R d L T) 11 [(0, .ref a0), (1, .ref a1), (2, va_rf a2), (3, .int a3)] [] := by
  have hC := hX.1
  have hnL := hX.2.2.1
  have hDy : ∀ {T : Th} (H : Heap), RD D R d L T H → Dy D T H := fun _ h => h.2.1
  unfold A_L_add_2_B11 at hE
  refine k_aloadR_n (pc := 11) hC dJ5_add_2_11 rfl 2 rfl ?_
  refine k_iload_n (pc := 12) hC dJ5_add_2_12 rfl 3 rfl ?_
  refine k_aload_n (pc := 13) hC dJ5_add_2_13 rfl 1 rfl ?_
  refine k_nn (G := fun z => Wk X _ _ (RD D R d L T) 14 [(0, .ref a0), (1, .ref a1), (2, z), (3, .int a3)] [.ref a1, .int a3, z]) hE (fun b3 hE => ?_)
  refine a_aast (pc := 14) (E := "java/lang/Object") hX hSt (by simp [arTy]) dJ5_add_2_14 hE (fun T4 hE => ?_)
  refine k_aload_n (pc := 15) hC dJ5_add_2_15 rfl 0 rfl ?_
  refine k_iload_n (pc := 16) hC dJ5_add_2_16 rfl 3 rfl ?_
  refine k_iconst (pc := 17) (v := 1) hC dJ5_add_2_17 (by decide) ?_
  refine k_iadd (pc := 18) hC dJ5_add_2_18 ?_
  refine a_putI (pc := 19) (y := (a3 + 1)) hX hSt cl_J5 in_J5 2 (by decide) rfl tyJ5 tyJ5_ok nmJ5 (by exact q344) rfl rfl rfl rfl dJ5_add_2_19 hE (fun T5 _ hE => ?_)
  cases hE
  exact a_vret (pc := 22) hX hR dJ5_add_2_22 (by rfl) (fun _ h => h)
set_option maxHeartbeats 4000000 in
theorem w_A_L_add_2 {X : Ctx} {D : Dd} {R : Heap → Prop} {d : Nat → Prop} {L : Nat × Nat × Nat × Nat} {out : Th} (hX : Ax X cJ5_add_2 RJ5 D d L 4 5 111) (hSt : Stb R d) (hR : RtA X none (RD D R d L out) none D L) (a0 : Nat) (a1 : Nat) (a2 : Nat) (a3 : Int32) (T : Th) (hE : A_L_add_2 a0 a1 a2 a3 T = some out) (c z : Nat) : Wk X c z (RD D R d L T) 0 [(0, .ref a0), (1, .ref a1), (2, .ref a2), (3, .int a3)] [] := by
  have hC := hX.1
  have hnL := hX.2.2.1
  have hDy : ∀ {T : Th} (H : Heap), RD D R d L T H → Dy D T H := fun _ h => h.2.1
  unfold A_L_add_2 at hE
  refine k_iload_n (pc := 0) hC dJ5_add_2_0 rfl 3 rfl ?_
  refine k_aload_n (pc := 1) hC dJ5_add_2_1 rfl 2 rfl ?_
  refine dy_alen (pc := 2) (ty := .object "java/lang/Object") hC hDy (by simp [arTy]) dJ5_add_2_2 hE (fun x1 hE => ?_)
  refine k_icmp_ne (pc := 3) (tgt := 11) hC dJ5_add_2_3 (by decide) hE (fun hE => ?_) (fun hE => ?_)
  · refine k_aload_n (pc := 6) hC dJ5_add_2_6 rfl 0 rfl ?_
    obtain ⟨hrv, hE⟩ := dC_of hE
    obtain ⟨r2, h1, hE⟩ := ob_ hE
    refine a_callV (pc := 7) (As := []) hX (ct_A_L_grow X.2.1 D (cxA X) R d L T hSt hX.2.1 hX.2.2.2.2.2.2.2.2.2 a0 r2 h1) (cw_A_L_grow_J5 hX (Nat.le_of_ble_eq_true rfl) (Nat.le_of_ble_eq_true rfl)) (a_recv hC cl_J5 hrv) rfl rfl (Nat.le_of_ble_eq_true rfl) dJ5_add_2_7 (fun c z => ?_)
    show Wk X c z (RD D R d L r2.2) 10 [(0, .ref a0), (1, .ref a1), (2, .ref a2), (3, .int a3)] [va_rf r2.1]
    refine k_astoreR_n (pc := 10) (lv' := [(2, va_rf r2.1), (0, .ref a0), (1, .ref a1), (3, .int a3)]) hC dJ5_add_2_10 rfl (by rw [hnL]; decide) rfl ?_
    refine k_sub [1, 2, 0, 3] rfl ?_
    exact w_A_L_add_2_B11 hX hSt hR  _ _ _ _ _ hE _ _
  · exact w_A_L_add_2_B11 hX hSt hR  _ _ _ _ _ hE _ _
theorem ct_A_L_add_2 (l : Launch) (D : Dd) (A : Nat → Prop) (R : Heap → Prop) (d : Nat → Prop) (L : Nat × Nat × Nat × Nat) (T : Th) (hSt : Stb R d) (hdA : ∀ q, d q → A q) (hAB : ∀ q, A q → D.2.2.2.1.heap.size ≤ q) (a0 : Nat) (a1 : Nat) (a2 : Nat) (a3 : Int32) (out : Th) (hE : A_L_add_2 a0 a1 a2 a3 T = some out) : Ct l yJ5_add_2 (ws_ yJ5_add_2 cJ5_add_2 4 none) (rmA 5 111 L T) vwCl arTy D A [.ref a0, .ref a1, .ref a2, .int a3] (RD D R d L T) (RD D R d L out) none (L.1 - tN T) (L.2.1 - tZ T) := by
  refine Ct.ofA (lv := [(0, .ref a0), (1, .ref a1), (2, .ref a2), (3, .int a3)]) (by decide) (Nat.le_of_ble_eq_true rfl) rfl hdA hAB ?_
  intro X hl hX hR hXA _
  exact w_A_L_add_2 hX hSt hR a0 a1 a2 a3 T hE
theorem cw_A_L_add_2_J5 {X : Ctx} {cc : ByteArray} {D : Dd} {d : Nat → Prop} {L : Nat × Nat × Nat × Nat} {mL fr lo : Nat} {T : Th} (hX : Ax X cc RJ5 D d L mL fr lo) (h1 : 5 + 1 ≤ fr) (h2 : 8 + (4 + 11) + 111 ≤ lo) : CallW X.2.2.2.1 X.2.2.2.2.1 X.2.2.2.2.2.2.1 RJ5 RJ5 131 yJ5_add_2 cJ5_add_2 4 none (ws_ yJ5_add_2 cJ5_add_2 4 none) (rmA 5 111 L T) (L.1 - tN T) (L.2.1 - tZ T) 3 := cwV 3 (cx_w hX.1) (lw_V q931 q933 qs17 q124 q934) rfl rfl rfl (by decide +kernel) (by rw [hX.2.2.2.1, hX.2.2.2.2.1]; exact ⟨h1, h2⟩)
set_option maxHeartbeats 4000000 in
theorem w_A_L_add {X : Ctx} {D : Dd} {R : Heap → Prop} {d : Nat → Prop} {L : Nat × Nat × Nat × Nat} {out : Int32 × Th} (hX : Ax X cJ5_add RJ5 D d L 2 6 134) (hSt : Stb R d) (hR : RtA X (some .boolean) (RD D R d L out.2) (some (.int out.1)) D L) (a0 : Nat) (a1 : Nat) (T : Th) (hE : A_L_add a0 a1 T = some out) (c z : Nat) : Wk X c z (RD D R d L T) 0 [(0, .ref a0), (1, .ref a1)] [] := by
  have hC := hX.1
  have hnL := hX.2.2.1
  have hDy : ∀ {T : Th} (H : Heap), RD D R d L T H → Dy D T H := fun _ h => h.2.1
  unfold A_L_add at hE
  refine k_aload_n (pc := 0) hC dJ5_add_0 rfl 0 rfl ?_
  refine k_dup (pc := 1) hC dJ5_add_1 rfl ?_
  refine gD_J5_63_J5 (pc := 2) hC hDy dJ5_add_2 hE (fun x1 hE => ?_)
  refine k_iconst (pc := 5) (v := 1) hC dJ5_add_5 (by decide) ?_
  refine k_iadd (pc := 6) hC dJ5_add_6 ?_
  refine a_putIM (pc := 7) (y := (x1 + 1)) hX hSt cl_J5 in_J5 0 (by decide) rfl tyJ5 tyJ5_ok nmJ5 (by exact q346) (by exact q347) rfl rfl rfl dJ5_add_7 hE (fun T2 _ hE => ?_)
  refine k_aload_n (pc := 10) hC dJ5_add_10 rfl 0 rfl ?_
  refine k_aload_n (pc := 11) hC dJ5_add_11 rfl 1 rfl ?_
  refine k_aload_n (pc := 12) hC dJ5_add_12 rfl 0 rfl ?_
  refine gD_J5_9_J5 (pc := 13) hC hDy dJ5_add_13 hE (fun x3 hE => ?_)
  refine k_aload_n (pc := 16) hC dJ5_add_16 rfl 0 rfl ?_
  refine gD_J5_48_J5 (pc := 17) hC hDy dJ5_add_17 hE (fun x4 hE => ?_)
  refine k_nn (G := fun z => Wk X _ _ (RD D R d L T2) 20 [(0, .ref a0), (1, .ref a1)] [.int x4, z, .ref a1, .ref a0]) hE (fun b5 hE => ?_)
  obtain ⟨hrv, hE⟩ := dC_of hE
  obtain ⟨r6, h1, hE⟩ := ob_ hE
  refine a_callV (pc := 20) (As := [.ref a1, .ref b5, .int x4]) hX (ct_A_L_add_2 X.2.1 D (cxA X) R d L T2 hSt hX.2.1 hX.2.2.2.2.2.2.2.2.2 a0 a1 b5 x4 r6 h1) (cw_A_L_add_2_J5 hX (Nat.le_of_ble_eq_true rfl) (Nat.le_of_ble_eq_true rfl)) (a_recv hC cl_J5 hrv) rfl rfl (Nat.le_of_ble_eq_true rfl) dJ5_add_20 (fun c z => ?_)
  show Wk X c z (RD D R d L r6) 23 [(0, .ref a0), (1, .ref a1)] []
  refine k_iconst (pc := 23) (v := 1) hC dJ5_add_23 (by decide) ?_
  cases hE
  exact a_zret (pc := 24) (by decide) hX hR dJ5_add_24 (by rfl) (fun _ h => h)
theorem ct_A_L_add (l : Launch) (D : Dd) (A : Nat → Prop) (R : Heap → Prop) (d : Nat → Prop) (L : Nat × Nat × Nat × Nat) (T : Th) (hSt : Stb R d) (hdA : ∀ q, d q → A q) (hAB : ∀ q, A q → D.2.2.2.1.heap.size ≤ q) (a0 : Nat) (a1 : Nat) (out : Int32 × Th) (hE : A_L_add a0 a1 T = some out) : Ct l yJ5_add (ws_ yJ5_add cJ5_add 2 (some .boolean)) (rmA 6 134 L T) vwCl arTy D A [.ref a0, .ref a1] (RD D R d L T) (RD D R d L out.2) (some (.int out.1)) (L.1 - tN T) (L.2.1 - tZ T) := by
  refine Ct.ofA (lv := [(0, .ref a0), (1, .ref a1)]) (by decide) (Nat.le_of_ble_eq_true rfl) rfl hdA hAB ?_
  intro X hl hX hR hXA _
  exact w_A_L_add hX hSt hR a0 a1 T hE
theorem cw_A_L_add_X3 {X : Ctx} {cc : ByteArray} {D : Dd} {d : Nat → Prop} {L : Nat × Nat × Nat × Nat} {mL fr lo : Nat} {T : Th} (hX : Ax X cc RX3 D d L mL fr lo) (h1 : 6 + 1 ≤ fr) (h2 : 8 + (2 + 11) + 134 ≤ lo) : CallW X.2.2.2.1 X.2.2.2.2.1 X.2.2.2.2.2.2.1 RX3 RJ5 130 yJ5_add cJ5_add 2 (some .boolean) (ws_ yJ5_add cJ5_add 2 (some .boolean)) (rmA 6 134 L T) (L.1 - tN T) (L.2.1 - tZ T) 1 := cwV 1 (cx_w hX.1) (lw_V q927 q928 q929 q124 q930) rfl rfl rfl (by decide +kernel) (by rw [hX.2.2.2.1, hX.2.2.2.2.1]; exact ⟨h1, h2⟩)
set_option maxHeartbeats 4000000 in
theorem w_A_AB_init {X : Ctx} {D : Dd} {R : Heap → Prop} {d : Nat → Prop} {L : Nat × Nat × Nat × Nat} {out : Th} (hX : Ax X cJ10_init RJ10 D d L 2 1 24) (hSt : Stb R d) (hR : RtA X none (RD D R d L out) none D L) (hin : "<init>" = "<init>" → X.2.2.2.2.2.2.2.2.1.name = "<init>") (a0 : Nat) (a1 : Int32) (T : Th) (hE : A_AB_init a0 a1 T = some out) (c z : Nat) : Wk X c z (RD D R d L T) 0 [(0, .ref a0), (1, .int a1)] [] := by
  have hC := hX.1
  have hnL := hX.2.2.1
  have hDy : ∀ {T : Th} (H : Heap), RD D R d L T H → Dy D T H := fun _ h => h.2.1
  unfold A_AB_init at hE
  refine k_aload_n (pc := 0) hC dJ10_init_0 rfl 0 rfl ?_
  refine a_objInit (pc := 1) hX q728 dJ10_init_1 (Nat.le_of_ble_eq_true rfl) (Nat.le_of_ble_eq_true rfl) ?_
  refine a_gets (pc := 4) hX (fun _ h => h.1) q729 dJ10_init_4 ?_
  refine k_if_eq (pc := 7) (tgt := 25) hC dJ10_init_7 (by decide) hE (fun hE => ?_) (fun hE => ?_)
  · refine k_aload_n (pc := 25) hC dJ10_init_25 rfl 0 rfl ?_
    refine k_iload_n (pc := 26) hC dJ10_init_26 rfl 1 rfl ?_
    cases hE
  · refine k_aload_n (pc := 10) hC dJ10_init_10 rfl 0 rfl ?_
    refine k_iload_n (pc := 11) hC dJ10_init_11 rfl 1 rfl ?_
    refine a_newb (pc := 12) hX hSt dJ10_init_12 hE (fun T1 eT1 hE c z => ?_)
    refine a_putR (pc := 14) (y := ((some (tN T)))) hX hSt cl_J11 in_J11 0 (by decide) rfl tyJ11 tyJ11_ok nmJ11 (by exact q737) rfl rfl (by first | rfl | (cases hE <;> rfl)) (by first | rfl | (cases hE <;> rfl)) dJ10_init_14 hE (fun T2 _ hE => ?_)
    refine k_aload_n (pc := 17) hC dJ10_init_17 rfl 0 rfl ?_
    refine k_iconst (pc := 18) (v := 0) hC dJ10_init_18 (by decide) ?_
    refine a_putI (pc := 19) (y := 0) hX hSt cl_J11 in_J11 1 (by decide) rfl tyJ11 tyJ11_ok nmJ11 (by exact q738) rfl rfl rfl rfl dJ10_init_19 hE (fun T3 _ hE => ?_)
    refine k_goto (pc := 22) (tgt := 38) hC dJ10_init_22 (by decide) ?_
    cases hE
    exact a_vret (pc := 38) hX hR dJ10_init_38 (by rfl) (fun _ h => h)
theorem ct_A_AB_init (l : Launch) (D : Dd) (A : Nat → Prop) (R : Heap → Prop) (d : Nat → Prop) (L : Nat × Nat × Nat × Nat) (T : Th) (hSt : Stb R d) (hdA : ∀ q, d q → A q) (hAB : ∀ q, A q → D.2.2.2.1.heap.size ≤ q) (a0 : Nat) (a1 : Int32) (out : Th) (hE : A_AB_init a0 a1 T = some out) : Ct l yJ10_init (ws_ yJ10_init cJ10_init 2 none) (rmA 1 24 L T) vwCl arTy D A [.ref a0, .int a1] (RD D R d L T) (RD D R d L out) none (L.1 - tN T) (L.2.1 - tZ T) := by
  refine Ct.ofA (lv := [(0, .ref a0), (1, .int a1)]) (by decide) (Nat.le_of_ble_eq_true rfl) rfl hdA hAB ?_
  intro X hl hX hR hXA hin
  exact w_A_AB_init hX hSt hR hin a0 a1 T hE
theorem cw_A_AB_init_J11 {X : Ctx} {cc : ByteArray} {D : Dd} {d : Nat → Prop} {L : Nat × Nat × Nat × Nat} {mL fr lo : Nat} {T : Th} (hX : Ax X cc RJ11 D d L mL fr lo) (h1 : 1 + 1 ≤ fr) (h2 : 8 + (2 + 11) + 24 ≤ lo) : CallB X.2.2.2.1 X.2.2.2.2.1 X.2.2.2.2.2.2.1 RJ11 1 yJ10_init cJ10_init 2 none (ws_ yJ10_init cJ10_init 2 none) (rmA 1 24 L T) (L.1 - tN T) (L.2.1 - tZ T) 1 ∧ yJ10_init.name = "<init>" ∧ (Cond.instanceMethod yJ10_init).before X.2.2.2.2.2.2.1 X.2.2.2.2.1 = true := cwI 1 (cx_w hX.1) (lw_meth q727) rfl rfl rfl (cx_w hX.1 _ q135) (cx_w hX.1 _ q725) (cx_w hX.1 _ q726) rfl (by decide +kernel) (by rw [hX.2.2.2.1, hX.2.2.2.2.1]; exact ⟨h1, h2⟩)
set_option maxHeartbeats 4000000 in
theorem w_A_AB_ensureCapacityInternal {X : Ctx} {D : Dd} {R : Heap → Prop} {d : Nat → Prop} {L : Nat × Nat × Nat × Nat} {out : Th} (hX : Ax X cJ10_ensureCapacityInternal RJ10 D d L 3 1 24) (hSt : Stb R d) (hR : RtA X none (RD D R d L out) none D L) (a0 : Nat) (a1 : Int32) (T : Th) (hE : A_AB_ensureCapacityInternal a0 a1 T = some out) (c z : Nat) : Wk X c z (RD D R d L T) 0 [(0, .ref a0), (1, .int a1)] [] := by
  have hC := hX.1
  have hnL := hX.2.2.1
  have hDy : ∀ {T : Th} (H : Heap), RD D R d L T H → Dy D T H := fun _ h => h.2.1
  unfold A_AB_ensureCapacityInternal at hE
  refine k_aload_n (pc := 0) hC dJ10_ensureCapacityInternal_0 rfl 0 rfl ?_
  refine gD_J10_15_J11 (pc := 1) hC hDy dJ10_ensureCapacityInternal_1 hE (fun x1 hE => ?_)
  refine k_nn (G := fun z => Wk X _ _ (RD D R d L T) 4 [(0, .ref a0), (1, .int a1)] [z]) hE (fun b2 hE => ?_)
  refine dy_alen (pc := 4) (ty := .byte) hC hDy (by simp [arTy]) dJ10_ensureCapacityInternal_4 hE (fun x3 hE => ?_)
  refine k_aload_n (pc := 5) hC dJ10_ensureCapacityInternal_5 rfl 0 rfl ?_
  refine gD_J10_22_J11 (pc := 6) hC hDy dJ10_ensureCapacityInternal_6 hE (fun x4 hE => ?_)
  refine k_ishr (pc := 9) hC dJ10_ensureCapacityInternal_9 ?_
  refine k_istoreE_n (pc := 10) (lv' := fun x5 => [(2, .int x5), (0, .ref a0), (1, .int a1)]) hC dJ10_ensureCapacityInternal_10 rfl (by rw [hnL]; decide) hE (fun _ => rfl) (fun x5 hE => ?_)
  refine k_iload_n (pc := 11) hC dJ10_ensureCapacityInternal_11 rfl 2 rfl ?_
  refine k_iload_n (pc := 12) hC dJ10_ensureCapacityInternal_12 rfl 0 rfl ?_
  refine k_isub (pc := 13) hC dJ10_ensureCapacityInternal_13 ?_
  refine k_if_le (pc := 14) (tgt := 38) hC dJ10_ensureCapacityInternal_14 (by decide) hE (fun hE => ?_) (fun hE => ?_)
  · cases hE
    exact a_vret (pc := 38) hX hR dJ10_ensureCapacityInternal_38 (by rfl) (fun _ h => h)
  · refine k_aload_n (pc := 17) hC dJ10_ensureCapacityInternal_17 rfl 1 rfl ?_
    refine k_aload_n (pc := 18) hC dJ10_ensureCapacityInternal_18 rfl 1 rfl ?_
    refine gD_J10_15_J11 (pc := 19) hC hDy dJ10_ensureCapacityInternal_19 hE (fun x6 hE => ?_)
    refine k_aload_n (pc := 22) hC dJ10_ensureCapacityInternal_22 rfl 1 rfl ?_
    refine k_iload_n (pc := 23) hC dJ10_ensureCapacityInternal_23 rfl 2 rfl ?_
    cases hE
theorem ct_A_AB_ensureCapacityInternal (l : Launch) (D : Dd) (A : Nat → Prop) (R : Heap → Prop) (d : Nat → Prop) (L : Nat × Nat × Nat × Nat) (T : Th) (hSt : Stb R d) (hdA : ∀ q, d q → A q) (hAB : ∀ q, A q → D.2.2.2.1.heap.size ≤ q) (a0 : Nat) (a1 : Int32) (out : Th) (hE : A_AB_ensureCapacityInternal a0 a1 T = some out) : Ct l yJ10_ensureCapacityInternal (ws_ yJ10_ensureCapacityInternal cJ10_ensureCapacityInternal 3 none) (rmA 1 24 L T) vwCl arTy D A [.ref a0, .int a1] (RD D R d L T) (RD D R d L out) none (L.1 - tN T) (L.2.1 - tZ T) := by
  refine Ct.ofA (lv := [(0, .ref a0), (1, .int a1)]) (by decide) (Nat.le_of_ble_eq_true rfl) rfl hdA hAB ?_
  intro X hl hX hR hXA _
  exact w_A_AB_ensureCapacityInternal hX hSt hR a0 a1 T hE
theorem cw_A_AB_ensureCapacityInternal_O_J10 {X : Ctx} {cc : ByteArray} {D : Dd} {d : Nat → Prop} {L : Nat × Nat × Nat × Nat} {mL fr lo : Nat} {T : Th} (hX : Ax X cc RJ10 D d L mL fr lo) (h1 : 1 + 1 ≤ fr) (h2 : 8 + (3 + 11) + 24 ≤ lo) : va_CU X.2.2.2.1 X.2.2.2.2.1 X.2.2.2.2.2.2.1 RJ10 RJ11 "java/lang/AbstractStringBuilder" 100 yJ10_ensureCapacityInternal yJ10_ensureCapacityInternal cJ10_ensureCapacityInternal 3 none (ws_ yJ10_ensureCapacityInternal cJ10_ensureCapacityInternal 3 none) (rmA 1 24 L T) (L.1 - tN T) (L.2.1 - tZ T) 1 := cuP hX.1 q757 q2199 q758 q721 q759 q135 q760 (y2 := ⟨"java/lang/AbstractStringBuilder", "getValue", "()[B"⟩) rfl q839 q841 rfl rfl (by decide +kernel) (by rw [hX.2.2.2.1, hX.2.2.2.2.1]; exact ⟨h1, h2⟩)
set_option maxHeartbeats 4000000 in
theorem w_A_AB_isLatin1 {X : Ctx} {D : Dd} {R : Heap → Prop} {d : Nat → Prop} {L : Nat × Nat × Nat × Nat} {T : Th} {out : Int32} (hX : Ax X cJ10_isLatin1 RJ10 D d L 1 0 0) (hSt : Stb R d) (hR : RtA X (some .boolean) (RD D R d L T) (some (.int out)) D L) (a0 : Nat) (hE : A_AB_isLatin1 T a0 = some out) (c z : Nat) : Wk X c z (RD D R d L T) 0 [(0, .ref a0)] [] := by
  have hC := hX.1
  have hnL := hX.2.2.1
  have hDy : ∀ {T : Th} (H : Heap), RD D R d L T H → Dy D T H := fun _ h => h.2.1
  unfold A_AB_isLatin1 at hE
  refine a_gets (pc := 0) hX (fun _ h => h.1) q729 dJ10_isLatin1_0 ?_
  refine k_if_eq (pc := 3) (tgt := 17) hC dJ10_isLatin1_3 (by decide) hE (fun hE => ?_) (fun hE => ?_)
  · refine k_iconst (pc := 17) (v := 0) hC dJ10_isLatin1_17 (by decide) ?_
    cases hE
    exact a_zret (pc := 18) (by decide) hX hR dJ10_isLatin1_18 (by rfl) (fun _ h => h)
  · refine k_aload_n (pc := 6) hC dJ10_isLatin1_6 rfl 0 rfl ?_
    refine gD_J10_22_J11 (pc := 7) hC hDy dJ10_isLatin1_7 hE (fun x1 hE => ?_)
    refine k_if_ne (pc := 10) (tgt := 17) hC dJ10_isLatin1_10 (by decide) hE (fun hE => ?_) (fun hE => ?_)
    · refine k_iconst (pc := 13) (v := 1) hC dJ10_isLatin1_13 (by decide) ?_
      refine k_goto (pc := 14) (tgt := 18) hC dJ10_isLatin1_14 (by decide) ?_
      cases hE
      exact a_zret (pc := 18) (by decide) hX hR dJ10_isLatin1_18 (by rfl) (fun _ h => h)
    · refine k_iconst (pc := 17) (v := 0) hC dJ10_isLatin1_17 (by decide) ?_
      cases hE
      exact a_zret (pc := 18) (by decide) hX hR dJ10_isLatin1_18 (by rfl) (fun _ h => h)
theorem ct_A_AB_isLatin1 (l : Launch) (D : Dd) (A : Nat → Prop) (R : Heap → Prop) (d : Nat → Prop) (L : Nat × Nat × Nat × Nat) (T : Th) (hSt : Stb R d) (hdA : ∀ q, d q → A q) (hAB : ∀ q, A q → D.2.2.2.1.heap.size ≤ q) (a0 : Nat) (out : Int32) (hE : A_AB_isLatin1 T a0 = some out) : Ct l yJ10_isLatin1 (ws_ yJ10_isLatin1 cJ10_isLatin1 1 (some .boolean)) (rmA 0 0 L T) vwCl arTy D A [.ref a0] (RD D R d L T) (RD D R d L T) (some (.int out)) (L.1 - tN T) (L.2.1 - tZ T) := by
  refine Ct.ofA (lv := [(0, .ref a0)]) (by decide) (Nat.le_of_ble_eq_true rfl) rfl hdA hAB ?_
  intro X hl hX hR hXA _
  exact w_A_AB_isLatin1 hX hSt hR a0 hE
theorem cw_A_AB_isLatin1_O_J10 {X : Ctx} {cc : ByteArray} {D : Dd} {d : Nat → Prop} {L : Nat × Nat × Nat × Nat} {mL fr lo : Nat} {T : Th} (hX : Ax X cc RJ10 D d L mL fr lo) (h1 : 0 + 1 ≤ fr) (h2 : 8 + (1 + 11) + 0 ≤ lo) : va_CU X.2.2.2.1 X.2.2.2.2.1 X.2.2.2.2.2.2.1 RJ10 RJ11 "java/lang/AbstractStringBuilder" 83 yJ10_isLatin1 yJ10_isLatin1 cJ10_isLatin1 1 (some .boolean) (ws_ yJ10_isLatin1 cJ10_isLatin1 1 (some .boolean)) (rmA 0 0 L T) (L.1 - tN T) (L.2.1 - tZ T) 0 := va_cwU 0 (cx_w hX.1) (lw_U q792 q794 q795 q793 q135 q796) rfl rfl rfl rfl (by decide +kernel) (by rw [hX.2.2.2.1, hX.2.2.2.2.1]; exact ⟨h1, h2⟩)
theorem cw_A_AB_isLatin1_O_J6 {X : Ctx} {cc : ByteArray} {D : Dd} {d : Nat → Prop} {L : Nat × Nat × Nat × Nat} {mL fr lo : Nat} {T : Th} (hX : Ax X cc RJ6 D d L mL fr lo) (h1 : 0 + 1 ≤ fr) (h2 : 8 + (1 + 11) + 0 ≤ lo) : va_CU X.2.2.2.1 X.2.2.2.2.1 X.2.2.2.2.2.2.1 RJ6 RJ11 "java/lang/AbstractStringBuilder" 1047 yJ10_isLatin1 yJ10_isLatin1 cJ10_isLatin1 1 (some .boolean) (ws_ yJ10_isLatin1 cJ10_isLatin1 1 (some .boolean)) (rmA 0 0 L T) (L.1 - tN T) (L.2.1 - tZ T) 0 := va_cwU 0 (cx_w hX.1) (lw_U q851 q794 q795 q793 q135 q796) rfl rfl rfl rfl (by decide +kernel) (by rw [hX.2.2.2.1, hX.2.2.2.2.1]; exact ⟨h1, h2⟩)
set_option maxHeartbeats 4000000 in
theorem w_A_U_canEncode {X : Ctx} {D : Dd} {R : Heap → Prop} {d : Nat → Prop} {L : Nat × Nat × Nat × Nat} {T : Th} {out : Int32} (hX : Ax X cJ7_canEncode RJ7 D d L 1 0 0) (hSt : Stb R d) (hR : RtA X (some .boolean) (RD D R d L T) (some (.int out)) D L) (a0 : Int32) (hE : A_U_canEncode a0 = some out) (c z : Nat) : Wk X c z (RD D R d L T) 0 [(0, .int a0)] [] := by
  have hC := hX.1
  have hnL := hX.2.2.1
  have hDy : ∀ {T : Th} (H : Heap), RD D R d L T H → Dy D T H := fun _ h => h.2.1
  unfold A_U_canEncode at hE
  refine k_iload_n (pc := 0) hC dJ7_canEncode_0 rfl 0 rfl ?_
  refine k_sipush (pc := 1) (v := 255) hC dJ7_canEncode_1 (by decide) ?_
  refine k_icmp_gt (pc := 4) (tgt := 11) hC dJ7_canEncode_4 (by decide) hE (fun hE => ?_) (fun hE => ?_)
  · refine k_iconst (pc := 11) (v := 0) hC dJ7_canEncode_11 (by decide) ?_
    cases hE
    exact a_zret (pc := 12) (by decide) hX hR dJ7_canEncode_12 (by rfl) (fun _ h => h)
  · refine k_iconst (pc := 7) (v := 1) hC dJ7_canEncode_7 (by decide) ?_
    refine k_goto (pc := 8) (tgt := 12) hC dJ7_canEncode_8 (by decide) ?_
    cases hE
    exact a_zret (pc := 12) (by decide) hX hR dJ7_canEncode_12 (by rfl) (fun _ h => h)
theorem ct_A_U_canEncode (l : Launch) (D : Dd) (A : Nat → Prop) (R : Heap → Prop) (d : Nat → Prop) (L : Nat × Nat × Nat × Nat) (T : Th) (hSt : Stb R d) (hdA : ∀ q, d q → A q) (hAB : ∀ q, A q → D.2.2.2.1.heap.size ≤ q) (a0 : Int32) (out : Int32) (hE : A_U_canEncode a0 = some out) : Ct l yJ7_canEncode (ws_ yJ7_canEncode cJ7_canEncode 1 (some .boolean)) (rmA 0 0 L T) vwCl arTy D A [.int a0] (RD D R d L T) (RD D R d L T) (some (.int out)) (L.1 - tN T) (L.2.1 - tZ T) := by
  refine Ct.ofA (lv := [(0, .int a0)]) (by decide) (Nat.le_of_ble_eq_true rfl) rfl hdA hAB ?_
  intro X hl hX hR hXA _
  exact w_A_U_canEncode hX hSt hR a0 hE
theorem cw_A_U_canEncode_J10 {X : Ctx} {cc : ByteArray} {D : Dd} {d : Nat → Prop} {L : Nat × Nat × Nat × Nat} {mL fr lo : Nat} {T : Th} (hX : Ax X cc RJ10 D d L mL fr lo) (h1 : 0 + 1 ≤ fr) (h2 : 8 + (1 + 11) + 0 ≤ lo) : CallB X.2.2.2.1 X.2.2.2.2.1 X.2.2.2.2.2.2.1 RJ10 191 yJ7_canEncode cJ7_canEncode 1 (some .boolean) (ws_ yJ7_canEncode cJ7_canEncode 1 (some .boolean)) (rmA 0 0 L T) (L.1 - tN T) (L.2.1 - tZ T) 1 ∧ (Cond.static yJ7_canEncode).before X.2.2.2.2.2.2.1 X.2.2.2.2.1 = true := va_cwS 1 (cx_w hX.1) (lw_S q797 q798 q130 q799) rfl rfl rfl (by decide +kernel) (by rw [hX.2.2.2.1, hX.2.2.2.2.1]; exact ⟨h1, h2⟩)
set_option maxHeartbeats 4000000 in
theorem w_A_AB_append_B56 {X : Ctx} {D : Dd} {R : Heap → Prop} {d : Nat → Prop} {L : Nat × Nat × Nat × Nat} {out : Option Nat × Th} (hX : Ax X cJ10_append RJ10 D d L 2 2 46) (hSt : Stb R d) (hR : RtA X (some (.object "java/lang/AbstractStringBuilder")) (RD D R d L out.2) (some (va_rf out.1)) D L) (a0 : Nat) (a1 : Int32) (T : Th) (hE : A_AB_append_B56 a0 a1 T = some out) (c z : Nat) : Wk X c z (RD D R d L T) 56 [(0, .ref a0), (1, .int a1)] [] := by
  have hC := hX.1
  have hnL := hX.2.2.1
  have hDy : ∀ {T : Th} (H : Heap), RD D R d L T H → Dy D T H := fun _ h => h.2.1
  unfold A_AB_append_B56 at hE
  refine k_aload_n (pc := 56) hC dJ10_append_56 rfl 0 rfl ?_
  refine gD_J10_15_J11 (pc := 57) hC hDy dJ10_append_57 hE (fun x11 hE => ?_)
  refine k_aload_n (pc := 60) hC dJ10_append_60 rfl 0 rfl ?_
  refine k_dup (pc := 61) hC dJ10_append_61 rfl ?_
  refine gD_J10_79_J11 (pc := 62) hC hDy dJ10_append_62 hE (fun x12 hE => ?_)
  refine k_dup_x1 (pc := 65) hC dJ10_append_65 rfl rfl ?_
  refine k_iconst (pc := 66) (v := 1) hC dJ10_append_66 (by decide) ?_
  refine k_iadd (pc := 67) hC dJ10_append_67 ?_
  refine a_putI (pc := 68) (y := (x12 + 1)) hX hSt cl_J11 in_J11 3 (by decide) rfl tyJ11 tyJ11_ok nmJ11 (by exact q740) rfl rfl rfl rfl dJ10_append_68 hE (fun T13 _ hE => ?_)
  refine k_iload_n (pc := 71) hC dJ10_append_71 rfl 1 rfl ?_
  cases hE
set_option maxHeartbeats 4000000 in
theorem w_A_AB_append_B45 {X : Ctx} {D : Dd} {R : Heap → Prop} {d : Nat → Prop} {L : Nat × Nat × Nat × Nat} {out : Option Nat × Th} (hX : Ax X cJ10_append RJ10 D d L 2 2 46) (hSt : Stb R d) (hR : RtA X (some (.object "java/lang/AbstractStringBuilder")) (RD D R d L out.2) (some (va_rf out.1)) D L) (a0 : Nat) (a1 : Int32) (T : Th) (hE : A_AB_append_B45 a0 a1 T = some out) (c z : Nat) : Wk X c z (RD D R d L T) 45 [(0, .ref a0), (1, .int a1)] [] := by
  have hC := hX.1
  have hnL := hX.2.2.1
  have hDy : ∀ {T : Th} (H : Heap), RD D R d L T H → Dy D T H := fun _ h => h.2.1
  unfold A_AB_append_B45 at hE
  refine k_aload_n (pc := 45) hC dJ10_append_45 rfl 0 rfl ?_
  obtain ⟨hrv, hE⟩ := dC_of hE
  obtain ⟨r10, h1, hE⟩ := ob_ hE
  refine a_callU (pc := 46) (As := []) hX (ct_A_AB_isLatin1 X.2.1 D (cxA X) R d L T hSt hX.2.1 hX.2.2.2.2.2.2.2.2.2 a0 r10 h1) (cw_A_AB_isLatin1_O_J10 hX (Nat.le_of_ble_eq_true rfl) (Nat.le_of_ble_eq_true rfl)) (a_recv hC cl_J11 hrv) rfl rfl (Nat.le_of_ble_eq_true rfl) dJ10_append_46 (fun c z => ?_)
  show Wk X c z (RD D R d L T) 49 [(0, .ref a0), (1, .int a1)] [.int r10]
  refine k_if_eq (pc := 49) (tgt := 56) hC dJ10_append_49 (by decide) hE (fun hE => ?_) (fun hE => ?_)
  · exact w_A_AB_append_B56 hX hSt hR  _ _ _ hE _ _
  · refine k_aload_n (pc := 52) hC dJ10_append_52 rfl 0 rfl ?_
    cases hE
set_option maxHeartbeats 4000000 in
theorem w_A_AB_append_B75 {X : Ctx} {D : Dd} {R : Heap → Prop} {d : Nat → Prop} {L : Nat × Nat × Nat × Nat} {out : Option Nat × Th} (hX : Ax X cJ10_append RJ10 D d L 2 2 46) (hSt : Stb R d) (hR : RtA X (some (.object "java/lang/AbstractStringBuilder")) (RD D R d L out.2) (some (va_rf out.1)) D L) (a0 : Nat) (T : Th) (hE : A_AB_append_B75 a0 T = some out) (c z : Nat) : Wk X c z (RD D R d L T) 75 [(0, .ref a0)] [] := by
  have hC := hX.1
  have hnL := hX.2.2.1
  have hDy : ∀ {T : Th} (H : Heap), RD D R d L T H → Dy D T H := fun _ h => h.2.1
  unfold A_AB_append_B75 at hE
  refine k_aload_n (pc := 75) hC dJ10_append_75 rfl 0 rfl ?_
  cases hE
  exact a_aret (pc := 76) (v := va_rf _) (rt := (.object "java/lang/AbstractStringBuilder")) (by first | exact Or.inl ⟨_, rfl⟩ | exact Or.inr ⟨_, rfl⟩) (va_rfv _) hX hR dJ10_append_76 (by rfl) (fun _ h => h)
set_option maxHeartbeats 4000000 in
theorem w_A_AB_append {X : Ctx} {D : Dd} {R : Heap → Prop} {d : Nat → Prop} {L : Nat × Nat × Nat × Nat} {out : Option Nat × Th} (hX : Ax X cJ10_append RJ10 D d L 2 2 46) (hSt : Stb R d) (hR : RtA X (some (.object "java/lang/AbstractStringBuilder")) (RD D R d L out.2) (some (va_rf out.1)) D L) (a0 : Nat) (a1 : Int32) (T : Th) (hE : A_AB_append a0 a1 T = some out) (c z : Nat) : Wk X c z (RD D R d L T) 0 [(0, .ref a0), (1, .int a1)] [] := by
  have hC := hX.1
  have hnL := hX.2.2.1
  have hDy : ∀ {T : Th} (H : Heap), RD D R d L T H → Dy D T H := fun _ h => h.2.1
  unfold A_AB_append at hE
  refine k_aload_n (pc := 0) hC dJ10_append_0 rfl 0 rfl ?_
  refine k_aload_n (pc := 1) hC dJ10_append_1 rfl 0 rfl ?_
  refine gD_J10_79_J11 (pc := 2) hC hDy dJ10_append_2 hE (fun x1 hE => ?_)
  refine k_iconst (pc := 5) (v := 1) hC dJ10_append_5 (by decide) ?_
  refine k_iadd (pc := 6) hC dJ10_append_6 ?_
  obtain ⟨hrv, hE⟩ := dC_of hE
  obtain ⟨r2, h1, hE⟩ := ob_ hE
  refine a_callU (pc := 7) (As := [.int (x1 + 1)]) hX (ct_A_AB_ensureCapacityInternal X.2.1 D (cxA X) R d L T hSt hX.2.1 hX.2.2.2.2.2.2.2.2.2 a0 (x1 + 1) r2 h1) (cw_A_AB_ensureCapacityInternal_O_J10 hX (Nat.le_of_ble_eq_true rfl) (Nat.le_of_ble_eq_true rfl)) (a_recv hC cl_J11 hrv) rfl rfl (Nat.le_of_ble_eq_true rfl) dJ10_append_7 (fun c z => ?_)
  show Wk X c z (RD D R d L r2) 10 [(0, .ref a0), (1, .int a1)] []
  refine k_aload_n (pc := 10) hC dJ10_append_10 rfl 0 rfl ?_
  obtain ⟨hrv, hE⟩ := dC_of hE
  obtain ⟨r3, h1, hE⟩ := ob_ hE
  refine a_callU (pc := 11) (As := []) hX (ct_A_AB_isLatin1 X.2.1 D (cxA X) R d L r2 hSt hX.2.1 hX.2.2.2.2.2.2.2.2.2 a0 r3 h1) (cw_A_AB_isLatin1_O_J10 hX (Nat.le_of_ble_eq_true rfl) (Nat.le_of_ble_eq_true rfl)) (a_recv hC cl_J11 hrv) rfl rfl (Nat.le_of_ble_eq_true rfl) dJ10_append_11 (fun c z => ?_)
  show Wk X c z (RD D R d L r2) 14 [(0, .ref a0), (1, .int a1)] [.int r3]
  refine k_if_eq (pc := 14) (tgt := 45) hC dJ10_append_14 (by decide) hE (fun hE => ?_) (fun hE => ?_)
  · exact w_A_AB_append_B45 hX hSt hR  _ _ _ hE _ _
  · refine k_iload_n (pc := 17) hC dJ10_append_17 rfl 1 rfl ?_
    obtain ⟨r4, h1, hE⟩ := ob_ hE
    refine a_callS (pc := 18) (As := [.int a1]) hX (ct_A_U_canEncode X.2.1 D (cxA X) R d L r2 hSt hX.2.1 hX.2.2.2.2.2.2.2.2.2 a1 r4 h1) (cw_A_U_canEncode_J10 hX (Nat.le_of_ble_eq_true rfl) (Nat.le_of_ble_eq_true rfl)) rfl rfl (Nat.le_of_ble_eq_true rfl) dJ10_append_18 (fun c z => ?_)
    show Wk X c z (RD D R d L r2) 21 [(0, .ref a0), (1, .int a1)] [.int r4]
    refine k_if_eq (pc := 21) (tgt := 45) hC dJ10_append_21 (by decide) hE (fun hE => ?_) (fun hE => ?_)
    · exact w_A_AB_append_B45 hX hSt hR  _ _ _ hE _ _
    · refine k_aload_n (pc := 24) hC dJ10_append_24 rfl 0 rfl ?_
      refine gD_J10_15_J11 (pc := 25) hC hDy dJ10_append_25 hE (fun x5 hE => ?_)
      refine k_aload_n (pc := 28) hC dJ10_append_28 rfl 0 rfl ?_
      refine k_dup (pc := 29) hC dJ10_append_29 rfl ?_
      refine gD_J10_79_J11 (pc := 30) hC hDy dJ10_append_30 hE (fun x6 hE => ?_)
      refine k_dup_x1 (pc := 33) hC dJ10_append_33 rfl rfl ?_
      refine k_iconst (pc := 34) (v := 1) hC dJ10_append_34 (by decide) ?_
      refine k_iadd (pc := 35) hC dJ10_append_35 ?_
      refine a_putI (pc := 36) (y := (x6 + 1)) hX hSt cl_J11 in_J11 3 (by decide) rfl tyJ11 tyJ11_ok nmJ11 (by exact q740) rfl rfl rfl rfl dJ10_append_36 hE (fun T7 _ hE => ?_)
      refine k_iload_n (pc := 39) hC dJ10_append_39 rfl 1 rfl ?_
      refine k_i2b (pc := 40) hC dJ10_append_40 ?_
      refine k_nn (G := fun z => Wk X _ _ (RD D R d L T7) 41 [(0, .ref a0), (1, .int a1)] [.int a1.toInt8.toInt32, .int x6, z]) hE (fun b8 hE => ?_)
      refine a_bast (pc := 41) hX hSt dJ10_append_41 hE (fun T9 hE => ?_)
      refine k_goto (pc := 42) (tgt := 75) hC dJ10_append_42 (by decide) ?_
      refine k_sub [0] rfl ?_
      exact w_A_AB_append_B75 hX hSt hR  _ _ hE _ _
theorem ct_A_AB_append (l : Launch) (D : Dd) (A : Nat → Prop) (R : Heap → Prop) (d : Nat → Prop) (L : Nat × Nat × Nat × Nat) (T : Th) (hSt : Stb R d) (hdA : ∀ q, d q → A q) (hAB : ∀ q, A q → D.2.2.2.1.heap.size ≤ q) (a0 : Nat) (a1 : Int32) (out : Option Nat × Th) (hE : A_AB_append a0 a1 T = some out) : Ct l yJ10_append (ws_ yJ10_append cJ10_append 2 (some (.object "java/lang/AbstractStringBuilder"))) (rmA 2 46 L T) vwCl arTy D A [.ref a0, .int a1] (RD D R d L T) (RD D R d L out.2) (some (va_rf out.1)) (L.1 - tN T) (L.2.1 - tZ T) := by
  refine Ct.ofA (lv := [(0, .ref a0), (1, .int a1)]) (by decide) (Nat.le_of_ble_eq_true rfl) rfl hdA hAB ?_
  intro X hl hX hR hXA _
  exact w_A_AB_append hX hSt hR a0 a1 T hE
theorem cw_A_AB_append_SU_J11 {X : Ctx} {cc : ByteArray} {D : Dd} {d : Nat → Prop} {L : Nat × Nat × Nat × Nat} {mL fr lo : Nat} {T : Th} (hX : Ax X cc RJ11 D d L mL fr lo) (h1 : 2 + 1 ≤ fr) (h2 : 8 + (2 + 11) + 46 ≤ lo) : va_CS X.2.2.2.1 X.2.2.2.2.1 X.2.2.2.2.2.2.1 RJ11 50 yJ10_append cJ10_append 2 (some (.object "java/lang/AbstractStringBuilder")) (ws_ yJ10_append cJ10_append 2 (some (.object "java/lang/AbstractStringBuilder"))) (rmA 2 46 L T) (L.1 - tN T) (L.2.1 - tZ T) 1 := va_cwSU 1 (cx_w hX.1) (lw_SU q754 q2198 q749 q755 q135 q756) rfl rfl rfl (by decide +kernel) (by rw [hX.2.2.2.1, hX.2.2.2.2.1]; exact ⟨h1, h2⟩)
set_option maxHeartbeats 4000000 in
theorem w_A_AB_getValue {X : Ctx} {D : Dd} {R : Heap → Prop} {d : Nat → Prop} {L : Nat × Nat × Nat × Nat} {T : Th} {out : Option Nat} (hX : Ax X cJ10_getValue RJ10 D d L 1 0 0) (hSt : Stb R d) (hR : RtA X (some (.array .byte)) (RD D R d L T) (some (va_rf out)) D L) (a0 : Nat) (hE : A_AB_getValue T a0 = some out) (c z : Nat) : Wk X c z (RD D R d L T) 0 [(0, .ref a0)] [] := by
  have hC := hX.1
  have hnL := hX.2.2.1
  have hDy : ∀ {T : Th} (H : Heap), RD D R d L T H → Dy D T H := fun _ h => h.2.1
  unfold A_AB_getValue at hE
  refine k_aload_n (pc := 0) hC dJ10_getValue_0 rfl 0 rfl ?_
  refine gD_J10_15_J11 (pc := 1) hC hDy dJ10_getValue_1 hE (fun x1 hE => ?_)
  cases hE
  exact a_aret (pc := 4) (v := va_rf _) (rt := (.array .byte)) (by first | exact Or.inl ⟨_, rfl⟩ | exact Or.inr ⟨_, rfl⟩) (va_rfv _) hX hR dJ10_getValue_4 (by rfl) (fun _ h => h)
theorem ct_A_AB_getValue (l : Launch) (D : Dd) (A : Nat → Prop) (R : Heap → Prop) (d : Nat → Prop) (L : Nat × Nat × Nat × Nat) (T : Th) (hSt : Stb R d) (hdA : ∀ q, d q → A q) (hAB : ∀ q, A q → D.2.2.2.1.heap.size ≤ q) (a0 : Nat) (out : Option Nat) (hE : A_AB_getValue T a0 = some out) : Ct l yJ10_getValue (ws_ yJ10_getValue cJ10_getValue 1 (some (.array .byte))) (rmA 0 0 L T) vwCl arTy D A [.ref a0] (RD D R d L T) (RD D R d L T) (some (va_rf out)) (L.1 - tN T) (L.2.1 - tZ T) := by
  refine Ct.ofA (lv := [(0, .ref a0)]) (by decide) (Nat.le_of_ble_eq_true rfl) rfl hdA hAB ?_
  intro X hl hX hR hXA _
  exact w_A_AB_getValue hX hSt hR a0 hE
theorem cw_A_AB_getValue_O_J6 {X : Ctx} {cc : ByteArray} {D : Dd} {d : Nat → Prop} {L : Nat × Nat × Nat × Nat} {mL fr lo : Nat} {T : Th} (hX : Ax X cc RJ6 D d L mL fr lo) (h1 : 0 + 1 ≤ fr) (h2 : 8 + (1 + 11) + 0 ≤ lo) : va_CU X.2.2.2.1 X.2.2.2.2.1 X.2.2.2.2.2.2.1 RJ6 RJ11 "java/lang/AbstractStringBuilder" 552 yJ10_getValue yJ10_getValue cJ10_getValue 1 (some (.array .byte)) (ws_ yJ10_getValue cJ10_getValue 1 (some (.array .byte))) (rmA 0 0 L T) (L.1 - tN T) (L.2.1 - tZ T) 0 := va_cwU 0 (cx_w hX.1) (lw_U q838 q840 q841 q839 q135 q842) rfl rfl rfl rfl (by decide +kernel) (by rw [hX.2.2.2.1, hX.2.2.2.2.1]; exact ⟨h1, h2⟩)
set_option maxHeartbeats 4000000 in
theorem w_A_AB_length {X : Ctx} {D : Dd} {R : Heap → Prop} {d : Nat → Prop} {L : Nat × Nat × Nat × Nat} {T : Th} {out : Int32} (hX : Ax X cJ10_length RJ10 D d L 1 0 0) (hSt : Stb R d) (hR : RtA X (some .int) (RD D R d L T) (some (.int out)) D L) (a0 : Nat) (hE : A_AB_length T a0 = some out) (c z : Nat) : Wk X c z (RD D R d L T) 0 [(0, .ref a0)] [] := by
  have hC := hX.1
  have hnL := hX.2.2.1
  have hDy : ∀ {T : Th} (H : Heap), RD D R d L T H → Dy D T H := fun _ h => h.2.1
  unfold A_AB_length at hE
  refine k_aload_n (pc := 0) hC dJ10_length_0 rfl 0 rfl ?_
  refine gD_J10_79_J11 (pc := 1) hC hDy dJ10_length_1 hE (fun x1 hE => ?_)
  cases hE
  exact a_iret (pc := 4) hX hR dJ10_length_4 (by rfl) (fun _ h => h)
theorem ct_A_AB_length (l : Launch) (D : Dd) (A : Nat → Prop) (R : Heap → Prop) (d : Nat → Prop) (L : Nat × Nat × Nat × Nat) (T : Th) (hSt : Stb R d) (hdA : ∀ q, d q → A q) (hAB : ∀ q, A q → D.2.2.2.1.heap.size ≤ q) (a0 : Nat) (out : Int32) (hE : A_AB_length T a0 = some out) : Ct l yJ10_length (ws_ yJ10_length cJ10_length 1 (some .int)) (rmA 0 0 L T) vwCl arTy D A [.ref a0] (RD D R d L T) (RD D R d L T) (some (.int out)) (L.1 - tN T) (L.2.1 - tZ T) := by
  refine Ct.ofA (lv := [(0, .ref a0)]) (by decide) (Nat.le_of_ble_eq_true rfl) rfl hdA hAB ?_
  intro X hl hX hR hXA _
  exact w_A_AB_length hX hSt hR a0 hE
theorem cw_A_AB_length_SU_J11 {X : Ctx} {cc : ByteArray} {D : Dd} {d : Nat → Prop} {L : Nat × Nat × Nat × Nat} {mL fr lo : Nat} {T : Th} (hX : Ax X cc RJ11 D d L mL fr lo) (h1 : 0 + 1 ≤ fr) (h2 : 8 + (1 + 11) + 0 ≤ lo) : va_CS X.2.2.2.1 X.2.2.2.2.1 X.2.2.2.2.2.2.1 RJ11 343 yJ10_length cJ10_length 1 (some .int) (ws_ yJ10_length cJ10_length 1 (some .int)) (rmA 0 0 L T) (L.1 - tN T) (L.2.1 - tZ T) 0 := va_cwSU 0 (cx_w hX.1) (lw_SU q849 q845 q749 q844 q135 q850) rfl rfl rfl (by decide +kernel) (by rw [hX.2.2.2.1, hX.2.2.2.2.1]; exact ⟨h1, h2⟩)
set_option maxHeartbeats 4000000 in
theorem w_A_B_init {X : Ctx} {D : Dd} {R : Heap → Prop} {d : Nat → Prop} {L : Nat × Nat × Nat × Nat} {out : Th} (hX : Ax X cJ11_init RJ11 D d L 1 2 45) (hSt : Stb R d) (hR : RtA X none (RD D R d L out) none D L) (hin : "<init>" = "<init>" → X.2.2.2.2.2.2.2.2.1.name = "<init>") (a0 : Nat) (T : Th) (hE : A_B_init a0 T = some out) (c z : Nat) : Wk X c z (RD D R d L T) 0 [(0, .ref a0)] [] := by
  have hC := hX.1
  have hnL := hX.2.2.1
  have hDy : ∀ {T : Th} (H : Heap), RD D R d L T H → Dy D T H := fun _ h => h.2.1
  unfold A_B_init at hE
  refine k_aload_n (pc := 0) hC dJ11_init_0 rfl 0 rfl ?_
  refine k_bipush (pc := 1) (v := 16) hC dJ11_init_1 (by decide) ?_
  obtain ⟨r1, h1, hE⟩ := ob_ hE
  refine a_callI (pc := 3) (As := [.int 16]) hX (ct_A_AB_init X.2.1 D (cxA X) R d L T hSt hX.2.1 hX.2.2.2.2.2.2.2.2.2 a0 16 r1 h1) (cw_A_AB_init_J11 hX (Nat.le_of_ble_eq_true rfl) (Nat.le_of_ble_eq_true rfl)) rfl rfl (Nat.le_of_ble_eq_true rfl) dJ11_init_3 (fun c z => ?_)
  show Wk X c z (RD D R d L r1) 6 [(0, .ref a0)] []
  cases hE
  exact a_vret (pc := 6) hX hR dJ11_init_6 (by rfl) (fun _ h => h)
theorem ct_A_B_init (l : Launch) (D : Dd) (A : Nat → Prop) (R : Heap → Prop) (d : Nat → Prop) (L : Nat × Nat × Nat × Nat) (T : Th) (hSt : Stb R d) (hdA : ∀ q, d q → A q) (hAB : ∀ q, A q → D.2.2.2.1.heap.size ≤ q) (a0 : Nat) (out : Th) (hE : A_B_init a0 T = some out) : Ct l yJ11_init (ws_ yJ11_init cJ11_init 1 none) (rmA 2 45 L T) vwCl arTy D A [.ref a0] (RD D R d L T) (RD D R d L out) none (L.1 - tN T) (L.2.1 - tZ T) := by
  refine Ct.ofA (lv := [(0, .ref a0)]) (by decide) (Nat.le_of_ble_eq_true rfl) rfl hdA hAB ?_
  intro X hl hX hR hXA hin
  exact w_A_B_init hX hSt hR hin a0 T hE
theorem cw_A_B_init_X2 {X : Ctx} {cc : ByteArray} {D : Dd} {d : Nat → Prop} {L : Nat × Nat × Nat × Nat} {mL fr lo : Nat} {T : Th} (hX : Ax X cc RX2 D d L mL fr lo) (h1 : 2 + 1 ≤ fr) (h2 : 8 + (1 + 11) + 45 ≤ lo) : CallB X.2.2.2.1 X.2.2.2.2.1 X.2.2.2.2.2.2.1 RX2 115 yJ11_init cJ11_init 1 none (ws_ yJ11_init cJ11_init 1 none) (rmA 2 45 L T) (L.1 - tN T) (L.2.1 - tZ T) 0 ∧ yJ11_init.name = "<init>" ∧ (Cond.instanceMethod yJ11_init).before X.2.2.2.2.2.2.1 X.2.2.2.2.1 = true := cwI 0 (cx_w hX.1) (lw_meth q724) rfl rfl rfl (cx_w hX.1 _ q136) (cx_w hX.1 _ q722) (cx_w hX.1 _ q723) rfl (by decide +kernel) (by rw [hX.2.2.2.1, hX.2.2.2.2.1]; exact ⟨h1, h2⟩)
set_option maxHeartbeats 4000000 in
theorem w_A_B_append {X : Ctx} {D : Dd} {R : Heap → Prop} {d : Nat → Prop} {L : Nat × Nat × Nat × Nat} {out : Option Nat × Th} (hX : Ax X cJ11_append RJ11 D d L 2 3 67) (hSt : Stb R d) (hR : RtA X (some (.object "java/lang/StringBuilder")) (RD D R d L out.2) (some (va_rf out.1)) D L) (a0 : Nat) (a1 : Int32) (T : Th) (hE : A_B_append a0 a1 T = some out) (c z : Nat) : Wk X c z (RD D R d L T) 0 [(0, .ref a0), (1, .int a1)] [] := by
  have hC := hX.1
  have hnL := hX.2.2.1
  have hDy : ∀ {T : Th} (H : Heap), RD D R d L T H → Dy D T H := fun _ h => h.2.1
  unfold A_B_append at hE
  refine k_aload_n (pc := 0) hC dJ11_append_0 rfl 0 rfl ?_
  refine k_iload_n (pc := 1) hC dJ11_append_1 rfl 1 rfl ?_
  obtain ⟨hrv, hE⟩ := dC_of hE
  obtain ⟨r1, h1, hE⟩ := ob_ hE
  refine a_callSU (pc := 2) (As := [.int a1]) cl_J11 hX (ct_A_AB_append X.2.1 D (cxA X) R d L T hSt hX.2.1 hX.2.2.2.2.2.2.2.2.2 a0 a1 r1 h1) (cw_A_AB_append_SU_J11 hX (Nat.le_of_ble_eq_true rfl) (Nat.le_of_ble_eq_true rfl)) (a_recv hC cl_J11 hrv) rfl rfl (Nat.le_of_ble_eq_true rfl) dJ11_append_2 (fun c z => ?_)
  show Wk X c z (RD D R d L r1.2) 5 [(0, .ref a0), (1, .int a1)] [va_rf r1.1]
  refine k_pop (pc := 5) hC dJ11_append_5 (by cases r1.1 <;> rfl) ?_
  refine k_aload_n (pc := 6) hC dJ11_append_6 rfl 0 rfl ?_
  cases hE
  exact a_aret (pc := 7) (v := va_rf _) (rt := (.object "java/lang/StringBuilder")) (by first | exact Or.inl ⟨_, rfl⟩ | exact Or.inr ⟨_, rfl⟩) (va_rfv _) hX hR dJ11_append_7 (by rfl) (fun _ h => h)
theorem ct_A_B_append (l : Launch) (D : Dd) (A : Nat → Prop) (R : Heap → Prop) (d : Nat → Prop) (L : Nat × Nat × Nat × Nat) (T : Th) (hSt : Stb R d) (hdA : ∀ q, d q → A q) (hAB : ∀ q, A q → D.2.2.2.1.heap.size ≤ q) (a0 : Nat) (a1 : Int32) (out : Option Nat × Th) (hE : A_B_append a0 a1 T = some out) : Ct l yJ11_append (ws_ yJ11_append cJ11_append 2 (some (.object "java/lang/StringBuilder"))) (rmA 3 67 L T) vwCl arTy D A [.ref a0, .int a1] (RD D R d L T) (RD D R d L out.2) (some (va_rf out.1)) (L.1 - tN T) (L.2.1 - tZ T) := by
  refine Ct.ofA (lv := [(0, .ref a0), (1, .int a1)]) (by decide) (Nat.le_of_ble_eq_true rfl) rfl hdA hAB ?_
  intro X hl hX hR hXA _
  exact w_A_B_append hX hSt hR a0 a1 T hE
theorem cw_A_B_append_X2 {X : Ctx} {cc : ByteArray} {D : Dd} {d : Nat → Prop} {L : Nat × Nat × Nat × Nat} {mL fr lo : Nat} {T : Th} (hX : Ax X cc RX2 D d L mL fr lo) (h1 : 3 + 1 ≤ fr) (h2 : 8 + (2 + 11) + 67 ≤ lo) : CallW X.2.2.2.1 X.2.2.2.2.1 X.2.2.2.2.2.2.1 RX2 RJ11 116 yJ11_append cJ11_append 2 (some (.object "java/lang/StringBuilder")) (ws_ yJ11_append cJ11_append 2 (some (.object "java/lang/StringBuilder"))) (rmA 3 67 L T) (L.1 - tN T) (L.2.1 - tZ T) 1 := cwV 1 (cx_w hX.1) (lw_V q750 q751 q752 q136 q753) rfl rfl rfl (by decide +kernel) (by rw [hX.2.2.2.1, hX.2.2.2.2.1]; exact ⟨h1, h2⟩)
set_option maxHeartbeats 4000000 in
theorem w_A_B_length {X : Ctx} {D : Dd} {R : Heap → Prop} {d : Nat → Prop} {L : Nat × Nat × Nat × Nat} {T : Th} {out : Int32} (hX : Ax X cJ11_length RJ11 D d L 1 1 24) (hSt : Stb R d) (hR : RtA X (some .int) (RD D R d L T) (some (.int out)) D L) (a0 : Nat) (hE : A_B_length T a0 = some out) (c z : Nat) : Wk X c z (RD D R d L T) 0 [(0, .ref a0)] [] := by
  have hC := hX.1
  have hnL := hX.2.2.1
  have hDy : ∀ {T : Th} (H : Heap), RD D R d L T H → Dy D T H := fun _ h => h.2.1
  unfold A_B_length at hE
  refine k_aload_n (pc := 0) hC dJ11_length_0 rfl 0 rfl ?_
  obtain ⟨hrv, hE⟩ := dC_of hE
  obtain ⟨r1, h1, hE⟩ := ob_ hE
  refine a_callSU (pc := 1) (As := []) cl_J11 hX (ct_A_AB_length X.2.1 D (cxA X) R d L T hSt hX.2.1 hX.2.2.2.2.2.2.2.2.2 a0 r1 h1) (cw_A_AB_length_SU_J11 hX (Nat.le_of_ble_eq_true rfl) (Nat.le_of_ble_eq_true rfl)) (a_recv hC cl_J11 hrv) rfl rfl (Nat.le_of_ble_eq_true rfl) dJ11_length_1 (fun c z => ?_)
  show Wk X c z (RD D R d L T) 4 [(0, .ref a0)] [.int r1]
  cases hE
  exact a_iret (pc := 4) hX hR dJ11_length_4 (by rfl) (fun _ h => h)
theorem ct_A_B_length (l : Launch) (D : Dd) (A : Nat → Prop) (R : Heap → Prop) (d : Nat → Prop) (L : Nat × Nat × Nat × Nat) (T : Th) (hSt : Stb R d) (hdA : ∀ q, d q → A q) (hAB : ∀ q, A q → D.2.2.2.1.heap.size ≤ q) (a0 : Nat) (out : Int32) (hE : A_B_length T a0 = some out) : Ct l yJ11_length (ws_ yJ11_length cJ11_length 1 (some .int)) (rmA 1 24 L T) vwCl arTy D A [.ref a0] (RD D R d L T) (RD D R d L T) (some (.int out)) (L.1 - tN T) (L.2.1 - tZ T) := by
  refine Ct.ofA (lv := [(0, .ref a0)]) (by decide) (Nat.le_of_ble_eq_true rfl) rfl hdA hAB ?_
  intro X hl hX hR hXA _
  exact w_A_B_length hX hSt hR a0 hE
theorem cw_A_B_length_O_J6 {X : Ctx} {cc : ByteArray} {D : Dd} {d : Nat → Prop} {L : Nat × Nat × Nat × Nat} {mL fr lo : Nat} {T : Th} (hX : Ax X cc RJ6 D d L mL fr lo) (h1 : 1 + 1 ≤ fr) (h2 : 8 + (1 + 11) + 24 ≤ lo) : va_CU X.2.2.2.1 X.2.2.2.2.1 X.2.2.2.2.2.2.1 RJ6 RJ11 "java/lang/AbstractStringBuilder" 549 ⟨"java/lang/AbstractStringBuilder", "length", "()I"⟩ yJ11_length cJ11_length 1 (some .int) (ws_ yJ11_length cJ11_length 1 (some .int)) (rmA 1 24 L T) (L.1 - tN T) (L.2.1 - tZ T) 0 := va_cwO 0 (cx_w hX.1) (lw_O q843 q845 q844 q846 q847 q136 q848) rfl rfl rfl (by exact q850) (by decide +kernel) (by rw [hX.2.2.2.1, hX.2.2.2.2.1]; exact ⟨h1, h2⟩)
theorem cw_A_B_length_O_J11 {X : Ctx} {cc : ByteArray} {D : Dd} {d : Nat → Prop} {L : Nat × Nat × Nat × Nat} {mL fr lo : Nat} {T : Th} (hX : Ax X cc RJ11 D d L mL fr lo) (h1 : 1 + 1 ≤ fr) (h2 : 8 + (1 + 11) + 24 ≤ lo) : va_CU X.2.2.2.1 X.2.2.2.2.1 X.2.2.2.2.2.2.1 RJ11 RJ11 "java/lang/AbstractStringBuilder" 343 ⟨"java/lang/AbstractStringBuilder", "length", "()I"⟩ yJ11_length cJ11_length 1 (some .int) (ws_ yJ11_length cJ11_length 1 (some .int)) (rmA 1 24 L T) (L.1 - tN T) (L.2.1 - tZ T) 0 := va_cwO 0 (cx_w hX.1) (lw_O q849 q845 q844 q846 q847 q136 q848) rfl rfl rfl (by exact q850) (by decide +kernel) (by rw [hX.2.2.2.1, hX.2.2.2.2.1]; exact ⟨h1, h2⟩)
set_option maxHeartbeats 4000000 in
theorem w_A_checkLength {X : Ctx} {D : Dd} {R : Heap → Prop} {d : Nat → Prop} {L : Nat × Nat × Nat × Nat} {out : Th} (hX : Ax X cJ14_checkLength RJ14 D d L 2 1 24) (hSt : Stb R d) (hR : RtA X none (RD D R d L out) none D L) (a0 : Int32) (a1 : Int32) (T : Th) (hE : A_checkLength a0 a1 T = some out) (c z : Nat) : Wk X c z (RD D R d L T) 0 [(0, .int a0), (1, .int a1)] [] := by
  have hC := hX.1
  have hnL := hX.2.2.1
  have hDy : ∀ {T : Th} (H : Heap), RD D R d L T H → Dy D T H := fun _ h => h.2.1
  unfold A_checkLength at hE
  refine k_iload_n (pc := 0) hC dJ14_checkLength_0 rfl 1 rfl ?_
  refine k_iload_n (pc := 1) hC dJ14_checkLength_1 rfl 0 rfl ?_
  refine k_icmp_ge (pc := 2) (tgt := 37) hC dJ14_checkLength_2 (by decide) hE (fun hE => ?_) (fun hE => ?_)
  · cases hE
    exact a_vret (pc := 37) hX hR dJ14_checkLength_37 (by rfl) (fun _ h => h)
  · cases hE
theorem ct_A_checkLength (l : Launch) (D : Dd) (A : Nat → Prop) (R : Heap → Prop) (d : Nat → Prop) (L : Nat × Nat × Nat × Nat) (T : Th) (hSt : Stb R d) (hdA : ∀ q, d q → A q) (hAB : ∀ q, A q → D.2.2.2.1.heap.size ≤ q) (a0 : Int32) (a1 : Int32) (out : Th) (hE : A_checkLength a0 a1 T = some out) : Ct l yJ14_checkLength (ws_ yJ14_checkLength cJ14_checkLength 2 none) (rmA 1 24 L T) vwCl arTy D A [.int a0, .int a1] (RD D R d L T) (RD D R d L out) none (L.1 - tN T) (L.2.1 - tZ T) := by
  refine Ct.ofA (lv := [(0, .int a0), (1, .int a1)]) (by decide) (Nat.le_of_ble_eq_true rfl) rfl hdA hAB ?_
  intro X hl hX hR hXA _
  exact w_A_checkLength hX hSt hR a0 a1 T hE
theorem cw_A_checkLength_J14 {X : Ctx} {cc : ByteArray} {D : Dd} {d : Nat → Prop} {L : Nat × Nat × Nat × Nat} {mL fr lo : Nat} {T : Th} (hX : Ax X cc RJ14 D d L mL fr lo) (h1 : 1 + 1 ≤ fr) (h2 : 8 + (2 + 11) + 24 ≤ lo) : CallB X.2.2.2.1 X.2.2.2.2.1 X.2.2.2.2.2.2.1 RJ14 343 yJ14_checkLength cJ14_checkLength 2 none (ws_ yJ14_checkLength cJ14_checkLength 2 none) (rmA 1 24 L T) (L.1 - tN T) (L.2.1 - tZ T) 2 ∧ (Cond.static yJ14_checkLength).before X.2.2.2.2.2.2.1 X.2.2.2.2.1 = true := va_cwS 2 (cx_w hX.1) (lw_S q858 q859 q139 q860) rfl rfl rfl (by decide +kernel) (by rw [hX.2.2.2.1, hX.2.2.2.2.1]; exact ⟨h1, h2⟩)
set_option maxHeartbeats 4000000 in
theorem w_A_copyOfRangeByte {X : Ctx} {D : Dd} {R : Heap → Prop} {d : Nat → Prop} {L : Nat × Nat × Nat × Nat} {out : Option Nat × Th} (hX : Ax X cJ14_copyOfRangeByte RJ14 D d L 5 2 45) (hSt : Stb R d) (hR : RtA X (some (.array .byte)) (RD D R d L out.2) (some (va_rf out.1)) D L) (a0 : Nat) (a1 : Int32) (a2 : Int32) (T : Th) (hE : A_copyOfRangeByte a0 a1 a2 T = some out) (c z : Nat) : Wk X c z (RD D R d L T) 0 [(0, .ref a0), (1, .int a1), (2, .int a2)] [] := by
  have hC := hX.1
  have hnL := hX.2.2.1
  have hDy : ∀ {T : Th} (H : Heap), RD D R d L T H → Dy D T H := fun _ h => h.2.1
  unfold A_copyOfRangeByte at hE
  refine k_iload_n (pc := 0) hC dJ14_copyOfRangeByte_0 rfl 1 rfl ?_
  refine k_iload_n (pc := 1) hC dJ14_copyOfRangeByte_1 rfl 2 rfl ?_
  obtain ⟨r1, h1, hE⟩ := ob_ hE
  refine a_callS (pc := 2) (As := [.int a1, .int a2]) hX (ct_A_checkLength X.2.1 D (cxA X) R d L T hSt hX.2.1 hX.2.2.2.2.2.2.2.2.2 a1 a2 r1 h1) (cw_A_checkLength_J14 hX (Nat.le_of_ble_eq_true rfl) (Nat.le_of_ble_eq_true rfl)) rfl rfl (Nat.le_of_ble_eq_true rfl) dJ14_copyOfRangeByte_2 (fun c z => ?_)
  show Wk X c z (RD D R d L r1) 5 [(0, .ref a0), (1, .int a1), (2, .int a2)] []
  refine k_iload_n (pc := 5) hC dJ14_copyOfRangeByte_5 rfl 2 rfl ?_
  refine k_iload_n (pc := 6) hC dJ14_copyOfRangeByte_6 rfl 1 rfl ?_
  refine k_isub (pc := 7) hC dJ14_copyOfRangeByte_7 ?_
  refine k_istoreE_n (pc := 8) (lv' := fun x2 => [(3, .int x2), (0, .ref a0), (1, .int a1), (2, .int a2)]) hC dJ14_copyOfRangeByte_8 rfl (by rw [hnL]; decide) hE (fun _ => rfl) (fun x2 hE => ?_)
  refine k_iload_n (pc := 9) hC dJ14_copyOfRangeByte_9 rfl 0 rfl ?_
  refine a_newb (pc := 10) hX hSt dJ14_copyOfRangeByte_10 hE (fun T3 eT3 hE c z => ?_)
  refine k_astore (pc := 12) (lv' := [(4, .ref (tN r1)), (3, .int x2), (0, .ref a0), (1, .int a1), (2, .int a2)]) hC dJ14_copyOfRangeByte_12 (by rw [hnL]; decide) rfl ?_
  refine k_aload_n (pc := 14) hC dJ14_copyOfRangeByte_14 rfl 2 rfl ?_
  refine k_iload_n (pc := 15) hC dJ14_copyOfRangeByte_15 rfl 3 rfl ?_
  refine k_aload (pc := 16) hC dJ14_copyOfRangeByte_16 0 rfl ?_
  refine k_iconst (pc := 18) (v := 0) hC dJ14_copyOfRangeByte_18 (by decide) ?_
  refine k_aload_n (pc := 19) hC dJ14_copyOfRangeByte_19 rfl 2 rfl ?_
  refine dy_alen (pc := 20) (ty := .byte) hC hDy (by simp [arTy]) dJ14_copyOfRangeByte_20 hE (fun x4 hE => ?_)
  refine k_iload_n (pc := 21) hC dJ14_copyOfRangeByte_21 rfl 3 rfl ?_
  refine k_isub (pc := 22) hC dJ14_copyOfRangeByte_22 ?_
  refine k_iload_n (pc := 23) hC dJ14_copyOfRangeByte_23 rfl 1 rfl ?_
  refine a_tight hX ?_
  refine a_know (a_hcs hX) (fun hcs => ?_)
  refine k_mmin (pc := 24) hC q786 rfl (by rw [hX.2.2.2.1]; exact Nat.le_of_ble_eq_true rfl) (by rw [hX.2.2.2.2.1]; exact Nat.le_of_ble_eq_true rfl) (a_hc0 hcs) dJ14_copyOfRangeByte_24 ?_
  refine a_copyB (pc := 27) hX hSt q789 (Nat.le_of_ble_eq_true rfl) (by decide) dJ14_copyOfRangeByte_27 hE (fun T5 hE => ?_)
  refine k_aload (pc := 30) hC dJ14_copyOfRangeByte_30 0 rfl ?_
  cases hE
  exact a_aret (pc := 32) (v := va_rf _) (rt := (.array .byte)) (by first | exact Or.inl ⟨_, rfl⟩ | exact Or.inr ⟨_, rfl⟩) (va_rfv _) hX hR dJ14_copyOfRangeByte_32 (by rfl) (fun _ h => h)
theorem ct_A_copyOfRangeByte (l : Launch) (D : Dd) (A : Nat → Prop) (R : Heap → Prop) (d : Nat → Prop) (L : Nat × Nat × Nat × Nat) (T : Th) (hSt : Stb R d) (hdA : ∀ q, d q → A q) (hAB : ∀ q, A q → D.2.2.2.1.heap.size ≤ q) (a0 : Nat) (a1 : Int32) (a2 : Int32) (out : Option Nat × Th) (hE : A_copyOfRangeByte a0 a1 a2 T = some out) : Ct l yJ14_copyOfRangeByte (ws_ yJ14_copyOfRangeByte cJ14_copyOfRangeByte 5 (some (.array .byte))) (rmA 2 45 L T) vwCl arTy D A [.ref a0, .int a1, .int a2] (RD D R d L T) (RD D R d L out.2) (some (va_rf out.1)) (L.1 - tN T) (L.2.1 - tZ T) := by
  refine Ct.ofA (lv := [(0, .ref a0), (1, .int a1), (2, .int a2)]) (by decide) (Nat.le_of_ble_eq_true rfl) rfl hdA hAB ?_
  intro X hl hX hR hXA _
  exact w_A_copyOfRangeByte hX hSt hR a0 a1 a2 T hE
theorem cw_A_copyOfRangeByte_J14 {X : Ctx} {cc : ByteArray} {D : Dd} {d : Nat → Prop} {L : Nat × Nat × Nat × Nat} {mL fr lo : Nat} {T : Th} (hX : Ax X cc RJ14 D d L mL fr lo) (h1 : 2 + 1 ≤ fr) (h2 : 8 + (5 + 11) + 45 ≤ lo) : CallB X.2.2.2.1 X.2.2.2.2.1 X.2.2.2.2.2.2.1 RJ14 339 yJ14_copyOfRangeByte cJ14_copyOfRangeByte 5 (some (.array .byte)) (ws_ yJ14_copyOfRangeByte cJ14_copyOfRangeByte 5 (some (.array .byte))) (rmA 2 45 L T) (L.1 - tN T) (L.2.1 - tZ T) 3 ∧ (Cond.static yJ14_copyOfRangeByte).before X.2.2.2.2.2.2.1 X.2.2.2.2.1 = true := va_cwS 3 (cx_w hX.1) (lw_S q855 q856 q139 q857) rfl rfl rfl (by decide +kernel) (by rw [hX.2.2.2.1, hX.2.2.2.2.1]; exact ⟨h1, h2⟩)
set_option maxHeartbeats 4000000 in
theorem w_A_copyOfRange_B10 {X : Ctx} {D : Dd} {R : Heap → Prop} {d : Nat → Prop} {L : Nat × Nat × Nat × Nat} {out : Option Nat × Th} (hX : Ax X cJ14_copyOfRange RJ14 D d L 3 3 69) (hSt : Stb R d) (hR : RtA X (some (.array .byte)) (RD D R d L out.2) (some (va_rf out.1)) D L) (a0 : Nat) (a1 : Int32) (a2 : Int32) (T : Th) (hE : A_copyOfRange_B10 a0 a1 a2 T = some out) (c z : Nat) : Wk X c z (RD D R d L T) 10 [(0, .ref a0), (1, .int a1), (2, .int a2)] [] := by
  have hC := hX.1
  have hnL := hX.2.2.1
  have hDy : ∀ {T : Th} (H : Heap), RD D R d L T H → Dy D T H := fun _ h => h.2.1
  unfold A_copyOfRange_B10 at hE
  refine k_aload_n (pc := 10) hC dJ14_copyOfRange_10 rfl 0 rfl ?_
  refine k_iload_n (pc := 11) hC dJ14_copyOfRange_11 rfl 1 rfl ?_
  refine k_iload_n (pc := 12) hC dJ14_copyOfRange_12 rfl 2 rfl ?_
  obtain ⟨r2, h1, hE⟩ := ob_ hE
  refine a_callS (pc := 13) (As := [.ref a0, .int a1, .int a2]) hX (ct_A_copyOfRangeByte X.2.1 D (cxA X) R d L T hSt hX.2.1 hX.2.2.2.2.2.2.2.2.2 a0 a1 a2 r2 h1) (cw_A_copyOfRangeByte_J14 hX (Nat.le_of_ble_eq_true rfl) (Nat.le_of_ble_eq_true rfl)) rfl rfl (Nat.le_of_ble_eq_true rfl) dJ14_copyOfRange_13 (fun c z => ?_)
  show Wk X c z (RD D R d L r2.2) 16 [(0, .ref a0), (1, .int a1), (2, .int a2)] [va_rf r2.1]
  cases hE
  exact a_aret (pc := 16) (v := va_rf _) (rt := (.array .byte)) (by first | exact Or.inl ⟨_, rfl⟩ | exact Or.inr ⟨_, rfl⟩) (va_rfv _) hX hR dJ14_copyOfRange_16 (by rfl) (fun _ h => h)
set_option maxHeartbeats 4000000 in
theorem w_A_copyOfRange {X : Ctx} {D : Dd} {R : Heap → Prop} {d : Nat → Prop} {L : Nat × Nat × Nat × Nat} {out : Option Nat × Th} (hX : Ax X cJ14_copyOfRange RJ14 D d L 3 3 69) (hSt : Stb R d) (hR : RtA X (some (.array .byte)) (RD D R d L out.2) (some (va_rf out.1)) D L) (a0 : Nat) (a1 : Int32) (a2 : Int32) (T : Th) (hE : A_copyOfRange a0 a1 a2 T = some out) (c z : Nat) : Wk X c z (RD D R d L T) 0 [(0, .ref a0), (1, .int a1), (2, .int a2)] [] := by
  have hC := hX.1
  have hnL := hX.2.2.1
  have hDy : ∀ {T : Th} (H : Heap), RD D R d L T H → Dy D T H := fun _ h => h.2.1
  unfold A_copyOfRange at hE
  refine k_iload_n (pc := 0) hC dJ14_copyOfRange_0 rfl 1 rfl ?_
  refine k_if_ne (pc := 1) (tgt := 10) hC dJ14_copyOfRange_1 (by decide) hE (fun hE => ?_) (fun hE => ?_)
  · refine k_iload_n (pc := 4) hC dJ14_copyOfRange_4 rfl 2 rfl ?_
    refine k_aload_n (pc := 5) hC dJ14_copyOfRange_5 rfl 0 rfl ?_
    refine dy_alen (pc := 6) (ty := .byte) hC hDy (by simp [arTy]) dJ14_copyOfRange_6 hE (fun x1 hE => ?_)
    refine k_icmp_eq (pc := 7) (tgt := 17) hC dJ14_copyOfRange_7 (by decide) hE (fun hE => ?_) (fun hE => ?_)
    · refine k_aload_n (pc := 17) hC dJ14_copyOfRange_17 rfl 0 rfl ?_
      cases hE
    · exact w_A_copyOfRange_B10 hX hSt hR  _ _ _ _ hE _ _
  · exact w_A_copyOfRange_B10 hX hSt hR  _ _ _ _ hE _ _
theorem ct_A_copyOfRange (l : Launch) (D : Dd) (A : Nat → Prop) (R : Heap → Prop) (d : Nat → Prop) (L : Nat × Nat × Nat × Nat) (T : Th) (hSt : Stb R d) (hdA : ∀ q, d q → A q) (hAB : ∀ q, A q → D.2.2.2.1.heap.size ≤ q) (a0 : Nat) (a1 : Int32) (a2 : Int32) (out : Option Nat × Th) (hE : A_copyOfRange a0 a1 a2 T = some out) : Ct l yJ14_copyOfRange (ws_ yJ14_copyOfRange cJ14_copyOfRange 3 (some (.array .byte))) (rmA 3 69 L T) vwCl arTy D A [.ref a0, .int a1, .int a2] (RD D R d L T) (RD D R d L out.2) (some (va_rf out.1)) (L.1 - tN T) (L.2.1 - tZ T) := by
  refine Ct.ofA (lv := [(0, .ref a0), (1, .int a1), (2, .int a2)]) (by decide) (Nat.le_of_ble_eq_true rfl) rfl hdA hAB ?_
  intro X hl hX hR hXA _
  exact w_A_copyOfRange hX hSt hR a0 a1 a2 T hE
theorem cw_A_copyOfRange_J6 {X : Ctx} {cc : ByteArray} {D : Dd} {d : Nat → Prop} {L : Nat × Nat × Nat × Nat} {mL fr lo : Nat} {T : Th} (hX : Ax X cc RJ6 D d L mL fr lo) (h1 : 3 + 1 ≤ fr) (h2 : 8 + (3 + 11) + 69 ≤ lo) : CallB X.2.2.2.1 X.2.2.2.2.1 X.2.2.2.2.2.2.1 RJ6 54 yJ14_copyOfRange cJ14_copyOfRange 3 (some (.array .byte)) (ws_ yJ14_copyOfRange cJ14_copyOfRange 3 (some (.array .byte))) (rmA 3 69 L T) (L.1 - tN T) (L.2.1 - tZ T) 3 ∧ (Cond.static yJ14_copyOfRange).before X.2.2.2.2.2.2.1 X.2.2.2.2.1 = true := va_cwS 3 (cx_w hX.1) (lw_S q852 q853 q139 q854) rfl rfl rfl (by decide +kernel) (by rw [hX.2.2.2.1, hX.2.2.2.2.1]; exact ⟨h1, h2⟩)
theorem cw_A_copyOfRange_J9 {X : Ctx} {cc : ByteArray} {D : Dd} {d : Nat → Prop} {L : Nat × Nat × Nat × Nat} {mL fr lo : Nat} {T : Th} (hX : Ax X cc RJ9 D d L mL fr lo) (h1 : 3 + 1 ≤ fr) (h2 : 8 + (3 + 11) + 69 ≤ lo) : CallB X.2.2.2.1 X.2.2.2.2.1 X.2.2.2.2.2.2.1 RJ9 126 yJ14_copyOfRange cJ14_copyOfRange 3 (some (.array .byte)) (ws_ yJ14_copyOfRange cJ14_copyOfRange 3 (some (.array .byte))) (rmA 3 69 L T) (L.1 - tN T) (L.2.1 - tZ T) 3 ∧ (Cond.static yJ14_copyOfRange).before X.2.2.2.2.2.2.1 X.2.2.2.2.1 = true := va_cwS 3 (cx_w hX.1) (lw_S q867 q853 q139 q854) rfl rfl rfl (by decide +kernel) (by rw [hX.2.2.2.1, hX.2.2.2.2.1]; exact ⟨h1, h2⟩)
set_option maxHeartbeats 4000000 in
theorem w_A_S_init_2_B79 {X : Ctx} {D : Dd} {R : Heap → Prop} {d : Nat → Prop} {L : Nat × Nat × Nat × Nat} {out : Th} (hX : Ax X cJ6_init_2 RJ6 D d L 5 4 91) (hSt : Stb R d) (hR : RtA X none (RD D R d L out) none D L) (hin : "<init>" = "<init>" → X.2.2.2.2.2.2.2.2.1.name = "<init>") (a0 : Nat) (a3 : Option Nat) (a4 : Int32) (T : Th) (hE : A_S_init_2_B79 a0 a3 a4 T = some out) (c z : Nat) : Wk X c z (RD D R d L T) 79 [(0, .ref a0), (3, va_rf a3), (4, .int a4)] [] := by
  have hC := hX.1
  have hnL := hX.2.2.1
  have hDy : ∀ {T : Th} (H : Heap), RD D R d L T H → Dy D T H := fun _ h => h.2.1
  unfold A_S_init_2_B79 at hE
  refine k_aload_n (pc := 79) hC dJ6_init_2_79 rfl 0 rfl ?_
  refine k_iconst (pc := 80) (v := 1) hC dJ6_init_2_80 (by decide) ?_
  refine a_putFI (pc := 81) (y := 1) hX hSt cl_J6 in_J6 1 (by decide) rfl tyJ6 tyJ6_ok nmJ6 (by exact q872) rfl rfl rfl (hin rfl) rfl rfl dJ6_init_2_81 hE (fun T9 _ hE => ?_)
  refine k_aload_n (pc := 84) hC dJ6_init_2_84 rfl 0 rfl ?_
  refine k_aloadR_n (pc := 85) hC dJ6_init_2_85 rfl 1 rfl ?_
  refine k_iconst (pc := 86) (v := 0) hC dJ6_init_2_86 (by decide) ?_
  refine k_iload (pc := 87) hC dJ6_init_2_87 2 rfl ?_
  refine k_iconst (pc := 89) (v := 1) hC dJ6_init_2_89 (by decide) ?_
  refine k_ishl (pc := 90) hC dJ6_init_2_90 ?_
  refine k_nn (G := fun z => Wk X _ _ (RD D R d L T9) 91 [(0, .ref a0), (3, z), (4, .int a4)] [.int (a4 <<< (1 &&& 31)), .int 0, z, .ref a0]) hE (fun b10 hE => ?_)
  obtain ⟨r11, h1, hE⟩ := ob_ hE
  refine a_callS (pc := 91) (As := [.ref b10, .int 0, .int (a4 <<< (1 &&& 31))]) hX (ct_A_copyOfRange X.2.1 D (cxA X) R d L T9 hSt hX.2.1 hX.2.2.2.2.2.2.2.2.2 b10 0 (a4 <<< (1 &&& 31)) r11 h1) (cw_A_copyOfRange_J6 hX (Nat.le_of_ble_eq_true rfl) (Nat.le_of_ble_eq_true rfl)) rfl rfl (Nat.le_of_ble_eq_true rfl) dJ6_init_2_91 (fun c z => ?_)
  show Wk X c z (RD D R d L r11.2) 94 [(0, .ref a0), (3, .ref b10), (4, .int a4)] [va_rf r11.1, .ref a0]
  refine a_putFR (pc := 94) (y := r11.1) hX hSt cl_J6 in_J6 0 (by decide) rfl tyJ6 tyJ6_ok nmJ6 (by exact q871) rfl rfl rfl (hin rfl) (by first | rfl | (cases r11.1 <;> rfl)) (by first | rfl | (cases r11.1 <;> rfl)) dJ6_init_2_94 hE (fun T12 _ hE => ?_)
  cases hE
  exact a_vret (pc := 97) hX hR dJ6_init_2_97 (by rfl) (fun _ h => h)
set_option maxHeartbeats 4000000 in
theorem w_A_S_init_2 {X : Ctx} {D : Dd} {R : Heap → Prop} {d : Nat → Prop} {L : Nat × Nat × Nat × Nat} {out : Th} (hX : Ax X cJ6_init_2 RJ6 D d L 5 4 91) (hSt : Stb R d) (hR : RtA X none (RD D R d L out) none D L) (hin : "<init>" = "<init>" → X.2.2.2.2.2.2.2.2.1.name = "<init>") (a0 : Nat) (a1 : Nat) (T : Th) (hE : A_S_init_2 a0 a1 T = some out) (c z : Nat) : Wk X c z (RD D R d L T) 0 [(0, .ref a0), (1, .ref a1), (2, .null)] [] := by
  have hC := hX.1
  have hnL := hX.2.2.1
  have hDy : ∀ {T : Th} (H : Heap), RD D R d L T H → Dy D T H := fun _ h => h.2.1
  unfold A_S_init_2 at hE
  refine k_aload_n (pc := 0) hC dJ6_init_2_0 rfl 0 rfl ?_
  refine a_objInit (pc := 1) hX q837 dJ6_init_2_1 (Nat.le_of_ble_eq_true rfl) (Nat.le_of_ble_eq_true rfl) ?_
  refine k_aload_n (pc := 4) hC dJ6_init_2_4 rfl 1 rfl ?_
  obtain ⟨hrv, hE⟩ := dC_of hE
  obtain ⟨r1, h1, hE⟩ := ob_ hE
  refine a_callU (pc := 5) (As := []) hX (ct_A_AB_getValue X.2.1 D (cxA X) R d L T hSt hX.2.1 hX.2.2.2.2.2.2.2.2.2 a1 r1 h1) (cw_A_AB_getValue_O_J6 hX (Nat.le_of_ble_eq_true rfl) (Nat.le_of_ble_eq_true rfl)) (a_recv hC cl_J11 hrv) rfl rfl (Nat.le_of_ble_eq_true rfl) dJ6_init_2_5 (fun c z => ?_)
  show Wk X c z (RD D R d L T) 8 [(0, .ref a0), (1, .ref a1), (2, .null)] [va_rf r1]
  refine k_astoreR_n (pc := 8) (lv' := [(3, va_rf r1), (0, .ref a0), (1, .ref a1), (2, .null)]) hC dJ6_init_2_8 rfl (by rw [hnL]; decide) rfl ?_
  refine k_aload_n (pc := 9) hC dJ6_init_2_9 rfl 2 rfl ?_
  obtain ⟨hrv, hE⟩ := dC_of hE
  obtain ⟨r2, h1, hE⟩ := ob_ hE
  refine a_callU (pc := 10) (As := []) hX (ct_A_B_length X.2.1 D (cxA X) R d L T hSt hX.2.1 hX.2.2.2.2.2.2.2.2.2 a1 r2 h1) (cw_A_B_length_O_J6 hX (Nat.le_of_ble_eq_true rfl) (Nat.le_of_ble_eq_true rfl)) (a_recv hC cl_J11 hrv) rfl rfl (Nat.le_of_ble_eq_true rfl) dJ6_init_2_10 (fun c z => ?_)
  show Wk X c z (RD D R d L T) 13 [(3, va_rf r1), (0, .ref a0), (1, .ref a1), (2, .null)] [.int r2]
  refine k_istore (pc := 13) (lv' := [(4, .int r2), (3, va_rf r1), (0, .ref a0), (1, .ref a1), (2, .null)]) hC dJ6_init_2_13 (by rw [hnL]; decide) (by cases r1 <;> rfl) ?_
  refine k_aload_n (pc := 15) hC dJ6_init_2_15 rfl 3 rfl ?_
  obtain ⟨hrv, hE⟩ := dC_of hE
  obtain ⟨r3, h1, hE⟩ := ob_ hE
  refine a_callU (pc := 16) (As := []) hX (ct_A_AB_isLatin1 X.2.1 D (cxA X) R d L T hSt hX.2.1 hX.2.2.2.2.2.2.2.2.2 a1 r3 h1) (cw_A_AB_isLatin1_O_J6 hX (Nat.le_of_ble_eq_true rfl) (Nat.le_of_ble_eq_true rfl)) (a_recv hC cl_J11 hrv) rfl rfl (Nat.le_of_ble_eq_true rfl) dJ6_init_2_16 (fun c z => ?_)
  show Wk X c z (RD D R d L T) 19 [(4, .int r2), (3, va_rf r1), (0, .ref a0), (1, .ref a1), (2, .null)] [.int r3]
  refine k_if_eq (pc := 19) (tgt := 41) hC dJ6_init_2_19 (by decide) hE (fun hE => ?_) (fun hE => ?_)
  · refine a_gets (pc := 41) hX (fun _ h => h.1) q620 dJ6_init_2_41 ?_
    refine k_if_eq (pc := 44) (tgt := 79) hC dJ6_init_2_44 (by decide) hE (fun hE => ?_) (fun hE => ?_)
    · refine k_sub [2, 1, 0] rfl ?_
      exact w_A_S_init_2_B79 hX hSt hR hin  _ _ _ _ hE _ _
    · refine k_aload_n (pc := 47) hC dJ6_init_2_47 rfl 3 rfl ?_
      refine gD_J6_1048_J11 (pc := 48) hC hDy dJ6_init_2_48 hE (fun x4 hE => ?_)
      refine k_if_eq (pc := 51) (tgt := 79) hC dJ6_init_2_51 (by decide) hE (fun hE => ?_) (fun hE => ?_)
      · refine k_sub [2, 1, 0] rfl ?_
        exact w_A_S_init_2_B79 hX hSt hR hin  _ _ _ _ hE _ _
      · refine k_aload_n (pc := 54) hC dJ6_init_2_54 rfl 2 rfl ?_
        refine k_aloadR_n (pc := 55) hC dJ6_init_2_55 rfl 1 rfl ?_
        refine k_iconst (pc := 56) (v := 0) hC dJ6_init_2_56 (by decide) ?_
        refine k_iload (pc := 57) hC dJ6_init_2_57 0 rfl ?_
        cases hE
  · refine k_aload_n (pc := 22) hC dJ6_init_2_22 rfl 2 rfl ?_
    refine k_iconst (pc := 23) (v := 0) hC dJ6_init_2_23 (by decide) ?_
    refine a_putFI (pc := 24) (y := 0) hX hSt cl_J6 in_J6 1 (by decide) rfl tyJ6 tyJ6_ok nmJ6 (by exact q872) rfl rfl rfl (hin rfl) rfl rfl dJ6_init_2_24 hE (fun T5 _ hE => ?_)
    refine k_aload_n (pc := 27) hC dJ6_init_2_27 rfl 2 rfl ?_
    refine k_aloadR_n (pc := 28) hC dJ6_init_2_28 rfl 1 rfl ?_
    refine k_iconst (pc := 29) (v := 0) hC dJ6_init_2_29 (by decide) ?_
    refine k_iload (pc := 30) hC dJ6_init_2_30 0 rfl ?_
    refine k_nn (G := fun z => Wk X _ _ (RD D R d L T5) 32 [(4, .int r2), (3, z), (0, .ref a0), (1, .ref a1), (2, .null)] [.int r2, .int 0, z, .ref a0]) hE (fun b6 hE => ?_)
    obtain ⟨r7, h1, hE⟩ := ob_ hE
    refine a_callS (pc := 32) (As := [.ref b6, .int 0, .int r2]) hX (ct_A_copyOfRange X.2.1 D (cxA X) R d L T5 hSt hX.2.1 hX.2.2.2.2.2.2.2.2.2 b6 0 r2 r7 h1) (cw_A_copyOfRange_J6 hX (Nat.le_of_ble_eq_true rfl) (Nat.le_of_ble_eq_true rfl)) rfl rfl (Nat.le_of_ble_eq_true rfl) dJ6_init_2_32 (fun c z => ?_)
    show Wk X c z (RD D R d L r7.2) 35 [(4, .int r2), (3, .ref b6), (0, .ref a0), (1, .ref a1), (2, .null)] [va_rf r7.1, .ref a0]
    refine a_putFR (pc := 35) (y := r7.1) hX hSt cl_J6 in_J6 0 (by decide) rfl tyJ6 tyJ6_ok nmJ6 (by exact q871) rfl rfl rfl (hin rfl) (by first | rfl | (cases r7.1 <;> rfl)) (by first | rfl | (cases r7.1 <;> rfl)) dJ6_init_2_35 hE (fun T8 _ hE => ?_)
    refine k_goto (pc := 38) (tgt := 97) hC dJ6_init_2_38 (by decide) ?_
    cases hE
    exact a_vret (pc := 97) hX hR dJ6_init_2_97 (by rfl) (fun _ h => h)
theorem ct_A_S_init_2 (l : Launch) (D : Dd) (A : Nat → Prop) (R : Heap → Prop) (d : Nat → Prop) (L : Nat × Nat × Nat × Nat) (T : Th) (hSt : Stb R d) (hdA : ∀ q, d q → A q) (hAB : ∀ q, A q → D.2.2.2.1.heap.size ≤ q) (a0 : Nat) (a1 : Nat) (out : Th) (hE : A_S_init_2 a0 a1 T = some out) : Ct l yJ6_init_2 (ws_ yJ6_init_2 cJ6_init_2 5 none) (rmA 4 91 L T) vwCl arTy D A [.ref a0, .ref a1, .null] (RD D R d L T) (RD D R d L out) none (L.1 - tN T) (L.2.1 - tZ T) := by
  refine Ct.ofA (lv := [(0, .ref a0), (1, .ref a1), (2, .null)]) (by decide) (Nat.le_of_ble_eq_true rfl) rfl hdA hAB ?_
  intro X hl hX hR hXA hin
  exact w_A_S_init_2 hX hSt hR hin a0 a1 T hE
theorem cw_A_S_init_2_J6 {X : Ctx} {cc : ByteArray} {D : Dd} {d : Nat → Prop} {L : Nat × Nat × Nat × Nat} {mL fr lo : Nat} {T : Th} (hX : Ax X cc RJ6 D d L mL fr lo) (h1 : 4 + 1 ≤ fr) (h2 : 8 + (5 + 11) + 91 ≤ lo) : CallB X.2.2.2.1 X.2.2.2.2.1 X.2.2.2.2.2.2.1 RJ6 489 yJ6_init_2 cJ6_init_2 5 none (ws_ yJ6_init_2 cJ6_init_2 5 none) (rmA 4 91 L T) (L.1 - tN T) (L.2.1 - tZ T) 2 ∧ yJ6_init_2.name = "<init>" ∧ (Cond.instanceMethod yJ6_init_2).before X.2.2.2.2.2.2.1 X.2.2.2.2.1 = true := cwI 2 (cx_w hX.1) (lw_meth q836) rfl rfl rfl (cx_w hX.1 _ q129) (cx_w hX.1 _ q834) (cx_w hX.1 _ q835) rfl (by decide +kernel) (by rw [hX.2.2.2.1, hX.2.2.2.2.1]; exact ⟨h1, h2⟩)
set_option maxHeartbeats 4000000 in
theorem w_A_S_init {X : Ctx} {D : Dd} {R : Heap → Prop} {d : Nat → Prop} {L : Nat × Nat × Nat × Nat} {out : Th} (hX : Ax X cJ6_init RJ6 D d L 2 5 115) (hSt : Stb R d) (hR : RtA X none (RD D R d L out) none D L) (hin : "<init>" = "<init>" → X.2.2.2.2.2.2.2.2.1.name = "<init>") (a0 : Nat) (a1 : Nat) (T : Th) (hE : A_S_init a0 a1 T = some out) (c z : Nat) : Wk X c z (RD D R d L T) 0 [(0, .ref a0), (1, .ref a1)] [] := by
  have hC := hX.1
  have hnL := hX.2.2.1
  have hDy : ∀ {T : Th} (H : Heap), RD D R d L T H → Dy D T H := fun _ h => h.2.1
  unfold A_S_init at hE
  refine k_aload_n (pc := 0) hC dJ6_init_0 rfl 0 rfl ?_
  refine k_aload_n (pc := 1) hC dJ6_init_1 rfl 1 rfl ?_
  refine k_null (pc := 2) hC dJ6_init_2 ?_
  obtain ⟨r1, h1, hE⟩ := ob_ hE
  refine a_callI (pc := 3) (As := [.ref a1, .null]) hX (ct_A_S_init_2 X.2.1 D (cxA X) R d L T hSt hX.2.1 hX.2.2.2.2.2.2.2.2.2 a0 a1 r1 h1) (cw_A_S_init_2_J6 hX (Nat.le_of_ble_eq_true rfl) (Nat.le_of_ble_eq_true rfl)) rfl rfl (Nat.le_of_ble_eq_true rfl) dJ6_init_3 (fun c z => ?_)
  show Wk X c z (RD D R d L r1) 6 [(0, .ref a0), (1, .ref a1)] []
  cases hE
  exact a_vret (pc := 6) hX hR dJ6_init_6 (by rfl) (fun _ h => h)
theorem ct_A_S_init (l : Launch) (D : Dd) (A : Nat → Prop) (R : Heap → Prop) (d : Nat → Prop) (L : Nat × Nat × Nat × Nat) (T : Th) (hSt : Stb R d) (hdA : ∀ q, d q → A q) (hAB : ∀ q, A q → D.2.2.2.1.heap.size ≤ q) (a0 : Nat) (a1 : Nat) (out : Th) (hE : A_S_init a0 a1 T = some out) : Ct l yJ6_init (ws_ yJ6_init cJ6_init 2 none) (rmA 5 115 L T) vwCl arTy D A [.ref a0, .ref a1] (RD D R d L T) (RD D R d L out) none (L.1 - tN T) (L.2.1 - tZ T) := by
  refine Ct.ofA (lv := [(0, .ref a0), (1, .ref a1)]) (by decide) (Nat.le_of_ble_eq_true rfl) rfl hdA hAB ?_
  intro X hl hX hR hXA hin
  exact w_A_S_init hX hSt hR hin a0 a1 T hE
theorem cw_A_S_init_J11 {X : Ctx} {cc : ByteArray} {D : Dd} {d : Nat → Prop} {L : Nat × Nat × Nat × Nat} {mL fr lo : Nat} {T : Th} (hX : Ax X cc RJ11 D d L mL fr lo) (h1 : 5 + 1 ≤ fr) (h2 : 8 + (2 + 11) + 115 ≤ lo) : CallB X.2.2.2.1 X.2.2.2.2.1 X.2.2.2.2.2.2.1 RJ11 137 yJ6_init cJ6_init 2 none (ws_ yJ6_init cJ6_init 2 none) (rmA 5 115 L T) (L.1 - tN T) (L.2.1 - tZ T) 1 ∧ yJ6_init.name = "<init>" ∧ (Cond.instanceMethod yJ6_init).before X.2.2.2.2.2.2.1 X.2.2.2.2.1 = true := cwI 1 (cx_w hX.1) (lw_meth q833) rfl rfl rfl (cx_w hX.1 _ q129) (cx_w hX.1 _ q831) (cx_w hX.1 _ q832) rfl (by decide +kernel) (by rw [hX.2.2.2.1, hX.2.2.2.2.1]; exact ⟨h1, h2⟩)
set_option maxHeartbeats 4000000 in
theorem w_A_B_toString {X : Ctx} {D : Dd} {R : Heap → Prop} {d : Nat → Prop} {L : Nat × Nat × Nat × Nat} {out : Option Nat × Th} (hX : Ax X cJ11_toString RJ11 D d L 1 6 136) (hSt : Stb R d) (hR : RtA X (some (.object "java/lang/String")) (RD D R d L out.2) (some (va_rf out.1)) D L) (a0 : Nat) (T : Th) (hE : A_B_toString a0 T = some out) (c z : Nat) : Wk X c z (RD D R d L T) 0 [(0, .ref a0)] [] := by
  have hC := hX.1
  have hnL := hX.2.2.1
  have hDy : ∀ {T : Th} (H : Heap), RD D R d L T H → Dy D T H := fun _ h => h.2.1
  unfold A_B_toString at hE
  refine a_new (pc := 0) hX hSt cl_J6 in_J6 tyJ6 tyJ6_ok dv_J6 q829 q830 q129 dJ11_toString_0 hE (fun T1 eT1 hE c z => ?_)
  refine k_dup (pc := 3) hC dJ11_toString_3 rfl ?_
  refine k_aload_n (pc := 4) hC dJ11_toString_4 rfl 0 rfl ?_
  obtain ⟨r2, h1, hE⟩ := ob_ hE
  refine a_callI (pc := 5) (As := [.ref a0]) hX (ct_A_S_init X.2.1 D (cxA X) R d L T1 hSt hX.2.1 hX.2.2.2.2.2.2.2.2.2 (tN T) a0 r2 h1) (cw_A_S_init_J11 hX (Nat.le_of_ble_eq_true rfl) (Nat.le_of_ble_eq_true rfl)) rfl rfl (Nat.le_of_ble_eq_true rfl) dJ11_toString_5 (fun c z => ?_)
  show Wk X c z (RD D R d L r2) 8 [(0, .ref a0)] [.ref (tN T)]
  cases hE
  exact a_aret (pc := 8) (v := va_rf _) (rt := (.object "java/lang/String")) (by first | exact Or.inl ⟨_, rfl⟩ | exact Or.inr ⟨_, rfl⟩) (va_rfv _) hX hR dJ11_toString_8 (by rfl) (fun _ h => h)
theorem ct_A_B_toString (l : Launch) (D : Dd) (A : Nat → Prop) (R : Heap → Prop) (d : Nat → Prop) (L : Nat × Nat × Nat × Nat) (T : Th) (hSt : Stb R d) (hdA : ∀ q, d q → A q) (hAB : ∀ q, A q → D.2.2.2.1.heap.size ≤ q) (a0 : Nat) (out : Option Nat × Th) (hE : A_B_toString a0 T = some out) : Ct l yJ11_toString (ws_ yJ11_toString cJ11_toString 1 (some (.object "java/lang/String"))) (rmA 6 136 L T) vwCl arTy D A [.ref a0] (RD D R d L T) (RD D R d L out.2) (some (va_rf out.1)) (L.1 - tN T) (L.2.1 - tZ T) := by
  refine Ct.ofA (lv := [(0, .ref a0)]) (by decide) (Nat.le_of_ble_eq_true rfl) rfl hdA hAB ?_
  intro X hl hX hR hXA _
  exact w_A_B_toString hX hSt hR a0 T hE
theorem cw_A_B_toString_X2 {X : Ctx} {cc : ByteArray} {D : Dd} {d : Nat → Prop} {L : Nat × Nat × Nat × Nat} {mL fr lo : Nat} {T : Th} (hX : Ax X cc RX2 D d L mL fr lo) (h1 : 6 + 1 ≤ fr) (h2 : 8 + (1 + 11) + 136 ≤ lo) : CallW X.2.2.2.1 X.2.2.2.2.1 X.2.2.2.2.2.2.1 RX2 RJ11 120 yJ11_toString cJ11_toString 1 (some (.object "java/lang/String")) (ws_ yJ11_toString cJ11_toString 1 (some (.object "java/lang/String"))) (rmA 6 136 L T) (L.1 - tN T) (L.2.1 - tZ T) 0 := cwV 0 (cx_w hX.1) (lw_V q825 q826 q827 q136 q828) rfl rfl rfl (by decide +kernel) (by rw [hX.2.2.2.1, hX.2.2.2.2.1]; exact ⟨h1, h2⟩)
set_option maxHeartbeats 4000000 in
theorem w_A_pci_B9 {X : Ctx} {D : Dd} {R : Heap → Prop} {d : Nat → Prop} {L : Nat × Nat × Nat × Nat} {T : Th} {u2 : Option Nat} {out : Int32} (hX : Ax X cJ8_checkIndex RJ8 D d L 3 1 24) (hSt : Stb R d) (hR : RtA X (some .int) (RD D R d L T) (some (.int out)) D L) (a0 : Int32) (a1 : Int32) (hE : A_pci_B9 T a0 a1 = some out) (c z : Nat) : Wk X c z (RD D R d L T) 9 [(0, .int a0), (1, .int a1), (2, va_rf u2)] [] := by
  have hC := hX.1
  have hnL := hX.2.2.1
  have hDy : ∀ {T : Th} (H : Heap), RD D R d L T H → Dy D T H := fun _ h => h.2.1
  unfold A_pci_B9 at hE
  refine k_aloadR_n (pc := 9) hC dJ8_checkIndex_9 rfl 2 rfl ?_
  refine k_iload_n (pc := 10) hC dJ8_checkIndex_10 rfl 0 rfl ?_
  refine k_iload_n (pc := 11) hC dJ8_checkIndex_11 rfl 1 rfl ?_
  cases hE
set_option maxHeartbeats 4000000 in
theorem w_A_pci {X : Ctx} {D : Dd} {R : Heap → Prop} {d : Nat → Prop} {L : Nat × Nat × Nat × Nat} {T : Th} {u2 : Option Nat} {out : Int32} (hX : Ax X cJ8_checkIndex RJ8 D d L 3 1 24) (hSt : Stb R d) (hR : RtA X (some .int) (RD D R d L T) (some (.int out)) D L) (a0 : Int32) (a1 : Int32) (hE : A_pci T a0 a1 = some out) (c z : Nat) : Wk X c z (RD D R d L T) 0 [(0, .int a0), (1, .int a1), (2, va_rf u2)] [] := by
  have hC := hX.1
  have hnL := hX.2.2.1
  have hDy : ∀ {T : Th} (H : Heap), RD D R d L T H → Dy D T H := fun _ h => h.2.1
  unfold A_pci at hE
  refine k_iload_n (pc := 0) hC dJ8_checkIndex_0 rfl 0 rfl ?_
  refine k_if_lt (pc := 1) (tgt := 9) hC dJ8_checkIndex_1 (by decide) hE (fun hE => ?_) (fun hE => ?_)
  · exact w_A_pci_B9 hX hSt hR  _ _ hE _ _
  · refine k_iload_n (pc := 4) hC dJ8_checkIndex_4 rfl 0 rfl ?_
    refine k_iload_n (pc := 5) hC dJ8_checkIndex_5 rfl 1 rfl ?_
    refine k_icmp_lt (pc := 6) (tgt := 16) hC dJ8_checkIndex_6 (by decide) hE (fun hE => ?_) (fun hE => ?_)
    · refine k_iload_n (pc := 16) hC dJ8_checkIndex_16 rfl 0 rfl ?_
      cases hE
      exact a_iret (pc := 17) hX hR dJ8_checkIndex_17 (by rfl) (fun _ h => h)
    · exact w_A_pci_B9 hX hSt hR  _ _ hE _ _
theorem ct_A_pci (l : Launch) (D : Dd) (A : Nat → Prop) (R : Heap → Prop) (d : Nat → Prop) (L : Nat × Nat × Nat × Nat) (T : Th) (hSt : Stb R d) (hdA : ∀ q, d q → A q) (hAB : ∀ q, A q → D.2.2.2.1.heap.size ≤ q) (u2 : Option Nat) (a0 : Int32) (a1 : Int32) (out : Int32) (hE : A_pci T a0 a1 = some out) : Ct l yJ8_checkIndex (ws_ yJ8_checkIndex cJ8_checkIndex 3 (some .int)) (rmA 1 24 L T) vwCl arTy D A [.int a0, .int a1, va_rf u2] (RD D R d L T) (RD D R d L T) (some (.int out)) (L.1 - tN T) (L.2.1 - tZ T) := by
  refine Ct.ofA (lv := [(0, .int a0), (1, .int a1), (2, va_rf u2)]) (by decide) (by cases u2 <;> exact Nat.le_of_ble_eq_true rfl) (by cases u2 <;> rfl) hdA hAB ?_
  intro X hl hX hR hXA _
  exact w_A_pci (u2 := u2) hX hSt hR a0 a1 hE
theorem cw_A_pci_J6 {X : Ctx} {cc : ByteArray} {D : Dd} {d : Nat → Prop} {L : Nat × Nat × Nat × Nat} {mL fr lo : Nat} {T : Th} (hX : Ax X cc RJ6 D d L mL fr lo) (h1 : 1 + 1 ≤ fr) (h2 : 8 + (3 + 11) + 24 ≤ lo) : CallB X.2.2.2.1 X.2.2.2.2.1 X.2.2.2.2.2.2.1 RJ6 1059 yJ8_checkIndex cJ8_checkIndex 3 (some .int) (ws_ yJ8_checkIndex cJ8_checkIndex 3 (some .int)) (rmA 1 24 L T) (L.1 - tN T) (L.2.1 - tZ T) 3 ∧ (Cond.static yJ8_checkIndex).before X.2.2.2.2.2.2.1 X.2.2.2.2.1 = true := va_cwS 3 (cx_w hX.1) (lw_S q638 q639 q131 q640) rfl rfl rfl (by decide +kernel) (by rw [hX.2.2.2.1, hX.2.2.2.2.1]; exact ⟨h1, h2⟩)
theorem cw_A_pci_J15 {X : Ctx} {cc : ByteArray} {D : Dd} {d : Nat → Prop} {L : Nat × Nat × Nat × Nat} {mL fr lo : Nat} {T : Th} (hX : Ax X cc RJ15 D d L mL fr lo) (h1 : 1 + 1 ≤ fr) (h2 : 8 + (3 + 11) + 24 ≤ lo) : CallB X.2.2.2.1 X.2.2.2.2.1 X.2.2.2.2.2.2.1 RJ15 105 yJ8_checkIndex cJ8_checkIndex 3 (some .int) (ws_ yJ8_checkIndex cJ8_checkIndex 3 (some .int)) (rmA 1 24 L T) (L.1 - tN T) (L.2.1 - tZ T) 3 ∧ (Cond.static yJ8_checkIndex).before X.2.2.2.2.2.2.1 X.2.2.2.2.1 = true := va_cwS 3 (cx_w hX.1) (lw_S q897 q639 q131 q640) rfl rfl rfl (by decide +kernel) (by rw [hX.2.2.2.1, hX.2.2.2.2.1]; exact ⟨h1, h2⟩)
set_option maxHeartbeats 4000000 in
theorem w_A_S_coder {X : Ctx} {D : Dd} {R : Heap → Prop} {d : Nat → Prop} {L : Nat × Nat × Nat × Nat} {T : Th} {out : Int32} (hX : Ax X cJ6_coder RJ6 D d L 1 0 0) (hSt : Stb R d) (hR : RtA X (some .byte) (RD D R d L T) (some (.int out)) D L) (a0 : Nat) (hE : A_S_coder T a0 = some out) (c z : Nat) : Wk X c z (RD D R d L T) 0 [(0, .ref a0)] [] := by
  have hC := hX.1
  have hnL := hX.2.2.1
  have hDy : ∀ {T : Th} (H : Heap), RD D R d L T H → Dy D T H := fun _ h => h.2.1
  unfold A_S_coder at hE
  refine a_gets (pc := 0) hX (fun _ h => h.1) q620 dJ6_coder_0 ?_
  refine k_if_eq (pc := 3) (tgt := 13) hC dJ6_coder_3 (by decide) hE (fun hE => ?_) (fun hE => ?_)
  · refine k_iconst (pc := 13) (v := 1) hC dJ6_coder_13 (by decide) ?_
    obtain ⟨r1, hz, hE⟩ := ob_ hE
    obtain ⟨hz1, hz⟩ := yz_some hz
    rw [hz1]
    cases hE
    exact a_nret (pc := 14) hz hX hR dJ6_coder_14 (by rfl) (fun _ h => h)
  · refine k_aload_n (pc := 6) hC dJ6_coder_6 rfl 0 rfl ?_
    refine gD_J6_15_J6 (pc := 7) hC hDy dJ6_coder_7 hE (fun x2 hE => ?_)
    refine k_goto (pc := 10) (tgt := 14) hC dJ6_coder_10 (by decide) ?_
    obtain ⟨r3, hz, hE⟩ := ob_ hE
    obtain ⟨hz1, hz⟩ := yz_some hz
    rw [hz1]
    cases hE
    exact a_nret (pc := 14) hz hX hR dJ6_coder_14 (by rfl) (fun _ h => h)
theorem ct_A_S_coder (l : Launch) (D : Dd) (A : Nat → Prop) (R : Heap → Prop) (d : Nat → Prop) (L : Nat × Nat × Nat × Nat) (T : Th) (hSt : Stb R d) (hdA : ∀ q, d q → A q) (hAB : ∀ q, A q → D.2.2.2.1.heap.size ≤ q) (a0 : Nat) (out : Int32) (hE : A_S_coder T a0 = some out) : Ct l yJ6_coder (ws_ yJ6_coder cJ6_coder 1 (some .byte)) (rmA 0 0 L T) vwCl arTy D A [.ref a0] (RD D R d L T) (RD D R d L T) (some (.int out)) (L.1 - tN T) (L.2.1 - tZ T) := by
  refine Ct.ofA (lv := [(0, .ref a0)]) (by decide) (Nat.le_of_ble_eq_true rfl) rfl hdA hAB ?_
  intro X hl hX hR hXA _
  exact w_A_S_coder hX hSt hR a0 hE
theorem cw_A_S_coder_J6 {X : Ctx} {cc : ByteArray} {D : Dd} {d : Nat → Prop} {L : Nat × Nat × Nat × Nat} {mL fr lo : Nat} {T : Th} (hX : Ax X cc RJ6 D d L mL fr lo) (h1 : 0 + 1 ≤ fr) (h2 : 8 + (1 + 11) + 0 ≤ lo) : CallW X.2.2.2.1 X.2.2.2.2.1 X.2.2.2.2.2.2.1 RJ6 RJ6 335 yJ6_coder cJ6_coder 1 (some .byte) (ws_ yJ6_coder cJ6_coder 1 (some .byte)) (rmA 0 0 L T) (L.1 - tN T) (L.2.1 - tZ T) 0 := cwV 0 (cx_w hX.1) (lw_V q616 q617 q618 q129 q619) rfl rfl rfl (by decide +kernel) (by rw [hX.2.2.2.1, hX.2.2.2.2.1]; exact ⟨h1, h2⟩)
set_option maxHeartbeats 4000000 in
theorem w_A_S_length {X : Ctx} {D : Dd} {R : Heap → Prop} {d : Nat → Prop} {L : Nat × Nat × Nat × Nat} {T : Th} {out : Int32} (hX : Ax X cJ6_length RJ6 D d L 1 1 24) (hSt : Stb R d) (hR : RtA X (some .int) (RD D R d L T) (some (.int out)) D L) (a0 : Nat) (hE : A_S_length T a0 = some out) (c z : Nat) : Wk X c z (RD D R d L T) 0 [(0, .ref a0)] [] := by
  have hC := hX.1
  have hnL := hX.2.2.1
  have hDy : ∀ {T : Th} (H : Heap), RD D R d L T H → Dy D T H := fun _ h => h.2.1
  unfold A_S_length at hE
  refine k_aload_n (pc := 0) hC dJ6_length_0 rfl 0 rfl ?_
  refine gD_J6_9_J6 (pc := 1) hC hDy dJ6_length_1 hE (fun x1 hE => ?_)
  refine k_nn (G := fun z => Wk X _ _ (RD D R d L T) 4 [(0, .ref a0)] [z]) hE (fun b2 hE => ?_)
  refine dy_alen (pc := 4) (ty := .byte) hC hDy (by simp [arTy]) dJ6_length_4 hE (fun x3 hE => ?_)
  refine k_aload_n (pc := 5) hC dJ6_length_5 rfl 0 rfl ?_
  obtain ⟨hrv, hE⟩ := dC_of hE
  obtain ⟨r4, h1, hE⟩ := ob_ hE
  refine a_callV (pc := 6) (As := []) hX (ct_A_S_coder X.2.1 D (cxA X) R d L T hSt hX.2.1 hX.2.2.2.2.2.2.2.2.2 a0 r4 h1) (cw_A_S_coder_J6 hX (Nat.le_of_ble_eq_true rfl) (Nat.le_of_ble_eq_true rfl)) (a_recv hC cl_J6 hrv) rfl rfl (Nat.le_of_ble_eq_true rfl) dJ6_length_6 (fun c z => ?_)
  show Wk X c z (RD D R d L T) 9 [(0, .ref a0)] [.int r4, .int x3]
  refine k_ishr (pc := 9) hC dJ6_length_9 ?_
  cases hE
  exact a_iret (pc := 10) hX hR dJ6_length_10 (by rfl) (fun _ h => h)
theorem ct_A_S_length (l : Launch) (D : Dd) (A : Nat → Prop) (R : Heap → Prop) (d : Nat → Prop) (L : Nat × Nat × Nat × Nat) (T : Th) (hSt : Stb R d) (hdA : ∀ q, d q → A q) (hAB : ∀ q, A q → D.2.2.2.1.heap.size ≤ q) (a0 : Nat) (out : Int32) (hE : A_S_length T a0 = some out) : Ct l yJ6_length (ws_ yJ6_length cJ6_length 1 (some .int)) (rmA 1 24 L T) vwCl arTy D A [.ref a0] (RD D R d L T) (RD D R d L T) (some (.int out)) (L.1 - tN T) (L.2.1 - tZ T) := by
  refine Ct.ofA (lv := [(0, .ref a0)]) (by decide) (Nat.le_of_ble_eq_true rfl) rfl hdA hAB ?_
  intro X hl hX hR hXA _
  exact w_A_S_length hX hSt hR a0 hE
theorem cw_A_S_length_X2 {X : Ctx} {cc : ByteArray} {D : Dd} {d : Nat → Prop} {L : Nat × Nat × Nat × Nat} {mL fr lo : Nat} {T : Th} (hX : Ax X cc RX2 D d L mL fr lo) (h1 : 1 + 1 ≤ fr) (h2 : 8 + (1 + 11) + 24 ≤ lo) : CallW X.2.2.2.1 X.2.2.2.2.1 X.2.2.2.2.2.2.1 RX2 RJ6 87 yJ6_length cJ6_length 1 (some .int) (ws_ yJ6_length cJ6_length 1 (some .int)) (rmA 1 24 L T) (L.1 - tN T) (L.2.1 - tZ T) 0 := cwV 0 (cx_w hX.1) (lw_V q612 q613 q614 q129 q615) rfl rfl rfl (by decide +kernel) (by rw [hX.2.2.2.1, hX.2.2.2.2.1]; exact ⟨h1, h2⟩)
set_option maxHeartbeats 4000000 in
theorem w_A_S_isLatin1 {X : Ctx} {D : Dd} {R : Heap → Prop} {d : Nat → Prop} {L : Nat × Nat × Nat × Nat} {T : Th} {out : Int32} (hX : Ax X cJ6_isLatin1 RJ6 D d L 1 0 0) (hSt : Stb R d) (hR : RtA X (some .boolean) (RD D R d L T) (some (.int out)) D L) (a0 : Nat) (hE : A_S_isLatin1 T a0 = some out) (c z : Nat) : Wk X c z (RD D R d L T) 0 [(0, .ref a0)] [] := by
  have hC := hX.1
  have hnL := hX.2.2.1
  have hDy : ∀ {T : Th} (H : Heap), RD D R d L T H → Dy D T H := fun _ h => h.2.1
  unfold A_S_isLatin1 at hE
  refine a_gets (pc := 0) hX (fun _ h => h.1) q620 dJ6_isLatin1_0 ?_
  refine k_if_eq (pc := 3) (tgt := 17) hC dJ6_isLatin1_3 (by decide) hE (fun hE => ?_) (fun hE => ?_)
  · refine k_iconst (pc := 17) (v := 0) hC dJ6_isLatin1_17 (by decide) ?_
    cases hE
    exact a_zret (pc := 18) (by decide) hX hR dJ6_isLatin1_18 (by rfl) (fun _ h => h)
  · refine k_aload_n (pc := 6) hC dJ6_isLatin1_6 rfl 0 rfl ?_
    refine gD_J6_15_J6 (pc := 7) hC hDy dJ6_isLatin1_7 hE (fun x1 hE => ?_)
    refine k_if_ne (pc := 10) (tgt := 17) hC dJ6_isLatin1_10 (by decide) hE (fun hE => ?_) (fun hE => ?_)
    · refine k_iconst (pc := 13) (v := 1) hC dJ6_isLatin1_13 (by decide) ?_
      refine k_goto (pc := 14) (tgt := 18) hC dJ6_isLatin1_14 (by decide) ?_
      cases hE
      exact a_zret (pc := 18) (by decide) hX hR dJ6_isLatin1_18 (by rfl) (fun _ h => h)
    · refine k_iconst (pc := 17) (v := 0) hC dJ6_isLatin1_17 (by decide) ?_
      cases hE
      exact a_zret (pc := 18) (by decide) hX hR dJ6_isLatin1_18 (by rfl) (fun _ h => h)
theorem ct_A_S_isLatin1 (l : Launch) (D : Dd) (A : Nat → Prop) (R : Heap → Prop) (d : Nat → Prop) (L : Nat × Nat × Nat × Nat) (T : Th) (hSt : Stb R d) (hdA : ∀ q, d q → A q) (hAB : ∀ q, A q → D.2.2.2.1.heap.size ≤ q) (a0 : Nat) (out : Int32) (hE : A_S_isLatin1 T a0 = some out) : Ct l yJ6_isLatin1 (ws_ yJ6_isLatin1 cJ6_isLatin1 1 (some .boolean)) (rmA 0 0 L T) vwCl arTy D A [.ref a0] (RD D R d L T) (RD D R d L T) (some (.int out)) (L.1 - tN T) (L.2.1 - tZ T) := by
  refine Ct.ofA (lv := [(0, .ref a0)]) (by decide) (Nat.le_of_ble_eq_true rfl) rfl hdA hAB ?_
  intro X hl hX hR hXA _
  exact w_A_S_isLatin1 hX hSt hR a0 hE
theorem cw_A_S_isLatin1_J6 {X : Ctx} {cc : ByteArray} {D : Dd} {d : Nat → Prop} {L : Nat × Nat × Nat × Nat} {mL fr lo : Nat} {T : Th} (hX : Ax X cc RJ6 D d L mL fr lo) (h1 : 0 + 1 ≤ fr) (h2 : 8 + (1 + 11) + 0 ≤ lo) : CallW X.2.2.2.1 X.2.2.2.2.1 X.2.2.2.2.2.2.1 RJ6 RJ6 492 yJ6_isLatin1 cJ6_isLatin1 1 (some .boolean) (ws_ yJ6_isLatin1 cJ6_isLatin1 1 (some .boolean)) (rmA 0 0 L T) (L.1 - tN T) (L.2.1 - tZ T) 0 := cwV 0 (cx_w hX.1) (lw_V q626 q627 q628 q129 q629) rfl rfl rfl (by decide +kernel) (by rw [hX.2.2.2.1, hX.2.2.2.2.1]; exact ⟨h1, h2⟩)
set_option maxHeartbeats 4000000 in
theorem w_A_S_checkIndex {X : Ctx} {D : Dd} {R : Heap → Prop} {d : Nat → Prop} {L : Nat × Nat × Nat × Nat} {T : Th} {out : Unit} (hX : Ax X cJ6_checkIndex RJ6 D d L 2 2 46) (hSt : Stb R d) (hR : RtA X none (RD D R d L T) none D L) (a0 : Int32) (a1 : Int32) (hE : A_S_checkIndex T a0 a1 = some out) (c z : Nat) : Wk X c z (RD D R d L T) 0 [(0, .int a0), (1, .int a1)] [] := by
  have hC := hX.1
  have hnL := hX.2.2.1
  have hDy : ∀ {T : Th} (H : Heap), RD D R d L T H → Dy D T H := fun _ h => h.2.1
  unfold A_S_checkIndex at hE
  refine k_iload_n (pc := 0) hC dJ6_checkIndex_0 rfl 0 rfl ?_
  refine k_iload_n (pc := 1) hC dJ6_checkIndex_1 rfl 1 rfl ?_
  refine a_getsU (pc := 2) hX q636 dJ6_checkIndex_2 (fun u1 => ?_)
  obtain ⟨r2, h1, hE⟩ := ob_ hE
  refine a_callS (pc := 5) (As := [.int a0, .int a1, va_rf u1]) hX (ct_A_pci X.2.1 D (cxA X) R d L T hSt hX.2.1 hX.2.2.2.2.2.2.2.2.2 u1 a0 a1 r2 h1) (cw_A_pci_J6 hX (Nat.le_of_ble_eq_true rfl) (Nat.le_of_ble_eq_true rfl)) rfl rfl (Nat.le_of_ble_eq_true rfl) dJ6_checkIndex_5 (fun c z => ?_)
  show Wk X c z (RD D R d L T) 8 [(0, .int a0), (1, .int a1)] [.int r2]
  refine k_pop (pc := 8) hC dJ6_checkIndex_8 rfl ?_
  cases hE
  exact a_vret (pc := 9) hX hR dJ6_checkIndex_9 (by rfl) (fun _ h => h)
theorem ct_A_S_checkIndex (l : Launch) (D : Dd) (A : Nat → Prop) (R : Heap → Prop) (d : Nat → Prop) (L : Nat × Nat × Nat × Nat) (T : Th) (hSt : Stb R d) (hdA : ∀ q, d q → A q) (hAB : ∀ q, A q → D.2.2.2.1.heap.size ≤ q) (a0 : Int32) (a1 : Int32) (out : Unit) (hE : A_S_checkIndex T a0 a1 = some out) : Ct l yJ6_checkIndex (ws_ yJ6_checkIndex cJ6_checkIndex 2 none) (rmA 2 46 L T) vwCl arTy D A [.int a0, .int a1] (RD D R d L T) (RD D R d L T) none (L.1 - tN T) (L.2.1 - tZ T) := by
  refine Ct.ofA (lv := [(0, .int a0), (1, .int a1)]) (by decide) (Nat.le_of_ble_eq_true rfl) rfl hdA hAB ?_
  intro X hl hX hR hXA _
  exact w_A_S_checkIndex hX hSt hR a0 a1 hE
theorem cw_A_S_checkIndex_J7 {X : Ctx} {cc : ByteArray} {D : Dd} {d : Nat → Prop} {L : Nat × Nat × Nat × Nat} {mL fr lo : Nat} {T : Th} (hX : Ax X cc RJ7 D d L mL fr lo) (h1 : 2 + 1 ≤ fr) (h2 : 8 + (2 + 11) + 46 ≤ lo) : CallB X.2.2.2.1 X.2.2.2.2.1 X.2.2.2.2.2.2.1 RJ7 9 yJ6_checkIndex cJ6_checkIndex 2 none (ws_ yJ6_checkIndex cJ6_checkIndex 2 none) (rmA 2 46 L T) (L.1 - tN T) (L.2.1 - tZ T) 2 ∧ (Cond.static yJ6_checkIndex).before X.2.2.2.2.2.2.1 X.2.2.2.2.1 = true := va_cwS 2 (cx_w hX.1) (lw_S q633 q634 q129 q635) rfl rfl rfl (by decide +kernel) (by rw [hX.2.2.2.1, hX.2.2.2.2.1]; exact ⟨h1, h2⟩)
theorem cw_A_S_checkIndex_J9 {X : Ctx} {cc : ByteArray} {D : Dd} {d : Nat → Prop} {L : Nat × Nat × Nat × Nat} {mL fr lo : Nat} {T : Th} (hX : Ax X cc RJ9 D d L mL fr lo) (h1 : 2 + 1 ≤ fr) (h2 : 8 + (2 + 11) + 46 ≤ lo) : CallB X.2.2.2.1 X.2.2.2.2.1 X.2.2.2.2.2.2.1 RJ9 414 yJ6_checkIndex cJ6_checkIndex 2 none (ws_ yJ6_checkIndex cJ6_checkIndex 2 none) (rmA 2 46 L T) (L.1 - tN T) (L.2.1 - tZ T) 2 ∧ (Cond.static yJ6_checkIndex).before X.2.2.2.2.2.2.1 X.2.2.2.2.1 = true := va_cwS 2 (cx_w hX.1) (lw_S q650 q634 q129 q635) rfl rfl rfl (by decide +kernel) (by rw [hX.2.2.2.1, hX.2.2.2.2.1]; exact ⟨h1, h2⟩)
set_option maxHeartbeats 4000000 in
theorem w_A_U_charAt {X : Ctx} {D : Dd} {R : Heap → Prop} {d : Nat → Prop} {L : Nat × Nat × Nat × Nat} {T : Th} {out : Int32} (hX : Ax X cJ7_charAt RJ7 D d L 2 3 67) (hSt : Stb R d) (hR : RtA X (some .char) (RD D R d L T) (some (.int out)) D L) (a0 : Nat) (a1 : Int32) (hE : A_U_charAt T a0 a1 = some out) (c z : Nat) : Wk X c z (RD D R d L T) 0 [(0, .ref a0), (1, .int a1)] [] := by
  have hC := hX.1
  have hnL := hX.2.2.1
  have hDy : ∀ {T : Th} (H : Heap), RD D R d L T H → Dy D T H := fun _ h => h.2.1
  unfold A_U_charAt at hE
  refine k_iload_n (pc := 0) hC dJ7_charAt_0 rfl 1 rfl ?_
  refine k_aload_n (pc := 1) hC dJ7_charAt_1 rfl 0 rfl ?_
  refine dy_alen (pc := 2) (ty := .byte) hC hDy (by simp [arTy]) dJ7_charAt_2 hE (fun x1 hE => ?_)
  obtain ⟨r2, h1, hE⟩ := ob_ hE
  refine a_callS (pc := 3) (As := [.int a1, .int x1]) hX (ct_A_S_checkIndex X.2.1 D (cxA X) R d L T hSt hX.2.1 hX.2.2.2.2.2.2.2.2.2 a1 x1 r2 h1) (cw_A_S_checkIndex_J7 hX (Nat.le_of_ble_eq_true rfl) (Nat.le_of_ble_eq_true rfl)) rfl rfl (Nat.le_of_ble_eq_true rfl) dJ7_charAt_3 (fun c z => ?_)
  show Wk X c z (RD D R d L T) 6 [(0, .ref a0), (1, .int a1)] []
  refine k_aload_n (pc := 6) hC dJ7_charAt_6 rfl 0 rfl ?_
  refine k_iload_n (pc := 7) hC dJ7_charAt_7 rfl 1 rfl ?_
  refine dy_bald (pc := 8) hC hDy dJ7_charAt_8 hE (fun x3 hE => ?_)
  refine k_sipush (pc := 9) (v := 255) hC dJ7_charAt_9 (by decide) ?_
  refine k_iand (pc := 12) hC dJ7_charAt_12 ?_
  refine k_i2c (pc := 13) hC dJ7_charAt_13 ?_
  obtain ⟨r4, hz, hE⟩ := ob_ hE
  obtain ⟨hz1, hz⟩ := cz_some hz
  rw [hz1]
  cases hE
  exact a_nret (pc := 14) hz hX hR dJ7_charAt_14 (by rfl) (fun _ h => h)
theorem ct_A_U_charAt (l : Launch) (D : Dd) (A : Nat → Prop) (R : Heap → Prop) (d : Nat → Prop) (L : Nat × Nat × Nat × Nat) (T : Th) (hSt : Stb R d) (hdA : ∀ q, d q → A q) (hAB : ∀ q, A q → D.2.2.2.1.heap.size ≤ q) (a0 : Nat) (a1 : Int32) (out : Int32) (hE : A_U_charAt T a0 a1 = some out) : Ct l yJ7_charAt (ws_ yJ7_charAt cJ7_charAt 2 (some .char)) (rmA 3 67 L T) vwCl arTy D A [.ref a0, .int a1] (RD D R d L T) (RD D R d L T) (some (.int out)) (L.1 - tN T) (L.2.1 - tZ T) := by
  refine Ct.ofA (lv := [(0, .ref a0), (1, .int a1)]) (by decide) (Nat.le_of_ble_eq_true rfl) rfl hdA hAB ?_
  intro X hl hX hR hXA _
  exact w_A_U_charAt hX hSt hR a0 a1 hE
theorem cw_A_U_charAt_J6 {X : Ctx} {cc : ByteArray} {D : Dd} {d : Nat → Prop} {L : Nat × Nat × Nat × Nat} {mL fr lo : Nat} {T : Th} (hX : Ax X cc RJ6 D d L mL fr lo) (h1 : 3 + 1 ≤ fr) (h2 : 8 + (2 + 11) + 67 ≤ lo) : CallB X.2.2.2.1 X.2.2.2.2.1 X.2.2.2.2.2.2.1 RJ6 495 yJ7_charAt cJ7_charAt 2 (some .char) (ws_ yJ7_charAt cJ7_charAt 2 (some .char)) (rmA 3 67 L T) (L.1 - tN T) (L.2.1 - tZ T) 2 ∧ (Cond.static yJ7_charAt).before X.2.2.2.2.2.2.1 X.2.2.2.2.1 = true := va_cwS 2 (cx_w hX.1) (lw_S q630 q631 q130 q632) rfl rfl rfl (by decide +kernel) (by rw [hX.2.2.2.1, hX.2.2.2.2.1]; exact ⟨h1, h2⟩)
set_option maxHeartbeats 4000000 in
theorem w_A_S_charAt {X : Ctx} {D : Dd} {R : Heap → Prop} {d : Nat → Prop} {L : Nat × Nat × Nat × Nat} {T : Th} {out : Int32} (hX : Ax X cJ6_charAt RJ6 D d L 2 4 88) (hSt : Stb R d) (hR : RtA X (some .char) (RD D R d L T) (some (.int out)) D L) (a0 : Nat) (a1 : Int32) (hE : A_S_charAt T a0 a1 = some out) (c z : Nat) : Wk X c z (RD D R d L T) 0 [(0, .ref a0), (1, .int a1)] [] := by
  have hC := hX.1
  have hnL := hX.2.2.1
  have hDy : ∀ {T : Th} (H : Heap), RD D R d L T H → Dy D T H := fun _ h => h.2.1
  unfold A_S_charAt at hE
  refine k_aload_n (pc := 0) hC dJ6_charAt_0 rfl 0 rfl ?_
  obtain ⟨hrv, hE⟩ := dC_of hE
  obtain ⟨r1, h1, hE⟩ := ob_ hE
  refine a_callV (pc := 1) (As := []) hX (ct_A_S_isLatin1 X.2.1 D (cxA X) R d L T hSt hX.2.1 hX.2.2.2.2.2.2.2.2.2 a0 r1 h1) (cw_A_S_isLatin1_J6 hX (Nat.le_of_ble_eq_true rfl) (Nat.le_of_ble_eq_true rfl)) (a_recv hC cl_J6 hrv) rfl rfl (Nat.le_of_ble_eq_true rfl) dJ6_charAt_1 (fun c z => ?_)
  show Wk X c z (RD D R d L T) 4 [(0, .ref a0), (1, .int a1)] [.int r1]
  refine k_if_eq (pc := 4) (tgt := 16) hC dJ6_charAt_4 (by decide) hE (fun hE => ?_) (fun hE => ?_)
  · refine k_aload_n (pc := 16) hC dJ6_charAt_16 rfl 0 rfl ?_
    refine gD_J6_9_J6 (pc := 17) hC hDy dJ6_charAt_17 hE (fun x2 hE => ?_)
    refine k_iload_n (pc := 20) hC dJ6_charAt_20 rfl 1 rfl ?_
    cases hE
  · refine k_aload_n (pc := 7) hC dJ6_charAt_7 rfl 0 rfl ?_
    refine gD_J6_9_J6 (pc := 8) hC hDy dJ6_charAt_8 hE (fun x3 hE => ?_)
    refine k_iload_n (pc := 11) hC dJ6_charAt_11 rfl 1 rfl ?_
    refine k_nn (G := fun z => Wk X _ _ (RD D R d L T) 12 [(0, .ref a0), (1, .int a1)] [.int a1, z]) hE (fun b4 hE => ?_)
    obtain ⟨r5, h1, hE⟩ := ob_ hE
    refine a_callS (pc := 12) (As := [.ref b4, .int a1]) hX (ct_A_U_charAt X.2.1 D (cxA X) R d L T hSt hX.2.1 hX.2.2.2.2.2.2.2.2.2 b4 a1 r5 h1) (cw_A_U_charAt_J6 hX (Nat.le_of_ble_eq_true rfl) (Nat.le_of_ble_eq_true rfl)) rfl rfl (Nat.le_of_ble_eq_true rfl) dJ6_charAt_12 (fun c z => ?_)
    show Wk X c z (RD D R d L T) 15 [(0, .ref a0), (1, .int a1)] [.int r5]
    obtain ⟨r6, hz, hE⟩ := ob_ hE
    obtain ⟨hz1, hz⟩ := cz_some hz
    rw [hz1]
    cases hE
    exact a_nret (pc := 15) hz hX hR dJ6_charAt_15 (by rfl) (fun _ h => h)
theorem ct_A_S_charAt (l : Launch) (D : Dd) (A : Nat → Prop) (R : Heap → Prop) (d : Nat → Prop) (L : Nat × Nat × Nat × Nat) (T : Th) (hSt : Stb R d) (hdA : ∀ q, d q → A q) (hAB : ∀ q, A q → D.2.2.2.1.heap.size ≤ q) (a0 : Nat) (a1 : Int32) (out : Int32) (hE : A_S_charAt T a0 a1 = some out) : Ct l yJ6_charAt (ws_ yJ6_charAt cJ6_charAt 2 (some .char)) (rmA 4 88 L T) vwCl arTy D A [.ref a0, .int a1] (RD D R d L T) (RD D R d L T) (some (.int out)) (L.1 - tN T) (L.2.1 - tZ T) := by
  refine Ct.ofA (lv := [(0, .ref a0), (1, .int a1)]) (by decide) (Nat.le_of_ble_eq_true rfl) rfl hdA hAB ?_
  intro X hl hX hR hXA _
  exact w_A_S_charAt hX hSt hR a0 a1 hE
theorem cw_A_S_charAt_X2 {X : Ctx} {cc : ByteArray} {D : Dd} {d : Nat → Prop} {L : Nat × Nat × Nat × Nat} {mL fr lo : Nat} {T : Th} (hX : Ax X cc RX2 D d L mL fr lo) (h1 : 4 + 1 ≤ fr) (h2 : 8 + (2 + 11) + 88 ≤ lo) : CallW X.2.2.2.1 X.2.2.2.2.1 X.2.2.2.2.2.2.1 RX2 RJ6 91 yJ6_charAt cJ6_charAt 2 (some .char) (ws_ yJ6_charAt cJ6_charAt 2 (some .char)) (rmA 4 88 L T) (L.1 - tN T) (L.2.1 - tZ T) 1 := cwV 1 (cx_w hX.1) (lw_V q622 q623 q624 q129 q625) rfl rfl rfl (by decide +kernel) (by rw [hX.2.2.2.1, hX.2.2.2.2.1]; exact ⟨h1, h2⟩)
set_option maxHeartbeats 4000000 in
theorem w_A_U_equals_B9 {X : Ctx} {D : Dd} {R : Heap → Prop} {d : Nat → Prop} {L : Nat × Nat × Nat × Nat} {T : Th} {out : Int32} (hX : Ax X cJ7_equals RJ7 D d L 3 0 0) (hSt : Stb R d) (hR : RtA X (some .boolean) (RD D R d L T) (some (.int out)) D L) (F : Nat) (k9 : Nat → Nat → Int32 → Option (Int32)) (hk9 : ∀ (a0 : Nat) (a1 : Nat) (a2 : Int32) , k9 a0 a1 a2 = some out → ∀ c z, Wk X c z (RD D R d L T) 9 [(0, .ref a0), (1, .ref a1), (2, .int a2)] []) (a0 : Nat) (a1 : Nat) (a2 : Int32) (hE : A_U_equals_B9 F k9 T a0 a1 a2 = some out) (c z : Nat) : Wk X c z (RD D R d L T) 9 [(0, .ref a0), (1, .ref a1), (2, .int a2)] [] := by
  have hC := hX.1
  have hnL := hX.2.2.1
  have hDy : ∀ {T : Th} (H : Heap), RD D R d L T H → Dy D T H := fun _ h => h.2.1
  unfold A_U_equals_B9 at hE
  refine k_iload_n (pc := 9) hC dJ7_equals_9 rfl 2 rfl ?_
  refine k_aload_n (pc := 10) hC dJ7_equals_10 rfl 0 rfl ?_
  refine dy_alen (pc := 11) (ty := .byte) hC hDy (by simp [arTy]) dJ7_equals_11 hE (fun x3 hE => ?_)
  refine k_icmp_ge (pc := 12) (tgt := 32) hC dJ7_equals_12 (by decide) hE (fun hE => ?_) (fun hE => ?_)
  · refine k_iconst (pc := 32) (v := 1) hC dJ7_equals_32 (by decide) ?_
    cases hE
    exact a_zret (pc := 33) (by decide) hX hR dJ7_equals_33 (by rfl) (fun _ h => h)
  · refine k_aload_n (pc := 15) hC dJ7_equals_15 rfl 0 rfl ?_
    refine k_iload_n (pc := 16) hC dJ7_equals_16 rfl 2 rfl ?_
    refine dy_bald (pc := 17) hC hDy dJ7_equals_17 hE (fun x4 hE => ?_)
    refine k_aload_n (pc := 18) hC dJ7_equals_18 rfl 1 rfl ?_
    refine k_iload_n (pc := 19) hC dJ7_equals_19 rfl 2 rfl ?_
    refine dy_bald (pc := 20) hC hDy dJ7_equals_20 hE (fun x5 hE => ?_)
    refine k_icmp_eq (pc := 21) (tgt := 26) hC dJ7_equals_21 (by decide) hE (fun hE => ?_) (fun hE => ?_)
    · refine k_iincE (pc := 26) (k := 2) (d := 1) (lv' := fun x6 => [(2, .int x6), (0, .ref a0), (1, .ref a1)]) hC dJ7_equals_26 rfl (by decide) (by rw [hnL]; decide) hE (fun _ => rfl) (fun x6 hE => ?_)
      refine k_goto (pc := 29) (tgt := 9) hC dJ7_equals_29 (by decide) ?_
      refine k_sub [1, 2, 0] rfl ?_
      exact hk9 _ _ _ hE _ _
    · refine k_iconst (pc := 24) (v := 0) hC dJ7_equals_24 (by decide) ?_
      cases hE
      exact a_zret (pc := 25) (by decide) hX hR dJ7_equals_25 (by rfl) (fun _ h => h)
theorem w_A_U_equals_L9 {X : Ctx} {D : Dd} {R : Heap → Prop} {d : Nat → Prop} {L : Nat × Nat × Nat × Nat} {T : Th} {out : Int32} (hX : Ax X cJ7_equals RJ7 D d L 3 0 0) (hSt : Stb R d) (hR : RtA X (some .boolean) (RD D R d L T) (some (.int out)) D L) (F : Nat) (n : Nat) : ∀ (a0 : Nat) (a1 : Nat) (a2 : Int32) , A_U_equals_L9 F T n a0 a1 a2 = some out → ∀ c z, Wk X c z (RD D R d L T) 9 [(0, .ref a0), (1, .ref a1), (2, .int a2)] [] := by
  induction n with
  | zero => intro a0 a1 a2 h; cases h
  | succ n ih => intro a0 a1 a2 h; exact w_A_U_equals_B9 hX hSt hR F (A_U_equals_L9 F T n) ih a0 a1 a2 h
set_option maxHeartbeats 4000000 in
theorem w_A_U_equals {X : Ctx} {D : Dd} {R : Heap → Prop} {d : Nat → Prop} {L : Nat × Nat × Nat × Nat} {T : Th} {out : Int32} (hX : Ax X cJ7_equals RJ7 D d L 3 0 0) (hSt : Stb R d) (hR : RtA X (some .boolean) (RD D R d L T) (some (.int out)) D L) (F : Nat) (a0 : Nat) (a1 : Nat) (hE : A_U_equals F T a0 a1 = some out) (c z : Nat) : Wk X c z (RD D R d L T) 0 [(0, .ref a0), (1, .ref a1)] [] := by
  have hC := hX.1
  have hnL := hX.2.2.1
  have hDy : ∀ {T : Th} (H : Heap), RD D R d L T H → Dy D T H := fun _ h => h.2.1
  unfold A_U_equals at hE
  refine k_aload_n (pc := 0) hC dJ7_equals_0 rfl 0 rfl ?_
  refine dy_alen (pc := 1) (ty := .byte) hC hDy (by simp [arTy]) dJ7_equals_1 hE (fun x1 hE => ?_)
  refine k_aload_n (pc := 2) hC dJ7_equals_2 rfl 1 rfl ?_
  refine dy_alen (pc := 3) (ty := .byte) hC hDy (by simp [arTy]) dJ7_equals_3 hE (fun x2 hE => ?_)
  refine k_icmp_ne (pc := 4) (tgt := 34) hC dJ7_equals_4 (by decide) hE (fun hE => ?_) (fun hE => ?_)
  · refine k_iconst (pc := 7) (v := 0) hC dJ7_equals_7 (by decide) ?_
    refine k_istore_n (pc := 8) (lv' := [(2, .int 0), (0, .ref a0), (1, .ref a1)]) hC dJ7_equals_8 rfl (by rw [hnL]; decide) rfl ?_
    refine k_sub [1, 2, 0] rfl ?_
    exact w_A_U_equals_L9 hX hSt hR F _ _ _ _ hE _ _
  · refine k_iconst (pc := 34) (v := 0) hC dJ7_equals_34 (by decide) ?_
    cases hE
    exact a_zret (pc := 35) (by decide) hX hR dJ7_equals_35 (by rfl) (fun _ h => h)
theorem ct_A_U_equals (l : Launch) (D : Dd) (A : Nat → Prop) (R : Heap → Prop) (d : Nat → Prop) (L : Nat × Nat × Nat × Nat) (T : Th) (hSt : Stb R d) (hdA : ∀ q, d q → A q) (hAB : ∀ q, A q → D.2.2.2.1.heap.size ≤ q) (F : Nat) (a0 : Nat) (a1 : Nat) (out : Int32) (hE : A_U_equals F T a0 a1 = some out) : Ct l yJ7_equals (ws_ yJ7_equals cJ7_equals 3 (some .boolean)) (rmA 0 0 L T) vwCl arTy D A [.ref a0, .ref a1] (RD D R d L T) (RD D R d L T) (some (.int out)) (L.1 - tN T) (L.2.1 - tZ T) := by
  refine Ct.ofA (lv := [(0, .ref a0), (1, .ref a1)]) (by decide) (Nat.le_of_ble_eq_true rfl) rfl hdA hAB ?_
  intro X hl hX hR hXA _
  exact w_A_U_equals hX hSt hR F a0 a1 hE
theorem cw_A_U_equals_J6 {X : Ctx} {cc : ByteArray} {D : Dd} {d : Nat → Prop} {L : Nat × Nat × Nat × Nat} {mL fr lo : Nat} {T : Th} (hX : Ax X cc RJ6 D d L mL fr lo) (h1 : 0 + 1 ≤ fr) (h2 : 8 + (3 + 11) + 0 ≤ lo) : CallB X.2.2.2.1 X.2.2.2.2.1 X.2.2.2.2.2.2.1 RJ6 541 yJ7_equals cJ7_equals 3 (some .boolean) (ws_ yJ7_equals cJ7_equals 3 (some .boolean)) (rmA 0 0 L T) (L.1 - tN T) (L.2.1 - tZ T) 2 ∧ (Cond.static yJ7_equals).before X.2.2.2.2.2.2.1 X.2.2.2.2.1 = true := va_cwS 2 (cx_w hX.1) (lw_S q908 q909 q130 q910) rfl rfl rfl (by decide +kernel) (by rw [hX.2.2.2.1, hX.2.2.2.2.1]; exact ⟨h1, h2⟩)
set_option maxHeartbeats 4000000 in
theorem w_A_S_equals_B36 {X : Ctx} {D : Dd} {R : Heap → Prop} {d : Nat → Prop} {L : Nat × Nat × Nat × Nat} {T : Th} {out : Int32} (hX : Ax X cJ6_equals RJ6 D d L 3 1 24) (hSt : Stb R d) (hR : RtA X (some .boolean) (RD D R d L T) (some (.int out)) D L) (F : Nat) (a0 : Nat) (a2 : Nat) (hE : A_S_equals_B36 F T a0 a2 = some out) (c z : Nat) : Wk X c z (RD D R d L T) 36 [(0, .ref a0), (2, .ref a2)] [] := by
  have hC := hX.1
  have hnL := hX.2.2.1
  have hDy : ∀ {T : Th} (H : Heap), RD D R d L T H → Dy D T H := fun _ h => h.2.1
  unfold A_S_equals_B36 at hE
  refine k_aload_n (pc := 36) hC dJ6_equals_36 rfl 0 rfl ?_
  refine gD_J6_9_J6 (pc := 37) hC hDy dJ6_equals_37 hE (fun x3 hE => ?_)
  refine k_aload_n (pc := 40) hC dJ6_equals_40 rfl 1 rfl ?_
  refine gD_J6_9_J6 (pc := 41) hC hDy dJ6_equals_41 hE (fun x4 hE => ?_)
  refine k_nn (G := fun z => Wk X _ _ (RD D R d L T) 44 [(0, .ref a0), (2, .ref a2)] [z, va_rf x3]) hE (fun b5 hE => ?_)
  refine k_nn (G := fun z => Wk X _ _ (RD D R d L T) 44 [(0, .ref a0), (2, .ref a2)] [.ref b5, z]) hE (fun b6 hE => ?_)
  obtain ⟨r7, h1, hE⟩ := ob_ hE
  refine a_callS (pc := 44) (As := [.ref b6, .ref b5]) hX (ct_A_U_equals X.2.1 D (cxA X) R d L T hSt hX.2.1 hX.2.2.2.2.2.2.2.2.2 F b6 b5 r7 h1) (cw_A_U_equals_J6 hX (Nat.le_of_ble_eq_true rfl) (Nat.le_of_ble_eq_true rfl)) rfl rfl (Nat.le_of_ble_eq_true rfl) dJ6_equals_44 (fun c z => ?_)
  show Wk X c z (RD D R d L T) 47 [(0, .ref a0), (2, .ref a2)] [.int r7]
  refine k_if_eq (pc := 47) (tgt := 54) hC dJ6_equals_47 (by decide) hE (fun hE => ?_) (fun hE => ?_)
  · refine k_iconst (pc := 54) (v := 0) hC dJ6_equals_54 (by decide) ?_
    cases hE
    exact a_zret (pc := 55) (by decide) hX hR dJ6_equals_55 (by rfl) (fun _ h => h)
  · refine k_iconst (pc := 50) (v := 1) hC dJ6_equals_50 (by decide) ?_
    refine k_goto (pc := 51) (tgt := 55) hC dJ6_equals_51 (by decide) ?_
    cases hE
    exact a_zret (pc := 55) (by decide) hX hR dJ6_equals_55 (by rfl) (fun _ h => h)
set_option maxHeartbeats 4000000 in
theorem w_A_S_equals {X : Ctx} {D : Dd} {R : Heap → Prop} {d : Nat → Prop} {L : Nat × Nat × Nat × Nat} {T : Th} {out : Int32} (hX : Ax X cJ6_equals RJ6 D d L 3 1 24) (hSt : Stb R d) (hR : RtA X (some .boolean) (RD D R d L T) (some (.int out)) D L) (F : Nat) (a0 : Nat) (a1 : Nat) (hE : A_S_equals F T a0 a1 = some out) (c z : Nat) : Wk X c z (RD D R d L T) 0 [(0, .ref a0), (1, .ref a1)] [] := by
  have hC := hX.1
  have hnL := hX.2.2.1
  have hDy : ∀ {T : Th} (H : Heap), RD D R d L T H → Dy D T H := fun _ h => h.2.1
  unfold A_S_equals at hE
  refine k_aload_n (pc := 0) hC dJ6_equals_0 rfl 0 rfl ?_
  refine k_aload_n (pc := 1) hC dJ6_equals_1 rfl 1 rfl ?_
  refine k_acmp_ne (pc := 2) (tgt := 7) hC dJ6_equals_2 (by decide) hE (fun hE => ?_) (fun hE => ?_)
  · refine k_iconst (pc := 5) (v := 1) hC dJ6_equals_5 (by decide) ?_
    cases hE
    exact a_zret (pc := 6) (by decide) hX hR dJ6_equals_6 (by rfl) (fun _ h => h)
  · refine k_aload_n (pc := 7) hC dJ6_equals_7 rfl 1 rfl ?_
    refine dy_instS (pc := 8) hC hDy cl_J6 q907 dJ6_equals_8 hE (fun hE => ?_)
    refine k_if_eq (pc := 11) (tgt := 54) hC dJ6_equals_11 (by decide) hE (fun hE => ?_) (fun hE => ?_)
    · refine k_iconst (pc := 54) (v := 0) hC dJ6_equals_54 (by decide) ?_
      cases hE
      exact a_zret (pc := 55) (by decide) hX hR dJ6_equals_55 (by rfl) (fun _ h => h)
    · refine k_aload_n (pc := 14) hC dJ6_equals_14 rfl 1 rfl ?_
      refine dy_castS (pc := 15) hC hDy cl_J6 q907 dJ6_equals_15 hE (fun hE => ?_)
      refine k_astore_n (pc := 18) (lv' := [(2, .ref a1), (0, .ref a0), (1, .ref a1)]) hC dJ6_equals_18 rfl (by rw [hnL]; decide) rfl ?_
      refine a_gets (pc := 19) hX (fun _ h => h.1) q620 dJ6_equals_19 ?_
      refine k_if_eq (pc := 22) (tgt := 36) hC dJ6_equals_22 (by decide) hE (fun hE => ?_) (fun hE => ?_)
      · refine k_sub [1, 0] rfl ?_
        exact w_A_S_equals_B36 hX hSt hR F _ _ hE _ _
      · refine k_aload_n (pc := 25) hC dJ6_equals_25 rfl 1 rfl ?_
        refine gD_J6_15_J6 (pc := 26) hC hDy dJ6_equals_26 hE (fun x1 hE => ?_)
        refine k_aload_n (pc := 29) hC dJ6_equals_29 rfl 0 rfl ?_
        refine gD_J6_15_J6 (pc := 30) hC hDy dJ6_equals_30 hE (fun x2 hE => ?_)
        refine k_icmp_ne (pc := 33) (tgt := 54) hC dJ6_equals_33 (by decide) hE (fun hE => ?_) (fun hE => ?_)
        · refine k_sub [1, 0] rfl ?_
          exact w_A_S_equals_B36 hX hSt hR F _ _ hE _ _
        · refine k_iconst (pc := 54) (v := 0) hC dJ6_equals_54 (by decide) ?_
          cases hE
          exact a_zret (pc := 55) (by decide) hX hR dJ6_equals_55 (by rfl) (fun _ h => h)
theorem ct_A_S_equals (l : Launch) (D : Dd) (A : Nat → Prop) (R : Heap → Prop) (d : Nat → Prop) (L : Nat × Nat × Nat × Nat) (T : Th) (hSt : Stb R d) (hdA : ∀ q, d q → A q) (hAB : ∀ q, A q → D.2.2.2.1.heap.size ≤ q) (F : Nat) (a0 : Nat) (a1 : Nat) (out : Int32) (hE : A_S_equals F T a0 a1 = some out) : Ct l yJ6_equals (ws_ yJ6_equals cJ6_equals 3 (some .boolean)) (rmA 1 24 L T) vwCl arTy D A [.ref a0, .ref a1] (RD D R d L T) (RD D R d L T) (some (.int out)) (L.1 - tN T) (L.2.1 - tZ T) := by
  refine Ct.ofA (lv := [(0, .ref a0), (1, .ref a1)]) (by decide) (Nat.le_of_ble_eq_true rfl) rfl hdA hAB ?_
  intro X hl hX hR hXA _
  exact w_A_S_equals hX hSt hR F a0 a1 hE
theorem cw_A_S_equals_X4 {X : Ctx} {cc : ByteArray} {D : Dd} {d : Nat → Prop} {L : Nat × Nat × Nat × Nat} {mL fr lo : Nat} {T : Th} (hX : Ax X cc RX4 D d L mL fr lo) (h1 : 1 + 1 ≤ fr) (h2 : 8 + (3 + 11) + 24 ≤ lo) : CallW X.2.2.2.1 X.2.2.2.2.1 X.2.2.2.2.2.2.1 RX4 RJ6 48 yJ6_equals cJ6_equals 3 (some .boolean) (ws_ yJ6_equals cJ6_equals 3 (some .boolean)) (rmA 1 24 L T) (L.1 - tN T) (L.2.1 - tZ T) 1 := cwV 1 (cx_w hX.1) (lw_V q903 q904 q905 q129 q906) rfl rfl rfl (by decide +kernel) (by rw [hX.2.2.2.1, hX.2.2.2.2.1]; exact ⟨h1, h2⟩)
set_option maxHeartbeats 4000000 in
theorem w_A_Text_at_B2 {X : Ctx} {D : Dd} {R : Heap → Prop} {d : Nat → Prop} {L : Nat × Nat × Nat × Nat} {T : Th} {out : Int32} (hX : Ax X cX4_at RX4 D d L 3 3 64) (hSt : Stb R d) (hR : RtA X (some .int) (RD D R d L T) (some (.int out)) D L) (F : Nat) (k2 : Nat → Nat → Int32 → Option (Int32)) (hk2 : ∀ (a0 : Nat) (a1 : Nat) (a2 : Int32) , k2 a0 a1 a2 = some out → ∀ c z, Wk X c z (RD D R d L T) 2 [(0, .ref a0), (1, .ref a1), (2, .int a2)] []) (a0 : Nat) (a1 : Nat) (a2 : Int32) (hE : A_Text_at_B2 F k2 T a0 a1 a2 = some out) (c z : Nat) : Wk X c z (RD D R d L T) 2 [(0, .ref a0), (1, .ref a1), (2, .int a2)] [] := by
  have hC := hX.1
  have hnL := hX.2.2.1
  have hDy : ∀ {T : Th} (H : Heap), RD D R d L T H → Dy D T H := fun _ h => h.2.1
  unfold A_Text_at_B2 at hE
  refine k_iload_n (pc := 2) hC dX4_at_2 rfl 2 rfl ?_
  refine k_aload_n (pc := 3) hC dX4_at_3 rfl 0 rfl ?_
  refine a_tight hX ?_
  refine a_know (a_hcs hX) (fun hcs => ?_)
  refine t_callVI (pc := 4) (As := []) 19 (fun r => r) hC hDy cl_J5 (cw_L_size_X4 hC rfl (by rw [hX.2.2.2.1]; exact Nat.le_of_ble_eq_true rfl) (by rw [hX.2.2.2.2.1]; exact Nat.le_of_ble_eq_true rfl)) rfl rfl (Nat.le_of_ble_eq_true rfl) (a_hc0 hcs) dX4_at_4 hE (fun r h => ct_L_size _ _ _ _ T hDy a0 r h) (fun r1 hE => ?_)
  refine k_icmp_ge (pc := 7) (tgt := 36) hC dX4_at_7 (by decide) hE (fun hE => ?_) (fun hE => ?_)
  · refine k_iconst (pc := 36) (v := (-1)) hC dX4_at_36 (by decide) ?_
    cases hE
    exact a_iret (pc := 37) hX hR dX4_at_37 (by rfl) (fun _ h => h)
  · refine k_aload_n (pc := 10) hC dX4_at_10 rfl 0 rfl ?_
    refine k_iload_n (pc := 11) hC dX4_at_11 rfl 2 rfl ?_
    refine a_tight hX ?_
    refine a_know (a_hcs hX) (fun hcs => ?_)
    refine t_callVR (pc := 12) (As := [.int a2]) 19 (fun r => r) hC hDy cl_J5 (cw_L_get_X4 hC rfl (by rw [hX.2.2.2.1]; exact Nat.le_of_ble_eq_true rfl) (by rw [hX.2.2.2.2.1]; exact Nat.le_of_ble_eq_true rfl)) rfl rfl (Nat.le_of_ble_eq_true rfl) (a_hc0 hcs) dX4_at_12 hE (fun r h => ct_L_get _ _ _ _ T hDy a0 a2 r h) (fun r2 hE => ?_)
    refine k_nn (G := fun z => Wk X _ _ (RD D R d L T) 15 [(0, .ref a0), (1, .ref a1), (2, .int a2)] [z]) hE (fun b3 hE => ?_)
    refine dy_castN (pc := 15) hC hDy q902 dX4_at_15 hE (fun hE => ?_)
    refine gDN_X4_44 (pc := 18) hC hDy dX4_at_18 hE (fun x4 hE => ?_)
    refine k_aload_n (pc := 21) hC dX4_at_21 rfl 1 rfl ?_
    refine k_nn (G := fun z => Wk X _ _ (RD D R d L T) 22 [(0, .ref a0), (1, .ref a1), (2, .int a2)] [.ref a1, z]) hE (fun b5 hE => ?_)
    obtain ⟨hrv, hE⟩ := dC_of hE
    obtain ⟨r6, h1, hE⟩ := ob_ hE
    refine a_callV (pc := 22) (As := [.ref a1]) hX (ct_A_S_equals X.2.1 D (cxA X) R d L T hSt hX.2.1 hX.2.2.2.2.2.2.2.2.2 F b5 a1 r6 h1) (cw_A_S_equals_X4 hX (Nat.le_of_ble_eq_true rfl) (Nat.le_of_ble_eq_true rfl)) (a_recv hC cl_J6 hrv) rfl rfl (Nat.le_of_ble_eq_true rfl) dX4_at_22 (fun c z => ?_)
    show Wk X c z (RD D R d L T) 25 [(0, .ref a0), (1, .ref a1), (2, .int a2)] [.int r6]
    refine k_if_eq (pc := 25) (tgt := 30) hC dX4_at_25 (by decide) hE (fun hE => ?_) (fun hE => ?_)
    · refine k_iincE (pc := 30) (k := 2) (d := 1) (lv' := fun x7 => [(2, .int x7), (0, .ref a0), (1, .ref a1)]) hC dX4_at_30 rfl (by decide) (by rw [hnL]; decide) hE (fun _ => rfl) (fun x7 hE => ?_)
      refine k_goto (pc := 33) (tgt := 2) hC dX4_at_33 (by decide) ?_
      refine k_sub [1, 2, 0] rfl ?_
      exact hk2 _ _ _ hE _ _
    · refine k_iload_n (pc := 28) hC dX4_at_28 rfl 2 rfl ?_
      cases hE
      exact a_iret (pc := 29) hX hR dX4_at_29 (by rfl) (fun _ h => h)
theorem w_A_Text_at_L2 {X : Ctx} {D : Dd} {R : Heap → Prop} {d : Nat → Prop} {L : Nat × Nat × Nat × Nat} {T : Th} {out : Int32} (hX : Ax X cX4_at RX4 D d L 3 3 64) (hSt : Stb R d) (hR : RtA X (some .int) (RD D R d L T) (some (.int out)) D L) (F : Nat) (n : Nat) : ∀ (a0 : Nat) (a1 : Nat) (a2 : Int32) , A_Text_at_L2 F T n a0 a1 a2 = some out → ∀ c z, Wk X c z (RD D R d L T) 2 [(0, .ref a0), (1, .ref a1), (2, .int a2)] [] := by
  induction n with
  | zero => intro a0 a1 a2 h; cases h
  | succ n ih => intro a0 a1 a2 h; exact w_A_Text_at_B2 hX hSt hR F (A_Text_at_L2 F T n) ih a0 a1 a2 h
set_option maxHeartbeats 4000000 in
theorem w_A_Text_at {X : Ctx} {D : Dd} {R : Heap → Prop} {d : Nat → Prop} {L : Nat × Nat × Nat × Nat} {T : Th} {out : Int32} (hX : Ax X cX4_at RX4 D d L 3 3 64) (hSt : Stb R d) (hR : RtA X (some .int) (RD D R d L T) (some (.int out)) D L) (F : Nat) (a0 : Nat) (a1 : Nat) (hE : A_Text_at F T a0 a1 = some out) (c z : Nat) : Wk X c z (RD D R d L T) 0 [(0, .ref a0), (1, .ref a1)] [] := by
  have hC := hX.1
  have hnL := hX.2.2.1
  have hDy : ∀ {T : Th} (H : Heap), RD D R d L T H → Dy D T H := fun _ h => h.2.1
  unfold A_Text_at at hE
  refine k_iconst (pc := 0) (v := 0) hC dX4_at_0 (by decide) ?_
  refine k_istore_n (pc := 1) (lv' := [(2, .int 0), (0, .ref a0), (1, .ref a1)]) hC dX4_at_1 rfl (by rw [hnL]; decide) rfl ?_
  refine k_sub [1, 2, 0] rfl ?_
  exact w_A_Text_at_L2 hX hSt hR F _ _ _ _ hE _ _
theorem ct_A_Text_at (l : Launch) (D : Dd) (A : Nat → Prop) (R : Heap → Prop) (d : Nat → Prop) (L : Nat × Nat × Nat × Nat) (T : Th) (hSt : Stb R d) (hdA : ∀ q, d q → A q) (hAB : ∀ q, A q → D.2.2.2.1.heap.size ≤ q) (F : Nat) (a0 : Nat) (a1 : Nat) (out : Int32) (hE : A_Text_at F T a0 a1 = some out) : Ct l yX4_at (ws_ yX4_at cX4_at 3 (some .int)) (rmA 3 64 L T) vwCl arTy D A [.ref a0, .ref a1] (RD D R d L T) (RD D R d L T) (some (.int out)) (L.1 - tN T) (L.2.1 - tZ T) := by
  refine Ct.ofA (lv := [(0, .ref a0), (1, .ref a1)]) (by decide) (Nat.le_of_ble_eq_true rfl) rfl hdA hAB ?_
  intro X hl hX hR hXA _
  exact w_A_Text_at hX hSt hR F a0 a1 hE
theorem cw_A_Text_at_X3 {X : Ctx} {cc : ByteArray} {D : Dd} {d : Nat → Prop} {L : Nat × Nat × Nat × Nat} {mL fr lo : Nat} {T : Th} (hX : Ax X cc RX3 D d L mL fr lo) (h1 : 3 + 1 ≤ fr) (h2 : 8 + (3 + 11) + 64 ≤ lo) : CallB X.2.2.2.1 X.2.2.2.2.1 X.2.2.2.2.2.2.1 RX3 92 yX4_at cX4_at 3 (some .int) (ws_ yX4_at cX4_at 3 (some .int)) (rmA 3 64 L T) (L.1 - tN T) (L.2.1 - tZ T) 2 ∧ (Cond.static yX4_at).before X.2.2.2.2.2.2.1 X.2.2.2.2.1 = true := va_cwS 2 (cx_w hX.1) (lw_S q1012 q887 q121 q888) rfl rfl rfl (by decide +kernel) (by rw [hX.2.2.2.1, hX.2.2.2.2.1]; exact ⟨h1, h2⟩)
theorem cw_A_Text_at_X4 {X : Ctx} {cc : ByteArray} {D : Dd} {d : Nat → Prop} {L : Nat × Nat × Nat × Nat} {mL fr lo : Nat} {T : Th} (hX : Ax X cc RX4 D d L mL fr lo) (h1 : 3 + 1 ≤ fr) (h2 : 8 + (3 + 11) + 64 ≤ lo) : CallB X.2.2.2.1 X.2.2.2.2.1 X.2.2.2.2.2.2.1 RX4 54 yX4_at cX4_at 3 (some .int) (ws_ yX4_at cX4_at 3 (some .int)) (rmA 3 64 L T) (L.1 - tN T) (L.2.1 - tZ T) 2 ∧ (Cond.static yX4_at).before X.2.2.2.2.2.2.1 X.2.2.2.2.1 = true := va_cwS 2 (cx_w hX.1) (lw_S q886 q887 q121 q888) rfl rfl rfl (by decide +kernel) (by rw [hX.2.2.2.1, hX.2.2.2.2.1]; exact ⟨h1, h2⟩)
set_option maxHeartbeats 4000000 in
theorem w_A_Text_has {X : Ctx} {D : Dd} {R : Heap → Prop} {d : Nat → Prop} {L : Nat × Nat × Nat × Nat} {T : Th} {out : Int32} (hX : Ax X cX4_has RX4 D d L 2 4 86) (hSt : Stb R d) (hR : RtA X (some .boolean) (RD D R d L T) (some (.int out)) D L) (F : Nat) (a0 : Nat) (a1 : Nat) (hE : A_Text_has F T a0 a1 = some out) (c z : Nat) : Wk X c z (RD D R d L T) 0 [(0, .ref a0), (1, .ref a1)] [] := by
  have hC := hX.1
  have hnL := hX.2.2.1
  have hDy : ∀ {T : Th} (H : Heap), RD D R d L T H → Dy D T H := fun _ h => h.2.1
  unfold A_Text_has at hE
  refine k_aload_n (pc := 0) hC dX4_has_0 rfl 0 rfl ?_
  refine gD_X4_12_X4 (pc := 1) hC hDy dX4_has_1 hE (fun x1 hE => ?_)
  refine k_aload_n (pc := 4) hC dX4_has_4 rfl 1 rfl ?_
  refine k_nn (G := fun z => Wk X _ _ (RD D R d L T) 5 [(0, .ref a0), (1, .ref a1)] [.ref a1, z]) hE (fun b2 hE => ?_)
  obtain ⟨r3, h1, hE⟩ := ob_ hE
  refine a_callS (pc := 5) (As := [.ref b2, .ref a1]) hX (ct_A_Text_at X.2.1 D (cxA X) R d L T hSt hX.2.1 hX.2.2.2.2.2.2.2.2.2 F b2 a1 r3 h1) (cw_A_Text_at_X4 hX (Nat.le_of_ble_eq_true rfl) (Nat.le_of_ble_eq_true rfl)) rfl rfl (Nat.le_of_ble_eq_true rfl) dX4_has_5 (fun c z => ?_)
  show Wk X c z (RD D R d L T) 8 [(0, .ref a0), (1, .ref a1)] [.int r3]
  refine k_if_ge (pc := 8) (tgt := 44) hC dX4_has_8 (by decide) hE (fun hE => ?_) (fun hE => ?_)
  · refine k_iconst (pc := 44) (v := 1) hC dX4_has_44 (by decide) ?_
    refine k_goto (pc := 45) (tgt := 49) hC dX4_has_45 (by decide) ?_
    cases hE
    exact a_zret (pc := 49) (by decide) hX hR dX4_has_49 (by rfl) (fun _ h => h)
  · refine k_aload_n (pc := 11) hC dX4_has_11 rfl 0 rfl ?_
    refine gD_X4_21_X4 (pc := 12) hC hDy dX4_has_12 hE (fun x4 hE => ?_)
    refine k_aload_n (pc := 15) hC dX4_has_15 rfl 1 rfl ?_
    refine k_nn (G := fun z => Wk X _ _ (RD D R d L T) 16 [(0, .ref a0), (1, .ref a1)] [.ref a1, z]) hE (fun b5 hE => ?_)
    obtain ⟨r6, h1, hE⟩ := ob_ hE
    refine a_callS (pc := 16) (As := [.ref b5, .ref a1]) hX (ct_A_Text_at X.2.1 D (cxA X) R d L T hSt hX.2.1 hX.2.2.2.2.2.2.2.2.2 F b5 a1 r6 h1) (cw_A_Text_at_X4 hX (Nat.le_of_ble_eq_true rfl) (Nat.le_of_ble_eq_true rfl)) rfl rfl (Nat.le_of_ble_eq_true rfl) dX4_has_16 (fun c z => ?_)
    show Wk X c z (RD D R d L T) 19 [(0, .ref a0), (1, .ref a1)] [.int r6]
    refine k_if_ge (pc := 19) (tgt := 44) hC dX4_has_19 (by decide) hE (fun hE => ?_) (fun hE => ?_)
    · refine k_iconst (pc := 44) (v := 1) hC dX4_has_44 (by decide) ?_
      refine k_goto (pc := 45) (tgt := 49) hC dX4_has_45 (by decide) ?_
      cases hE
      exact a_zret (pc := 49) (by decide) hX hR dX4_has_49 (by rfl) (fun _ h => h)
    · refine k_aload_n (pc := 22) hC dX4_has_22 rfl 0 rfl ?_
      refine gD_X4_24_X4 (pc := 23) hC hDy dX4_has_23 hE (fun x7 hE => ?_)
      refine k_aload_n (pc := 26) hC dX4_has_26 rfl 1 rfl ?_
      refine k_nn (G := fun z => Wk X _ _ (RD D R d L T) 27 [(0, .ref a0), (1, .ref a1)] [.ref a1, z]) hE (fun b8 hE => ?_)
      obtain ⟨r9, h1, hE⟩ := ob_ hE
      refine a_callS (pc := 27) (As := [.ref b8, .ref a1]) hX (ct_A_Text_at X.2.1 D (cxA X) R d L T hSt hX.2.1 hX.2.2.2.2.2.2.2.2.2 F b8 a1 r9 h1) (cw_A_Text_at_X4 hX (Nat.le_of_ble_eq_true rfl) (Nat.le_of_ble_eq_true rfl)) rfl rfl (Nat.le_of_ble_eq_true rfl) dX4_has_27 (fun c z => ?_)
      show Wk X c z (RD D R d L T) 30 [(0, .ref a0), (1, .ref a1)] [.int r9]
      refine k_if_ge (pc := 30) (tgt := 44) hC dX4_has_30 (by decide) hE (fun hE => ?_) (fun hE => ?_)
      · refine k_iconst (pc := 44) (v := 1) hC dX4_has_44 (by decide) ?_
        refine k_goto (pc := 45) (tgt := 49) hC dX4_has_45 (by decide) ?_
        cases hE
        exact a_zret (pc := 49) (by decide) hX hR dX4_has_49 (by rfl) (fun _ h => h)
      · refine k_aload_n (pc := 33) hC dX4_has_33 rfl 0 rfl ?_
        refine gD_X4_27_X4 (pc := 34) hC hDy dX4_has_34 hE (fun x10 hE => ?_)
        refine k_aload_n (pc := 37) hC dX4_has_37 rfl 1 rfl ?_
        refine k_nn (G := fun z => Wk X _ _ (RD D R d L T) 38 [(0, .ref a0), (1, .ref a1)] [.ref a1, z]) hE (fun b11 hE => ?_)
        obtain ⟨r12, h1, hE⟩ := ob_ hE
        refine a_callS (pc := 38) (As := [.ref b11, .ref a1]) hX (ct_A_Text_at X.2.1 D (cxA X) R d L T hSt hX.2.1 hX.2.2.2.2.2.2.2.2.2 F b11 a1 r12 h1) (cw_A_Text_at_X4 hX (Nat.le_of_ble_eq_true rfl) (Nat.le_of_ble_eq_true rfl)) rfl rfl (Nat.le_of_ble_eq_true rfl) dX4_has_38 (fun c z => ?_)
        show Wk X c z (RD D R d L T) 41 [(0, .ref a0), (1, .ref a1)] [.int r12]
        refine k_if_lt (pc := 41) (tgt := 48) hC dX4_has_41 (by decide) hE (fun hE => ?_) (fun hE => ?_)
        · refine k_iconst (pc := 48) (v := 0) hC dX4_has_48 (by decide) ?_
          cases hE
          exact a_zret (pc := 49) (by decide) hX hR dX4_has_49 (by rfl) (fun _ h => h)
        · refine k_iconst (pc := 44) (v := 1) hC dX4_has_44 (by decide) ?_
          refine k_goto (pc := 45) (tgt := 49) hC dX4_has_45 (by decide) ?_
          cases hE
          exact a_zret (pc := 49) (by decide) hX hR dX4_has_49 (by rfl) (fun _ h => h)
theorem ct_A_Text_has (l : Launch) (D : Dd) (A : Nat → Prop) (R : Heap → Prop) (d : Nat → Prop) (L : Nat × Nat × Nat × Nat) (T : Th) (hSt : Stb R d) (hdA : ∀ q, d q → A q) (hAB : ∀ q, A q → D.2.2.2.1.heap.size ≤ q) (F : Nat) (a0 : Nat) (a1 : Nat) (out : Int32) (hE : A_Text_has F T a0 a1 = some out) : Ct l yX4_has (ws_ yX4_has cX4_has 2 (some .boolean)) (rmA 4 86 L T) vwCl arTy D A [.ref a0, .ref a1] (RD D R d L T) (RD D R d L T) (some (.int out)) (L.1 - tN T) (L.2.1 - tZ T) := by
  refine Ct.ofA (lv := [(0, .ref a0), (1, .ref a1)]) (by decide) (Nat.le_of_ble_eq_true rfl) rfl hdA hAB ?_
  intro X hl hX hR hXA _
  exact w_A_Text_has hX hSt hR F a0 a1 hE
theorem cw_A_Text_has_X3 {X : Ctx} {cc : ByteArray} {D : Dd} {d : Nat → Prop} {L : Nat × Nat × Nat × Nat} {mL fr lo : Nat} {T : Th} (hX : Ax X cc RX3 D d L mL fr lo) (h1 : 4 + 1 ≤ fr) (h2 : 8 + (2 + 11) + 86 ≤ lo) : CallW X.2.2.2.1 X.2.2.2.2.1 X.2.2.2.2.2.2.1 RX3 RX4 86 yX4_has cX4_has 2 (some .boolean) (ws_ yX4_has cX4_has 2 (some .boolean)) (rmA 4 86 L T) (L.1 - tN T) (L.2.1 - tZ T) 1 := cwV 1 (cx_w hX.1) (lw_V q882 q883 q884 q121 q885) rfl rfl rfl (by decide +kernel) (by rw [hX.2.2.2.1, hX.2.2.2.2.1]; exact ⟨h1, h2⟩)
set_option maxHeartbeats 4000000 in
theorem w_T_at {X : Ctx} {D : Dd} {x : Nat} {R0 : Heap → Prop} {d : Nat → Prop} {L : Nat × Nat × Nat × Nat} {Q : Ji} {Xp : Jr} {T : Th} {out : Int32} (hP : Px X cX2_at RX2 D x R0 d L 2 0 0) (hR : RtA X (some .int) (RD D (RP D x Xp R0 Q) d L T) (some (.int out)) D L) (a1 : Int32) (hE : T_at Q T a1 = some out) (c z : Nat) : Wk X c z (RD D (RP D x Xp R0 Q) d L T) 0 [(0, .ref (x + 2)), (1, .int a1)] [] := by
  have hX := hP.1
  have hC := hX.1
  have hnL := hX.2.2.1
  have hSt : ∀ {Xp : Jr} {Q : Ji}, Stb (RP D x Xp R0 Q) d := hP.st
  have hDy : ∀ {Xp : Jr} {Q : Ji} {T : Th} (H : Heap), RD D (RP D x Xp R0 Q) d L T H → Dy D T H := fun _ h => h.2.1
  unfold T_at at hE
  refine k_iload_n (pc := 0) hC dX2_at_0 rfl 1 rfl ?_
  refine k_aload_n (pc := 1) hC dX2_at_1 rfl 0 rfl ?_
  refine gP_X2_76 (pc := 2) hP dX2_at_2 ?_
  refine k_icmp_ge (pc := 5) (tgt := 17) hC dX2_at_5 (by decide) hE (fun hE => ?_) (fun hE => ?_)
  · refine k_iconst (pc := 17) (v := 0) hC dX2_at_17 (by decide) ?_
    cases hE
    exact a_iret (pc := 18) hX hR dX2_at_18 (by rfl) (fun _ h => h)
  · refine k_aload_n (pc := 8) hC dX2_at_8 rfl 0 rfl ?_
    refine gP_X2_59 (pc := 9) hP dX2_at_9 ?_
    refine k_iload_n (pc := 12) hC dX2_at_12 rfl 1 rfl ?_
    refine p_bald (pc := 13) 4 lp_4 hP dX2_at_13 hE (fun x1 hE => ?_)
    refine k_goto (pc := 14) (tgt := 18) hC dX2_at_14 (by decide) ?_
    cases hE
    exact a_iret (pc := 18) hX hR dX2_at_18 (by rfl) (fun _ h => h)
theorem ct_T_at (l : Launch) (D : Dd) (A : Nat → Prop) (x : Nat) (Xp : Jr) (R0 : Heap → Prop) (d : Nat → Prop) (L : Nat × Nat × Nat × Nat) (Q : Ji) (T : Th) (hp : Pf D A x R0 d) (a1 : Int32) (out : Int32) (hE : T_at Q T a1 = some out) : Ct l yX2_at (ws_ yX2_at cX2_at 2 (some .int)) (rmA 0 0 L T) vwCl arTy D A [.ref (x + 2), .int a1] (RD D (RP D x Xp R0 Q) d L T) (RD D (RP D x Xp R0 Q) d L T) (some (.int out)) (L.1 - tN T) (L.2.1 - tZ T) := by
  refine Ct.ofA (lv := [(0, .ref (x + 2)), (1, .int a1)]) (by decide) (Nat.le_of_ble_eq_true rfl) rfl hp.1 hp.2.1 ?_
  intro X hl hX hR hXA _
  exact w_T_at (Xp := Xp) (hp.px hX hXA) hR a1 hE
theorem cw_T_at_X2 {X : Ctx} {cc : ByteArray} {D : Dd} {d : Nat → Prop} {L : Nat × Nat × Nat × Nat} {mL fr lo : Nat} {T : Th} (hX : Ax X cc RX2 D d L mL fr lo) (h1 : 0 + 1 ≤ fr) (h2 : 8 + (2 + 11) + 0 ≤ lo) : CallW X.2.2.2.1 X.2.2.2.2.1 X.2.2.2.2.2.2.1 RX2 RX2 80 yX2_at cX2_at 2 (some .int) (ws_ yX2_at cX2_at 2 (some .int)) (rmA 0 0 L T) (L.1 - tN T) (L.2.1 - tZ T) 1 := cwV 1 (cx_w hX.1) (lw_V q604 q606 qs3 q119 q607) rfl rfl rfl (by decide +kernel) (by rw [hX.2.2.2.1, hX.2.2.2.2.1]; exact ⟨h1, h2⟩)
set_option maxHeartbeats 4000000 in
theorem w_T_isLetter {X : Ctx} {D : Dd} {x : Nat} {R0 : Heap → Prop} {d : Nat → Prop} {L : Nat × Nat × Nat × Nat} {Q : Ji} {Xp : Jr} {T : Th} {out : Int32} (hP : Px X cX2_isLetter RX2 D x R0 d L 2 1 24) (hR : RtA X (some .boolean) (RD D (RP D x Xp R0 Q) d L T) (some (.int out)) D L) (a1 : Int32) (hE : T_isLetter Q T a1 = some out) (c z : Nat) : Wk X c z (RD D (RP D x Xp R0 Q) d L T) 0 [(0, .ref (x + 2)), (1, .int a1)] [] := by
  have hX := hP.1
  have hC := hX.1
  have hnL := hX.2.2.1
  have hSt : ∀ {Xp : Jr} {Q : Ji}, Stb (RP D x Xp R0 Q) d := hP.st
  have hDy : ∀ {Xp : Jr} {Q : Ji} {T : Th} (H : Heap), RD D (RP D x Xp R0 Q) d L T H → Dy D T H := fun _ h => h.2.1
  unfold T_isLetter at hE
  refine k_aload_n (pc := 0) hC dX2_isLetter_0 rfl 0 rfl ?_
  refine k_iload_n (pc := 1) hC dX2_isLetter_1 rfl 1 rfl ?_
  obtain ⟨r1, h1, hE⟩ := ob_ hE
  refine a_callV (pc := 2) (As := [.int a1]) hX (ct_T_at X.2.1 D (cxA X) x Xp R0 d L Q T (pxf hP) a1 r1 h1) (cw_T_at_X2 hX (Nat.le_of_ble_eq_true rfl) (Nat.le_of_ble_eq_true rfl)) (p_recv 2 lp_2 cl_X2 hP) rfl rfl (Nat.le_of_ble_eq_true rfl) dX2_isLetter_2 (fun c z => ?_)
  show Wk X c z (RD D (RP D x Xp R0 Q) d L T) 5 [(0, .ref (x + 2)), (1, .int a1)] [.int r1]
  refine k_bipush (pc := 5) (v := 97) hC dX2_isLetter_5 (by decide) ?_
  refine k_icmp_lt (pc := 7) (tgt := 24) hC dX2_isLetter_7 (by decide) hE (fun hE => ?_) (fun hE => ?_)
  · refine k_iconst (pc := 24) (v := 0) hC dX2_isLetter_24 (by decide) ?_
    cases hE
    exact a_zret (pc := 25) (by decide) hX hR dX2_isLetter_25 (by rfl) (fun _ h => h)
  · refine k_aload_n (pc := 10) hC dX2_isLetter_10 rfl 0 rfl ?_
    refine k_iload_n (pc := 11) hC dX2_isLetter_11 rfl 1 rfl ?_
    obtain ⟨r2, h1, hE⟩ := ob_ hE
    refine a_callV (pc := 12) (As := [.int a1]) hX (ct_T_at X.2.1 D (cxA X) x Xp R0 d L Q T (pxf hP) a1 r2 h1) (cw_T_at_X2 hX (Nat.le_of_ble_eq_true rfl) (Nat.le_of_ble_eq_true rfl)) (p_recv 2 lp_2 cl_X2 hP) rfl rfl (Nat.le_of_ble_eq_true rfl) dX2_isLetter_12 (fun c z => ?_)
    show Wk X c z (RD D (RP D x Xp R0 Q) d L T) 15 [(0, .ref (x + 2)), (1, .int a1)] [.int r2]
    refine k_bipush (pc := 15) (v := 122) hC dX2_isLetter_15 (by decide) ?_
    refine k_icmp_gt (pc := 17) (tgt := 24) hC dX2_isLetter_17 (by decide) hE (fun hE => ?_) (fun hE => ?_)
    · refine k_iconst (pc := 24) (v := 0) hC dX2_isLetter_24 (by decide) ?_
      cases hE
      exact a_zret (pc := 25) (by decide) hX hR dX2_isLetter_25 (by rfl) (fun _ h => h)
    · refine k_iconst (pc := 20) (v := 1) hC dX2_isLetter_20 (by decide) ?_
      refine k_goto (pc := 21) (tgt := 25) hC dX2_isLetter_21 (by decide) ?_
      cases hE
      exact a_zret (pc := 25) (by decide) hX hR dX2_isLetter_25 (by rfl) (fun _ h => h)
theorem ct_T_isLetter (l : Launch) (D : Dd) (A : Nat → Prop) (x : Nat) (Xp : Jr) (R0 : Heap → Prop) (d : Nat → Prop) (L : Nat × Nat × Nat × Nat) (Q : Ji) (T : Th) (hp : Pf D A x R0 d) (a1 : Int32) (out : Int32) (hE : T_isLetter Q T a1 = some out) : Ct l yX2_isLetter (ws_ yX2_isLetter cX2_isLetter 2 (some .boolean)) (rmA 1 24 L T) vwCl arTy D A [.ref (x + 2), .int a1] (RD D (RP D x Xp R0 Q) d L T) (RD D (RP D x Xp R0 Q) d L T) (some (.int out)) (L.1 - tN T) (L.2.1 - tZ T) := by
  refine Ct.ofA (lv := [(0, .ref (x + 2)), (1, .int a1)]) (by decide) (Nat.le_of_ble_eq_true rfl) rfl hp.1 hp.2.1 ?_
  intro X hl hX hR hXA _
  exact w_T_isLetter (Xp := Xp) (hp.px hX hXA) hR a1 hE
theorem cw_T_isLetter_X2 {X : Ctx} {cc : ByteArray} {D : Dd} {d : Nat → Prop} {L : Nat × Nat × Nat × Nat} {mL fr lo : Nat} {T : Th} (hX : Ax X cc RX2 D d L mL fr lo) (h1 : 1 + 1 ≤ fr) (h2 : 8 + (2 + 11) + 24 ≤ lo) : CallW X.2.2.2.1 X.2.2.2.2.1 X.2.2.2.2.2.2.1 RX2 RX2 95 yX2_isLetter cX2_isLetter 2 (some .boolean) (ws_ yX2_isLetter cX2_isLetter 2 (some .boolean)) (rmA 1 24 L T) (L.1 - tN T) (L.2.1 - tZ T) 1 := cwV 1 (cx_w hX.1) (lw_V q600 q602 qs2 q119 q603) rfl rfl rfl (by decide +kernel) (by rw [hX.2.2.2.1, hX.2.2.2.2.1]; exact ⟨h1, h2⟩)
set_option maxHeartbeats 4000000 in
theorem w_T_word_B75 {X : Ctx} {D : Dd} {x : Nat} {R0 : Heap → Prop} {d : Nat → Prop} {L : Nat × Nat × Nat × Nat} {Q : Ji} {Xp : Jr} {T : Th} {out : Int32} (hP : Px X cX2_word RX2 D x R0 d L 6 5 109) (hR : RtA X (some .int) (RD D (RP D x Xp R0 Q) d L T) (some (.int out)) D L) (F : Nat) (k2 : Int32 → Int32 → Int32 → Option (Int32)) (hk2 : ∀ (a1 : Int32) (a2 : Int32) (a3 : Int32) , k2 a1 a2 a3 = some out → ∀ c z, Wk X c z (RD D (RP D x Xp R0 Q) d L T) 2 [(0, .ref (x + 2)), (1, .int a1), (2, .int a2), (3, .int a3)] []) (k36 : Int32 → Int32 → Int32 → Int32 → Int32 → Option (Int32)) (hk36 : ∀ (a1 : Int32) (a2 : Int32) (a3 : Int32) (a4 : Int32) (a5 : Int32) , k36 a1 a2 a3 a4 a5 = some out → ∀ c z, Wk X c z (RD D (RP D x Xp R0 Q) d L T) 36 [(0, .ref (x + 2)), (1, .int a1), (2, .int a2), (3, .int a3), (4, .int a4), (5, .int a5)] []) (a1 : Int32) (a2 : Int32) (a3 : Int32) (a5 : Int32) (s0 : Int32) (hE : T_word_B75 F k2 k36 Q Xp T a1 a2 a3 a5 s0 = some out) (c z : Nat) : Wk X c z (RD D (RP D x Xp R0 Q) d L T) 75 [(0, .ref (x + 2)), (1, .int a1), (2, .int a2), (3, .int a3), (5, .int a5)] [.int s0] := by
  have hX := hP.1
  have hC := hX.1
  have hnL := hX.2.2.1
  have hSt : ∀ {Xp : Jr} {Q : Ji}, Stb (RP D x Xp R0 Q) d := hP.st
  have hDy : ∀ {Xp : Jr} {Q : Ji} {T : Th} (H : Heap), RD D (RP D x Xp R0 Q) d L T H → Dy D T H := fun _ h => h.2.1
  unfold T_word_B75 at hE
  refine k_istore (pc := 75) (lv' := [(4, .int s0), (0, .ref (x + 2)), (1, .int a1), (2, .int a2), (3, .int a3), (5, .int a5)]) hC dX2_word_75 (by rw [hnL]; decide) rfl ?_
  refine k_iincE (pc := 77) (k := 5) (d := 1) (lv' := fun x12 => [(5, .int x12), (4, .int s0), (0, .ref (x + 2)), (1, .int a1), (2, .int a2), (3, .int a3)]) hC dX2_word_77 rfl (by decide) (by rw [hnL]; decide) hE (fun _ => rfl) (fun x12 hE => ?_)
  refine k_goto (pc := 80) (tgt := 36) hC dX2_word_80 (by decide) ?_
  refine k_sub [2, 3, 4, 5, 1, 0] rfl ?_
  exact hk36 _ _ _ _ _ hE _ _
set_option maxHeartbeats 4000000 in
theorem w_T_word_B83 {X : Ctx} {D : Dd} {x : Nat} {R0 : Heap → Prop} {d : Nat → Prop} {L : Nat × Nat × Nat × Nat} {Q : Ji} {Xp : Jr} {T : Th} {out : Int32} (hP : Px X cX2_word RX2 D x R0 d L 6 5 109) (hR : RtA X (some .int) (RD D (RP D x Xp R0 Q) d L T) (some (.int out)) D L) (F : Nat) (k2 : Int32 → Int32 → Int32 → Option (Int32)) (hk2 : ∀ (a1 : Int32) (a2 : Int32) (a3 : Int32) , k2 a1 a2 a3 = some out → ∀ c z, Wk X c z (RD D (RP D x Xp R0 Q) d L T) 2 [(0, .ref (x + 2)), (1, .int a1), (2, .int a2), (3, .int a3)] []) (a1 : Int32) (a2 : Int32) (a3 : Int32) (a4 : Int32) (hE : T_word_B83 F k2 Q Xp T a1 a2 a3 a4 = some out) (c z : Nat) : Wk X c z (RD D (RP D x Xp R0 Q) d L T) 83 [(0, .ref (x + 2)), (1, .int a1), (2, .int a2), (3, .int a3), (4, .int a4)] [] := by
  have hX := hP.1
  have hC := hX.1
  have hnL := hX.2.2.1
  have hSt : ∀ {Xp : Jr} {Q : Ji}, Stb (RP D x Xp R0 Q) d := hP.st
  have hDy : ∀ {Xp : Jr} {Q : Ji} {T : Th} (H : Heap), RD D (RP D x Xp R0 Q) d L T H → Dy D T H := fun _ h => h.2.1
  unfold T_word_B83 at hE
  refine k_iload (pc := 83) hC dX2_word_83 4 rfl ?_
  refine k_if_eq (pc := 85) (tgt := 90) hC dX2_word_85 (by decide) hE (fun hE => ?_) (fun hE => ?_)
  · refine k_iincE (pc := 90) (k := 3) (d := 1) (lv' := fun x13 => [(3, .int x13), (0, .ref (x + 2)), (1, .int a1), (2, .int a2), (4, .int a4)]) hC dX2_word_90 rfl (by decide) (by rw [hnL]; decide) hE (fun _ => rfl) (fun x13 hE => ?_)
    refine k_goto (pc := 93) (tgt := 2) hC dX2_word_93 (by decide) ?_
    refine k_sub [1, 2, 3, 0] rfl ?_
    exact hk2 _ _ _ hE _ _
  · refine k_iload_n (pc := 88) hC dX2_word_88 rfl 3 rfl ?_
    cases hE
    exact a_iret (pc := 89) hX hR dX2_word_89 (by rfl) (fun _ h => h)
set_option maxHeartbeats 4000000 in
theorem w_T_word_B36 {X : Ctx} {D : Dd} {x : Nat} {R0 : Heap → Prop} {d : Nat → Prop} {L : Nat × Nat × Nat × Nat} {Q : Ji} {Xp : Jr} {T : Th} {out : Int32} (hP : Px X cX2_word RX2 D x R0 d L 6 5 109) (hR : RtA X (some .int) (RD D (RP D x Xp R0 Q) d L T) (some (.int out)) D L) (F : Nat) (k2 : Int32 → Int32 → Int32 → Option (Int32)) (hk2 : ∀ (a1 : Int32) (a2 : Int32) (a3 : Int32) , k2 a1 a2 a3 = some out → ∀ c z, Wk X c z (RD D (RP D x Xp R0 Q) d L T) 2 [(0, .ref (x + 2)), (1, .int a1), (2, .int a2), (3, .int a3)] []) (k36 : Int32 → Int32 → Int32 → Int32 → Int32 → Option (Int32)) (hk36 : ∀ (a1 : Int32) (a2 : Int32) (a3 : Int32) (a4 : Int32) (a5 : Int32) , k36 a1 a2 a3 a4 a5 = some out → ∀ c z, Wk X c z (RD D (RP D x Xp R0 Q) d L T) 36 [(0, .ref (x + 2)), (1, .int a1), (2, .int a2), (3, .int a3), (4, .int a4), (5, .int a5)] []) (a1 : Int32) (a2 : Int32) (a3 : Int32) (a4 : Int32) (a5 : Int32) (hE : T_word_B36 F k2 k36 Q Xp T a1 a2 a3 a4 a5 = some out) (c z : Nat) : Wk X c z (RD D (RP D x Xp R0 Q) d L T) 36 [(0, .ref (x + 2)), (1, .int a1), (2, .int a2), (3, .int a3), (4, .int a4), (5, .int a5)] [] := by
  have hX := hP.1
  have hC := hX.1
  have hnL := hX.2.2.1
  have hSt : ∀ {Xp : Jr} {Q : Ji}, Stb (RP D x Xp R0 Q) d := hP.st
  have hDy : ∀ {Xp : Jr} {Q : Ji} {T : Th} (H : Heap), RD D (RP D x Xp R0 Q) d L T H → Dy D T H := fun _ h => h.2.1
  unfold T_word_B36 at hE
  refine k_iload (pc := 36) hC dX2_word_36 5 rfl ?_
  refine k_iload_n (pc := 38) hC dX2_word_38 rfl 2 rfl ?_
  refine k_icmp_ge (pc := 39) (tgt := 83) hC dX2_word_39 (by decide) hE (fun hE => ?_) (fun hE => ?_)
  · refine k_sub [0, 1, 2, 3, 4] rfl ?_
    exact w_T_word_B83 hP hR F k2 hk2 _ _ _ _ hE _ _
  · refine k_iload (pc := 42) hC dX2_word_42 4 rfl ?_
    refine k_if_eq (pc := 44) (tgt := 83) hC dX2_word_44 (by decide) hE (fun hE => ?_) (fun hE => ?_)
    · refine k_sub [0, 1, 2, 3, 4] rfl ?_
      exact w_T_word_B83 hP hR F k2 hk2 _ _ _ _ hE _ _
    · refine k_aload_n (pc := 47) hC dX2_word_47 rfl 0 rfl ?_
      refine gP_X2_53 (pc := 48) hP dX2_word_48 ?_
      refine k_iload_n (pc := 51) hC dX2_word_51 rfl 3 rfl ?_
      refine k_nn (G := fun z => Wk X _ _ (RD D (RP D x Xp R0 Q) d L T) 52 [(0, .ref (x + 2)), (1, .int a1), (2, .int a2), (3, .int a3), (4, .int a4), (5, .int a5)] [.int a3, z]) hE (fun b7 hE => ?_)
      refine dy_aald (pc := 52) (ty := .object "java/lang/String") hC hDy (by simp [arTy]) rfl dX2_word_52 hE (fun x8 hE => ?_)
      refine k_iload (pc := 53) hC dX2_word_53 5 rfl ?_
      refine k_iload_n (pc := 55) hC dX2_word_55 rfl 1 rfl ?_
      refine k_isub (pc := 56) hC dX2_word_56 ?_
      refine k_nn (G := fun z => Wk X _ _ (RD D (RP D x Xp R0 Q) d L T) 57 [(0, .ref (x + 2)), (1, .int a1), (2, .int a2), (3, .int a3), (4, .int a4), (5, .int a5)] [.int (a5 - a1), z]) hE (fun b9 hE => ?_)
      obtain ⟨hrv, hE⟩ := dC_of hE
      obtain ⟨r10, h1, hE⟩ := ob_ hE
      refine a_callV (pc := 57) (As := [.int (a5 - a1)]) hX (ct_A_S_charAt X.2.1 D (cxA X) (RP D x Xp R0 Q) d L T hSt hX.2.1 hX.2.2.2.2.2.2.2.2.2 b9 (a5 - a1) r10 h1) (cw_A_S_charAt_X2 hX (Nat.le_of_ble_eq_true rfl) (Nat.le_of_ble_eq_true rfl)) (a_recv hC cl_J6 hrv) rfl rfl (Nat.le_of_ble_eq_true rfl) dX2_word_57 (fun c z => ?_)
      show Wk X c z (RD D (RP D x Xp R0 Q) d L T) 60 [(0, .ref (x + 2)), (1, .int a1), (2, .int a2), (3, .int a3), (4, .int a4), (5, .int a5)] [.int r10]
      refine k_aload_n (pc := 60) hC dX2_word_60 rfl 0 rfl ?_
      refine gP_X2_59 (pc := 61) hP dX2_word_61 ?_
      refine k_iload (pc := 64) hC dX2_word_64 5 rfl ?_
      refine p_bald (pc := 66) 4 lp_4 hP dX2_word_66 hE (fun x11 hE => ?_)
      refine k_icmp_ne (pc := 67) (tgt := 74) hC dX2_word_67 (by decide) hE (fun hE => ?_) (fun hE => ?_)
      · refine k_iconst (pc := 70) (v := 1) hC dX2_word_70 (by decide) ?_
        refine k_goto (pc := 71) (tgt := 75) hC dX2_word_71 (by decide) ?_
        refine k_sub [0, 1, 2, 3, 5] rfl ?_
        exact w_T_word_B75 hP hR F k2 hk2 k36 hk36 _ _ _ _ _ hE _ _
      · refine k_iconst (pc := 74) (v := 0) hC dX2_word_74 (by decide) ?_
        refine k_sub [0, 1, 2, 3, 5] rfl ?_
        exact w_T_word_B75 hP hR F k2 hk2 k36 hk36 _ _ _ _ _ hE _ _
theorem w_T_word_L36 {X : Ctx} {D : Dd} {x : Nat} {R0 : Heap → Prop} {d : Nat → Prop} {L : Nat × Nat × Nat × Nat} {Q : Ji} {Xp : Jr} {T : Th} {out : Int32} (hP : Px X cX2_word RX2 D x R0 d L 6 5 109) (hR : RtA X (some .int) (RD D (RP D x Xp R0 Q) d L T) (some (.int out)) D L) (F : Nat) (k2 : Int32 → Int32 → Int32 → Option (Int32)) (hk2 : ∀ (a1 : Int32) (a2 : Int32) (a3 : Int32) , k2 a1 a2 a3 = some out → ∀ c z, Wk X c z (RD D (RP D x Xp R0 Q) d L T) 2 [(0, .ref (x + 2)), (1, .int a1), (2, .int a2), (3, .int a3)] []) (n : Nat) : ∀ (a1 : Int32) (a2 : Int32) (a3 : Int32) (a4 : Int32) (a5 : Int32) , T_word_L36 F k2 Q Xp T n a1 a2 a3 a4 a5 = some out → ∀ c z, Wk X c z (RD D (RP D x Xp R0 Q) d L T) 36 [(0, .ref (x + 2)), (1, .int a1), (2, .int a2), (3, .int a3), (4, .int a4), (5, .int a5)] [] := by
  induction n with
  | zero => intro a1 a2 a3 a4 a5 h; cases h
  | succ n ih => intro a1 a2 a3 a4 a5 h; exact w_T_word_B36 hP hR F k2 hk2 (T_word_L36 F k2 Q Xp T n) ih a1 a2 a3 a4 a5 h
set_option maxHeartbeats 4000000 in
theorem w_T_word_B31 {X : Ctx} {D : Dd} {x : Nat} {R0 : Heap → Prop} {d : Nat → Prop} {L : Nat × Nat × Nat × Nat} {Q : Ji} {Xp : Jr} {T : Th} {out : Int32} (hP : Px X cX2_word RX2 D x R0 d L 6 5 109) (hR : RtA X (some .int) (RD D (RP D x Xp R0 Q) d L T) (some (.int out)) D L) (F : Nat) (k2 : Int32 → Int32 → Int32 → Option (Int32)) (hk2 : ∀ (a1 : Int32) (a2 : Int32) (a3 : Int32) , k2 a1 a2 a3 = some out → ∀ c z, Wk X c z (RD D (RP D x Xp R0 Q) d L T) 2 [(0, .ref (x + 2)), (1, .int a1), (2, .int a2), (3, .int a3)] []) (a1 : Int32) (a2 : Int32) (a3 : Int32) (s0 : Int32) (hE : T_word_B31 F k2 Q Xp T a1 a2 a3 s0 = some out) (c z : Nat) : Wk X c z (RD D (RP D x Xp R0 Q) d L T) 31 [(0, .ref (x + 2)), (1, .int a1), (2, .int a2), (3, .int a3)] [.int s0] := by
  have hX := hP.1
  have hC := hX.1
  have hnL := hX.2.2.1
  have hSt : ∀ {Xp : Jr} {Q : Ji}, Stb (RP D x Xp R0 Q) d := hP.st
  have hDy : ∀ {Xp : Jr} {Q : Ji} {T : Th} (H : Heap), RD D (RP D x Xp R0 Q) d L T H → Dy D T H := fun _ h => h.2.1
  unfold T_word_B31 at hE
  refine k_istore (pc := 31) (lv' := [(4, .int s0), (0, .ref (x + 2)), (1, .int a1), (2, .int a2), (3, .int a3)]) hC dX2_word_31 (by rw [hnL]; decide) rfl ?_
  refine k_iload_n (pc := 33) hC dX2_word_33 rfl 2 rfl ?_
  refine k_istore (pc := 34) (lv' := [(5, .int a1), (4, .int s0), (0, .ref (x + 2)), (1, .int a1), (2, .int a2), (3, .int a3)]) hC dX2_word_34 (by rw [hnL]; decide) rfl ?_
  refine k_sub [2, 3, 4, 5, 1, 0] rfl ?_
  exact w_T_word_L36 hP hR F k2 hk2 _ _ _ _ _ _ hE _ _
set_option maxHeartbeats 4000000 in
theorem w_T_word_B2 {X : Ctx} {D : Dd} {x : Nat} {R0 : Heap → Prop} {d : Nat → Prop} {L : Nat × Nat × Nat × Nat} {Q : Ji} {Xp : Jr} {T : Th} {out : Int32} (hP : Px X cX2_word RX2 D x R0 d L 6 5 109) (hR : RtA X (some .int) (RD D (RP D x Xp R0 Q) d L T) (some (.int out)) D L) (F : Nat) (k2 : Int32 → Int32 → Int32 → Option (Int32)) (hk2 : ∀ (a1 : Int32) (a2 : Int32) (a3 : Int32) , k2 a1 a2 a3 = some out → ∀ c z, Wk X c z (RD D (RP D x Xp R0 Q) d L T) 2 [(0, .ref (x + 2)), (1, .int a1), (2, .int a2), (3, .int a3)] []) (a1 : Int32) (a2 : Int32) (a3 : Int32) (hE : T_word_B2 F k2 Q Xp T a1 a2 a3 = some out) (c z : Nat) : Wk X c z (RD D (RP D x Xp R0 Q) d L T) 2 [(0, .ref (x + 2)), (1, .int a1), (2, .int a2), (3, .int a3)] [] := by
  have hX := hP.1
  have hC := hX.1
  have hnL := hX.2.2.1
  have hSt : ∀ {Xp : Jr} {Q : Ji}, Stb (RP D x Xp R0 Q) d := hP.st
  have hDy : ∀ {Xp : Jr} {Q : Ji} {T : Th} (H : Heap), RD D (RP D x Xp R0 Q) d L T H → Dy D T H := fun _ h => h.2.1
  unfold T_word_B2 at hE
  refine k_iload_n (pc := 2) hC dX2_word_2 rfl 3 rfl ?_
  refine k_aload_n (pc := 3) hC dX2_word_3 rfl 0 rfl ?_
  refine gP_X2_53 (pc := 4) hP dX2_word_4 ?_
  refine k_nn (G := fun z => Wk X _ _ (RD D (RP D x Xp R0 Q) d L T) 7 [(0, .ref (x + 2)), (1, .int a1), (2, .int a2), (3, .int a3)] [z, .int a3]) hE (fun b1 hE => ?_)
  refine dy_alen (pc := 7) (ty := .object "java/lang/String") hC hDy (by simp [arTy]) dX2_word_7 hE (fun x2 hE => ?_)
  refine k_icmp_ge (pc := 8) (tgt := 96) hC dX2_word_8 (by decide) hE (fun hE => ?_) (fun hE => ?_)
  · refine k_iconst (pc := 96) (v := (-1)) hC dX2_word_96 (by decide) ?_
    cases hE
    exact a_iret (pc := 97) hX hR dX2_word_97 (by rfl) (fun _ h => h)
  · refine k_aload_n (pc := 11) hC dX2_word_11 rfl 0 rfl ?_
    refine gP_X2_53 (pc := 12) hP dX2_word_12 ?_
    refine k_iload_n (pc := 15) hC dX2_word_15 rfl 3 rfl ?_
    refine k_nn (G := fun z => Wk X _ _ (RD D (RP D x Xp R0 Q) d L T) 16 [(0, .ref (x + 2)), (1, .int a1), (2, .int a2), (3, .int a3)] [.int a3, z]) hE (fun b3 hE => ?_)
    refine dy_aald (pc := 16) (ty := .object "java/lang/String") hC hDy (by simp [arTy]) rfl dX2_word_16 hE (fun x4 hE => ?_)
    refine k_nn (G := fun z => Wk X _ _ (RD D (RP D x Xp R0 Q) d L T) 17 [(0, .ref (x + 2)), (1, .int a1), (2, .int a2), (3, .int a3)] [z]) hE (fun b5 hE => ?_)
    obtain ⟨hrv, hE⟩ := dC_of hE
    obtain ⟨r6, h1, hE⟩ := ob_ hE
    refine a_callV (pc := 17) (As := []) hX (ct_A_S_length X.2.1 D (cxA X) (RP D x Xp R0 Q) d L T hSt hX.2.1 hX.2.2.2.2.2.2.2.2.2 b5 r6 h1) (cw_A_S_length_X2 hX (Nat.le_of_ble_eq_true rfl) (Nat.le_of_ble_eq_true rfl)) (a_recv hC cl_J6 hrv) rfl rfl (Nat.le_of_ble_eq_true rfl) dX2_word_17 (fun c z => ?_)
    show Wk X c z (RD D (RP D x Xp R0 Q) d L T) 20 [(0, .ref (x + 2)), (1, .int a1), (2, .int a2), (3, .int a3)] [.int r6]
    refine k_iload_n (pc := 20) hC dX2_word_20 rfl 2 rfl ?_
    refine k_iload_n (pc := 21) hC dX2_word_21 rfl 1 rfl ?_
    refine k_isub (pc := 22) hC dX2_word_22 ?_
    refine k_icmp_ne (pc := 23) (tgt := 30) hC dX2_word_23 (by decide) hE (fun hE => ?_) (fun hE => ?_)
    · refine k_iconst (pc := 26) (v := 1) hC dX2_word_26 (by decide) ?_
      refine k_goto (pc := 27) (tgt := 31) hC dX2_word_27 (by decide) ?_
      exact w_T_word_B31 hP hR F k2 hk2 _ _ _ _ hE _ _
    · refine k_iconst (pc := 30) (v := 0) hC dX2_word_30 (by decide) ?_
      exact w_T_word_B31 hP hR F k2 hk2 _ _ _ _ hE _ _
theorem w_T_word_L2 {X : Ctx} {D : Dd} {x : Nat} {R0 : Heap → Prop} {d : Nat → Prop} {L : Nat × Nat × Nat × Nat} {Q : Ji} {Xp : Jr} {T : Th} {out : Int32} (hP : Px X cX2_word RX2 D x R0 d L 6 5 109) (hR : RtA X (some .int) (RD D (RP D x Xp R0 Q) d L T) (some (.int out)) D L) (F : Nat) (n : Nat) : ∀ (a1 : Int32) (a2 : Int32) (a3 : Int32) , T_word_L2 F Q Xp T n a1 a2 a3 = some out → ∀ c z, Wk X c z (RD D (RP D x Xp R0 Q) d L T) 2 [(0, .ref (x + 2)), (1, .int a1), (2, .int a2), (3, .int a3)] [] := by
  induction n with
  | zero => intro a1 a2 a3 h; cases h
  | succ n ih => intro a1 a2 a3 h; exact w_T_word_B2 hP hR F (T_word_L2 F Q Xp T n) ih a1 a2 a3 h
set_option maxHeartbeats 4000000 in
theorem w_T_word {X : Ctx} {D : Dd} {x : Nat} {R0 : Heap → Prop} {d : Nat → Prop} {L : Nat × Nat × Nat × Nat} {Q : Ji} {Xp : Jr} {T : Th} {out : Int32} (hP : Px X cX2_word RX2 D x R0 d L 6 5 109) (hR : RtA X (some .int) (RD D (RP D x Xp R0 Q) d L T) (some (.int out)) D L) (F : Nat) (a1 : Int32) (a2 : Int32) (hE : T_word F Q Xp T a1 a2 = some out) (c z : Nat) : Wk X c z (RD D (RP D x Xp R0 Q) d L T) 0 [(0, .ref (x + 2)), (1, .int a1), (2, .int a2)] [] := by
  have hX := hP.1
  have hC := hX.1
  have hnL := hX.2.2.1
  have hSt : ∀ {Xp : Jr} {Q : Ji}, Stb (RP D x Xp R0 Q) d := hP.st
  have hDy : ∀ {Xp : Jr} {Q : Ji} {T : Th} (H : Heap), RD D (RP D x Xp R0 Q) d L T H → Dy D T H := fun _ h => h.2.1
  unfold T_word at hE
  refine k_iconst (pc := 0) (v := 0) hC dX2_word_0 (by decide) ?_
  refine k_istore_n (pc := 1) (lv' := [(3, .int 0), (0, .ref (x + 2)), (1, .int a1), (2, .int a2)]) hC dX2_word_1 rfl (by rw [hnL]; decide) rfl ?_
  refine k_sub [1, 2, 3, 0] rfl ?_
  exact w_T_word_L2 hP hR F _ _ _ _ hE _ _
theorem ct_T_word (l : Launch) (D : Dd) (A : Nat → Prop) (x : Nat) (Xp : Jr) (R0 : Heap → Prop) (d : Nat → Prop) (L : Nat × Nat × Nat × Nat) (Q : Ji) (T : Th) (hp : Pf D A x R0 d) (F : Nat) (a1 : Int32) (a2 : Int32) (out : Int32) (hE : T_word F Q Xp T a1 a2 = some out) : Ct l yX2_word (ws_ yX2_word cX2_word 6 (some .int)) (rmA 5 109 L T) vwCl arTy D A [.ref (x + 2), .int a1, .int a2] (RD D (RP D x Xp R0 Q) d L T) (RD D (RP D x Xp R0 Q) d L T) (some (.int out)) (L.1 - tN T) (L.2.1 - tZ T) := by
  refine Ct.ofA (lv := [(0, .ref (x + 2)), (1, .int a1), (2, .int a2)]) (by decide) (Nat.le_of_ble_eq_true rfl) rfl hp.1 hp.2.1 ?_
  intro X hl hX hR hXA _
  exact w_T_word (Xp := Xp) (hp.px hX hXA) hR F a1 a2 hE
theorem cw_T_word_X2 {X : Ctx} {cc : ByteArray} {D : Dd} {d : Nat → Prop} {L : Nat × Nat × Nat × Nat} {mL fr lo : Nat} {T : Th} (hX : Ax X cc RX2 D d L mL fr lo) (h1 : 5 + 1 ≤ fr) (h2 : 8 + (6 + 11) + 109 ≤ lo) : CallW X.2.2.2.1 X.2.2.2.2.1 X.2.2.2.2.2.2.1 RX2 RX2 99 yX2_word cX2_word 6 (some .int) (ws_ yX2_word cX2_word 6 (some .int)) (rmA 5 109 L T) (L.1 - tN T) (L.2.1 - tZ T) 2 := cwV 2 (cx_w hX.1) (lw_V q608 q610 qs4 q119 q611) rfl rfl rfl (by decide +kernel) (by rw [hX.2.2.2.1, hX.2.2.2.2.1]; exact ⟨h1, h2⟩)
set_option maxHeartbeats 4000000 in
theorem w_T_isDigit {X : Ctx} {D : Dd} {x : Nat} {R0 : Heap → Prop} {d : Nat → Prop} {L : Nat × Nat × Nat × Nat} {Q : Ji} {Xp : Jr} {T : Th} {out : Int32} (hP : Px X cX2_isDigit RX2 D x R0 d L 2 1 24) (hR : RtA X (some .boolean) (RD D (RP D x Xp R0 Q) d L T) (some (.int out)) D L) (a1 : Int32) (hE : T_isDigit Q T a1 = some out) (c z : Nat) : Wk X c z (RD D (RP D x Xp R0 Q) d L T) 0 [(0, .ref (x + 2)), (1, .int a1)] [] := by
  have hX := hP.1
  have hC := hX.1
  have hnL := hX.2.2.1
  have hSt : ∀ {Xp : Jr} {Q : Ji}, Stb (RP D x Xp R0 Q) d := hP.st
  have hDy : ∀ {Xp : Jr} {Q : Ji} {T : Th} (H : Heap), RD D (RP D x Xp R0 Q) d L T H → Dy D T H := fun _ h => h.2.1
  unfold T_isDigit at hE
  refine k_aload_n (pc := 0) hC dX2_isDigit_0 rfl 0 rfl ?_
  refine k_iload_n (pc := 1) hC dX2_isDigit_1 rfl 1 rfl ?_
  obtain ⟨r1, h1, hE⟩ := ob_ hE
  refine a_callV (pc := 2) (As := [.int a1]) hX (ct_T_at X.2.1 D (cxA X) x Xp R0 d L Q T (pxf hP) a1 r1 h1) (cw_T_at_X2 hX (Nat.le_of_ble_eq_true rfl) (Nat.le_of_ble_eq_true rfl)) (p_recv 2 lp_2 cl_X2 hP) rfl rfl (Nat.le_of_ble_eq_true rfl) dX2_isDigit_2 (fun c z => ?_)
  show Wk X c z (RD D (RP D x Xp R0 Q) d L T) 5 [(0, .ref (x + 2)), (1, .int a1)] [.int r1]
  refine k_bipush (pc := 5) (v := 48) hC dX2_isDigit_5 (by decide) ?_
  refine k_icmp_lt (pc := 7) (tgt := 24) hC dX2_isDigit_7 (by decide) hE (fun hE => ?_) (fun hE => ?_)
  · refine k_iconst (pc := 24) (v := 0) hC dX2_isDigit_24 (by decide) ?_
    cases hE
    exact a_zret (pc := 25) (by decide) hX hR dX2_isDigit_25 (by rfl) (fun _ h => h)
  · refine k_aload_n (pc := 10) hC dX2_isDigit_10 rfl 0 rfl ?_
    refine k_iload_n (pc := 11) hC dX2_isDigit_11 rfl 1 rfl ?_
    obtain ⟨r2, h1, hE⟩ := ob_ hE
    refine a_callV (pc := 12) (As := [.int a1]) hX (ct_T_at X.2.1 D (cxA X) x Xp R0 d L Q T (pxf hP) a1 r2 h1) (cw_T_at_X2 hX (Nat.le_of_ble_eq_true rfl) (Nat.le_of_ble_eq_true rfl)) (p_recv 2 lp_2 cl_X2 hP) rfl rfl (Nat.le_of_ble_eq_true rfl) dX2_isDigit_12 (fun c z => ?_)
    show Wk X c z (RD D (RP D x Xp R0 Q) d L T) 15 [(0, .ref (x + 2)), (1, .int a1)] [.int r2]
    refine k_bipush (pc := 15) (v := 57) hC dX2_isDigit_15 (by decide) ?_
    refine k_icmp_gt (pc := 17) (tgt := 24) hC dX2_isDigit_17 (by decide) hE (fun hE => ?_) (fun hE => ?_)
    · refine k_iconst (pc := 24) (v := 0) hC dX2_isDigit_24 (by decide) ?_
      cases hE
      exact a_zret (pc := 25) (by decide) hX hR dX2_isDigit_25 (by rfl) (fun _ h => h)
    · refine k_iconst (pc := 20) (v := 1) hC dX2_isDigit_20 (by decide) ?_
      refine k_goto (pc := 21) (tgt := 25) hC dX2_isDigit_21 (by decide) ?_
      cases hE
      exact a_zret (pc := 25) (by decide) hX hR dX2_isDigit_25 (by rfl) (fun _ h => h)
theorem ct_T_isDigit (l : Launch) (D : Dd) (A : Nat → Prop) (x : Nat) (Xp : Jr) (R0 : Heap → Prop) (d : Nat → Prop) (L : Nat × Nat × Nat × Nat) (Q : Ji) (T : Th) (hp : Pf D A x R0 d) (a1 : Int32) (out : Int32) (hE : T_isDigit Q T a1 = some out) : Ct l yX2_isDigit (ws_ yX2_isDigit cX2_isDigit 2 (some .boolean)) (rmA 1 24 L T) vwCl arTy D A [.ref (x + 2), .int a1] (RD D (RP D x Xp R0 Q) d L T) (RD D (RP D x Xp R0 Q) d L T) (some (.int out)) (L.1 - tN T) (L.2.1 - tZ T) := by
  refine Ct.ofA (lv := [(0, .ref (x + 2)), (1, .int a1)]) (by decide) (Nat.le_of_ble_eq_true rfl) rfl hp.1 hp.2.1 ?_
  intro X hl hX hR hXA _
  exact w_T_isDigit (Xp := Xp) (hp.px hX hXA) hR a1 hE
theorem cw_T_isDigit_X2 {X : Ctx} {cc : ByteArray} {D : Dd} {d : Nat → Prop} {L : Nat × Nat × Nat × Nat} {mL fr lo : Nat} {T : Th} (hX : Ax X cc RX2 D d L mL fr lo) (h1 : 1 + 1 ≤ fr) (h2 : 8 + (2 + 11) + 24 ≤ lo) : CallW X.2.2.2.1 X.2.2.2.2.1 X.2.2.2.2.2.2.1 RX2 RX2 103 yX2_isDigit cX2_isDigit 2 (some .boolean) (ws_ yX2_isDigit cX2_isDigit 2 (some .boolean)) (rmA 1 24 L T) (L.1 - tN T) (L.2.1 - tZ T) 1 := cwV 1 (cx_w hX.1) (lw_V q660 q662 qs5 q119 q663) rfl rfl rfl (by decide +kernel) (by rw [hX.2.2.2.1, hX.2.2.2.2.1]; exact ⟨h1, h2⟩)
set_option maxHeartbeats 4000000 in
theorem w_T_sign {X : Ctx} {D : Dd} {x : Nat} {R0 : Heap → Prop} {d : Nat → Prop} {L : Nat × Nat × Nat × Nat} {Q : Ji} {Xp : Jr} {T : Th} {out : Int32} (hP : Px X cX2_sign RX2 D x R0 d L 3 1 24) (hR : RtA X (some .int) (RD D (RP D x Xp R0 Q) d L T) (some (.int out)) D L) (a1 : Int32) (hE : T_sign Q T a1 = some out) (c z : Nat) : Wk X c z (RD D (RP D x Xp R0 Q) d L T) 0 [(0, .ref (x + 2)), (1, .int a1)] [] := by
  have hX := hP.1
  have hC := hX.1
  have hnL := hX.2.2.1
  have hSt : ∀ {Xp : Jr} {Q : Ji}, Stb (RP D x Xp R0 Q) d := hP.st
  have hDy : ∀ {Xp : Jr} {Q : Ji} {T : Th} (H : Heap), RD D (RP D x Xp R0 Q) d L T H → Dy D T H := fun _ h => h.2.1
  unfold T_sign at hE
  refine k_aload_n (pc := 0) hC dX2_sign_0 rfl 0 rfl ?_
  refine k_iload_n (pc := 1) hC dX2_sign_1 rfl 1 rfl ?_
  obtain ⟨r1, h1, hE⟩ := ob_ hE
  refine a_callV (pc := 2) (As := [.int a1]) hX (ct_T_at X.2.1 D (cxA X) x Xp R0 d L Q T (pxf hP) a1 r1 h1) (cw_T_at_X2 hX (Nat.le_of_ble_eq_true rfl) (Nat.le_of_ble_eq_true rfl)) (p_recv 2 lp_2 cl_X2 hP) rfl rfl (Nat.le_of_ble_eq_true rfl) dX2_sign_2 (fun c z => ?_)
  show Wk X c z (RD D (RP D x Xp R0 Q) d L T) 5 [(0, .ref (x + 2)), (1, .int a1)] [.int r1]
  refine k_istore_n (pc := 5) (lv' := [(2, .int r1), (0, .ref (x + 2)), (1, .int a1)]) hC dX2_sign_5 rfl (by rw [hnL]; decide) rfl ?_
  refine k_iload_n (pc := 6) hC dX2_sign_6 rfl 0 rfl ?_
  refine sw_E hE (fun hx hE => ?_) (fun n40 hE => ?_)
  · refine k_tswI (pc := 7) (k := 40) (tgt := 108) hC dX2_sign_7 hx (by decide) (by decide) rfl (by decide) ?_
    refine k_iload_n (pc := 108) hC dX2_sign_108 rfl 0 rfl ?_
    cases hE
    exact a_iret (pc := 109) hX hR dX2_sign_109 (by rfl) (fun _ h => h)
  refine sw_E hE (fun hx hE => ?_) (fun n41 hE => ?_)
  · refine k_tswI (pc := 7) (k := 41) (tgt := 108) hC dX2_sign_7 hx (by decide) (by decide) rfl (by decide) ?_
    refine k_iload_n (pc := 108) hC dX2_sign_108 rfl 0 rfl ?_
    cases hE
    exact a_iret (pc := 109) hX hR dX2_sign_109 (by rfl) (fun _ h => h)
  refine sw_E hE (fun hx hE => ?_) (fun n42 hE => ?_)
  · refine k_tswI (pc := 7) (k := 42) (tgt := 108) hC dX2_sign_7 hx (by decide) (by decide) rfl (by decide) ?_
    refine k_iload_n (pc := 108) hC dX2_sign_108 rfl 0 rfl ?_
    cases hE
    exact a_iret (pc := 109) hX hR dX2_sign_109 (by rfl) (fun _ h => h)
  refine sw_E hE (fun hx hE => ?_) (fun n43 hE => ?_)
  · refine k_tswI (pc := 7) (k := 43) (tgt := 108) hC dX2_sign_7 hx (by decide) (by decide) rfl (by decide) ?_
    refine k_iload_n (pc := 108) hC dX2_sign_108 rfl 0 rfl ?_
    cases hE
    exact a_iret (pc := 109) hX hR dX2_sign_109 (by rfl) (fun _ h => h)
  refine sw_E hE (fun hx hE => ?_) (fun n45 hE => ?_)
  · refine k_tswI (pc := 7) (k := 45) (tgt := 108) hC dX2_sign_7 hx (by decide) (by decide) rfl (by decide) ?_
    refine k_iload_n (pc := 108) hC dX2_sign_108 rfl 0 rfl ?_
    cases hE
    exact a_iret (pc := 109) hX hR dX2_sign_109 (by rfl) (fun _ h => h)
  refine sw_E hE (fun hx hE => ?_) (fun n47 hE => ?_)
  · refine k_tswI (pc := 7) (k := 47) (tgt := 108) hC dX2_sign_7 hx (by decide) (by decide) rfl (by decide) ?_
    refine k_iload_n (pc := 108) hC dX2_sign_108 rfl 0 rfl ?_
    cases hE
    exact a_iret (pc := 109) hX hR dX2_sign_109 (by rfl) (fun _ h => h)
  refine sw_E hE (fun hx hE => ?_) (fun n59 hE => ?_)
  · refine k_tswI (pc := 7) (k := 59) (tgt := 108) hC dX2_sign_7 hx (by decide) (by decide) rfl (by decide) ?_
    refine k_iload_n (pc := 108) hC dX2_sign_108 rfl 0 rfl ?_
    cases hE
    exact a_iret (pc := 109) hX hR dX2_sign_109 (by rfl) (fun _ h => h)
  refine sw_E hE (fun hx hE => ?_) (fun n60 hE => ?_)
  · refine k_tswI (pc := 7) (k := 60) (tgt := 108) hC dX2_sign_7 hx (by decide) (by decide) rfl (by decide) ?_
    refine k_iload_n (pc := 108) hC dX2_sign_108 rfl 0 rfl ?_
    cases hE
    exact a_iret (pc := 109) hX hR dX2_sign_109 (by rfl) (fun _ h => h)
  refine sw_E hE (fun hx hE => ?_) (fun n61 hE => ?_)
  · refine k_tswI (pc := 7) (k := 61) (tgt := 108) hC dX2_sign_7 hx (by decide) (by decide) rfl (by decide) ?_
    refine k_iload_n (pc := 108) hC dX2_sign_108 rfl 0 rfl ?_
    cases hE
    exact a_iret (pc := 109) hX hR dX2_sign_109 (by rfl) (fun _ h => h)
  refine sw_C (r1 = 44) (fun hx => ?_) (fun n44 => ?_)
  · refine k_tswI (pc := 7) (k := 44) (tgt := 110) hC dX2_sign_7 hx (by decide) (by decide) rfl (by decide) ?_
    refine k_iconst (pc := 110) (v := 0) hC dX2_sign_110 (by decide) ?_
    cases hE
    exact a_iret (pc := 111) hX hR dX2_sign_111 (by rfl) (fun _ h => h)
  refine sw_C (r1 = 46) (fun hx => ?_) (fun n46 => ?_)
  · refine k_tswI (pc := 7) (k := 46) (tgt := 110) hC dX2_sign_7 hx (by decide) (by decide) rfl (by decide) ?_
    refine k_iconst (pc := 110) (v := 0) hC dX2_sign_110 (by decide) ?_
    cases hE
    exact a_iret (pc := 111) hX hR dX2_sign_111 (by rfl) (fun _ h => h)
  refine sw_C (r1 = 48) (fun hx => ?_) (fun n48 => ?_)
  · refine k_tswI (pc := 7) (k := 48) (tgt := 110) hC dX2_sign_7 hx (by decide) (by decide) rfl (by decide) ?_
    refine k_iconst (pc := 110) (v := 0) hC dX2_sign_110 (by decide) ?_
    cases hE
    exact a_iret (pc := 111) hX hR dX2_sign_111 (by rfl) (fun _ h => h)
  refine sw_C (r1 = 49) (fun hx => ?_) (fun n49 => ?_)
  · refine k_tswI (pc := 7) (k := 49) (tgt := 110) hC dX2_sign_7 hx (by decide) (by decide) rfl (by decide) ?_
    refine k_iconst (pc := 110) (v := 0) hC dX2_sign_110 (by decide) ?_
    cases hE
    exact a_iret (pc := 111) hX hR dX2_sign_111 (by rfl) (fun _ h => h)
  refine sw_C (r1 = 50) (fun hx => ?_) (fun n50 => ?_)
  · refine k_tswI (pc := 7) (k := 50) (tgt := 110) hC dX2_sign_7 hx (by decide) (by decide) rfl (by decide) ?_
    refine k_iconst (pc := 110) (v := 0) hC dX2_sign_110 (by decide) ?_
    cases hE
    exact a_iret (pc := 111) hX hR dX2_sign_111 (by rfl) (fun _ h => h)
  refine sw_C (r1 = 51) (fun hx => ?_) (fun n51 => ?_)
  · refine k_tswI (pc := 7) (k := 51) (tgt := 110) hC dX2_sign_7 hx (by decide) (by decide) rfl (by decide) ?_
    refine k_iconst (pc := 110) (v := 0) hC dX2_sign_110 (by decide) ?_
    cases hE
    exact a_iret (pc := 111) hX hR dX2_sign_111 (by rfl) (fun _ h => h)
  refine sw_C (r1 = 52) (fun hx => ?_) (fun n52 => ?_)
  · refine k_tswI (pc := 7) (k := 52) (tgt := 110) hC dX2_sign_7 hx (by decide) (by decide) rfl (by decide) ?_
    refine k_iconst (pc := 110) (v := 0) hC dX2_sign_110 (by decide) ?_
    cases hE
    exact a_iret (pc := 111) hX hR dX2_sign_111 (by rfl) (fun _ h => h)
  refine sw_C (r1 = 53) (fun hx => ?_) (fun n53 => ?_)
  · refine k_tswI (pc := 7) (k := 53) (tgt := 110) hC dX2_sign_7 hx (by decide) (by decide) rfl (by decide) ?_
    refine k_iconst (pc := 110) (v := 0) hC dX2_sign_110 (by decide) ?_
    cases hE
    exact a_iret (pc := 111) hX hR dX2_sign_111 (by rfl) (fun _ h => h)
  refine sw_C (r1 = 54) (fun hx => ?_) (fun n54 => ?_)
  · refine k_tswI (pc := 7) (k := 54) (tgt := 110) hC dX2_sign_7 hx (by decide) (by decide) rfl (by decide) ?_
    refine k_iconst (pc := 110) (v := 0) hC dX2_sign_110 (by decide) ?_
    cases hE
    exact a_iret (pc := 111) hX hR dX2_sign_111 (by rfl) (fun _ h => h)
  refine sw_C (r1 = 55) (fun hx => ?_) (fun n55 => ?_)
  · refine k_tswI (pc := 7) (k := 55) (tgt := 110) hC dX2_sign_7 hx (by decide) (by decide) rfl (by decide) ?_
    refine k_iconst (pc := 110) (v := 0) hC dX2_sign_110 (by decide) ?_
    cases hE
    exact a_iret (pc := 111) hX hR dX2_sign_111 (by rfl) (fun _ h => h)
  refine sw_C (r1 = 56) (fun hx => ?_) (fun n56 => ?_)
  · refine k_tswI (pc := 7) (k := 56) (tgt := 110) hC dX2_sign_7 hx (by decide) (by decide) rfl (by decide) ?_
    refine k_iconst (pc := 110) (v := 0) hC dX2_sign_110 (by decide) ?_
    cases hE
    exact a_iret (pc := 111) hX hR dX2_sign_111 (by rfl) (fun _ h => h)
  refine sw_C (r1 = 57) (fun hx => ?_) (fun n57 => ?_)
  · refine k_tswI (pc := 7) (k := 57) (tgt := 110) hC dX2_sign_7 hx (by decide) (by decide) rfl (by decide) ?_
    refine k_iconst (pc := 110) (v := 0) hC dX2_sign_110 (by decide) ?_
    cases hE
    exact a_iret (pc := 111) hX hR dX2_sign_111 (by rfl) (fun _ h => h)
  refine sw_C (r1 = 58) (fun hx => ?_) (fun n58 => ?_)
  · refine k_tswI (pc := 7) (k := 58) (tgt := 110) hC dX2_sign_7 hx (by decide) (by decide) rfl (by decide) ?_
    refine k_iconst (pc := 110) (v := 0) hC dX2_sign_110 (by decide) ?_
    cases hE
    exact a_iret (pc := 111) hX hR dX2_sign_111 (by rfl) (fun _ h => h)
  have z40 := sw_ne (z := 40) n40 rfl
  have z41 := sw_ne (z := 41) n41 rfl
  have z42 := sw_ne (z := 42) n42 rfl
  have z43 := sw_ne (z := 43) n43 rfl
  have z44 := sw_ne (z := 44) n44 rfl
  have z45 := sw_ne (z := 45) n45 rfl
  have z46 := sw_ne (z := 46) n46 rfl
  have z47 := sw_ne (z := 47) n47 rfl
  have z48 := sw_ne (z := 48) n48 rfl
  have z49 := sw_ne (z := 49) n49 rfl
  have z50 := sw_ne (z := 50) n50 rfl
  have z51 := sw_ne (z := 51) n51 rfl
  have z52 := sw_ne (z := 52) n52 rfl
  have z53 := sw_ne (z := 53) n53 rfl
  have z54 := sw_ne (z := 54) n54 rfl
  have z55 := sw_ne (z := 55) n55 rfl
  have z56 := sw_ne (z := 56) n56 rfl
  have z57 := sw_ne (z := 57) n57 rfl
  have z58 := sw_ne (z := 58) n58 rfl
  have z59 := sw_ne (z := 59) n59 rfl
  have z60 := sw_ne (z := 60) n60 rfl
  have z61 := sw_ne (z := 61) n61 rfl
  refine k_tswO (pc := 7) (tgt := 110) hC dX2_sign_7 (by omega) (by decide) ?_
  refine k_iconst (pc := 110) (v := 0) hC dX2_sign_110 (by decide) ?_
  cases hE
  exact a_iret (pc := 111) hX hR dX2_sign_111 (by rfl) (fun _ h => h)
theorem ct_T_sign (l : Launch) (D : Dd) (A : Nat → Prop) (x : Nat) (Xp : Jr) (R0 : Heap → Prop) (d : Nat → Prop) (L : Nat × Nat × Nat × Nat) (Q : Ji) (T : Th) (hp : Pf D A x R0 d) (a1 : Int32) (out : Int32) (hE : T_sign Q T a1 = some out) : Ct l yX2_sign (ws_ yX2_sign cX2_sign 3 (some .int)) (rmA 1 24 L T) vwCl arTy D A [.ref (x + 2), .int a1] (RD D (RP D x Xp R0 Q) d L T) (RD D (RP D x Xp R0 Q) d L T) (some (.int out)) (L.1 - tN T) (L.2.1 - tZ T) := by
  refine Ct.ofA (lv := [(0, .ref (x + 2)), (1, .int a1)]) (by decide) (Nat.le_of_ble_eq_true rfl) rfl hp.1 hp.2.1 ?_
  intro X hl hX hR hXA _
  exact w_T_sign (Xp := Xp) (hp.px hX hXA) hR a1 hE
theorem cw_T_sign_X2 {X : Ctx} {cc : ByteArray} {D : Dd} {d : Nat → Prop} {L : Nat × Nat × Nat × Nat} {mL fr lo : Nat} {T : Th} (hX : Ax X cc RX2 D d L mL fr lo) (h1 : 1 + 1 ≤ fr) (h2 : 8 + (3 + 11) + 24 ≤ lo) : CallW X.2.2.2.1 X.2.2.2.2.1 X.2.2.2.2.2.2.1 RX2 RX2 106 yX2_sign cX2_sign 3 (some .int) (ws_ yX2_sign cX2_sign 3 (some .int)) (rmA 1 24 L T) (L.1 - tN T) (L.2.1 - tZ T) 1 := cwV 1 (cx_w hX.1) (lw_V q664 q666 qs6 q119 q667) rfl rfl rfl (by decide +kernel) (by rw [hX.2.2.2.1, hX.2.2.2.2.1]; exact ⟨h1, h2⟩)
set_option maxHeartbeats 4000000 in
theorem w_T_add {X : Ctx} {D : Dd} {x : Nat} {R0 : Heap → Prop} {d : Nat → Prop} {L : Nat × Nat × Nat × Nat} {Xp : Jr} {T : Th} {out : Ji} (hP : Px X cX2_add RX2 D x R0 d L 5 0 0) (hR : RtA X none (RD D (RP D x Xp R0 out) d L T) none D L) (a1 : Int32) (a2 : Int32) (a3 : Int32) (a4 : Int32) (Q : Ji) (hE : T_add a1 a2 a3 a4 Q = some out) (c z : Nat) : Wk X c z (RD D (RP D x Xp R0 Q) d L T) 0 [(0, .ref (x + 2)), (1, .int a1), (2, .int a2), (3, .int a3), (4, .int a4)] [] := by
  have hX := hP.1
  have hC := hX.1
  have hnL := hX.2.2.1
  have hSt : ∀ {Xp : Jr} {Q : Ji}, Stb (RP D x Xp R0 Q) d := hP.st
  have hDy : ∀ {Xp : Jr} {Q : Ji} {T : Th} (H : Heap), RD D (RP D x Xp R0 Q) d L T H → Dy D T H := fun _ h => h.2.1
  unfold T_add at hE
  refine k_aload_n (pc := 0) hC dX2_add_0 rfl 0 rfl ?_
  refine gP_X2_63 (pc := 1) hP dX2_add_1 ?_
  refine k_aload_n (pc := 4) hC dX2_add_4 rfl 0 rfl ?_
  refine gP_X2_84 (pc := 5) hP dX2_add_5 ?_
  refine k_iload_n (pc := 8) hC dX2_add_8 rfl 1 rfl ?_
  refine k_i2b (pc := 9) hC dX2_add_9 ?_
  refine p_bast (pc := 10) 5 lp_5 hP dX2_add_10 hE (fun Q1 hE => ?_)
  refine k_aload_n (pc := 11) hC dX2_add_11 rfl 0 rfl ?_
  refine gP_X2_66 (pc := 12) hP dX2_add_12 ?_
  refine k_aload_n (pc := 15) hC dX2_add_15 rfl 0 rfl ?_
  refine gP_X2_84 (pc := 16) hP dX2_add_16 ?_
  refine k_iload_n (pc := 19) hC dX2_add_19 rfl 2 rfl ?_
  refine k_i2s (pc := 20) hC dX2_add_20 ?_
  refine p_sast (pc := 21) 6 lp_6 hP dX2_add_21 hE (fun Q2 hE => ?_)
  refine k_aload_n (pc := 22) hC dX2_add_22 rfl 0 rfl ?_
  refine gP_X2_70 (pc := 23) hP dX2_add_23 ?_
  refine k_aload_n (pc := 26) hC dX2_add_26 rfl 0 rfl ?_
  refine gP_X2_84 (pc := 27) hP dX2_add_27 ?_
  refine k_iload_n (pc := 30) hC dX2_add_30 rfl 3 rfl ?_
  refine k_i2s (pc := 31) hC dX2_add_31 ?_
  refine p_sast (pc := 32) 7 lp_7 hP dX2_add_32 hE (fun Q3 hE => ?_)
  refine k_aload_n (pc := 33) hC dX2_add_33 rfl 0 rfl ?_
  refine gP_X2_73 (pc := 34) hP dX2_add_34 ?_
  refine k_aload_n (pc := 37) hC dX2_add_37 rfl 0 rfl ?_
  refine gP_X2_84 (pc := 38) hP dX2_add_38 ?_
  refine k_iload (pc := 41) hC dX2_add_41 4 rfl ?_
  refine k_i2s (pc := 43) hC dX2_add_43 ?_
  refine p_sast (pc := 44) 8 lp_8 hP dX2_add_44 hE (fun Q4 hE => ?_)
  refine k_aload_n (pc := 45) hC dX2_add_45 rfl 0 rfl ?_
  refine k_dup (pc := 46) hC dX2_add_46 rfl ?_
  refine gP_X2_84 (pc := 47) hP dX2_add_47 ?_
  refine k_iconst (pc := 50) (v := 1) hC dX2_add_50 (by decide) ?_
  refine k_iadd (pc := 51) hC dX2_add_51 ?_
  refine pP_X2_84 (pc := 52) hP dX2_add_52 hE (fun Q5 hE => ?_)
  cases hE
  exact a_vret (pc := 55) hX hR dX2_add_55 (by rfl) (fun _ h => h)
theorem ct_T_add (l : Launch) (D : Dd) (A : Nat → Prop) (x : Nat) (Xp : Jr) (R0 : Heap → Prop) (d : Nat → Prop) (L : Nat × Nat × Nat × Nat) (Q : Ji) (T : Th) (hp : Pf D A x R0 d) (a1 : Int32) (a2 : Int32) (a3 : Int32) (a4 : Int32) (out : Ji) (hE : T_add a1 a2 a3 a4 Q = some out) : Ct l yX2_add (ws_ yX2_add cX2_add 5 none) (rmA 0 0 L T) vwCl arTy D A [.ref (x + 2), .int a1, .int a2, .int a3, .int a4] (RD D (RP D x Xp R0 Q) d L T) (RD D (RP D x Xp R0 out) d L T) none (L.1 - tN T) (L.2.1 - tZ T) := by
  refine Ct.ofA (lv := [(0, .ref (x + 2)), (1, .int a1), (2, .int a2), (3, .int a3), (4, .int a4)]) (by decide) (Nat.le_of_ble_eq_true rfl) rfl hp.1 hp.2.1 ?_
  intro X hl hX hR hXA _
  exact w_T_add (Xp := Xp) (hp.px hX hXA) hR a1 a2 a3 a4 Q hE
theorem cw_T_add_X2 {X : Ctx} {cc : ByteArray} {D : Dd} {d : Nat → Prop} {L : Nat × Nat × Nat × Nat} {mL fr lo : Nat} {T : Th} (hX : Ax X cc RX2 D d L mL fr lo) (h1 : 0 + 1 ≤ fr) (h2 : 8 + (5 + 11) + 0 ≤ lo) : CallW X.2.2.2.1 X.2.2.2.2.1 X.2.2.2.2.2.2.1 RX2 RX2 109 yX2_add cX2_add 5 none (ws_ yX2_add cX2_add 5 none) (rmA 0 0 L T) (L.1 - tN T) (L.2.1 - tZ T) 4 := cwV 4 (cx_w hX.1) (lw_V q668 q670 qs7 q119 q671) rfl rfl rfl (by decide +kernel) (by rw [hX.2.2.2.1, hX.2.2.2.2.1]; exact ⟨h1, h2⟩)
set_option maxHeartbeats 4000000 in
theorem w_T_read_B208 {X : Ctx} {D : Dd} {x : Nat} {R0 : Heap → Prop} {d : Nat → Prop} {L : Nat × Nat × Nat × Nat} {Xp : Jr} {T : Th} {out : Ji} (hP : Px X cX2_read RX2 D x R0 d L 7 6 134) (hR : RtA X none (RD D (RP D x Xp R0 out) d L T) none D L) (F : Nat) (k9 : Int32 → Int32 → Ji → Option (Ji)) (hk9 : ∀ (a1 : Int32) (a2 : Int32) (Q : Ji) , k9 a1 a2 Q = some out → ∀ c z, Wk X c z (RD D (RP D x Xp R0 Q) d L T) 9 [(0, .ref (x + 2)), (1, .int a1), (2, .int a2)] []) (a4 : Int32) (s0 : Int32) (Q : Ji) (hE : T_read_B208 F k9 Xp T a4 s0 Q = some out) (c z : Nat) : Wk X c z (RD D (RP D x Xp R0 Q) d L T) 208 [(0, .ref (x + 2)), (4, .int a4)] [.int s0] := by
  have hX := hP.1
  have hC := hX.1
  have hnL := hX.2.2.1
  have hSt : ∀ {Xp : Jr} {Q : Ji}, Stb (RP D x Xp R0 Q) d := hP.st
  have hDy : ∀ {Xp : Jr} {Q : Ji} {T : Th} (H : Heap), RD D (RP D x Xp R0 Q) d L T H → Dy D T H := fun _ h => h.2.1
  unfold T_read_B208 at hE
  refine k_istore_n (pc := 208) (lv' := [(2, .int s0), (0, .ref (x + 2)), (4, .int a4)]) hC dX2_read_208 rfl (by rw [hnL]; decide) rfl ?_
  refine k_iload (pc := 209) hC dX2_read_209 2 rfl ?_
  refine k_istore_n (pc := 211) (lv' := [(1, .int a4), (2, .int s0), (0, .ref (x + 2)), (4, .int a4)]) hC dX2_read_211 rfl (by rw [hnL]; decide) rfl ?_
  refine k_goto (pc := 212) (tgt := 9) hC dX2_read_212 (by decide) ?_
  refine k_sub [2, 0, 1] rfl ?_
  exact hk9 _ _ _ hE _ _
set_option maxHeartbeats 4000000 in
theorem w_T_read_B186 {X : Ctx} {D : Dd} {x : Nat} {R0 : Heap → Prop} {d : Nat → Prop} {L : Nat × Nat × Nat × Nat} {Xp : Jr} {T : Th} {out : Ji} (hP : Px X cX2_read RX2 D x R0 d L 7 6 134) (hR : RtA X none (RD D (RP D x Xp R0 out) d L T) none D L) (F : Nat) (k9 : Int32 → Int32 → Ji → Option (Ji)) (hk9 : ∀ (a1 : Int32) (a2 : Int32) (Q : Ji) , k9 a1 a2 Q = some out → ∀ c z, Wk X c z (RD D (RP D x Xp R0 Q) d L T) 9 [(0, .ref (x + 2)), (1, .int a1), (2, .int a2)] []) (a1 : Int32) (a4 : Int32) (a5 : Int32) (a6 : Int32) (Q : Ji) (hE : T_read_B186 F k9 Xp T a1 a4 a5 a6 Q = some out) (c z : Nat) : Wk X c z (RD D (RP D x Xp R0 Q) d L T) 186 [(0, .ref (x + 2)), (1, .int a1), (4, .int a4), (5, .int a5), (6, .int a6)] [] := by
  have hX := hP.1
  have hC := hX.1
  have hnL := hX.2.2.1
  have hSt : ∀ {Xp : Jr} {Q : Ji}, Stb (RP D x Xp R0 Q) d := hP.st
  have hDy : ∀ {Xp : Jr} {Q : Ji} {T : Th} (H : Heap), RD D (RP D x Xp R0 Q) d L T H → Dy D T H := fun _ h => h.2.1
  unfold T_read_B186 at hE
  refine k_aload_n (pc := 186) hC dX2_read_186 rfl 0 rfl ?_
  refine k_iload (pc := 187) hC dX2_read_187 3 rfl ?_
  refine k_iload_n (pc := 189) hC dX2_read_189 rfl 1 rfl ?_
  refine k_iload (pc := 190) hC dX2_read_190 2 rfl ?_
  refine k_iload (pc := 192) hC dX2_read_192 4 rfl ?_
  obtain ⟨r14, h1, hE⟩ := ob_ hE
  refine a_callV (pc := 194) (As := [.int a5, .int a1, .int a4, .int a6]) hX (ct_T_add X.2.1 D (cxA X) x Xp R0 d L Q T (pxf hP) a5 a1 a4 a6 r14 h1) (cw_T_add_X2 hX (Nat.le_of_ble_eq_true rfl) (Nat.le_of_ble_eq_true rfl)) (p_recv 2 lp_2 cl_X2 hP) rfl rfl (Nat.le_of_ble_eq_true rfl) dX2_read_194 (fun c z => ?_)
  show Wk X c z (RD D (RP D x Xp R0 r14) d L T) 197 [(0, .ref (x + 2)), (1, .int a1), (4, .int a4), (5, .int a5), (6, .int a6)] []
  refine k_iload (pc := 197) hC dX2_read_197 3 rfl ?_
  refine k_iconst (pc := 199) (v := 5) hC dX2_read_199 (by decide) ?_
  refine k_icmp_eq (pc := 200) (tgt := 207) hC dX2_read_200 (by decide) hE (fun hE => ?_) (fun hE => ?_)
  · refine k_iconst (pc := 207) (v := 0) hC dX2_read_207 (by decide) ?_
    refine k_sub [0, 2] rfl ?_
    exact w_T_read_B208 hP hR F k9 hk9 _ _ _ hE _ _
  · refine k_iconst (pc := 203) (v := 1) hC dX2_read_203 (by decide) ?_
    refine k_goto (pc := 204) (tgt := 208) hC dX2_read_204 (by decide) ?_
    refine k_sub [0, 2] rfl ?_
    exact w_T_read_B208 hP hR F k9 hk9 _ _ _ hE _ _
set_option maxHeartbeats 4000000 in
theorem w_T_read_B184 {X : Ctx} {D : Dd} {x : Nat} {R0 : Heap → Prop} {d : Nat → Prop} {L : Nat × Nat × Nat × Nat} {Xp : Jr} {T : Th} {out : Ji} (hP : Px X cX2_read RX2 D x R0 d L 7 6 134) (hR : RtA X none (RD D (RP D x Xp R0 out) d L T) none D L) (F : Nat) (k9 : Int32 → Int32 → Ji → Option (Ji)) (hk9 : ∀ (a1 : Int32) (a2 : Int32) (Q : Ji) , k9 a1 a2 Q = some out → ∀ c z, Wk X c z (RD D (RP D x Xp R0 Q) d L T) 9 [(0, .ref (x + 2)), (1, .int a1), (2, .int a2)] []) (a1 : Int32) (a4 : Int32) (a6 : Int32) (s0 : Int32) (Q : Ji) (hE : T_read_B184 F k9 Xp T a1 a4 a6 s0 Q = some out) (c z : Nat) : Wk X c z (RD D (RP D x Xp R0 Q) d L T) 184 [(0, .ref (x + 2)), (1, .int a1), (4, .int a4), (6, .int a6)] [.int s0] := by
  have hX := hP.1
  have hC := hX.1
  have hnL := hX.2.2.1
  have hSt : ∀ {Xp : Jr} {Q : Ji}, Stb (RP D x Xp R0 Q) d := hP.st
  have hDy : ∀ {Xp : Jr} {Q : Ji} {T : Th} (H : Heap), RD D (RP D x Xp R0 Q) d L T H → Dy D T H := fun _ h => h.2.1
  unfold T_read_B184 at hE
  refine k_istore (pc := 184) (lv' := [(5, .int s0), (0, .ref (x + 2)), (1, .int a1), (4, .int a4), (6, .int a6)]) hC dX2_read_184 (by rw [hnL]; decide) rfl ?_
  refine k_sub [1, 2, 3, 0, 4] rfl ?_
  exact w_T_read_B186 hP hR F k9 hk9 _ _ _ _ _ hE _ _
set_option maxHeartbeats 4000000 in
theorem w_T_read_B215 {X : Ctx} {D : Dd} {x : Nat} {R0 : Heap → Prop} {d : Nat → Prop} {L : Nat × Nat × Nat × Nat} {Xp : Jr} {T : Th} {out : Ji} (hP : Px X cX2_read RX2 D x R0 d L 7 6 134) (hR : RtA X none (RD D (RP D x Xp R0 out) d L T) none D L) (F : Nat) (a1 : Int32) (a2 : Int32) (Q : Ji) (hE : T_read_B215 F Xp T a1 a2 Q = some out) (c z : Nat) : Wk X c z (RD D (RP D x Xp R0 Q) d L T) 215 [(0, .ref (x + 2)), (1, .int a1), (2, .int a2)] [] := by
  have hX := hP.1
  have hC := hX.1
  have hnL := hX.2.2.1
  have hSt : ∀ {Xp : Jr} {Q : Ji}, Stb (RP D x Xp R0 Q) d := hP.st
  have hDy : ∀ {Xp : Jr} {Q : Ji} {T : Th} (H : Heap), RD D (RP D x Xp R0 Q) d L T H → Dy D T H := fun _ h => h.2.1
  unfold T_read_B215 at hE
  refine k_iload_n (pc := 215) hC dX2_read_215 rfl 2 rfl ?_
  refine k_if_eq (pc := 216) (tgt := 227) hC dX2_read_216 (by decide) hE (fun hE => ?_) (fun hE => ?_)
  · cases hE
    exact a_vret (pc := 227) hX hR dX2_read_227 (by rfl) (fun _ h => h)
  · refine k_aload_n (pc := 219) hC dX2_read_219 rfl 0 rfl ?_
    refine k_iconst (pc := 220) (v := 4) hC dX2_read_220 (by decide) ?_
    refine k_iload_n (pc := 221) hC dX2_read_221 rfl 1 rfl ?_
    refine k_iload_n (pc := 222) hC dX2_read_222 rfl 1 rfl ?_
    refine k_iconst (pc := 223) (v := 0) hC dX2_read_223 (by decide) ?_
    obtain ⟨r17, h1, hE⟩ := ob_ hE
    refine a_callV (pc := 224) (As := [.int 4, .int a1, .int a1, .int 0]) hX (ct_T_add X.2.1 D (cxA X) x Xp R0 d L Q T (pxf hP) 4 a1 a1 0 r17 h1) (cw_T_add_X2 hX (Nat.le_of_ble_eq_true rfl) (Nat.le_of_ble_eq_true rfl)) (p_recv 2 lp_2 cl_X2 hP) rfl rfl (Nat.le_of_ble_eq_true rfl) dX2_read_224 (fun c z => ?_)
    show Wk X c z (RD D (RP D x Xp R0 r17) d L T) 227 [(0, .ref (x + 2)), (1, .int a1), (2, .int a2)] []
    cases hE
    exact a_vret (pc := 227) hX hR dX2_read_227 (by rfl) (fun _ h => h)
set_option maxHeartbeats 4000000 in
theorem w_T_read_B162 {X : Ctx} {D : Dd} {x : Nat} {R0 : Heap → Prop} {d : Nat → Prop} {L : Nat × Nat × Nat × Nat} {Xp : Jr} {T : Th} {out : Ji} (hP : Px X cX2_read RX2 D x R0 d L 7 6 134) (hR : RtA X none (RD D (RP D x Xp R0 out) d L T) none D L) (F : Nat) (k9 : Int32 → Int32 → Ji → Option (Ji)) (hk9 : ∀ (a1 : Int32) (a2 : Int32) (Q : Ji) , k9 a1 a2 Q = some out → ∀ c z, Wk X c z (RD D (RP D x Xp R0 Q) d L T) 9 [(0, .ref (x + 2)), (1, .int a1), (2, .int a2)] []) (a1 : Int32) (a4 : Int32) (a6 : Int32) (s0 : Int32) (Q : Ji) (hE : T_read_B162 F k9 Xp T a1 a4 a6 s0 Q = some out) (c z : Nat) : Wk X c z (RD D (RP D x Xp R0 Q) d L T) 162 [(0, .ref (x + 2)), (1, .int a1), (4, .int a4), (6, .int a6)] [.int s0] := by
  have hX := hP.1
  have hC := hX.1
  have hnL := hX.2.2.1
  have hSt : ∀ {Xp : Jr} {Q : Ji}, Stb (RP D x Xp R0 Q) d := hP.st
  have hDy : ∀ {Xp : Jr} {Q : Ji} {T : Th} (H : Heap), RD D (RP D x Xp R0 Q) d L T H → Dy D T H := fun _ h => h.2.1
  unfold T_read_B162 at hE
  refine k_istore (pc := 162) (lv' := [(5, .int s0), (0, .ref (x + 2)), (1, .int a1), (4, .int a4), (6, .int a6)]) hC dX2_read_162 (by rw [hnL]; decide) rfl ?_
  refine k_goto (pc := 164) (tgt := 186) hC dX2_read_164 (by decide) ?_
  refine k_sub [1, 2, 3, 0, 4] rfl ?_
  exact w_T_read_B186 hP hR F k9 hk9 _ _ _ _ _ hE _ _
set_option maxHeartbeats 4000000 in
theorem w_T_read_B134 {X : Ctx} {D : Dd} {x : Nat} {R0 : Heap → Prop} {d : Nat → Prop} {L : Nat × Nat × Nat × Nat} {Xp : Jr} {T : Th} {out : Ji} (hP : Px X cX2_read RX2 D x R0 d L 7 6 134) (hR : RtA X none (RD D (RP D x Xp R0 out) d L T) none D L) (F : Nat) (k9 : Int32 → Int32 → Ji → Option (Ji)) (hk9 : ∀ (a1 : Int32) (a2 : Int32) (Q : Ji) , k9 a1 a2 Q = some out → ∀ c z, Wk X c z (RD D (RP D x Xp R0 Q) d L T) 9 [(0, .ref (x + 2)), (1, .int a1), (2, .int a2)] []) (k134 : Int32 → Int32 → Int32 → Ji → Option (Ji)) (hk134 : ∀ (a1 : Int32) (a4 : Int32) (a6 : Int32) (Q : Ji) , k134 a1 a4 a6 Q = some out → ∀ c z, Wk X c z (RD D (RP D x Xp R0 Q) d L T) 134 [(0, .ref (x + 2)), (1, .int a1), (4, .int a4), (6, .int a6)] []) (a1 : Int32) (a4 : Int32) (a6 : Int32) (Q : Ji) (hE : T_read_B134 F k9 k134 Xp T a1 a4 a6 Q = some out) (c z : Nat) : Wk X c z (RD D (RP D x Xp R0 Q) d L T) 134 [(0, .ref (x + 2)), (1, .int a1), (4, .int a4), (6, .int a6)] [] := by
  have hX := hP.1
  have hC := hX.1
  have hnL := hX.2.2.1
  have hSt : ∀ {Xp : Jr} {Q : Ji}, Stb (RP D x Xp R0 Q) d := hP.st
  have hDy : ∀ {Xp : Jr} {Q : Ji} {T : Th} (H : Heap), RD D (RP D x Xp R0 Q) d L T H → Dy D T H := fun _ h => h.2.1
  unfold T_read_B134 at hE
  refine k_aload_n (pc := 134) hC dX2_read_134 rfl 0 rfl ?_
  refine k_iload (pc := 135) hC dX2_read_135 2 rfl ?_
  obtain ⟨r15, h1, hE⟩ := ob_ hE
  refine a_callV (pc := 137) (As := [.int a4]) hX (ct_T_isDigit X.2.1 D (cxA X) x Xp R0 d L Q T (pxf hP) a4 r15 h1) (cw_T_isDigit_X2 hX (Nat.le_of_ble_eq_true rfl) (Nat.le_of_ble_eq_true rfl)) (p_recv 2 lp_2 cl_X2 hP) rfl rfl (Nat.le_of_ble_eq_true rfl) dX2_read_137 (fun c z => ?_)
  show Wk X c z (RD D (RP D x Xp R0 Q) d L T) 140 [(0, .ref (x + 2)), (1, .int a1), (4, .int a4), (6, .int a6)] [.int r15]
  refine k_if_eq (pc := 140) (tgt := 149) hC dX2_read_140 (by decide) hE (fun hE => ?_) (fun hE => ?_)
  · refine k_iload (pc := 149) hC dX2_read_149 2 rfl ?_
    refine k_iload_n (pc := 151) hC dX2_read_151 rfl 1 rfl ?_
    refine k_isub (pc := 152) hC dX2_read_152 ?_
    refine k_iconst (pc := 153) (v := 4) hC dX2_read_153 (by decide) ?_
    refine k_icmp_le (pc := 154) (tgt := 161) hC dX2_read_154 (by decide) hE (fun hE => ?_) (fun hE => ?_)
    · refine k_iconst (pc := 161) (v := 1) hC dX2_read_161 (by decide) ?_
      exact w_T_read_B162 hP hR F k9 hk9 _ _ _ _ _ hE _ _
    · refine k_iconst (pc := 157) (v := 5) hC dX2_read_157 (by decide) ?_
      refine k_goto (pc := 158) (tgt := 162) hC dX2_read_158 (by decide) ?_
      exact w_T_read_B162 hP hR F k9 hk9 _ _ _ _ _ hE _ _
  · refine k_iincE (pc := 143) (k := 2) (d := 1) (lv' := fun x16 => [(4, .int x16), (0, .ref (x + 2)), (1, .int a1), (6, .int a6)]) hC dX2_read_143 rfl (by decide) (by rw [hnL]; decide) hE (fun _ => rfl) (fun x16 hE => ?_)
    refine k_goto (pc := 146) (tgt := 134) hC dX2_read_146 (by decide) ?_
    refine k_sub [1, 2, 0, 3] rfl ?_
    exact hk134 _ _ _ _ hE _ _
theorem w_T_read_L134 {X : Ctx} {D : Dd} {x : Nat} {R0 : Heap → Prop} {d : Nat → Prop} {L : Nat × Nat × Nat × Nat} {Xp : Jr} {T : Th} {out : Ji} (hP : Px X cX2_read RX2 D x R0 d L 7 6 134) (hR : RtA X none (RD D (RP D x Xp R0 out) d L T) none D L) (F : Nat) (k9 : Int32 → Int32 → Ji → Option (Ji)) (hk9 : ∀ (a1 : Int32) (a2 : Int32) (Q : Ji) , k9 a1 a2 Q = some out → ∀ c z, Wk X c z (RD D (RP D x Xp R0 Q) d L T) 9 [(0, .ref (x + 2)), (1, .int a1), (2, .int a2)] []) (n : Nat) : ∀ (a1 : Int32) (a4 : Int32) (a6 : Int32) (Q : Ji) , T_read_L134 F k9 Xp T n a1 a4 a6 Q = some out → ∀ c z, Wk X c z (RD D (RP D x Xp R0 Q) d L T) 134 [(0, .ref (x + 2)), (1, .int a1), (4, .int a4), (6, .int a6)] [] := by
  induction n with
  | zero => intro a1 a4 a6 Q h; cases h
  | succ n ih => intro a1 a4 a6 Q h; exact w_T_read_B134 hP hR F k9 hk9 (T_read_L134 F k9 Xp T n) ih a1 a4 a6 Q h
set_option maxHeartbeats 4000000 in
theorem w_T_read_B121 {X : Ctx} {D : Dd} {x : Nat} {R0 : Heap → Prop} {d : Nat → Prop} {L : Nat × Nat × Nat × Nat} {Xp : Jr} {T : Th} {out : Ji} (hP : Px X cX2_read RX2 D x R0 d L 7 6 134) (hR : RtA X none (RD D (RP D x Xp R0 out) d L T) none D L) (F : Nat) (k9 : Int32 → Int32 → Ji → Option (Ji)) (hk9 : ∀ (a1 : Int32) (a2 : Int32) (Q : Ji) , k9 a1 a2 Q = some out → ∀ c z, Wk X c z (RD D (RP D x Xp R0 Q) d L T) 9 [(0, .ref (x + 2)), (1, .int a1), (2, .int a2)] []) (a1 : Int32) (a4 : Int32) (a6 : Int32) (s0 : Int32) (Q : Ji) (hE : T_read_B121 F k9 Xp T a1 a4 a6 s0 Q = some out) (c z : Nat) : Wk X c z (RD D (RP D x Xp R0 Q) d L T) 121 [(0, .ref (x + 2)), (1, .int a1), (4, .int a4), (6, .int a6)] [.int s0] := by
  have hX := hP.1
  have hC := hX.1
  have hnL := hX.2.2.1
  have hSt : ∀ {Xp : Jr} {Q : Ji}, Stb (RP D x Xp R0 Q) d := hP.st
  have hDy : ∀ {Xp : Jr} {Q : Ji} {T : Th} (H : Heap), RD D (RP D x Xp R0 Q) d L T H → Dy D T H := fun _ h => h.2.1
  unfold T_read_B121 at hE
  refine k_istore (pc := 121) (lv' := [(5, .int s0), (0, .ref (x + 2)), (1, .int a1), (4, .int a4), (6, .int a6)]) hC dX2_read_121 (by rw [hnL]; decide) rfl ?_
  refine k_goto (pc := 123) (tgt := 186) hC dX2_read_123 (by decide) ?_
  refine k_sub [1, 2, 3, 0, 4] rfl ?_
  exact w_T_read_B186 hP hR F k9 hk9 _ _ _ _ _ hE _ _
set_option maxHeartbeats 4000000 in
theorem w_T_read_B74 {X : Ctx} {D : Dd} {x : Nat} {R0 : Heap → Prop} {d : Nat → Prop} {L : Nat × Nat × Nat × Nat} {Xp : Jr} {T : Th} {out : Ji} (hP : Px X cX2_read RX2 D x R0 d L 7 6 134) (hR : RtA X none (RD D (RP D x Xp R0 out) d L T) none D L) (F : Nat) (k9 : Int32 → Int32 → Ji → Option (Ji)) (hk9 : ∀ (a1 : Int32) (a2 : Int32) (Q : Ji) , k9 a1 a2 Q = some out → ∀ c z, Wk X c z (RD D (RP D x Xp R0 Q) d L T) 9 [(0, .ref (x + 2)), (1, .int a1), (2, .int a2)] []) (k74 : Int32 → Int32 → Ji → Option (Ji)) (hk74 : ∀ (a1 : Int32) (a4 : Int32) (Q : Ji) , k74 a1 a4 Q = some out → ∀ c z, Wk X c z (RD D (RP D x Xp R0 Q) d L T) 74 [(0, .ref (x + 2)), (1, .int a1), (4, .int a4)] []) (a1 : Int32) (a4 : Int32) (Q : Ji) (hE : T_read_B74 F k9 k74 Xp T a1 a4 Q = some out) (c z : Nat) : Wk X c z (RD D (RP D x Xp R0 Q) d L T) 74 [(0, .ref (x + 2)), (1, .int a1), (4, .int a4)] [] := by
  have hX := hP.1
  have hC := hX.1
  have hnL := hX.2.2.1
  have hSt : ∀ {Xp : Jr} {Q : Ji}, Stb (RP D x Xp R0 Q) d := hP.st
  have hDy : ∀ {Xp : Jr} {Q : Ji} {T : Th} (H : Heap), RD D (RP D x Xp R0 Q) d L T H → Dy D T H := fun _ h => h.2.1
  unfold T_read_B74 at hE
  refine k_aload_n (pc := 74) hC dX2_read_74 rfl 0 rfl ?_
  refine k_iload (pc := 75) hC dX2_read_75 2 rfl ?_
  obtain ⟨r11, h1, hE⟩ := ob_ hE
  refine a_callV (pc := 77) (As := [.int a4]) hX (ct_T_isLetter X.2.1 D (cxA X) x Xp R0 d L Q T (pxf hP) a4 r11 h1) (cw_T_isLetter_X2 hX (Nat.le_of_ble_eq_true rfl) (Nat.le_of_ble_eq_true rfl)) (p_recv 2 lp_2 cl_X2 hP) rfl rfl (Nat.le_of_ble_eq_true rfl) dX2_read_77 (fun c z => ?_)
  show Wk X c z (RD D (RP D x Xp R0 Q) d L T) 80 [(0, .ref (x + 2)), (1, .int a1), (4, .int a4)] [.int r11]
  refine k_if_eq (pc := 80) (tgt := 89) hC dX2_read_80 (by decide) hE (fun hE => ?_) (fun hE => ?_)
  · refine k_aload_n (pc := 89) hC dX2_read_89 rfl 0 rfl ?_
    refine k_iload_n (pc := 90) hC dX2_read_90 rfl 1 rfl ?_
    refine k_iload (pc := 91) hC dX2_read_91 2 rfl ?_
    obtain ⟨r12, h1, hE⟩ := ob_ hE
    refine a_callV (pc := 93) (As := [.int a1, .int a4]) hX (ct_T_word X.2.1 D (cxA X) x Xp R0 d L Q T (pxf hP) F a1 a4 r12 h1) (cw_T_word_X2 hX (Nat.le_of_ble_eq_true rfl) (Nat.le_of_ble_eq_true rfl)) (p_recv 2 lp_2 cl_X2 hP) rfl rfl (Nat.le_of_ble_eq_true rfl) dX2_read_93 (fun c z => ?_)
    show Wk X c z (RD D (RP D x Xp R0 Q) d L T) 96 [(0, .ref (x + 2)), (1, .int a1), (4, .int a4)] [.int r12]
    refine k_istore (pc := 96) (lv' := [(6, .int r12), (0, .ref (x + 2)), (1, .int a1), (4, .int a4)]) hC dX2_read_96 (by rw [hnL]; decide) rfl ?_
    refine k_iload (pc := 98) hC dX2_read_98 0 rfl ?_
    refine k_if_lt (pc := 100) (tgt := 107) hC dX2_read_100 (by decide) hE (fun hE => ?_) (fun hE => ?_)
    · refine k_iload (pc := 107) hC dX2_read_107 3 rfl ?_
      refine k_iload_n (pc := 109) hC dX2_read_109 rfl 2 rfl ?_
      refine k_isub (pc := 110) hC dX2_read_110 ?_
      refine k_bipush (pc := 111) (v := 8) hC dX2_read_111 (by decide) ?_
      refine k_icmp_le (pc := 113) (tgt := 120) hC dX2_read_113 (by decide) hE (fun hE => ?_) (fun hE => ?_)
      · refine k_iconst (pc := 120) (v := 0) hC dX2_read_120 (by decide) ?_
        refine k_sub [1, 2, 3, 0] rfl ?_
        exact w_T_read_B121 hP hR F k9 hk9 _ _ _ _ _ hE _ _
      · refine k_iconst (pc := 116) (v := 5) hC dX2_read_116 (by decide) ?_
        refine k_goto (pc := 117) (tgt := 121) hC dX2_read_117 (by decide) ?_
        refine k_sub [1, 2, 3, 0] rfl ?_
        exact w_T_read_B121 hP hR F k9 hk9 _ _ _ _ _ hE _ _
    · refine k_iconst (pc := 103) (v := 3) hC dX2_read_103 (by decide) ?_
      refine k_goto (pc := 104) (tgt := 121) hC dX2_read_104 (by decide) ?_
      refine k_sub [1, 2, 3, 0] rfl ?_
      exact w_T_read_B121 hP hR F k9 hk9 _ _ _ _ _ hE _ _
  · refine k_iincE (pc := 83) (k := 2) (d := 1) (lv' := fun x13 => [(4, .int x13), (0, .ref (x + 2)), (1, .int a1)]) hC dX2_read_83 rfl (by decide) (by rw [hnL]; decide) hE (fun _ => rfl) (fun x13 hE => ?_)
    refine k_goto (pc := 86) (tgt := 74) hC dX2_read_86 (by decide) ?_
    refine k_sub [1, 2, 0] rfl ?_
    exact hk74 _ _ _ hE _ _
theorem w_T_read_L74 {X : Ctx} {D : Dd} {x : Nat} {R0 : Heap → Prop} {d : Nat → Prop} {L : Nat × Nat × Nat × Nat} {Xp : Jr} {T : Th} {out : Ji} (hP : Px X cX2_read RX2 D x R0 d L 7 6 134) (hR : RtA X none (RD D (RP D x Xp R0 out) d L T) none D L) (F : Nat) (k9 : Int32 → Int32 → Ji → Option (Ji)) (hk9 : ∀ (a1 : Int32) (a2 : Int32) (Q : Ji) , k9 a1 a2 Q = some out → ∀ c z, Wk X c z (RD D (RP D x Xp R0 Q) d L T) 9 [(0, .ref (x + 2)), (1, .int a1), (2, .int a2)] []) (n : Nat) : ∀ (a1 : Int32) (a4 : Int32) (Q : Ji) , T_read_L74 F k9 Xp T n a1 a4 Q = some out → ∀ c z, Wk X c z (RD D (RP D x Xp R0 Q) d L T) 74 [(0, .ref (x + 2)), (1, .int a1), (4, .int a4)] [] := by
  induction n with
  | zero => intro a1 a4 Q h; cases h
  | succ n ih => intro a1 a4 Q h; exact w_T_read_B74 hP hR F k9 hk9 (T_read_L74 F k9 Xp T n) ih a1 a4 Q h
set_option maxHeartbeats 4000000 in
theorem w_T_read_B9 {X : Ctx} {D : Dd} {x : Nat} {R0 : Heap → Prop} {d : Nat → Prop} {L : Nat × Nat × Nat × Nat} {Xp : Jr} {T : Th} {out : Ji} (hP : Px X cX2_read RX2 D x R0 d L 7 6 134) (hR : RtA X none (RD D (RP D x Xp R0 out) d L T) none D L) (F : Nat) (k9 : Int32 → Int32 → Ji → Option (Ji)) (hk9 : ∀ (a1 : Int32) (a2 : Int32) (Q : Ji) , k9 a1 a2 Q = some out → ∀ c z, Wk X c z (RD D (RP D x Xp R0 Q) d L T) 9 [(0, .ref (x + 2)), (1, .int a1), (2, .int a2)] []) (a1 : Int32) (a2 : Int32) (Q : Ji) (hE : T_read_B9 F k9 Xp T a1 a2 Q = some out) (c z : Nat) : Wk X c z (RD D (RP D x Xp R0 Q) d L T) 9 [(0, .ref (x + 2)), (1, .int a1), (2, .int a2)] [] := by
  have hX := hP.1
  have hC := hX.1
  have hnL := hX.2.2.1
  have hSt : ∀ {Xp : Jr} {Q : Ji}, Stb (RP D x Xp R0 Q) d := hP.st
  have hDy : ∀ {Xp : Jr} {Q : Ji} {T : Th} (H : Heap), RD D (RP D x Xp R0 Q) d L T H → Dy D T H := fun _ h => h.2.1
  unfold T_read_B9 at hE
  refine k_iload_n (pc := 9) hC dX2_read_9 rfl 1 rfl ?_
  refine k_aload_n (pc := 10) hC dX2_read_10 rfl 0 rfl ?_
  refine gP_X2_76 (pc := 11) hP dX2_read_11 ?_
  refine k_icmp_ge (pc := 14) (tgt := 215) hC dX2_read_14 (by decide) hE (fun hE => ?_) (fun hE => ?_)
  · exact w_T_read_B215 hP hR F _ _ _ hE _ _
  · refine k_iload_n (pc := 17) hC dX2_read_17 rfl 2 rfl ?_
    refine k_if_eq (pc := 18) (tgt := 215) hC dX2_read_18 (by decide) hE (fun hE => ?_) (fun hE => ?_)
    · exact w_T_read_B215 hP hR F _ _ _ hE _ _
    · refine k_aload_n (pc := 21) hC dX2_read_21 rfl 0 rfl ?_
      refine gP_X2_59 (pc := 22) hP dX2_read_22 ?_
      refine k_iload_n (pc := 25) hC dX2_read_25 rfl 1 rfl ?_
      refine p_bald (pc := 26) 4 lp_4 hP dX2_read_26 hE (fun x2 hE => ?_)
      refine k_istore_n (pc := 27) (lv' := [(3, .int x2), (0, .ref (x + 2)), (1, .int a1), (2, .int a2)]) hC dX2_read_27 rfl (by rw [hnL]; decide) rfl ?_
      refine k_iload_n (pc := 28) hC dX2_read_28 rfl 2 rfl ?_
      refine k_iconst (pc := 29) (v := 1) hC dX2_read_29 (by decide) ?_
      refine k_iadd (pc := 30) hC dX2_read_30 ?_
      refine k_istoreE (pc := 31) (lv' := fun x3 => [(4, .int x3), (3, .int x2), (0, .ref (x + 2)), (1, .int a1), (2, .int a2)]) hC dX2_read_31 (by rw [hnL]; decide) hE (fun _ => rfl) (fun x3 hE => ?_)
      refine k_iload_n (pc := 33) hC dX2_read_33 rfl 1 rfl ?_
      refine k_bipush (pc := 34) (v := 32) hC dX2_read_34 (by decide) ?_
      refine k_icmp_eq (pc := 36) (tgt := 57) hC dX2_read_36 (by decide) hE (fun hE => ?_) (fun hE => ?_)
      · refine k_iincE (pc := 57) (k := 3) (d := 1) (lv' := fun x4 => [(1, .int x4), (4, .int x3), (3, .int x2), (0, .ref (x + 2)), (2, .int a2)]) hC dX2_read_57 rfl (by decide) (by rw [hnL]; decide) hE (fun _ => rfl) (fun x4 hE => ?_)
        refine k_goto (pc := 60) (tgt := 9) hC dX2_read_60 (by decide) ?_
        refine k_sub [3, 0, 4] rfl ?_
        exact hk9 _ _ _ hE _ _
      · refine k_iload_n (pc := 39) hC dX2_read_39 rfl 1 rfl ?_
        refine k_bipush (pc := 40) (v := 9) hC dX2_read_40 (by decide) ?_
        refine k_icmp_eq (pc := 42) (tgt := 57) hC dX2_read_42 (by decide) hE (fun hE => ?_) (fun hE => ?_)
        · refine k_iincE (pc := 57) (k := 3) (d := 1) (lv' := fun x5 => [(1, .int x5), (4, .int x3), (3, .int x2), (0, .ref (x + 2)), (2, .int a2)]) hC dX2_read_57 rfl (by decide) (by rw [hnL]; decide) hE (fun _ => rfl) (fun x5 hE => ?_)
          refine k_goto (pc := 60) (tgt := 9) hC dX2_read_60 (by decide) ?_
          refine k_sub [3, 0, 4] rfl ?_
          exact hk9 _ _ _ hE _ _
        · refine k_iload_n (pc := 45) hC dX2_read_45 rfl 1 rfl ?_
          refine k_bipush (pc := 46) (v := 10) hC dX2_read_46 (by decide) ?_
          refine k_icmp_eq (pc := 48) (tgt := 57) hC dX2_read_48 (by decide) hE (fun hE => ?_) (fun hE => ?_)
          · refine k_iincE (pc := 57) (k := 3) (d := 1) (lv' := fun x6 => [(1, .int x6), (4, .int x3), (3, .int x2), (0, .ref (x + 2)), (2, .int a2)]) hC dX2_read_57 rfl (by decide) (by rw [hnL]; decide) hE (fun _ => rfl) (fun x6 hE => ?_)
            refine k_goto (pc := 60) (tgt := 9) hC dX2_read_60 (by decide) ?_
            refine k_sub [3, 0, 4] rfl ?_
            exact hk9 _ _ _ hE _ _
          · refine k_iload_n (pc := 51) hC dX2_read_51 rfl 1 rfl ?_
            refine k_bipush (pc := 52) (v := 13) hC dX2_read_52 (by decide) ?_
            refine k_icmp_ne (pc := 54) (tgt := 63) hC dX2_read_54 (by decide) hE (fun hE => ?_) (fun hE => ?_)
            · refine k_iincE (pc := 57) (k := 3) (d := 1) (lv' := fun x7 => [(1, .int x7), (4, .int x3), (3, .int x2), (0, .ref (x + 2)), (2, .int a2)]) hC dX2_read_57 rfl (by decide) (by rw [hnL]; decide) hE (fun _ => rfl) (fun x7 hE => ?_)
              refine k_goto (pc := 60) (tgt := 9) hC dX2_read_60 (by decide) ?_
              refine k_sub [3, 0, 4] rfl ?_
              exact hk9 _ _ _ hE _ _
            · refine k_iconst (pc := 63) (v := 0) hC dX2_read_63 (by decide) ?_
              refine k_istore (pc := 64) (lv' := [(6, .int 0), (4, .int x3), (3, .int x2), (0, .ref (x + 2)), (1, .int a1), (2, .int a2)]) hC dX2_read_64 (by rw [hnL]; decide) rfl ?_
              refine k_aload_n (pc := 66) hC dX2_read_66 rfl 3 rfl ?_
              refine k_iload_n (pc := 67) hC dX2_read_67 rfl 4 rfl ?_
              obtain ⟨r8, h1, hE⟩ := ob_ hE
              refine a_callV (pc := 68) (As := [.int a1]) hX (ct_T_isLetter X.2.1 D (cxA X) x Xp R0 d L Q T (pxf hP) a1 r8 h1) (cw_T_isLetter_X2 hX (Nat.le_of_ble_eq_true rfl) (Nat.le_of_ble_eq_true rfl)) (p_recv 2 lp_2 cl_X2 hP) rfl rfl (Nat.le_of_ble_eq_true rfl) dX2_read_68 (fun c z => ?_)
              show Wk X c z (RD D (RP D x Xp R0 Q) d L T) 71 [(6, .int 0), (4, .int x3), (3, .int x2), (0, .ref (x + 2)), (1, .int a1), (2, .int a2)] [.int r8]
              refine k_if_eq (pc := 71) (tgt := 126) hC dX2_read_71 (by decide) hE (fun hE => ?_) (fun hE => ?_)
              · refine k_aload_n (pc := 126) hC dX2_read_126 rfl 3 rfl ?_
                refine k_iload_n (pc := 127) hC dX2_read_127 rfl 4 rfl ?_
                obtain ⟨r9, h1, hE⟩ := ob_ hE
                refine a_callV (pc := 128) (As := [.int a1]) hX (ct_T_isDigit X.2.1 D (cxA X) x Xp R0 d L Q T (pxf hP) a1 r9 h1) (cw_T_isDigit_X2 hX (Nat.le_of_ble_eq_true rfl) (Nat.le_of_ble_eq_true rfl)) (p_recv 2 lp_2 cl_X2 hP) rfl rfl (Nat.le_of_ble_eq_true rfl) dX2_read_128 (fun c z => ?_)
                show Wk X c z (RD D (RP D x Xp R0 Q) d L T) 131 [(6, .int 0), (4, .int x3), (3, .int x2), (0, .ref (x + 2)), (1, .int a1), (2, .int a2)] [.int r9]
                refine k_if_eq (pc := 131) (tgt := 167) hC dX2_read_131 (by decide) hE (fun hE => ?_) (fun hE => ?_)
                · refine k_aload_n (pc := 167) hC dX2_read_167 rfl 3 rfl ?_
                  refine k_iload_n (pc := 168) hC dX2_read_168 rfl 4 rfl ?_
                  obtain ⟨r10, h1, hE⟩ := ob_ hE
                  refine a_callV (pc := 169) (As := [.int a1]) hX (ct_T_sign X.2.1 D (cxA X) x Xp R0 d L Q T (pxf hP) a1 r10 h1) (cw_T_sign_X2 hX (Nat.le_of_ble_eq_true rfl) (Nat.le_of_ble_eq_true rfl)) (p_recv 2 lp_2 cl_X2 hP) rfl rfl (Nat.le_of_ble_eq_true rfl) dX2_read_169 (fun c z => ?_)
                  show Wk X c z (RD D (RP D x Xp R0 Q) d L T) 172 [(6, .int 0), (4, .int x3), (3, .int x2), (0, .ref (x + 2)), (1, .int a1), (2, .int a2)] [.int r10]
                  refine k_istore (pc := 172) (lv' := [(6, .int r10), (4, .int x3), (3, .int x2), (0, .ref (x + 2)), (1, .int a1), (2, .int a2)]) hC dX2_read_172 (by rw [hnL]; decide) rfl ?_
                  refine k_iload (pc := 174) hC dX2_read_174 0 rfl ?_
                  refine k_if_ne (pc := 176) (tgt := 183) hC dX2_read_176 (by decide) hE (fun hE => ?_) (fun hE => ?_)
                  · refine k_iconst (pc := 179) (v := 5) hC dX2_read_179 (by decide) ?_
                    refine k_goto (pc := 180) (tgt := 184) hC dX2_read_180 (by decide) ?_
                    refine k_sub [3, 4, 1, 0] rfl ?_
                    exact w_T_read_B184 hP hR F k9 hk9 _ _ _ _ _ hE _ _
                  · refine k_iconst (pc := 183) (v := 2) hC dX2_read_183 (by decide) ?_
                    refine k_sub [3, 4, 1, 0] rfl ?_
                    exact w_T_read_B184 hP hR F k9 hk9 _ _ _ _ _ hE _ _
                · refine k_sub [3, 4, 1, 0] rfl ?_
                  exact w_T_read_L134 hP hR F k9 hk9 _ _ _ _ _ hE _ _
              · refine k_sub [3, 4, 1] rfl ?_
                exact w_T_read_L74 hP hR F k9 hk9 _ _ _ _ hE _ _
theorem w_T_read_L9 {X : Ctx} {D : Dd} {x : Nat} {R0 : Heap → Prop} {d : Nat → Prop} {L : Nat × Nat × Nat × Nat} {Xp : Jr} {T : Th} {out : Ji} (hP : Px X cX2_read RX2 D x R0 d L 7 6 134) (hR : RtA X none (RD D (RP D x Xp R0 out) d L T) none D L) (F : Nat) (n : Nat) : ∀ (a1 : Int32) (a2 : Int32) (Q : Ji) , T_read_L9 F Xp T n a1 a2 Q = some out → ∀ c z, Wk X c z (RD D (RP D x Xp R0 Q) d L T) 9 [(0, .ref (x + 2)), (1, .int a1), (2, .int a2)] [] := by
  induction n with
  | zero => intro a1 a2 Q h; cases h
  | succ n ih => intro a1 a2 Q h; exact w_T_read_B9 hP hR F (T_read_L9 F Xp T n) ih a1 a2 Q h
set_option maxHeartbeats 4000000 in
theorem w_T_read {X : Ctx} {D : Dd} {x : Nat} {R0 : Heap → Prop} {d : Nat → Prop} {L : Nat × Nat × Nat × Nat} {Xp : Jr} {T : Th} {out : Ji} (hP : Px X cX2_read RX2 D x R0 d L 7 6 134) (hR : RtA X none (RD D (RP D x Xp R0 out) d L T) none D L) (F : Nat) (Q : Ji) (hE : T_read F Xp T Q = some out) (c z : Nat) : Wk X c z (RD D (RP D x Xp R0 Q) d L T) 0 [(0, .ref (x + 2))] [] := by
  have hX := hP.1
  have hC := hX.1
  have hnL := hX.2.2.1
  have hSt : ∀ {Xp : Jr} {Q : Ji}, Stb (RP D x Xp R0 Q) d := hP.st
  have hDy : ∀ {Xp : Jr} {Q : Ji} {T : Th} (H : Heap), RD D (RP D x Xp R0 Q) d L T H → Dy D T H := fun _ h => h.2.1
  unfold T_read at hE
  refine k_aload_n (pc := 0) hC dX2_read_0 rfl 0 rfl ?_
  refine k_iconst (pc := 1) (v := 0) hC dX2_read_1 (by decide) ?_
  refine pP_X2_84 (pc := 2) hP dX2_read_2 hE (fun Q1 hE => ?_)
  refine k_iconst (pc := 5) (v := 0) hC dX2_read_5 (by decide) ?_
  refine k_istore_n (pc := 6) (lv' := [(1, .int 0), (0, .ref (x + 2))]) hC dX2_read_6 rfl (by rw [hnL]; decide) rfl ?_
  refine k_iconst (pc := 7) (v := 1) hC dX2_read_7 (by decide) ?_
  refine k_istore_n (pc := 8) (lv' := [(2, .int 1), (1, .int 0), (0, .ref (x + 2))]) hC dX2_read_8 rfl (by rw [hnL]; decide) rfl ?_
  refine k_sub [2, 1, 0] rfl ?_
  exact w_T_read_L9 hP hR F _ _ _ _ hE _ _
theorem ct_T_read (l : Launch) (D : Dd) (A : Nat → Prop) (x : Nat) (Xp : Jr) (R0 : Heap → Prop) (d : Nat → Prop) (L : Nat × Nat × Nat × Nat) (Q : Ji) (T : Th) (hp : Pf D A x R0 d) (F : Nat) (out : Ji) (hE : T_read F Xp T Q = some out) : Ct l yX2_read (ws_ yX2_read cX2_read 7 none) (rmA 6 134 L T) vwCl arTy D A [.ref (x + 2)] (RD D (RP D x Xp R0 Q) d L T) (RD D (RP D x Xp R0 out) d L T) none (L.1 - tN T) (L.2.1 - tZ T) := by
  refine Ct.ofA (lv := [(0, .ref (x + 2))]) (by decide) (Nat.le_of_ble_eq_true rfl) rfl hp.1 hp.2.1 ?_
  intro X hl hX hR hXA _
  exact w_T_read (Xp := Xp) (hp.px hX hXA) hR F Q hE
theorem cw_T_read_X3 {X : Ctx} {cc : ByteArray} {D : Dd} {d : Nat → Prop} {L : Nat × Nat × Nat × Nat} {mL fr lo : Nat} {T : Th} (hX : Ax X cc RX3 D d L mL fr lo) (h1 : 6 + 1 ≤ fr) (h2 : 8 + (7 + 11) + 134 ≤ lo) : CallW X.2.2.2.1 X.2.2.2.2.1 X.2.2.2.2.2.2.1 RX3 RX2 95 yX2_read cX2_read 7 none (ws_ yX2_read cX2_read 7 none) (rmA 6 134 L T) (L.1 - tN T) (L.2.1 - tZ T) 0 := cwV 0 (cx_w hX.1) (lw_V q596 q597 q598 q119 q599) rfl rfl rfl (by decide +kernel) (by rw [hX.2.2.2.1, hX.2.2.2.2.1]; exact ⟨h1, h2⟩)
set_option maxHeartbeats 4000000 in
theorem w_T_text_B15 {X : Ctx} {D : Dd} {x : Nat} {R0 : Heap → Prop} {d : Nat → Prop} {L : Nat × Nat × Nat × Nat} {Q : Ji} {Xp : Jr} {out : Option Nat × Th} (hP : Px X cX2_text RX2 D x R0 d L 4 7 156) (hR : RtA X (some (.object "java/lang/String")) (RD D (RP D x Xp R0 Q) d L out.2) (some (va_rf out.1)) D L) (F : Nat) (k15 : Int32 → Nat → Int32 → Th → Option (Option Nat × Th)) (hk15 : ∀ (a1 : Int32) (a2 : Nat) (a3 : Int32) (T : Th) , k15 a1 a2 a3 T = some out → ∀ c z, Wk X c z (RD D (RP D x Xp R0 Q) d L T) 15 [(0, .ref (x + 2)), (1, .int a1), (2, .ref a2), (3, .int a3)] []) (a1 : Int32) (a2 : Nat) (a3 : Int32) (T : Th) (hE : T_text_B15 F k15 Q a1 a2 a3 T = some out) (c z : Nat) : Wk X c z (RD D (RP D x Xp R0 Q) d L T) 15 [(0, .ref (x + 2)), (1, .int a1), (2, .ref a2), (3, .int a3)] [] := by
  have hX := hP.1
  have hC := hX.1
  have hnL := hX.2.2.1
  have hSt : ∀ {Xp : Jr} {Q : Ji}, Stb (RP D x Xp R0 Q) d := hP.st
  have hDy : ∀ {Xp : Jr} {Q : Ji} {T : Th} (H : Heap), RD D (RP D x Xp R0 Q) d L T H → Dy D T H := fun _ h => h.2.1
  unfold T_text_B15 at hE
  refine k_iload_n (pc := 15) hC dX2_text_15 rfl 3 rfl ?_
  refine k_aload_n (pc := 16) hC dX2_text_16 rfl 0 rfl ?_
  refine gP_X2_70 (pc := 17) hP dX2_text_17 ?_
  refine k_iload_n (pc := 20) hC dX2_text_20 rfl 1 rfl ?_
  refine p_sald (pc := 21) 7 lp_7 hP dX2_text_21 hE (fun x4 hE => ?_)
  refine k_icmp_ge (pc := 22) (tgt := 43) hC dX2_text_22 (by decide) hE (fun hE => ?_) (fun hE => ?_)
  · refine k_aload_n (pc := 43) hC dX2_text_43 rfl 2 rfl ?_
    obtain ⟨hrv, hE⟩ := dC_of hE
    obtain ⟨r5, h1, hE⟩ := ob_ hE
    refine a_callV (pc := 44) (As := []) hX (ct_A_B_toString X.2.1 D (cxA X) (RP D x Xp R0 Q) d L T hSt hX.2.1 hX.2.2.2.2.2.2.2.2.2 a2 r5 h1) (cw_A_B_toString_X2 hX (Nat.le_of_ble_eq_true rfl) (Nat.le_of_ble_eq_true rfl)) (a_recv hC cl_J11 hrv) rfl rfl (Nat.le_of_ble_eq_true rfl) dX2_text_44 (fun c z => ?_)
    show Wk X c z (RD D (RP D x Xp R0 Q) d L r5.2) 47 [(0, .ref (x + 2)), (1, .int a1), (2, .ref a2), (3, .int a3)] [va_rf r5.1]
    cases hE
    exact a_aret (pc := 47) (v := va_rf _) (rt := (.object "java/lang/String")) (by first | exact Or.inl ⟨_, rfl⟩ | exact Or.inr ⟨_, rfl⟩) (va_rfv _) hX hR dX2_text_47 (by rfl) (fun _ h => h)
  · refine k_aload_n (pc := 25) hC dX2_text_25 rfl 2 rfl ?_
    refine k_aload_n (pc := 26) hC dX2_text_26 rfl 0 rfl ?_
    refine gP_X2_59 (pc := 27) hP dX2_text_27 ?_
    refine k_iload_n (pc := 30) hC dX2_text_30 rfl 3 rfl ?_
    refine p_bald (pc := 31) 4 lp_4 hP dX2_text_31 hE (fun x6 hE => ?_)
    refine k_i2c (pc := 32) hC dX2_text_32 ?_
    obtain ⟨hrv, hE⟩ := dC_of hE
    obtain ⟨r7, h1, hE⟩ := ob_ hE
    refine a_callV (pc := 33) (As := [.int ((x6.toUInt32 % 65536).toInt32)]) hX (ct_A_B_append X.2.1 D (cxA X) (RP D x Xp R0 Q) d L T hSt hX.2.1 hX.2.2.2.2.2.2.2.2.2 a2 ((x6.toUInt32 % 65536).toInt32) r7 h1) (cw_A_B_append_X2 hX (Nat.le_of_ble_eq_true rfl) (Nat.le_of_ble_eq_true rfl)) (a_recv hC cl_J11 hrv) rfl rfl (Nat.le_of_ble_eq_true rfl) dX2_text_33 (fun c z => ?_)
    show Wk X c z (RD D (RP D x Xp R0 Q) d L r7.2) 36 [(0, .ref (x + 2)), (1, .int a1), (2, .ref a2), (3, .int a3)] [va_rf r7.1]
    refine k_pop (pc := 36) hC dX2_text_36 (by cases r7.1 <;> rfl) ?_
    refine k_iincE (pc := 37) (k := 3) (d := 1) (lv' := fun x8 => [(3, .int x8), (0, .ref (x + 2)), (1, .int a1), (2, .ref a2)]) hC dX2_text_37 rfl (by decide) (by rw [hnL]; decide) hE (fun _ => rfl) (fun x8 hE => ?_)
    refine k_goto (pc := 40) (tgt := 15) hC dX2_text_40 (by decide) ?_
    refine k_sub [1, 2, 3, 0] rfl ?_
    exact hk15 _ _ _ _ hE _ _
theorem w_T_text_L15 {X : Ctx} {D : Dd} {x : Nat} {R0 : Heap → Prop} {d : Nat → Prop} {L : Nat × Nat × Nat × Nat} {Q : Ji} {Xp : Jr} {out : Option Nat × Th} (hP : Px X cX2_text RX2 D x R0 d L 4 7 156) (hR : RtA X (some (.object "java/lang/String")) (RD D (RP D x Xp R0 Q) d L out.2) (some (va_rf out.1)) D L) (F : Nat) (n : Nat) : ∀ (a1 : Int32) (a2 : Nat) (a3 : Int32) (T : Th) , T_text_L15 F Q n a1 a2 a3 T = some out → ∀ c z, Wk X c z (RD D (RP D x Xp R0 Q) d L T) 15 [(0, .ref (x + 2)), (1, .int a1), (2, .ref a2), (3, .int a3)] [] := by
  induction n with
  | zero => intro a1 a2 a3 T h; cases h
  | succ n ih => intro a1 a2 a3 T h; exact w_T_text_B15 hP hR F (T_text_L15 F Q n) ih a1 a2 a3 T h
set_option maxHeartbeats 4000000 in
theorem w_T_text {X : Ctx} {D : Dd} {x : Nat} {R0 : Heap → Prop} {d : Nat → Prop} {L : Nat × Nat × Nat × Nat} {Q : Ji} {Xp : Jr} {out : Option Nat × Th} (hP : Px X cX2_text RX2 D x R0 d L 4 7 156) (hR : RtA X (some (.object "java/lang/String")) (RD D (RP D x Xp R0 Q) d L out.2) (some (va_rf out.1)) D L) (F : Nat) (a1 : Int32) (T : Th) (hE : T_text F Q a1 T = some out) (c z : Nat) : Wk X c z (RD D (RP D x Xp R0 Q) d L T) 0 [(0, .ref (x + 2)), (1, .int a1)] [] := by
  have hX := hP.1
  have hC := hX.1
  have hnL := hX.2.2.1
  have hSt : ∀ {Xp : Jr} {Q : Ji}, Stb (RP D x Xp R0 Q) d := hP.st
  have hDy : ∀ {Xp : Jr} {Q : Ji} {T : Th} (H : Heap), RD D (RP D x Xp R0 Q) d L T H → Dy D T H := fun _ h => h.2.1
  unfold T_text at hE
  refine a_new (pc := 0) hX hSt cl_J11 in_J11 tyJ11 tyJ11_ok dv_J11 q720 q721 q136 dX2_text_0 hE (fun T1 eT1 hE c z => ?_)
  refine k_dup (pc := 3) hC dX2_text_3 rfl ?_
  obtain ⟨r2, h1, hE⟩ := ob_ hE
  refine a_callI (pc := 4) (As := []) hX (ct_A_B_init X.2.1 D (cxA X) (RP D x Xp R0 Q) d L T1 hSt hX.2.1 hX.2.2.2.2.2.2.2.2.2 (tN T) r2 h1) (cw_A_B_init_X2 hX (Nat.le_of_ble_eq_true rfl) (Nat.le_of_ble_eq_true rfl)) rfl rfl (Nat.le_of_ble_eq_true rfl) dX2_text_4 (fun c z => ?_)
  show Wk X c z (RD D (RP D x Xp R0 Q) d L r2) 7 [(0, .ref (x + 2)), (1, .int a1)] [.ref (tN T)]
  refine k_astore_n (pc := 7) (lv' := [(2, .ref (tN T)), (0, .ref (x + 2)), (1, .int a1)]) hC dX2_text_7 rfl (by rw [hnL]; decide) rfl ?_
  refine k_aload_n (pc := 8) hC dX2_text_8 rfl 1 rfl ?_
  refine gP_X2_66 (pc := 9) hP dX2_text_9 ?_
  refine k_iload_n (pc := 12) hC dX2_text_12 rfl 2 rfl ?_
  refine p_sald (pc := 13) 6 lp_6 hP dX2_text_13 hE (fun x3 hE => ?_)
  refine k_istore_n (pc := 14) (lv' := [(3, .int x3), (2, .ref (tN T)), (0, .ref (x + 2)), (1, .int a1)]) hC dX2_text_14 rfl (by rw [hnL]; decide) rfl ?_
  refine k_sub [2, 3, 1, 0] rfl ?_
  exact w_T_text_L15 hP hR F _ _ _ _ _ hE _ _
theorem ct_T_text (l : Launch) (D : Dd) (A : Nat → Prop) (x : Nat) (Xp : Jr) (R0 : Heap → Prop) (d : Nat → Prop) (L : Nat × Nat × Nat × Nat) (Q : Ji) (T : Th) (hp : Pf D A x R0 d) (F : Nat) (a1 : Int32) (out : Option Nat × Th) (hE : T_text F Q a1 T = some out) : Ct l yX2_text (ws_ yX2_text cX2_text 4 (some (.object "java/lang/String"))) (rmA 7 156 L T) vwCl arTy D A [.ref (x + 2), .int a1] (RD D (RP D x Xp R0 Q) d L T) (RD D (RP D x Xp R0 Q) d L out.2) (some (va_rf out.1)) (L.1 - tN T) (L.2.1 - tZ T) := by
  refine Ct.ofA (lv := [(0, .ref (x + 2)), (1, .int a1)]) (by decide) (Nat.le_of_ble_eq_true rfl) rfl hp.1 hp.2.1 ?_
  intro X hl hX hR hXA _
  exact w_T_text (Xp := Xp) (hp.px hX hXA) hR F a1 T hE
theorem cw_T_text_X3 {X : Ctx} {cc : ByteArray} {D : Dd} {d : Nat → Prop} {L : Nat × Nat × Nat × Nat} {mL fr lo : Nat} {T : Th} (hX : Ax X cc RX3 D d L mL fr lo) (h1 : 7 + 1 ≤ fr) (h2 : 8 + (4 + 11) + 156 ≤ lo) : CallW X.2.2.2.1 X.2.2.2.2.1 X.2.2.2.2.2.2.1 RX3 RX2 79 yX2_text cX2_text 4 (some (.object "java/lang/String")) (ws_ yX2_text cX2_text 4 (some (.object "java/lang/String"))) (rmA 7 156 L T) (L.1 - tN T) (L.2.1 - tZ T) 1 := cwV 1 (cx_w hX.1) (lw_V q716 q717 q718 q119 q719) rfl rfl rfl (by decide +kernel) (by rw [hX.2.2.2.1, hX.2.2.2.2.1]; exact ⟨h1, h2⟩)
set_option maxHeartbeats 4000000 in
theorem w_T_number_B9 {X : Ctx} {D : Dd} {x : Nat} {R0 : Heap → Prop} {d : Nat → Prop} {L : Nat × Nat × Nat × Nat} {Q : Ji} {Xp : Jr} {T : Th} {out : Int32} (hP : Px X cX2_number RX2 D x R0 d L 4 0 0) (hR : RtA X (some .int) (RD D (RP D x Xp R0 Q) d L T) (some (.int out)) D L) (F : Nat) (k9 : Int32 → Int32 → Int32 → Option (Int32)) (hk9 : ∀ (a1 : Int32) (a2 : Int32) (a3 : Int32) , k9 a1 a2 a3 = some out → ∀ c z, Wk X c z (RD D (RP D x Xp R0 Q) d L T) 9 [(0, .ref (x + 2)), (1, .int a1), (2, .int a2), (3, .int a3)] []) (a1 : Int32) (a2 : Int32) (a3 : Int32) (hE : T_number_B9 F k9 Q T a1 a2 a3 = some out) (c z : Nat) : Wk X c z (RD D (RP D x Xp R0 Q) d L T) 9 [(0, .ref (x + 2)), (1, .int a1), (2, .int a2), (3, .int a3)] [] := by
  have hX := hP.1
  have hC := hX.1
  have hnL := hX.2.2.1
  have hSt : ∀ {Xp : Jr} {Q : Ji}, Stb (RP D x Xp R0 Q) d := hP.st
  have hDy : ∀ {Xp : Jr} {Q : Ji} {T : Th} (H : Heap), RD D (RP D x Xp R0 Q) d L T H → Dy D T H := fun _ h => h.2.1
  unfold T_number_B9 at hE
  refine k_iload_n (pc := 9) hC dX2_number_9 rfl 3 rfl ?_
  refine k_aload_n (pc := 10) hC dX2_number_10 rfl 0 rfl ?_
  refine gP_X2_70 (pc := 11) hP dX2_number_11 ?_
  refine k_iload_n (pc := 14) hC dX2_number_14 rfl 1 rfl ?_
  refine p_sald (pc := 15) 7 lp_7 hP dX2_number_15 hE (fun x2 hE => ?_)
  refine k_icmp_ge (pc := 16) (tgt := 40) hC dX2_number_16 (by decide) hE (fun hE => ?_) (fun hE => ?_)
  · refine k_iload_n (pc := 40) hC dX2_number_40 rfl 2 rfl ?_
    cases hE
    exact a_iret (pc := 41) hX hR dX2_number_41 (by rfl) (fun _ h => h)
  · refine k_bipush (pc := 19) (v := 10) hC dX2_number_19 (by decide) ?_
    refine k_iload_n (pc := 21) hC dX2_number_21 rfl 2 rfl ?_
    refine k_imul (pc := 22) hC dX2_number_22 ?_
    refine k_aload_n (pc := 23) hC dX2_number_23 rfl 0 rfl ?_
    refine gP_X2_59 (pc := 24) hP dX2_number_24 ?_
    refine k_iload_n (pc := 27) hC dX2_number_27 rfl 3 rfl ?_
    refine p_bald (pc := 28) 4 lp_4 hP dX2_number_28 hE (fun x3 hE => ?_)
    refine k_iadd (pc := 29) hC dX2_number_29 ?_
    refine k_bipush (pc := 30) (v := 48) hC dX2_number_30 (by decide) ?_
    refine k_isub (pc := 32) hC dX2_number_32 ?_
    refine k_istoreE_n (pc := 33) (lv' := fun x4 => [(2, .int x4), (0, .ref (x + 2)), (1, .int a1), (3, .int a3)]) hC dX2_number_33 rfl (by rw [hnL]; decide) hE (fun _ => rfl) (fun x4 hE => ?_)
    refine k_iincE (pc := 34) (k := 3) (d := 1) (lv' := fun x5 => [(3, .int x5), (2, .int x4), (0, .ref (x + 2)), (1, .int a1)]) hC dX2_number_34 rfl (by decide) (by rw [hnL]; decide) hE (fun _ => rfl) (fun x5 hE => ?_)
    refine k_goto (pc := 37) (tgt := 9) hC dX2_number_37 (by decide) ?_
    refine k_sub [2, 3, 1, 0] rfl ?_
    exact hk9 _ _ _ hE _ _
theorem w_T_number_L9 {X : Ctx} {D : Dd} {x : Nat} {R0 : Heap → Prop} {d : Nat → Prop} {L : Nat × Nat × Nat × Nat} {Q : Ji} {Xp : Jr} {T : Th} {out : Int32} (hP : Px X cX2_number RX2 D x R0 d L 4 0 0) (hR : RtA X (some .int) (RD D (RP D x Xp R0 Q) d L T) (some (.int out)) D L) (F : Nat) (n : Nat) : ∀ (a1 : Int32) (a2 : Int32) (a3 : Int32) , T_number_L9 F Q T n a1 a2 a3 = some out → ∀ c z, Wk X c z (RD D (RP D x Xp R0 Q) d L T) 9 [(0, .ref (x + 2)), (1, .int a1), (2, .int a2), (3, .int a3)] [] := by
  induction n with
  | zero => intro a1 a2 a3 h; cases h
  | succ n ih => intro a1 a2 a3 h; exact w_T_number_B9 hP hR F (T_number_L9 F Q T n) ih a1 a2 a3 h
set_option maxHeartbeats 4000000 in
theorem w_T_number {X : Ctx} {D : Dd} {x : Nat} {R0 : Heap → Prop} {d : Nat → Prop} {L : Nat × Nat × Nat × Nat} {Q : Ji} {Xp : Jr} {T : Th} {out : Int32} (hP : Px X cX2_number RX2 D x R0 d L 4 0 0) (hR : RtA X (some .int) (RD D (RP D x Xp R0 Q) d L T) (some (.int out)) D L) (F : Nat) (a1 : Int32) (hE : T_number F Q T a1 = some out) (c z : Nat) : Wk X c z (RD D (RP D x Xp R0 Q) d L T) 0 [(0, .ref (x + 2)), (1, .int a1)] [] := by
  have hX := hP.1
  have hC := hX.1
  have hnL := hX.2.2.1
  have hSt : ∀ {Xp : Jr} {Q : Ji}, Stb (RP D x Xp R0 Q) d := hP.st
  have hDy : ∀ {Xp : Jr} {Q : Ji} {T : Th} (H : Heap), RD D (RP D x Xp R0 Q) d L T H → Dy D T H := fun _ h => h.2.1
  unfold T_number at hE
  refine k_iconst (pc := 0) (v := 0) hC dX2_number_0 (by decide) ?_
  refine k_istore_n (pc := 1) (lv' := [(2, .int 0), (0, .ref (x + 2)), (1, .int a1)]) hC dX2_number_1 rfl (by rw [hnL]; decide) rfl ?_
  refine k_aload_n (pc := 2) hC dX2_number_2 rfl 1 rfl ?_
  refine gP_X2_66 (pc := 3) hP dX2_number_3 ?_
  refine k_iload_n (pc := 6) hC dX2_number_6 rfl 2 rfl ?_
  refine p_sald (pc := 7) 6 lp_6 hP dX2_number_7 hE (fun x1 hE => ?_)
  refine k_istore_n (pc := 8) (lv' := [(3, .int x1), (2, .int 0), (0, .ref (x + 2)), (1, .int a1)]) hC dX2_number_8 rfl (by rw [hnL]; decide) rfl ?_
  refine k_sub [2, 3, 1, 0] rfl ?_
  exact w_T_number_L9 hP hR F _ _ _ _ hE _ _
theorem ct_T_number (l : Launch) (D : Dd) (A : Nat → Prop) (x : Nat) (Xp : Jr) (R0 : Heap → Prop) (d : Nat → Prop) (L : Nat × Nat × Nat × Nat) (Q : Ji) (T : Th) (hp : Pf D A x R0 d) (F : Nat) (a1 : Int32) (out : Int32) (hE : T_number F Q T a1 = some out) : Ct l yX2_number (ws_ yX2_number cX2_number 4 (some .int)) (rmA 0 0 L T) vwCl arTy D A [.ref (x + 2), .int a1] (RD D (RP D x Xp R0 Q) d L T) (RD D (RP D x Xp R0 Q) d L T) (some (.int out)) (L.1 - tN T) (L.2.1 - tZ T) := by
  refine Ct.ofA (lv := [(0, .ref (x + 2)), (1, .int a1)]) (by decide) (Nat.le_of_ble_eq_true rfl) rfl hp.1 hp.2.1 ?_
  intro X hl hX hR hXA _
  exact w_T_number (Xp := Xp) (hp.px hX hXA) hR F a1 hE
theorem cw_T_number_X3 {X : Ctx} {cc : ByteArray} {D : Dd} {d : Nat → Prop} {L : Nat × Nat × Nat × Nat} {mL fr lo : Nat} {T : Th} (hX : Ax X cc RX3 D d L mL fr lo) (h1 : 0 + 1 ≤ fr) (h2 : 8 + (4 + 11) + 0 ≤ lo) : CallW X.2.2.2.1 X.2.2.2.2.1 X.2.2.2.2.2.2.1 RX3 RX2 72 yX2_number cX2_number 4 (some .int) (ws_ yX2_number cX2_number 4 (some .int)) (rmA 0 0 L T) (L.1 - tN T) (L.2.1 - tZ T) 1 := cwV 1 (cx_w hX.1) (lw_V q1017 q1018 q1019 q119 q1020) rfl rfl rfl (by decide +kernel) (by rw [hX.2.2.2.1, hX.2.2.2.2.1]; exact ⟨h1, h2⟩)
set_option maxHeartbeats 4000000 in
theorem w_F_of {X : Ctx} {D : Dd} {x : Nat} {R0 : Heap → Prop} {d : Nat → Prop} {L : Nat × Nat × Nat × Nat} {Xp : Jr} {T : Th} {out : Ji} (hP : Px X cX1_of RX1 D x R0 d L 3 0 0) (hR : RtA X (some (.object "SleepWork$Fault")) (RD D (RP D x Xp R0 out) d L T) (some (.ref (x + 1))) D L) (a1 : Int32) (a2 : Int32) (Q : Ji) (hE : F_of a1 a2 Q = some out) (c z : Nat) : Wk X c z (RD D (RP D x Xp R0 Q) d L T) 0 [(0, .ref (x + 1)), (1, .int a1), (2, .int a2)] [] := by
  have hX := hP.1
  have hC := hX.1
  have hnL := hX.2.2.1
  have hSt : ∀ {Xp : Jr} {Q : Ji}, Stb (RP D x Xp R0 Q) d := hP.st
  have hDy : ∀ {Xp : Jr} {Q : Ji} {T : Th} (H : Heap), RD D (RP D x Xp R0 Q) d L T H → Dy D T H := fun _ h => h.2.1
  unfold F_of at hE
  refine k_aload_n (pc := 0) hC dX1_of_0 rfl 0 rfl ?_
  refine k_iload_n (pc := 1) hC dX1_of_1 rfl 1 rfl ?_
  refine pP_X1_9 (pc := 2) hP dX1_of_2 hE (fun Q1 hE => ?_)
  refine k_aload_n (pc := 5) hC dX1_of_5 rfl 0 rfl ?_
  refine k_iload_n (pc := 6) hC dX1_of_6 rfl 2 rfl ?_
  refine pP_X1_15 (pc := 7) hP dX1_of_7 hE (fun Q2 hE => ?_)
  refine k_aload_n (pc := 10) hC dX1_of_10 rfl 0 rfl ?_
  cases hE
  exact a_aret (pc := 11) (v := .ref (x + 1)) (rt := (.object "SleepWork$Fault")) (Or.inl ⟨_, rfl⟩) (Or.inr ⟨_, rfl⟩) hX hR dX1_of_11 (by rfl) (fun _ h => h)
theorem ct_F_of (l : Launch) (D : Dd) (A : Nat → Prop) (x : Nat) (Xp : Jr) (R0 : Heap → Prop) (d : Nat → Prop) (L : Nat × Nat × Nat × Nat) (Q : Ji) (T : Th) (hp : Pf D A x R0 d) (a1 : Int32) (a2 : Int32) (out : Ji) (hE : F_of a1 a2 Q = some out) : Ct l yX1_of (ws_ yX1_of cX1_of 3 (some (.object "SleepWork$Fault"))) (rmA 0 0 L T) vwCl arTy D A [.ref (x + 1), .int a1, .int a2] (RD D (RP D x Xp R0 Q) d L T) (RD D (RP D x Xp R0 out) d L T) (some (.ref (x + 1))) (L.1 - tN T) (L.2.1 - tZ T) := by
  refine Ct.ofA (lv := [(0, .ref (x + 1)), (1, .int a1), (2, .int a2)]) (by decide) (Nat.le_of_ble_eq_true rfl) rfl hp.1 hp.2.1 ?_
  intro X hl hX hR hXA _
  exact w_F_of (Xp := Xp) (hp.px hX hXA) hR a1 a2 Q hE
theorem cw_F_of_X3 {X : Ctx} {cc : ByteArray} {D : Dd} {d : Nat → Prop} {L : Nat × Nat × Nat × Nat} {mL fr lo : Nat} {T : Th} (hX : Ax X cc RX3 D d L mL fr lo) (h1 : 0 + 1 ≤ fr) (h2 : 8 + (3 + 11) + 0 ≤ lo) : CallW X.2.2.2.1 X.2.2.2.2.1 X.2.2.2.2.2.2.1 RX3 RX1 25 yX1_of cX1_of 3 (some (.object "SleepWork$Fault")) (ws_ yX1_of cX1_of 3 (some (.object "SleepWork$Fault"))) (rmA 0 0 L T) (L.1 - tN T) (L.2.1 - tZ T) 2 := cwV 2 (cx_w hX.1) (lw_V q686 q687 q688 q118 q689) rfl rfl rfl (by decide +kernel) (by rw [hX.2.2.2.1, hX.2.2.2.2.1]; exact ⟨h1, h2⟩)
set_option maxHeartbeats 4000000 in
theorem w_R_wrongAt {X : Ctx} {D : Dd} {x : Nat} {R0 : Heap → Prop} {d : Nat → Prop} {L : Nat × Nat × Nat × Nat} {Xp : Jr} {T : Th} {out : Ji} (hP : Px X cX3_wrongAt RX3 D x R0 d L 3 1 24) (hR : RtA X (some (.object "SleepWork$Fault")) (RD D (RP D x Xp R0 out) d L T) (some (.ref (x + 1))) D L) (a1 : Int32) (a2 : Int32) (Q : Ji) (hE : R_wrongAt T a1 a2 Q = some out) (c z : Nat) : Wk X c z (RD D (RP D x Xp R0 Q) d L T) 0 [(0, .ref (x + 9)), (1, .int a1), (2, .int a2)] [] := by
  have hX := hP.1
  have hC := hX.1
  have hnL := hX.2.2.1
  have hSt : ∀ {Xp : Jr} {Q : Ji}, Stb (RP D x Xp R0 Q) d := hP.st
  have hDy : ∀ {Xp : Jr} {Q : Ji} {T : Th} (H : Heap), RD D (RP D x Xp R0 Q) d L T H → Dy D T H := fun _ h => h.2.1
  unfold R_wrongAt at hE
  refine k_aload_n (pc := 0) hC dX3_wrongAt_0 rfl 0 rfl ?_
  refine gP_X3_15 (pc := 1) hP dX3_wrongAt_1 ?_
  refine k_iload_n (pc := 4) hC dX3_wrongAt_4 rfl 1 rfl ?_
  refine k_aload_n (pc := 5) hC dX3_wrongAt_5 rfl 0 rfl ?_
  refine gP_X3_9 (pc := 6) hP dX3_wrongAt_6 ?_
  refine gP_X3_19 (pc := 9) hP dX3_wrongAt_9 ?_
  refine k_iload_n (pc := 12) hC dX3_wrongAt_12 rfl 2 rfl ?_
  refine p_sald (pc := 13) 6 lp_6 hP dX3_wrongAt_13 hE (fun x1 hE => ?_)
  obtain ⟨r2, h1, hE⟩ := ob_ hE
  refine a_callV (pc := 14) (As := [.int a1, .int x1]) hX (ct_F_of X.2.1 D (cxA X) x Xp R0 d L Q T (pxf hP) a1 x1 r2 h1) (cw_F_of_X3 hX (Nat.le_of_ble_eq_true rfl) (Nat.le_of_ble_eq_true rfl)) (p_recv 1 lp_1 cl_X1 hP) rfl rfl (Nat.le_of_ble_eq_true rfl) dX3_wrongAt_14 (fun c z => ?_)
  show Wk X c z (RD D (RP D x Xp R0 r2) d L T) 17 [(0, .ref (x + 9)), (1, .int a1), (2, .int a2)] [.ref (x + 1)]
  cases hE
  exact a_aret (pc := 17) (v := .ref (x + 1)) (rt := (.object "SleepWork$Fault")) (Or.inl ⟨_, rfl⟩) (Or.inr ⟨_, rfl⟩) hX hR dX3_wrongAt_17 (by rfl) (fun _ h => h)
theorem ct_R_wrongAt (l : Launch) (D : Dd) (A : Nat → Prop) (x : Nat) (Xp : Jr) (R0 : Heap → Prop) (d : Nat → Prop) (L : Nat × Nat × Nat × Nat) (Q : Ji) (T : Th) (hp : Pf D A x R0 d) (a1 : Int32) (a2 : Int32) (out : Ji) (hE : R_wrongAt T a1 a2 Q = some out) : Ct l yX3_wrongAt (ws_ yX3_wrongAt cX3_wrongAt 3 (some (.object "SleepWork$Fault"))) (rmA 1 24 L T) vwCl arTy D A [.ref (x + 9), .int a1, .int a2] (RD D (RP D x Xp R0 Q) d L T) (RD D (RP D x Xp R0 out) d L T) (some (.ref (x + 1))) (L.1 - tN T) (L.2.1 - tZ T) := by
  refine Ct.ofA (lv := [(0, .ref (x + 9)), (1, .int a1), (2, .int a2)]) (by decide) (Nat.le_of_ble_eq_true rfl) rfl hp.1 hp.2.1 ?_
  intro X hl hX hR hXA _
  exact w_R_wrongAt (Xp := Xp) (hp.px hX hXA) hR a1 a2 Q hE
theorem cw_R_wrongAt_X3 {X : Ctx} {cc : ByteArray} {D : Dd} {d : Nat → Prop} {L : Nat × Nat × Nat × Nat} {mL fr lo : Nat} {T : Th} (hX : Ax X cc RX3 D d L mL fr lo) (h1 : 1 + 1 ≤ fr) (h2 : 8 + (3 + 11) + 24 ≤ lo) : CallW X.2.2.2.1 X.2.2.2.2.1 X.2.2.2.2.2.2.1 RX3 RX3 35 yX3_wrongAt cX3_wrongAt 3 (some (.object "SleepWork$Fault")) (ws_ yX3_wrongAt cX3_wrongAt 3 (some (.object "SleepWork$Fault"))) (rmA 1 24 L T) (L.1 - tN T) (L.2.1 - tZ T) 2 := cwV 2 (cx_w hX.1) (lw_V q682 q684 qs10 q120 q685) rfl rfl rfl (by decide +kernel) (by rw [hX.2.2.2.1, hX.2.2.2.2.1]; exact ⟨h1, h2⟩)
set_option maxHeartbeats 4000000 in
theorem w_R_wrong {X : Ctx} {D : Dd} {x : Nat} {R0 : Heap → Prop} {d : Nat → Prop} {L : Nat × Nat × Nat × Nat} {Xp : Jr} {T : Th} {out : Ji} (hP : Px X cX3_wrong RX3 D x R0 d L 2 2 46) (hR : RtA X (some (.object "SleepWork$Fault")) (RD D (RP D x Xp R0 out) d L T) (some (.ref (x + 1))) D L) (a1 : Int32) (Q : Ji) (hE : R_wrong T a1 Q = some out) (c z : Nat) : Wk X c z (RD D (RP D x Xp R0 Q) d L T) 0 [(0, .ref (x + 9)), (1, .int a1)] [] := by
  have hX := hP.1
  have hC := hX.1
  have hnL := hX.2.2.1
  have hSt : ∀ {Xp : Jr} {Q : Ji}, Stb (RP D x Xp R0 Q) d := hP.st
  have hDy : ∀ {Xp : Jr} {Q : Ji} {T : Th} (H : Heap), RD D (RP D x Xp R0 Q) d L T H → Dy D T H := fun _ h => h.2.1
  unfold R_wrong at hE
  refine k_aload_n (pc := 0) hC dX3_wrong_0 rfl 0 rfl ?_
  refine k_iload_n (pc := 1) hC dX3_wrong_1 rfl 1 rfl ?_
  refine k_aload_n (pc := 2) hC dX3_wrong_2 rfl 0 rfl ?_
  refine gP_X3_31 (pc := 3) hP dX3_wrong_3 ?_
  obtain ⟨r1, h1, hE⟩ := ob_ hE
  refine a_callV (pc := 6) (As := [.int a1, .int (Q 9 3)]) hX (ct_R_wrongAt X.2.1 D (cxA X) x Xp R0 d L Q T (pxf hP) a1 (Q 9 3) r1 h1) (cw_R_wrongAt_X3 hX (Nat.le_of_ble_eq_true rfl) (Nat.le_of_ble_eq_true rfl)) (p_recv 9 lp_9 cl_X3 hP) rfl rfl (Nat.le_of_ble_eq_true rfl) dX3_wrong_6 (fun c z => ?_)
  show Wk X c z (RD D (RP D x Xp R0 r1) d L T) 9 [(0, .ref (x + 9)), (1, .int a1)] [.ref (x + 1)]
  cases hE
  exact a_aret (pc := 9) (v := .ref (x + 1)) (rt := (.object "SleepWork$Fault")) (Or.inl ⟨_, rfl⟩) (Or.inr ⟨_, rfl⟩) hX hR dX3_wrong_9 (by rfl) (fun _ h => h)
theorem ct_R_wrong (l : Launch) (D : Dd) (A : Nat → Prop) (x : Nat) (Xp : Jr) (R0 : Heap → Prop) (d : Nat → Prop) (L : Nat × Nat × Nat × Nat) (Q : Ji) (T : Th) (hp : Pf D A x R0 d) (a1 : Int32) (out : Ji) (hE : R_wrong T a1 Q = some out) : Ct l yX3_wrong (ws_ yX3_wrong cX3_wrong 2 (some (.object "SleepWork$Fault"))) (rmA 2 46 L T) vwCl arTy D A [.ref (x + 9), .int a1] (RD D (RP D x Xp R0 Q) d L T) (RD D (RP D x Xp R0 out) d L T) (some (.ref (x + 1))) (L.1 - tN T) (L.2.1 - tZ T) := by
  refine Ct.ofA (lv := [(0, .ref (x + 9)), (1, .int a1)]) (by decide) (Nat.le_of_ble_eq_true rfl) rfl hp.1 hp.2.1 ?_
  intro X hl hX hR hXA _
  exact w_R_wrong (Xp := Xp) (hp.px hX hXA) hR a1 Q hE
theorem cw_R_wrong_X3 {X : Ctx} {cc : ByteArray} {D : Dd} {d : Nat → Prop} {L : Nat × Nat × Nat × Nat} {mL fr lo : Nat} {T : Th} (hX : Ax X cc RX3 D d L mL fr lo) (h1 : 2 + 1 ≤ fr) (h2 : 8 + (2 + 11) + 46 ≤ lo) : CallW X.2.2.2.1 X.2.2.2.2.1 X.2.2.2.2.2.2.1 RX3 RX3 48 yX3_wrong cX3_wrong 2 (some (.object "SleepWork$Fault")) (ws_ yX3_wrong cX3_wrong 2 (some (.object "SleepWork$Fault"))) (rmA 2 46 L T) (L.1 - tN T) (L.2.1 - tZ T) 1 := cwV 1 (cx_w hX.1) (lw_V q678 q680 qs9 q120 q681) rfl rfl rfl (by decide +kernel) (by rw [hX.2.2.2.1, hX.2.2.2.2.1]; exact ⟨h1, h2⟩)
set_option maxHeartbeats 4000000 in
theorem w_R_tell_B32 {X : Ctx} {D : Dd} {x : Nat} {R0 : Heap → Prop} {d : Nat → Prop} {L : Nat × Nat × Nat × Nat} {Xp : Jr} {T : Th} {out : Ji} (hP : Px X cX3_tell RX3 D x R0 d L 3 0 0) (hR : RtA X none (RD D (RP D x Xp R0 out) d L T) none D L) (a1 : Int32) (a2 : Int32) (Q : Ji) (hE : R_tell_B32 a1 a2 Q = some out) (c z : Nat) : Wk X c z (RD D (RP D x Xp R0 Q) d L T) 32 [(0, .ref (x + 9)), (1, .int a1), (2, .int a2)] [] := by
  have hX := hP.1
  have hC := hX.1
  have hnL := hX.2.2.1
  have hSt : ∀ {Xp : Jr} {Q : Ji}, Stb (RP D x Xp R0 Q) d := hP.st
  have hDy : ∀ {Xp : Jr} {Q : Ji} {T : Th} (H : Heap), RD D (RP D x Xp R0 Q) d L T H → Dy D T H := fun _ h => h.2.1
  unfold R_tell_B32 at hE
  refine k_aload_n (pc := 32) hC dX3_tell_32 rfl 0 rfl ?_
  refine k_iload_n (pc := 33) hC dX3_tell_33 rfl 1 rfl ?_
  refine pP_X3_38 (pc := 34) hP dX3_tell_34 hE (fun Q1 hE => ?_)
  refine k_aload_n (pc := 37) hC dX3_tell_37 rfl 0 rfl ?_
  refine k_iload_n (pc := 38) hC dX3_tell_38 rfl 2 rfl ?_
  refine pP_X3_41 (pc := 39) hP dX3_tell_39 hE (fun Q2 hE => ?_)
  cases hE
  exact a_vret (pc := 42) hX hR dX3_tell_42 (by rfl) (fun _ h => h)
set_option maxHeartbeats 4000000 in
theorem w_R_tell {X : Ctx} {D : Dd} {x : Nat} {R0 : Heap → Prop} {d : Nat → Prop} {L : Nat × Nat × Nat × Nat} {Xp : Jr} {T : Th} {out : Ji} (hP : Px X cX3_tell RX3 D x R0 d L 3 0 0) (hR : RtA X none (RD D (RP D x Xp R0 out) d L T) none D L) (a1 : Int32) (a2 : Int32) (Q : Ji) (hE : R_tell a1 a2 Q = some out) (c z : Nat) : Wk X c z (RD D (RP D x Xp R0 Q) d L T) 0 [(0, .ref (x + 9)), (1, .int a1), (2, .int a2)] [] := by
  have hX := hP.1
  have hC := hX.1
  have hnL := hX.2.2.1
  have hSt : ∀ {Xp : Jr} {Q : Ji}, Stb (RP D x Xp R0 Q) d := hP.st
  have hDy : ∀ {Xp : Jr} {Q : Ji} {T : Th} (H : Heap), RD D (RP D x Xp R0 Q) d L T H → Dy D T H := fun _ h => h.2.1
  unfold R_tell at hE
  refine k_aload_n (pc := 0) hC dX3_tell_0 rfl 0 rfl ?_
  refine gP_X3_38 (pc := 1) hP dX3_tell_1 ?_
  refine k_if_eq (pc := 4) (tgt := 32) hC dX3_tell_4 (by decide) hE (fun hE => ?_) (fun hE => ?_)
  · exact w_R_tell_B32 hP hR  _ _ _ hE _ _
  · refine k_iload_n (pc := 7) hC dX3_tell_7 rfl 2 rfl ?_
    refine k_aload_n (pc := 8) hC dX3_tell_8 rfl 0 rfl ?_
    refine gP_X3_41 (pc := 9) hP dX3_tell_9 ?_
    refine k_icmp_gt (pc := 12) (tgt := 31) hC dX3_tell_12 (by decide) hE (fun hE => ?_) (fun hE => ?_)
    · cases hE
      exact a_vret (pc := 31) hX hR dX3_tell_31 (by rfl) (fun _ h => h)
    · refine k_iload_n (pc := 15) hC dX3_tell_15 rfl 2 rfl ?_
      refine k_aload_n (pc := 16) hC dX3_tell_16 rfl 0 rfl ?_
      refine gP_X3_41 (pc := 17) hP dX3_tell_17 ?_
      refine k_icmp_ne (pc := 20) (tgt := 32) hC dX3_tell_20 (by decide) hE (fun hE => ?_) (fun hE => ?_)
      · refine k_iload_n (pc := 23) hC dX3_tell_23 rfl 1 rfl ?_
        refine k_aload_n (pc := 24) hC dX3_tell_24 rfl 0 rfl ?_
        refine gP_X3_38 (pc := 25) hP dX3_tell_25 ?_
        refine k_icmp_lt (pc := 28) (tgt := 32) hC dX3_tell_28 (by decide) hE (fun hE => ?_) (fun hE => ?_)
        · exact w_R_tell_B32 hP hR  _ _ _ hE _ _
        · cases hE
          exact a_vret (pc := 31) hX hR dX3_tell_31 (by rfl) (fun _ h => h)
      · exact w_R_tell_B32 hP hR  _ _ _ hE _ _
theorem ct_R_tell (l : Launch) (D : Dd) (A : Nat → Prop) (x : Nat) (Xp : Jr) (R0 : Heap → Prop) (d : Nat → Prop) (L : Nat × Nat × Nat × Nat) (Q : Ji) (T : Th) (hp : Pf D A x R0 d) (a1 : Int32) (a2 : Int32) (out : Ji) (hE : R_tell a1 a2 Q = some out) : Ct l yX3_tell (ws_ yX3_tell cX3_tell 3 none) (rmA 0 0 L T) vwCl arTy D A [.ref (x + 9), .int a1, .int a2] (RD D (RP D x Xp R0 Q) d L T) (RD D (RP D x Xp R0 out) d L T) none (L.1 - tN T) (L.2.1 - tZ T) := by
  refine Ct.ofA (lv := [(0, .ref (x + 9)), (1, .int a1), (2, .int a2)]) (by decide) (Nat.le_of_ble_eq_true rfl) rfl hp.1 hp.2.1 ?_
  intro X hl hX hR hXA _
  exact w_R_tell (Xp := Xp) (hp.px hX hXA) hR a1 a2 Q hE
theorem cw_R_tell_X3 {X : Ctx} {cc : ByteArray} {D : Dd} {d : Nat → Prop} {L : Nat × Nat × Nat × Nat} {mL fr lo : Nat} {T : Th} (hX : Ax X cc RX3 D d L mL fr lo) (h1 : 0 + 1 ≤ fr) (h2 : 8 + (3 + 11) + 0 ≤ lo) : CallW X.2.2.2.1 X.2.2.2.2.1 X.2.2.2.2.2.2.1 RX3 RX3 75 yX3_tell cX3_tell 3 none (ws_ yX3_tell cX3_tell 3 none) (rmA 0 0 L T) (L.1 - tN T) (L.2.1 - tZ T) 2 := cwV 2 (cx_w hX.1) (lw_V q911 q913 qs16 q120 q914) rfl rfl rfl (by decide +kernel) (by rw [hX.2.2.2.1, hX.2.2.2.2.1]; exact ⟨h1, h2⟩)
set_option maxHeartbeats 4000000 in
theorem w_R_sort {X : Ctx} {D : Dd} {x : Nat} {R0 : Heap → Prop} {d : Nat → Prop} {L : Nat × Nat × Nat × Nat} {Xp : Jr} {out : (Ji × Jr × Th) ⊕ (Int32 × Ji × Th)} (hP : Px X cX3_sort RX3 D x R0 d L 1 3 67) (hR : RtX X (some .int) D L x (fun r => (RD D (RP D x Xp R0 r.2.1) d L r.2.2)) (fun r => (some (.int r.1))) (fun e => RD D (RP D x e.2.1 R0 e.1) d L e.2.2) out) (Q : Ji) (T : Th) (hE : R_sort Xp Q T = some out) (c z : Nat) : Wk X c z (RD D (RP D x Xp R0 Q) d L T) 0 [(0, .ref (x + 9))] [] := by
  have hX := hP.1
  have hC := hX.1
  have hnL := hX.2.2.1
  have hSt : ∀ {Xp : Jr} {Q : Ji}, Stb (RP D x Xp R0 Q) d := hP.st
  have hDy : ∀ {Xp : Jr} {Q : Ji} {T : Th} (H : Heap), RD D (RP D x Xp R0 Q) d L T H → Dy D T H := fun _ h => h.2.1
  unfold R_sort at hE
  refine k_aload_n (pc := 0) hC dX3_sort_0 rfl 0 rfl ?_
  refine gP_X3_9 (pc := 1) hP dX3_sort_1 ?_
  refine gP_X3_44 (pc := 4) hP dX3_sort_4 ?_
  refine k_aload_n (pc := 7) hC dX3_sort_7 rfl 0 rfl ?_
  refine gP_X3_31 (pc := 8) hP dX3_sort_8 ?_
  refine p_bald (pc := 11) 5 lp_5 hP dX3_sort_11 hE (fun x1 hE => ?_)
  refine k_iconst (pc := 12) (v := 5) hC dX3_sort_12 (by decide) ?_
  refine k_icmp_ne (pc := 13) (tgt := 22) hC dX3_sort_13 (by decide) hE (fun hE => ?_) (fun hE => ?_)
  · refine k_aload_n (pc := 16) hC dX3_sort_16 rfl 0 rfl ?_
    refine k_iconst (pc := 17) (v := 1) hC dX3_sort_17 (by decide) ?_
    obtain ⟨r2, h1, hE⟩ := ob_ hE
    refine a_callV (pc := 18) (As := [.int 1]) hX (ct_R_wrong X.2.1 D (cxA X) x Xp R0 d L Q T (pxf hP) 1 r2 h1) (cw_R_wrong_X3 hX (Nat.le_of_ble_eq_true rfl) (Nat.le_of_ble_eq_true rfl)) (p_recv 9 lp_9 cl_X3 hP) rfl rfl (Nat.le_of_ble_eq_true rfl) dX3_sort_18 (fun c z => ?_)
    show Wk X c z (RD D (RP D x Xp R0 r2) d L T) 21 [(0, .ref (x + 9))] [.ref (x + 1)]
    cases hE
    exact p_athrow (pc := 21) hP hR dX3_sort_21 (fun _ h => h)
  · refine k_aload_n (pc := 22) hC dX3_sort_22 rfl 0 rfl ?_
    refine gP_X3_9 (pc := 23) hP dX3_sort_23 ?_
    refine gP_X3_44 (pc := 26) hP dX3_sort_26 ?_
    refine k_aload_n (pc := 29) hC dX3_sort_29 rfl 0 rfl ?_
    refine gP_X3_31 (pc := 30) hP dX3_sort_30 ?_
    refine p_bald (pc := 33) 5 lp_5 hP dX3_sort_33 hE (fun x3 hE => ?_)
    cases hE
    exact a_iret (pc := 34) hX hR dX3_sort_34 (by rfl) (fun _ h => h)
theorem ct_R_sort (l : Launch) (D : Dd) (A : Nat → Prop) (x : Nat) (Xp : Jr) (R0 : Heap → Prop) (d : Nat → Prop) (L : Nat × Nat × Nat × Nat) (Q : Ji) (T : Th) (hp : Pf D A x R0 d) (out : Int32 × Ji × Th) (hE : R_sort Xp Q T = some (.inr out)) : Ct l yX3_sort (ws_ yX3_sort cX3_sort 1 (some .int)) (rmA 3 67 L T) vwCl arTy D A [.ref (x + 9)] (RD D (RP D x Xp R0 Q) d L T) (RD D (RP D x Xp R0 out.2.1) d L out.2.2) (some (.int out.1)) (L.1 - tN T) (L.2.1 - tZ T) := by
  refine Ct.ofA (lv := [(0, .ref (x + 9))]) (by decide) (Nat.le_of_ble_eq_true rfl) rfl hp.1 hp.2.1 ?_
  intro X hl hX hR hXA _
  exact w_R_sort (Xp := Xp) (out := .inr out) (hp.px hX hXA) hR Q T hE
theorem ctx_R_sort (l : Launch) (D : Dd) (A : Nat → Prop) (x : Nat) (Xp : Jr) (R0 : Heap → Prop) (d : Nat → Prop) (L : Nat × Nat × Nat × Nat) (Q : Ji) (T : Th) (hp : Pf D A x R0 d) (e : Ji × Jr × Th) (hE : R_sort Xp Q T = some (.inl e)) : CtT l yX3_sort (ws_ yX3_sort cX3_sort 1 (some .int)) (rmA 3 67 L T) D A [.ref (x + 9)] (RD D (RP D x Xp R0 Q) d L T) (RD D (RP D x e.2.1 R0 e.1) d L e.2.2) (x + 1) (L.1 - tN T) (L.2.1 - tZ T) := by
  refine CtT.ofA (lv := [(0, .ref (x + 9))]) (by decide) (Nat.le_of_ble_eq_true rfl) rfl hp.1 hp.2.1 ?_
  intro X hl hX hR hXA
  exact w_R_sort (Xp := Xp) (out := .inl e) (hp.px hX hXA) hR Q T hE
theorem cw_R_sort_X3 {X : Ctx} {cc : ByteArray} {D : Dd} {d : Nat → Prop} {L : Nat × Nat × Nat × Nat} {mL fr lo : Nat} {T : Th} (hX : Ax X cc RX3 D d L mL fr lo) (h1 : 3 + 1 ≤ fr) (h2 : 8 + (1 + 11) + 67 ≤ lo) : CallW X.2.2.2.1 X.2.2.2.2.1 X.2.2.2.2.2.2.1 RX3 RX3 65 yX3_sort cX3_sort 1 (some .int) (ws_ yX3_sort cX3_sort 1 (some .int)) (rmA 3 67 L T) (L.1 - tN T) (L.2.1 - tZ T) 0 := cwV 0 (cx_w hX.1) (lw_V q674 q676 qs8 q120 q677) rfl rfl rfl (by decide +kernel) (by rw [hX.2.2.2.1, hX.2.2.2.2.1]; exact ⟨h1, h2⟩)
set_option maxHeartbeats 4000000 in
theorem w_R_pass {X : Ctx} {D : Dd} {x : Nat} {R0 : Heap → Prop} {d : Nat → Prop} {L : Nat × Nat × Nat × Nat} {Xp : Jr} {out : (Ji × Jr × Th) ⊕ (Ji × Th)} (hP : Px X cX3_pass RX3 D x R0 d L 1 3 67) (hR : RtX X none D L x (fun r => (RD D (RP D x Xp R0 r.1) d L r.2)) (fun r => none) (fun e => RD D (RP D x e.2.1 R0 e.1) d L e.2.2) out) (Q : Ji) (T : Th) (hE : R_pass Xp Q T = some out) (c z : Nat) : Wk X c z (RD D (RP D x Xp R0 Q) d L T) 0 [(0, .ref (x + 9))] [] := by
  have hX := hP.1
  have hC := hX.1
  have hnL := hX.2.2.1
  have hSt : ∀ {Xp : Jr} {Q : Ji}, Stb (RP D x Xp R0 Q) d := hP.st
  have hDy : ∀ {Xp : Jr} {Q : Ji} {T : Th} (H : Heap), RD D (RP D x Xp R0 Q) d L T H → Dy D T H := fun _ h => h.2.1
  unfold R_pass at hE
  refine k_aload_n (pc := 0) hC dX3_pass_0 rfl 0 rfl ?_
  refine gP_X3_31 (pc := 1) hP dX3_pass_1 ?_
  refine k_sipush (pc := 4) (v := 400) hC dX3_pass_4 (by decide) ?_
  refine k_icmp_lt (pc := 7) (tgt := 16) hC dX3_pass_7 (by decide) hE (fun hE => ?_) (fun hE => ?_)
  · refine k_aload_n (pc := 16) hC dX3_pass_16 rfl 0 rfl ?_
    refine k_dup (pc := 17) hC dX3_pass_17 rfl ?_
    refine gP_X3_31 (pc := 18) hP dX3_pass_18 ?_
    refine k_iconst (pc := 21) (v := 1) hC dX3_pass_21 (by decide) ?_
    refine k_iadd (pc := 22) hC dX3_pass_22 ?_
    refine pP_X3_31 (pc := 23) hP dX3_pass_23 hE (fun Q1 hE => ?_)
    cases hE
    exact a_vret (pc := 26) hX hR dX3_pass_26 (by rfl) (fun _ h => h)
  · refine k_aload_n (pc := 10) hC dX3_pass_10 rfl 0 rfl ?_
    refine k_iconst (pc := 11) (v := 2) hC dX3_pass_11 (by decide) ?_
    obtain ⟨r2, h1, hE⟩ := ob_ hE
    refine a_callV (pc := 12) (As := [.int 2]) hX (ct_R_wrong X.2.1 D (cxA X) x Xp R0 d L Q T (pxf hP) 2 r2 h1) (cw_R_wrong_X3 hX (Nat.le_of_ble_eq_true rfl) (Nat.le_of_ble_eq_true rfl)) (p_recv 9 lp_9 cl_X3 hP) rfl rfl (Nat.le_of_ble_eq_true rfl) dX3_pass_12 (fun c z => ?_)
    show Wk X c z (RD D (RP D x Xp R0 r2) d L T) 15 [(0, .ref (x + 9))] [.ref (x + 1)]
    cases hE
    exact p_athrow (pc := 15) hP hR dX3_pass_15 (fun _ h => h)
theorem ct_R_pass (l : Launch) (D : Dd) (A : Nat → Prop) (x : Nat) (Xp : Jr) (R0 : Heap → Prop) (d : Nat → Prop) (L : Nat × Nat × Nat × Nat) (Q : Ji) (T : Th) (hp : Pf D A x R0 d) (out : Ji × Th) (hE : R_pass Xp Q T = some (.inr out)) : Ct l yX3_pass (ws_ yX3_pass cX3_pass 1 none) (rmA 3 67 L T) vwCl arTy D A [.ref (x + 9)] (RD D (RP D x Xp R0 Q) d L T) (RD D (RP D x Xp R0 out.1) d L out.2) none (L.1 - tN T) (L.2.1 - tZ T) := by
  refine Ct.ofA (lv := [(0, .ref (x + 9))]) (by decide) (Nat.le_of_ble_eq_true rfl) rfl hp.1 hp.2.1 ?_
  intro X hl hX hR hXA _
  exact w_R_pass (Xp := Xp) (out := .inr out) (hp.px hX hXA) hR Q T hE
theorem ctx_R_pass (l : Launch) (D : Dd) (A : Nat → Prop) (x : Nat) (Xp : Jr) (R0 : Heap → Prop) (d : Nat → Prop) (L : Nat × Nat × Nat × Nat) (Q : Ji) (T : Th) (hp : Pf D A x R0 d) (e : Ji × Jr × Th) (hE : R_pass Xp Q T = some (.inl e)) : CtT l yX3_pass (ws_ yX3_pass cX3_pass 1 none) (rmA 3 67 L T) D A [.ref (x + 9)] (RD D (RP D x Xp R0 Q) d L T) (RD D (RP D x e.2.1 R0 e.1) d L e.2.2) (x + 1) (L.1 - tN T) (L.2.1 - tZ T) := by
  refine CtT.ofA (lv := [(0, .ref (x + 9))]) (by decide) (Nat.le_of_ble_eq_true rfl) rfl hp.1 hp.2.1 ?_
  intro X hl hX hR hXA
  exact w_R_pass (Xp := Xp) (out := .inl e) (hp.px hX hXA) hR Q T hE
theorem cw_R_pass_X3 {X : Ctx} {cc : ByteArray} {D : Dd} {d : Nat → Prop} {L : Nat × Nat × Nat × Nat} {mL fr lo : Nat} {T : Th} (hX : Ax X cc RX3 D d L mL fr lo) (h1 : 3 + 1 ≤ fr) (h2 : 8 + (1 + 11) + 67 ≤ lo) : CallW X.2.2.2.1 X.2.2.2.2.1 X.2.2.2.2.2.2.1 RX3 RX3 59 yX3_pass cX3_pass 1 none (ws_ yX3_pass cX3_pass 1 none) (rmA 3 67 L T) (L.1 - tN T) (L.2.1 - tZ T) 0 := cwV 0 (cx_w hX.1) (lw_V q702 q704 qs13 q120 q705) rfl rfl rfl (by decide +kernel) (by rw [hX.2.2.2.1, hX.2.2.2.2.1]; exact ⟨h1, h2⟩)
set_option maxHeartbeats 4000000 in
theorem w_R_begins {X : Ctx} {D : Dd} {x : Nat} {R0 : Heap → Prop} {d : Nat → Prop} {L : Nat × Nat × Nat × Nat} {Xp : Jr} {out : (Ji × Jr × Th) ⊕ (Ji × Th)} (hP : Px X cX3_begins RX3 D x R0 d L 3 4 87) (hR : RtX X none D L x (fun r => (RD D (RP D x Xp R0 r.1) d L r.2)) (fun r => none) (fun e => RD D (RP D x e.2.1 R0 e.1) d L e.2.2) out) (a1 : Int32) (a2 : Int32) (Q : Ji) (T : Th) (hE : R_begins Xp a1 a2 Q T = some out) (c z : Nat) : Wk X c z (RD D (RP D x Xp R0 Q) d L T) 0 [(0, .ref (x + 9)), (1, .int a1), (2, .int a2)] [] := by
  have hX := hP.1
  have hC := hX.1
  have hnL := hX.2.2.1
  have hSt : ∀ {Xp : Jr} {Q : Ji}, Stb (RP D x Xp R0 Q) d := hP.st
  have hDy : ∀ {Xp : Jr} {Q : Ji} {T : Th} (H : Heap), RD D (RP D x Xp R0 Q) d L T H → Dy D T H := fun _ h => h.2.1
  unfold R_begins at hE
  refine k_iload_n (pc := 0) hC dX3_begins_0 rfl 1 rfl ?_
  refine k_iload_n (pc := 1) hC dX3_begins_1 rfl 2 rfl ?_
  refine k_icmp_ne (pc := 2) (tgt := 11) hC dX3_begins_2 (by decide) hE (fun hE => ?_) (fun hE => ?_)
  · refine k_aload_n (pc := 5) hC dX3_begins_5 rfl 0 rfl ?_
    refine k_iconst (pc := 6) (v := 2) hC dX3_begins_6 (by decide) ?_
    obtain ⟨r1, h1, hE⟩ := ob_ hE
    refine a_callV (pc := 7) (As := [.int 2]) hX (ct_R_wrong X.2.1 D (cxA X) x Xp R0 d L Q T (pxf hP) 2 r1 h1) (cw_R_wrong_X3 hX (Nat.le_of_ble_eq_true rfl) (Nat.le_of_ble_eq_true rfl)) (p_recv 9 lp_9 cl_X3 hP) rfl rfl (Nat.le_of_ble_eq_true rfl) dX3_begins_7 (fun c z => ?_)
    show Wk X c z (RD D (RP D x Xp R0 r1) d L T) 10 [(0, .ref (x + 9)), (1, .int a1), (2, .int a2)] [.ref (x + 1)]
    cases hE
    exact p_athrow (pc := 10) hP hR dX3_begins_10 (fun _ h => h)
  · refine k_aload_n (pc := 11) hC dX3_begins_11 rfl 0 rfl ?_
    rcases xb_of hE with ⟨e, h1, rfl⟩ | ⟨r2, h1, hE⟩
    · exact p_callVT (pc := 12) (As := []) hP hR (ctx_R_pass X.2.1 D (cxA X) x Xp R0 d L Q T (pxf hP)  e h1) (fun H h => p_fault hC.K h) (p_tt hX) (cw_R_pass_X3 hX (Nat.le_of_ble_eq_true rfl) (Nat.le_of_ble_eq_true rfl)) (p_recv 9 lp_9 cl_X3 hP) rfl rfl (Nat.le_of_ble_eq_true rfl) dX3_begins_12
    refine a_callV (pc := 12) (As := []) hX (ct_R_pass X.2.1 D (cxA X) x Xp R0 d L Q T (pxf hP)  r2 h1) (cw_R_pass_X3 hX (Nat.le_of_ble_eq_true rfl) (Nat.le_of_ble_eq_true rfl)) (p_recv 9 lp_9 cl_X3 hP) rfl rfl (Nat.le_of_ble_eq_true rfl) dX3_begins_12 (fun c z => ?_)
    show Wk X c z (RD D (RP D x Xp R0 r2.1) d L r2.2) 15 [(0, .ref (x + 9)), (1, .int a1), (2, .int a2)] []
    cases hE
    exact a_vret (pc := 15) hX hR dX3_begins_15 (by rfl) (fun _ h => h)
theorem ct_R_begins (l : Launch) (D : Dd) (A : Nat → Prop) (x : Nat) (Xp : Jr) (R0 : Heap → Prop) (d : Nat → Prop) (L : Nat × Nat × Nat × Nat) (Q : Ji) (T : Th) (hp : Pf D A x R0 d) (a1 : Int32) (a2 : Int32) (out : Ji × Th) (hE : R_begins Xp a1 a2 Q T = some (.inr out)) : Ct l yX3_begins (ws_ yX3_begins cX3_begins 3 none) (rmA 4 87 L T) vwCl arTy D A [.ref (x + 9), .int a1, .int a2] (RD D (RP D x Xp R0 Q) d L T) (RD D (RP D x Xp R0 out.1) d L out.2) none (L.1 - tN T) (L.2.1 - tZ T) := by
  refine Ct.ofA (lv := [(0, .ref (x + 9)), (1, .int a1), (2, .int a2)]) (by decide) (Nat.le_of_ble_eq_true rfl) rfl hp.1 hp.2.1 ?_
  intro X hl hX hR hXA _
  exact w_R_begins (Xp := Xp) (out := .inr out) (hp.px hX hXA) hR a1 a2 Q T hE
theorem ctx_R_begins (l : Launch) (D : Dd) (A : Nat → Prop) (x : Nat) (Xp : Jr) (R0 : Heap → Prop) (d : Nat → Prop) (L : Nat × Nat × Nat × Nat) (Q : Ji) (T : Th) (hp : Pf D A x R0 d) (a1 : Int32) (a2 : Int32) (e : Ji × Jr × Th) (hE : R_begins Xp a1 a2 Q T = some (.inl e)) : CtT l yX3_begins (ws_ yX3_begins cX3_begins 3 none) (rmA 4 87 L T) D A [.ref (x + 9), .int a1, .int a2] (RD D (RP D x Xp R0 Q) d L T) (RD D (RP D x e.2.1 R0 e.1) d L e.2.2) (x + 1) (L.1 - tN T) (L.2.1 - tZ T) := by
  refine CtT.ofA (lv := [(0, .ref (x + 9)), (1, .int a1), (2, .int a2)]) (by decide) (Nat.le_of_ble_eq_true rfl) rfl hp.1 hp.2.1 ?_
  intro X hl hX hR hXA
  exact w_R_begins (Xp := Xp) (out := .inl e) (hp.px hX hXA) hR a1 a2 Q T hE
theorem cw_R_begins_X3 {X : Ctx} {cc : ByteArray} {D : Dd} {d : Nat → Prop} {L : Nat × Nat × Nat × Nat} {mL fr lo : Nat} {T : Th} (hX : Ax X cc RX3 D d L mL fr lo) (h1 : 4 + 1 ≤ fr) (h2 : 8 + (3 + 11) + 87 ≤ lo) : CallW X.2.2.2.1 X.2.2.2.2.1 X.2.2.2.2.2.2.1 RX3 RX3 118 yX3_begins cX3_begins 3 none (ws_ yX3_begins cX3_begins 3 none) (rmA 4 87 L T) (L.1 - tN T) (L.2.1 - tZ T) 2 := cwV 2 (cx_w hX.1) (lw_V q698 q700 qs12 q120 q701) rfl rfl rfl (by decide +kernel) (by rw [hX.2.2.2.1, hX.2.2.2.2.1]; exact ⟨h1, h2⟩)
set_option maxHeartbeats 4000000 in
theorem w_R_take {X : Ctx} {D : Dd} {x : Nat} {R0 : Heap → Prop} {d : Nat → Prop} {L : Nat × Nat × Nat × Nat} {Xp : Jr} {out : (Ji × Jr × Th) ⊕ (Int32 × Ji × Th)} (hP : Px X cX3_take RX3 D x R0 d L 2 4 87) (hR : RtX X (some .int) D L x (fun r => (RD D (RP D x Xp R0 r.2.1) d L r.2.2)) (fun r => (some (.int r.1))) (fun e => RD D (RP D x e.2.1 R0 e.1) d L e.2.2) out) (a1 : Int32) (Q : Ji) (T : Th) (hE : R_take Xp a1 Q T = some out) (c z : Nat) : Wk X c z (RD D (RP D x Xp R0 Q) d L T) 0 [(0, .ref (x + 9)), (1, .int a1)] [] := by
  have hX := hP.1
  have hC := hX.1
  have hnL := hX.2.2.1
  have hSt : ∀ {Xp : Jr} {Q : Ji}, Stb (RP D x Xp R0 Q) d := hP.st
  have hDy : ∀ {Xp : Jr} {Q : Ji} {T : Th} (H : Heap), RD D (RP D x Xp R0 Q) d L T H → Dy D T H := fun _ h => h.2.1
  unfold R_take at hE
  refine k_aload_n (pc := 0) hC dX3_take_0 rfl 0 rfl ?_
  rcases xb_of hE with ⟨e, h1, rfl⟩ | ⟨r1, h1, hE⟩
  · exact p_callVT (pc := 1) (As := []) hP hR (ctx_R_sort X.2.1 D (cxA X) x Xp R0 d L Q T (pxf hP)  e h1) (fun H h => p_fault hC.K h) (p_tt hX) (cw_R_sort_X3 hX (Nat.le_of_ble_eq_true rfl) (Nat.le_of_ble_eq_true rfl)) (p_recv 9 lp_9 cl_X3 hP) rfl rfl (Nat.le_of_ble_eq_true rfl) dX3_take_1
  refine a_callV (pc := 1) (As := []) hX (ct_R_sort X.2.1 D (cxA X) x Xp R0 d L Q T (pxf hP)  r1 h1) (cw_R_sort_X3 hX (Nat.le_of_ble_eq_true rfl) (Nat.le_of_ble_eq_true rfl)) (p_recv 9 lp_9 cl_X3 hP) rfl rfl (Nat.le_of_ble_eq_true rfl) dX3_take_1 (fun c z => ?_)
  show Wk X c z (RD D (RP D x Xp R0 r1.2.1) d L r1.2.2) 4 [(0, .ref (x + 9)), (1, .int a1)] [.int r1.1]
  refine k_iload_n (pc := 4) hC dX3_take_4 rfl 1 rfl ?_
  refine k_icmp_eq (pc := 5) (tgt := 14) hC dX3_take_5 (by decide) hE (fun hE => ?_) (fun hE => ?_)
  · refine k_aload_n (pc := 14) hC dX3_take_14 rfl 0 rfl ?_
    rcases xb_of hE with ⟨e, h1, rfl⟩ | ⟨r2, h1, hE⟩
    · exact p_callVT (pc := 15) (As := []) hP hR (ctx_R_pass X.2.1 D (cxA X) x Xp R0 d L r1.2.1 r1.2.2 (pxf hP)  e h1) (fun H h => p_fault hC.K h) (p_tt hX) (cw_R_pass_X3 hX (Nat.le_of_ble_eq_true rfl) (Nat.le_of_ble_eq_true rfl)) (p_recv 9 lp_9 cl_X3 hP) rfl rfl (Nat.le_of_ble_eq_true rfl) dX3_take_15
    refine a_callV (pc := 15) (As := []) hX (ct_R_pass X.2.1 D (cxA X) x Xp R0 d L r1.2.1 r1.2.2 (pxf hP)  r2 h1) (cw_R_pass_X3 hX (Nat.le_of_ble_eq_true rfl) (Nat.le_of_ble_eq_true rfl)) (p_recv 9 lp_9 cl_X3 hP) rfl rfl (Nat.le_of_ble_eq_true rfl) dX3_take_15 (fun c z => ?_)
    show Wk X c z (RD D (RP D x Xp R0 r2.1) d L r2.2) 18 [(0, .ref (x + 9)), (1, .int a1)] []
    refine k_aload_n (pc := 18) hC dX3_take_18 rfl 0 rfl ?_
    refine gP_X3_31 (pc := 19) hP dX3_take_19 ?_
    refine k_iconst (pc := 22) (v := 1) hC dX3_take_22 (by decide) ?_
    refine k_isub (pc := 23) hC dX3_take_23 ?_
    cases hE
    exact a_iret (pc := 24) hX hR dX3_take_24 (by rfl) (fun _ h => h)
  · refine k_aload_n (pc := 8) hC dX3_take_8 rfl 0 rfl ?_
    refine k_iconst (pc := 9) (v := 1) hC dX3_take_9 (by decide) ?_
    obtain ⟨r3, h1, hE⟩ := ob_ hE
    refine a_callV (pc := 10) (As := [.int 1]) hX (ct_R_wrong X.2.1 D (cxA X) x Xp R0 d L r1.2.1 r1.2.2 (pxf hP) 1 r3 h1) (cw_R_wrong_X3 hX (Nat.le_of_ble_eq_true rfl) (Nat.le_of_ble_eq_true rfl)) (p_recv 9 lp_9 cl_X3 hP) rfl rfl (Nat.le_of_ble_eq_true rfl) dX3_take_10 (fun c z => ?_)
    show Wk X c z (RD D (RP D x Xp R0 r3) d L r1.2.2) 13 [(0, .ref (x + 9)), (1, .int a1)] [.ref (x + 1)]
    cases hE
    exact p_athrow (pc := 13) hP hR dX3_take_13 (fun _ h => h)
theorem ct_R_take (l : Launch) (D : Dd) (A : Nat → Prop) (x : Nat) (Xp : Jr) (R0 : Heap → Prop) (d : Nat → Prop) (L : Nat × Nat × Nat × Nat) (Q : Ji) (T : Th) (hp : Pf D A x R0 d) (a1 : Int32) (out : Int32 × Ji × Th) (hE : R_take Xp a1 Q T = some (.inr out)) : Ct l yX3_take (ws_ yX3_take cX3_take 2 (some .int)) (rmA 4 87 L T) vwCl arTy D A [.ref (x + 9), .int a1] (RD D (RP D x Xp R0 Q) d L T) (RD D (RP D x Xp R0 out.2.1) d L out.2.2) (some (.int out.1)) (L.1 - tN T) (L.2.1 - tZ T) := by
  refine Ct.ofA (lv := [(0, .ref (x + 9)), (1, .int a1)]) (by decide) (Nat.le_of_ble_eq_true rfl) rfl hp.1 hp.2.1 ?_
  intro X hl hX hR hXA _
  exact w_R_take (Xp := Xp) (out := .inr out) (hp.px hX hXA) hR a1 Q T hE
theorem ctx_R_take (l : Launch) (D : Dd) (A : Nat → Prop) (x : Nat) (Xp : Jr) (R0 : Heap → Prop) (d : Nat → Prop) (L : Nat × Nat × Nat × Nat) (Q : Ji) (T : Th) (hp : Pf D A x R0 d) (a1 : Int32) (e : Ji × Jr × Th) (hE : R_take Xp a1 Q T = some (.inl e)) : CtT l yX3_take (ws_ yX3_take cX3_take 2 (some .int)) (rmA 4 87 L T) D A [.ref (x + 9), .int a1] (RD D (RP D x Xp R0 Q) d L T) (RD D (RP D x e.2.1 R0 e.1) d L e.2.2) (x + 1) (L.1 - tN T) (L.2.1 - tZ T) := by
  refine CtT.ofA (lv := [(0, .ref (x + 9)), (1, .int a1)]) (by decide) (Nat.le_of_ble_eq_true rfl) rfl hp.1 hp.2.1 ?_
  intro X hl hX hR hXA
  exact w_R_take (Xp := Xp) (out := .inl e) (hp.px hX hXA) hR a1 Q T hE
theorem cw_R_take_X3 {X : Ctx} {cc : ByteArray} {D : Dd} {d : Nat → Prop} {L : Nat × Nat × Nat × Nat} {mL fr lo : Nat} {T : Th} (hX : Ax X cc RX3 D d L mL fr lo) (h1 : 4 + 1 ≤ fr) (h2 : 8 + (2 + 11) + 87 ≤ lo) : CallW X.2.2.2.1 X.2.2.2.2.1 X.2.2.2.2.2.2.1 RX3 RX3 68 yX3_take cX3_take 2 (some .int) (ws_ yX3_take cX3_take 2 (some .int)) (rmA 4 87 L T) (L.1 - tN T) (L.2.1 - tZ T) 1 := cwV 1 (cx_w hX.1) (lw_V q712 q714 qs15 q120 q715) rfl rfl rfl (by decide +kernel) (by rw [hX.2.2.2.1, hX.2.2.2.2.1]; exact ⟨h1, h2⟩)
set_option maxHeartbeats 4000000 in
theorem w_R_name_B32 {X : Ctx} {D : Dd} {x : Nat} {R0 : Heap → Prop} {d : Nat → Prop} {L : Nat × Nat × Nat × Nat} {Xp : Jr} {out : (Ji × Jr × Th) ⊕ (Option Nat × Ji × Th)} (hP : Px X cX3_name RX3 D x R0 d L 3 8 179) (hR : RtX X (some (.object "java/lang/String")) D L x (fun r => (RD D (RP D x Xp R0 r.2.1) d L r.2.2)) (fun r => (some (va_rf r.1))) (fun e => RD D (RP D x e.2.1 R0 e.1) d L e.2.2) out) (F : Nat) (a2 : Nat) (Q : Ji) (T : Th) (hE : R_name_B32 F Xp a2 Q T = some out) (c z : Nat) : Wk X c z (RD D (RP D x Xp R0 Q) d L T) 32 [(2, .ref a2)] [] := by
  have hX := hP.1
  have hC := hX.1
  have hnL := hX.2.2.1
  have hSt : ∀ {Xp : Jr} {Q : Ji}, Stb (RP D x Xp R0 Q) d := hP.st
  have hDy : ∀ {Xp : Jr} {Q : Ji} {T : Th} (H : Heap), RD D (RP D x Xp R0 Q) d L T H → Dy D T H := fun _ h => h.2.1
  unfold R_name_B32 at hE
  refine k_aload_n (pc := 32) hC dX3_name_32 rfl 0 rfl ?_
  cases hE
  exact a_aret (pc := 33) (v := va_rf _) (rt := (.object "java/lang/String")) (by first | exact Or.inl ⟨_, rfl⟩ | exact Or.inr ⟨_, rfl⟩) (va_rfv _) hX hR dX3_name_33 (by rfl) (fun _ h => h)
set_option maxHeartbeats 4000000 in
theorem w_R_name {X : Ctx} {D : Dd} {x : Nat} {R0 : Heap → Prop} {d : Nat → Prop} {L : Nat × Nat × Nat × Nat} {Xp : Jr} {out : (Ji × Jr × Th) ⊕ (Option Nat × Ji × Th)} (hP : Px X cX3_name RX3 D x R0 d L 3 8 179) (hR : RtX X (some (.object "java/lang/String")) D L x (fun r => (RD D (RP D x Xp R0 r.2.1) d L r.2.2)) (fun r => (some (va_rf r.1))) (fun e => RD D (RP D x e.2.1 R0 e.1) d L e.2.2) out) (F : Nat) (Q : Ji) (T : Th) (hE : R_name F Xp Q T = some out) (c z : Nat) : Wk X c z (RD D (RP D x Xp R0 Q) d L T) 0 [(0, .ref (x + 9))] [] := by
  have hX := hP.1
  have hC := hX.1
  have hnL := hX.2.2.1
  have hSt : ∀ {Xp : Jr} {Q : Ji}, Stb (RP D x Xp R0 Q) d := hP.st
  have hDy : ∀ {Xp : Jr} {Q : Ji} {T : Th} (H : Heap), RD D (RP D x Xp R0 Q) d L T H → Dy D T H := fun _ h => h.2.1
  unfold R_name at hE
  refine k_aload_n (pc := 0) hC dX3_name_0 rfl 0 rfl ?_
  refine k_iconst (pc := 1) (v := 0) hC dX3_name_1 (by decide) ?_
  rcases xb_of hE with ⟨e, h1, rfl⟩ | ⟨r1, h1, hE⟩
  · exact p_callVT (pc := 2) (As := [.int 0]) hP hR (ctx_R_take X.2.1 D (cxA X) x Xp R0 d L Q T (pxf hP) 0 e h1) (fun H h => p_fault hC.K h) (p_tt hX) (cw_R_take_X3 hX (Nat.le_of_ble_eq_true rfl) (Nat.le_of_ble_eq_true rfl)) (p_recv 9 lp_9 cl_X3 hP) rfl rfl (Nat.le_of_ble_eq_true rfl) dX3_name_2
  refine a_callV (pc := 2) (As := [.int 0]) hX (ct_R_take X.2.1 D (cxA X) x Xp R0 d L Q T (pxf hP) 0 r1 h1) (cw_R_take_X3 hX (Nat.le_of_ble_eq_true rfl) (Nat.le_of_ble_eq_true rfl)) (p_recv 9 lp_9 cl_X3 hP) rfl rfl (Nat.le_of_ble_eq_true rfl) dX3_name_2 (fun c z => ?_)
  show Wk X c z (RD D (RP D x Xp R0 r1.2.1) d L r1.2.2) 5 [(0, .ref (x + 9))] [.int r1.1]
  refine k_istore_n (pc := 5) (lv' := [(1, .int r1.1), (0, .ref (x + 9))]) hC dX3_name_5 rfl (by rw [hnL]; decide) rfl ?_
  refine k_aload_n (pc := 6) hC dX3_name_6 rfl 1 rfl ?_
  refine gP_X3_9 (pc := 7) hP dX3_name_7 ?_
  refine k_iload_n (pc := 10) hC dX3_name_10 rfl 0 rfl ?_
  obtain ⟨r2, h1, hE⟩ := ob_ hE
  refine a_callV (pc := 11) (As := [.int r1.1]) hX (ct_T_text X.2.1 D (cxA X) x Xp R0 d L r1.2.1 r1.2.2 (pxf hP) F r1.1 r2 h1) (cw_T_text_X3 hX (Nat.le_of_ble_eq_true rfl) (Nat.le_of_ble_eq_true rfl)) (p_recv 2 lp_2 cl_X2 hP) rfl rfl (Nat.le_of_ble_eq_true rfl) dX3_name_11 (fun c z => ?_)
  show Wk X c z (RD D (RP D x Xp R0 r1.2.1) d L r2.2) 14 [(1, .int r1.1), (0, .ref (x + 9))] [va_rf r2.1]
  refine k_astoreR_n (pc := 14) (lv' := [(2, va_rf r2.1), (1, .int r1.1), (0, .ref (x + 9))]) hC dX3_name_14 rfl (by rw [hnL]; decide) rfl ?_
  refine k_aload_n (pc := 15) hC dX3_name_15 rfl 2 rfl ?_
  refine gP_X3_83 (pc := 16) hP dX3_name_16 ?_
  refine k_aloadR_n (pc := 19) hC dX3_name_19 rfl 0 rfl ?_
  refine k_nn (G := fun z => Wk X _ _ (RD D (RP D x Xp R0 r1.2.1) d L r2.2) 20 [(2, va_rf r2.1), (1, .int r1.1), (0, .ref (x + 9))] [va_rf r2.1, z]) hE (fun b3 hE => ?_)
  refine k_nn (G := fun z => Wk X _ _ (RD D (RP D x Xp R0 r1.2.1) d L r2.2) 20 [(2, z), (1, .int r1.1), (0, .ref (x + 9))] [z, .ref b3]) hE (fun b4 hE => ?_)
  obtain ⟨hrv, hE⟩ := dC_of hE
  obtain ⟨r5, h1, hE⟩ := ob_ hE
  refine a_callV (pc := 20) (As := [.ref b4]) hX (ct_A_Text_has X.2.1 D (cxA X) (RP D x Xp R0 r1.2.1) d L r2.2 hSt hX.2.1 hX.2.2.2.2.2.2.2.2.2 F b3 b4 r5 h1) (cw_A_Text_has_X3 hX (Nat.le_of_ble_eq_true rfl) (Nat.le_of_ble_eq_true rfl)) (a_recv hC cl_X4 hrv) rfl rfl (Nat.le_of_ble_eq_true rfl) dX3_name_20 (fun c z => ?_)
  show Wk X c z (RD D (RP D x Xp R0 r1.2.1) d L r2.2) 23 [(2, .ref b4), (1, .int r1.1), (0, .ref (x + 9))] [.int r5]
  refine k_if_eq (pc := 23) (tgt := 32) hC dX3_name_23 (by decide) hE (fun hE => ?_) (fun hE => ?_)
  · refine k_sub [0] rfl ?_
    exact w_R_name_B32 hP hR F _ _ _ hE _ _
  · refine k_aload_n (pc := 26) hC dX3_name_26 rfl 2 rfl ?_
    refine k_iconst (pc := 27) (v := 3) hC dX3_name_27 (by decide) ?_
    refine k_iload_n (pc := 28) hC dX3_name_28 rfl 1 rfl ?_
    obtain ⟨r6, h1, hE⟩ := ob_ hE
    refine a_callV (pc := 29) (As := [.int 3, .int r1.1]) hX (ct_R_tell X.2.1 D (cxA X) x Xp R0 d L r1.2.1 r2.2 (pxf hP) 3 r1.1 r6 h1) (cw_R_tell_X3 hX (Nat.le_of_ble_eq_true rfl) (Nat.le_of_ble_eq_true rfl)) (p_recv 9 lp_9 cl_X3 hP) rfl rfl (Nat.le_of_ble_eq_true rfl) dX3_name_29 (fun c z => ?_)
    show Wk X c z (RD D (RP D x Xp R0 r6) d L r2.2) 32 [(2, .ref b4), (1, .int r1.1), (0, .ref (x + 9))] []
    refine k_sub [0] rfl ?_
    exact w_R_name_B32 hP hR F _ _ _ hE _ _
theorem ct_R_name (l : Launch) (D : Dd) (A : Nat → Prop) (x : Nat) (Xp : Jr) (R0 : Heap → Prop) (d : Nat → Prop) (L : Nat × Nat × Nat × Nat) (Q : Ji) (T : Th) (hp : Pf D A x R0 d) (F : Nat) (out : Option Nat × Ji × Th) (hE : R_name F Xp Q T = some (.inr out)) : Ct l yX3_name (ws_ yX3_name cX3_name 3 (some (.object "java/lang/String"))) (rmA 8 179 L T) vwCl arTy D A [.ref (x + 9)] (RD D (RP D x Xp R0 Q) d L T) (RD D (RP D x Xp R0 out.2.1) d L out.2.2) (some (va_rf out.1)) (L.1 - tN T) (L.2.1 - tZ T) := by
  refine Ct.ofA (lv := [(0, .ref (x + 9))]) (by decide) (Nat.le_of_ble_eq_true rfl) rfl hp.1 hp.2.1 ?_
  intro X hl hX hR hXA _
  exact w_R_name (Xp := Xp) (out := .inr out) (hp.px hX hXA) hR F Q T hE
theorem ctx_R_name (l : Launch) (D : Dd) (A : Nat → Prop) (x : Nat) (Xp : Jr) (R0 : Heap → Prop) (d : Nat → Prop) (L : Nat × Nat × Nat × Nat) (Q : Ji) (T : Th) (hp : Pf D A x R0 d) (F : Nat) (e : Ji × Jr × Th) (hE : R_name F Xp Q T = some (.inl e)) : CtT l yX3_name (ws_ yX3_name cX3_name 3 (some (.object "java/lang/String"))) (rmA 8 179 L T) D A [.ref (x + 9)] (RD D (RP D x Xp R0 Q) d L T) (RD D (RP D x e.2.1 R0 e.1) d L e.2.2) (x + 1) (L.1 - tN T) (L.2.1 - tZ T) := by
  refine CtT.ofA (lv := [(0, .ref (x + 9))]) (by decide) (Nat.le_of_ble_eq_true rfl) rfl hp.1 hp.2.1 ?_
  intro X hl hX hR hXA
  exact w_R_name (Xp := Xp) (out := .inl e) (hp.px hX hXA) hR F Q T hE
theorem cw_R_name_X3 {X : Ctx} {cc : ByteArray} {D : Dd} {d : Nat → Prop} {L : Nat × Nat × Nat × Nat} {mL fr lo : Nat} {T : Th} (hX : Ax X cc RX3 D d L mL fr lo) (h1 : 8 + 1 ≤ fr) (h2 : 8 + (3 + 11) + 179 ≤ lo) : CallW X.2.2.2.1 X.2.2.2.2.1 X.2.2.2.2.2.2.1 RX3 RX3 123 yX3_name cX3_name 3 (some (.object "java/lang/String")) (ws_ yX3_name cX3_name 3 (some (.object "java/lang/String"))) (rmA 8 179 L T) (L.1 - tN T) (L.2.1 - tZ T) 0 := cwV 0 (cx_w hX.1) (lw_V q708 q710 qs14 q120 q711) rfl rfl rfl (by decide +kernel) (by rw [hX.2.2.2.1, hX.2.2.2.2.1]; exact ⟨h1, h2⟩)
set_option maxHeartbeats 4000000 in
theorem w_R_known {X : Ctx} {D : Dd} {x : Nat} {R0 : Heap → Prop} {d : Nat → Prop} {L : Nat × Nat × Nat × Nat} {Xp : Jr} {out : (Ji × Jr × Th) ⊕ (Int32 × Ji × Th)} (hP : Px X cX3_known RX3 D x R0 d L 4 8 179) (hR : RtX X (some .int) D L x (fun r => (RD D (RP D x Xp R0 r.2.1) d L r.2.2)) (fun r => (some (.int r.1))) (fun e => RD D (RP D x e.2.1 R0 e.1) d L e.2.2) out) (F : Nat) (a1 : Nat) (Q : Ji) (T : Th) (hE : R_known F Xp a1 Q T = some out) (c z : Nat) : Wk X c z (RD D (RP D x Xp R0 Q) d L T) 0 [(0, .ref (x + 9)), (1, .ref a1)] [] := by
  have hX := hP.1
  have hC := hX.1
  have hnL := hX.2.2.1
  have hSt : ∀ {Xp : Jr} {Q : Ji}, Stb (RP D x Xp R0 Q) d := hP.st
  have hDy : ∀ {Xp : Jr} {Q : Ji} {T : Th} (H : Heap), RD D (RP D x Xp R0 Q) d L T H → Dy D T H := fun _ h => h.2.1
  unfold R_known at hE
  refine k_aload_n (pc := 0) hC dX3_known_0 rfl 0 rfl ?_
  refine k_iconst (pc := 1) (v := 0) hC dX3_known_1 (by decide) ?_
  rcases xb_of hE with ⟨e, h1, rfl⟩ | ⟨r1, h1, hE⟩
  · exact p_callVT (pc := 2) (As := [.int 0]) hP hR (ctx_R_take X.2.1 D (cxA X) x Xp R0 d L Q T (pxf hP) 0 e h1) (fun H h => p_fault hC.K h) (p_tt hX) (cw_R_take_X3 hX (Nat.le_of_ble_eq_true rfl) (Nat.le_of_ble_eq_true rfl)) (p_recv 9 lp_9 cl_X3 hP) rfl rfl (Nat.le_of_ble_eq_true rfl) dX3_known_2
  refine a_callV (pc := 2) (As := [.int 0]) hX (ct_R_take X.2.1 D (cxA X) x Xp R0 d L Q T (pxf hP) 0 r1 h1) (cw_R_take_X3 hX (Nat.le_of_ble_eq_true rfl) (Nat.le_of_ble_eq_true rfl)) (p_recv 9 lp_9 cl_X3 hP) rfl rfl (Nat.le_of_ble_eq_true rfl) dX3_known_2 (fun c z => ?_)
  show Wk X c z (RD D (RP D x Xp R0 r1.2.1) d L r1.2.2) 5 [(0, .ref (x + 9)), (1, .ref a1)] [.int r1.1]
  refine k_istore_n (pc := 5) (lv' := [(2, .int r1.1), (0, .ref (x + 9)), (1, .ref a1)]) hC dX3_known_5 rfl (by rw [hnL]; decide) rfl ?_
  refine k_aload_n (pc := 6) hC dX3_known_6 rfl 2 rfl ?_
  refine k_aload_n (pc := 7) hC dX3_known_7 rfl 1 rfl ?_
  refine gP_X3_9 (pc := 8) hP dX3_known_8 ?_
  refine k_iload_n (pc := 11) hC dX3_known_11 rfl 0 rfl ?_
  obtain ⟨r2, h1, hE⟩ := ob_ hE
  refine a_callV (pc := 12) (As := [.int r1.1]) hX (ct_T_text X.2.1 D (cxA X) x Xp R0 d L r1.2.1 r1.2.2 (pxf hP) F r1.1 r2 h1) (cw_T_text_X3 hX (Nat.le_of_ble_eq_true rfl) (Nat.le_of_ble_eq_true rfl)) (p_recv 2 lp_2 cl_X2 hP) rfl rfl (Nat.le_of_ble_eq_true rfl) dX3_known_12 (fun c z => ?_)
  show Wk X c z (RD D (RP D x Xp R0 r1.2.1) d L r2.2) 15 [(2, .int r1.1), (0, .ref (x + 9)), (1, .ref a1)] [va_rf r2.1, .ref a1]
  refine k_nn (G := fun z => Wk X _ _ (RD D (RP D x Xp R0 r1.2.1) d L r2.2) 15 [(2, .int r1.1), (0, .ref (x + 9)), (1, .ref a1)] [z, .ref a1]) hE (fun b3 hE => ?_)
  obtain ⟨r4, h1, hE⟩ := ob_ hE
  refine a_callS (pc := 15) (As := [.ref a1, .ref b3]) hX (ct_A_Text_at X.2.1 D (cxA X) (RP D x Xp R0 r1.2.1) d L r2.2 hSt hX.2.1 hX.2.2.2.2.2.2.2.2.2 F a1 b3 r4 h1) (cw_A_Text_at_X3 hX (Nat.le_of_ble_eq_true rfl) (Nat.le_of_ble_eq_true rfl)) rfl rfl (Nat.le_of_ble_eq_true rfl) dX3_known_15 (fun c z => ?_)
  show Wk X c z (RD D (RP D x Xp R0 r1.2.1) d L r2.2) 18 [(2, .int r1.1), (0, .ref (x + 9)), (1, .ref a1)] [.int r4]
  refine k_istore_n (pc := 18) (lv' := [(3, .int r4), (2, .int r1.1), (0, .ref (x + 9)), (1, .ref a1)]) hC dX3_known_18 rfl (by rw [hnL]; decide) rfl ?_
  refine k_iload_n (pc := 19) hC dX3_known_19 rfl 0 rfl ?_
  refine k_if_ge (pc := 20) (tgt := 29) hC dX3_known_20 (by decide) hE (fun hE => ?_) (fun hE => ?_)
  · refine k_iload_n (pc := 29) hC dX3_known_29 rfl 0 rfl ?_
    cases hE
    exact a_iret (pc := 30) hX hR dX3_known_30 (by rfl) (fun _ h => h)
  · refine k_aload_n (pc := 23) hC dX3_known_23 rfl 2 rfl ?_
    refine k_iconst (pc := 24) (v := 4) hC dX3_known_24 (by decide) ?_
    refine k_iload_n (pc := 25) hC dX3_known_25 rfl 1 rfl ?_
    obtain ⟨r5, h1, hE⟩ := ob_ hE
    refine a_callV (pc := 26) (As := [.int 4, .int r1.1]) hX (ct_R_tell X.2.1 D (cxA X) x Xp R0 d L r1.2.1 r2.2 (pxf hP) 4 r1.1 r5 h1) (cw_R_tell_X3 hX (Nat.le_of_ble_eq_true rfl) (Nat.le_of_ble_eq_true rfl)) (p_recv 9 lp_9 cl_X3 hP) rfl rfl (Nat.le_of_ble_eq_true rfl) dX3_known_26 (fun c z => ?_)
    show Wk X c z (RD D (RP D x Xp R0 r5) d L r2.2) 29 [(3, .int r4), (2, .int r1.1), (0, .ref (x + 9)), (1, .ref a1)] []
    refine k_iload_n (pc := 29) hC dX3_known_29 rfl 0 rfl ?_
    cases hE
    exact a_iret (pc := 30) hX hR dX3_known_30 (by rfl) (fun _ h => h)
theorem ct_R_known (l : Launch) (D : Dd) (A : Nat → Prop) (x : Nat) (Xp : Jr) (R0 : Heap → Prop) (d : Nat → Prop) (L : Nat × Nat × Nat × Nat) (Q : Ji) (T : Th) (hp : Pf D A x R0 d) (F : Nat) (a1 : Nat) (out : Int32 × Ji × Th) (hE : R_known F Xp a1 Q T = some (.inr out)) : Ct l yX3_known (ws_ yX3_known cX3_known 4 (some .int)) (rmA 8 179 L T) vwCl arTy D A [.ref (x + 9), .ref a1] (RD D (RP D x Xp R0 Q) d L T) (RD D (RP D x Xp R0 out.2.1) d L out.2.2) (some (.int out.1)) (L.1 - tN T) (L.2.1 - tZ T) := by
  refine Ct.ofA (lv := [(0, .ref (x + 9)), (1, .ref a1)]) (by decide) (Nat.le_of_ble_eq_true rfl) rfl hp.1 hp.2.1 ?_
  intro X hl hX hR hXA _
  exact w_R_known (Xp := Xp) (out := .inr out) (hp.px hX hXA) hR F a1 Q T hE
theorem ctx_R_known (l : Launch) (D : Dd) (A : Nat → Prop) (x : Nat) (Xp : Jr) (R0 : Heap → Prop) (d : Nat → Prop) (L : Nat × Nat × Nat × Nat) (Q : Ji) (T : Th) (hp : Pf D A x R0 d) (F : Nat) (a1 : Nat) (e : Ji × Jr × Th) (hE : R_known F Xp a1 Q T = some (.inl e)) : CtT l yX3_known (ws_ yX3_known cX3_known 4 (some .int)) (rmA 8 179 L T) D A [.ref (x + 9), .ref a1] (RD D (RP D x Xp R0 Q) d L T) (RD D (RP D x e.2.1 R0 e.1) d L e.2.2) (x + 1) (L.1 - tN T) (L.2.1 - tZ T) := by
  refine CtT.ofA (lv := [(0, .ref (x + 9)), (1, .ref a1)]) (by decide) (Nat.le_of_ble_eq_true rfl) rfl hp.1 hp.2.1 ?_
  intro X hl hX hR hXA
  exact w_R_known (Xp := Xp) (out := .inl e) (hp.px hX hXA) hR F a1 Q T hE
theorem cw_R_known_X3 {X : Ctx} {cc : ByteArray} {D : Dd} {d : Nat → Prop} {L : Nat × Nat × Nat × Nat} {mL fr lo : Nat} {T : Th} (hX : Ax X cc RX3 D d L mL fr lo) (h1 : 8 + 1 ≤ fr) (h2 : 8 + (4 + 11) + 179 ≤ lo) : CallW X.2.2.2.1 X.2.2.2.2.1 X.2.2.2.2.2.2.1 RX3 RX3 143 yX3_known cX3_known 4 (some .int) (ws_ yX3_known cX3_known 4 (some .int)) (rmA 8 179 L T) (L.1 - tN T) (L.2.1 - tZ T) 1 := cwV 1 (cx_w hX.1) (lw_V q1008 q1010 qs21 q120 q1011) rfl rfl rfl (by decide +kernel) (by rw [hX.2.2.2.1, hX.2.2.2.2.1]; exact ⟨h1, h2⟩)
set_option maxHeartbeats 4000000 in
theorem w_R_number_B28 {X : Ctx} {D : Dd} {x : Nat} {R0 : Heap → Prop} {d : Nat → Prop} {L : Nat × Nat × Nat × Nat} {Xp : Jr} {out : (Ji × Jr × Th) ⊕ (Int32 × Ji × Th)} (hP : Px X cX3_number RX3 D x R0 d L 5 5 108) (hR : RtX X (some .int) D L x (fun r => (RD D (RP D x Xp R0 r.2.1) d L r.2.2)) (fun r => (some (.int r.1))) (fun e => RD D (RP D x e.2.1 R0 e.1) d L e.2.2) out) (F : Nat) (a3 : Int32) (a4 : Int32) (Q : Ji) (T : Th) (hE : R_number_B28 F Xp a3 a4 Q T = some out) (c z : Nat) : Wk X c z (RD D (RP D x Xp R0 Q) d L T) 28 [(0, .ref (x + 9)), (3, .int a3), (4, .int a4)] [] := by
  have hX := hP.1
  have hC := hX.1
  have hnL := hX.2.2.1
  have hSt : ∀ {Xp : Jr} {Q : Ji}, Stb (RP D x Xp R0 Q) d := hP.st
  have hDy : ∀ {Xp : Jr} {Q : Ji} {T : Th} (H : Heap), RD D (RP D x Xp R0 Q) d L T H → Dy D T H := fun _ h => h.2.1
  unfold R_number_B28 at hE
  refine k_aload_n (pc := 28) hC dX3_number_28 rfl 0 rfl ?_
  refine k_iconst (pc := 29) (v := 5) hC dX3_number_29 (by decide) ?_
  refine k_iload_n (pc := 30) hC dX3_number_30 rfl 1 rfl ?_
  obtain ⟨r3, h1, hE⟩ := ob_ hE
  refine a_callV (pc := 31) (As := [.int 5, .int a3]) hX (ct_R_tell X.2.1 D (cxA X) x Xp R0 d L Q T (pxf hP) 5 a3 r3 h1) (cw_R_tell_X3 hX (Nat.le_of_ble_eq_true rfl) (Nat.le_of_ble_eq_true rfl)) (p_recv 9 lp_9 cl_X3 hP) rfl rfl (Nat.le_of_ble_eq_true rfl) dX3_number_31 (fun c z => ?_)
  show Wk X c z (RD D (RP D x Xp R0 r3) d L T) 34 [(0, .ref (x + 9)), (3, .int a3), (4, .int a4)] []
  refine k_iload (pc := 34) hC dX3_number_34 2 rfl ?_
  cases hE
  exact a_iret (pc := 36) hX hR dX3_number_36 (by rfl) (fun _ h => h)
set_option maxHeartbeats 4000000 in
theorem w_R_number {X : Ctx} {D : Dd} {x : Nat} {R0 : Heap → Prop} {d : Nat → Prop} {L : Nat × Nat × Nat × Nat} {Xp : Jr} {out : (Ji × Jr × Th) ⊕ (Int32 × Ji × Th)} (hP : Px X cX3_number RX3 D x R0 d L 5 5 108) (hR : RtX X (some .int) D L x (fun r => (RD D (RP D x Xp R0 r.2.1) d L r.2.2)) (fun r => (some (.int r.1))) (fun e => RD D (RP D x e.2.1 R0 e.1) d L e.2.2) out) (F : Nat) (a1 : Int32) (a2 : Int32) (Q : Ji) (T : Th) (hE : R_number F Xp a1 a2 Q T = some out) (c z : Nat) : Wk X c z (RD D (RP D x Xp R0 Q) d L T) 0 [(0, .ref (x + 9)), (1, .int a1), (2, .int a2)] [] := by
  have hX := hP.1
  have hC := hX.1
  have hnL := hX.2.2.1
  have hSt : ∀ {Xp : Jr} {Q : Ji}, Stb (RP D x Xp R0 Q) d := hP.st
  have hDy : ∀ {Xp : Jr} {Q : Ji} {T : Th} (H : Heap), RD D (RP D x Xp R0 Q) d L T H → Dy D T H := fun _ h => h.2.1
  unfold R_number at hE
  refine k_aload_n (pc := 0) hC dX3_number_0 rfl 0 rfl ?_
  refine k_iconst (pc := 1) (v := 1) hC dX3_number_1 (by decide) ?_
  rcases xb_of hE with ⟨e, h1, rfl⟩ | ⟨r1, h1, hE⟩
  · exact p_callVT (pc := 2) (As := [.int 1]) hP hR (ctx_R_take X.2.1 D (cxA X) x Xp R0 d L Q T (pxf hP) 1 e h1) (fun H h => p_fault hC.K h) (p_tt hX) (cw_R_take_X3 hX (Nat.le_of_ble_eq_true rfl) (Nat.le_of_ble_eq_true rfl)) (p_recv 9 lp_9 cl_X3 hP) rfl rfl (Nat.le_of_ble_eq_true rfl) dX3_number_2
  refine a_callV (pc := 2) (As := [.int 1]) hX (ct_R_take X.2.1 D (cxA X) x Xp R0 d L Q T (pxf hP) 1 r1 h1) (cw_R_take_X3 hX (Nat.le_of_ble_eq_true rfl) (Nat.le_of_ble_eq_true rfl)) (p_recv 9 lp_9 cl_X3 hP) rfl rfl (Nat.le_of_ble_eq_true rfl) dX3_number_2 (fun c z => ?_)
  show Wk X c z (RD D (RP D x Xp R0 r1.2.1) d L r1.2.2) 5 [(0, .ref (x + 9)), (1, .int a1), (2, .int a2)] [.int r1.1]
  refine k_istore_n (pc := 5) (lv' := [(3, .int r1.1), (0, .ref (x + 9)), (1, .int a1), (2, .int a2)]) hC dX3_number_5 rfl (by rw [hnL]; decide) rfl ?_
  refine k_aload_n (pc := 6) hC dX3_number_6 rfl 1 rfl ?_
  refine gP_X3_9 (pc := 7) hP dX3_number_7 ?_
  refine k_iload_n (pc := 10) hC dX3_number_10 rfl 0 rfl ?_
  obtain ⟨r2, h1, hE⟩ := ob_ hE
  refine a_callV (pc := 11) (As := [.int r1.1]) hX (ct_T_number X.2.1 D (cxA X) x Xp R0 d L r1.2.1 r1.2.2 (pxf hP) F r1.1 r2 h1) (cw_T_number_X3 hX (Nat.le_of_ble_eq_true rfl) (Nat.le_of_ble_eq_true rfl)) (p_recv 2 lp_2 cl_X2 hP) rfl rfl (Nat.le_of_ble_eq_true rfl) dX3_number_11 (fun c z => ?_)
  show Wk X c z (RD D (RP D x Xp R0 r1.2.1) d L r1.2.2) 14 [(3, .int r1.1), (0, .ref (x + 9)), (1, .int a1), (2, .int a2)] [.int r2]
  refine k_istore (pc := 14) (lv' := [(4, .int r2), (3, .int r1.1), (0, .ref (x + 9)), (1, .int a1), (2, .int a2)]) hC dX3_number_14 (by rw [hnL]; decide) rfl ?_
  refine k_iload (pc := 16) hC dX3_number_16 0 rfl ?_
  refine k_iload_n (pc := 18) hC dX3_number_18 rfl 3 rfl ?_
  refine k_icmp_lt (pc := 19) (tgt := 28) hC dX3_number_19 (by decide) hE (fun hE => ?_) (fun hE => ?_)
  · refine k_sub [2, 1, 0] rfl ?_
    exact w_R_number_B28 hP hR F _ _ _ _ hE _ _
  · refine k_iload (pc := 22) hC dX3_number_22 0 rfl ?_
    refine k_iload_n (pc := 24) hC dX3_number_24 rfl 4 rfl ?_
    refine k_icmp_le (pc := 25) (tgt := 34) hC dX3_number_25 (by decide) hE (fun hE => ?_) (fun hE => ?_)
    · refine k_iload (pc := 34) hC dX3_number_34 0 rfl ?_
      cases hE
      exact a_iret (pc := 36) hX hR dX3_number_36 (by rfl) (fun _ h => h)
    · refine k_sub [2, 1, 0] rfl ?_
      exact w_R_number_B28 hP hR F _ _ _ _ hE _ _
theorem ct_R_number (l : Launch) (D : Dd) (A : Nat → Prop) (x : Nat) (Xp : Jr) (R0 : Heap → Prop) (d : Nat → Prop) (L : Nat × Nat × Nat × Nat) (Q : Ji) (T : Th) (hp : Pf D A x R0 d) (F : Nat) (a1 : Int32) (a2 : Int32) (out : Int32 × Ji × Th) (hE : R_number F Xp a1 a2 Q T = some (.inr out)) : Ct l yX3_number (ws_ yX3_number cX3_number 5 (some .int)) (rmA 5 108 L T) vwCl arTy D A [.ref (x + 9), .int a1, .int a2] (RD D (RP D x Xp R0 Q) d L T) (RD D (RP D x Xp R0 out.2.1) d L out.2.2) (some (.int out.1)) (L.1 - tN T) (L.2.1 - tZ T) := by
  refine Ct.ofA (lv := [(0, .ref (x + 9)), (1, .int a1), (2, .int a2)]) (by decide) (Nat.le_of_ble_eq_true rfl) rfl hp.1 hp.2.1 ?_
  intro X hl hX hR hXA _
  exact w_R_number (Xp := Xp) (out := .inr out) (hp.px hX hXA) hR F a1 a2 Q T hE
theorem ctx_R_number (l : Launch) (D : Dd) (A : Nat → Prop) (x : Nat) (Xp : Jr) (R0 : Heap → Prop) (d : Nat → Prop) (L : Nat × Nat × Nat × Nat) (Q : Ji) (T : Th) (hp : Pf D A x R0 d) (F : Nat) (a1 : Int32) (a2 : Int32) (e : Ji × Jr × Th) (hE : R_number F Xp a1 a2 Q T = some (.inl e)) : CtT l yX3_number (ws_ yX3_number cX3_number 5 (some .int)) (rmA 5 108 L T) D A [.ref (x + 9), .int a1, .int a2] (RD D (RP D x Xp R0 Q) d L T) (RD D (RP D x e.2.1 R0 e.1) d L e.2.2) (x + 1) (L.1 - tN T) (L.2.1 - tZ T) := by
  refine CtT.ofA (lv := [(0, .ref (x + 9)), (1, .int a1), (2, .int a2)]) (by decide) (Nat.le_of_ble_eq_true rfl) rfl hp.1 hp.2.1 ?_
  intro X hl hX hR hXA
  exact w_R_number (Xp := Xp) (out := .inl e) (hp.px hX hXA) hR F a1 a2 Q T hE
theorem cw_R_number_X3 {X : Ctx} {cc : ByteArray} {D : Dd} {d : Nat → Prop} {L : Nat × Nat × Nat × Nat} {mL fr lo : Nat} {T : Th} (hX : Ax X cc RX3 D d L mL fr lo) (h1 : 5 + 1 ≤ fr) (h2 : 8 + (5 + 11) + 108 ≤ lo) : CallW X.2.2.2.1 X.2.2.2.2.1 X.2.2.2.2.2.2.1 RX3 RX3 157 yX3_number cX3_number 5 (some .int) (ws_ yX3_number cX3_number 5 (some .int)) (rmA 5 108 L T) (L.1 - tN T) (L.2.1 - tZ T) 2 := cwV 2 (cx_w hX.1) (lw_V q1013 q1015 qs22 q120 q1016) rfl rfl rfl (by decide +kernel) (by rw [hX.2.2.2.1, hX.2.2.2.2.1]; exact ⟨h1, h2⟩)
set_option maxHeartbeats 4000000 in
theorem w_R_isWord {X : Ctx} {D : Dd} {x : Nat} {R0 : Heap → Prop} {d : Nat → Prop} {L : Nat × Nat × Nat × Nat} {Xp : Jr} {out : (Ji × Jr × Th) ⊕ (Int32 × Ji × Th)} (hP : Px X cX3_isWord RX3 D x R0 d L 2 0 0) (hR : RtX X (some .boolean) D L x (fun r => (RD D (RP D x Xp R0 r.2.1) d L r.2.2)) (fun r => (some (.int r.1))) (fun e => RD D (RP D x e.2.1 R0 e.1) d L e.2.2) out) (a1 : Int32) (Q : Ji) (T : Th) (hE : R_isWord Xp a1 Q T = some out) (c z : Nat) : Wk X c z (RD D (RP D x Xp R0 Q) d L T) 0 [(0, .ref (x + 9)), (1, .int a1)] [] := by
  have hX := hP.1
  have hC := hX.1
  have hnL := hX.2.2.1
  have hSt : ∀ {Xp : Jr} {Q : Ji}, Stb (RP D x Xp R0 Q) d := hP.st
  have hDy : ∀ {Xp : Jr} {Q : Ji} {T : Th} (H : Heap), RD D (RP D x Xp R0 Q) d L T H → Dy D T H := fun _ h => h.2.1
  unfold R_isWord at hE
  refine k_aload_n (pc := 0) hC dX3_isWord_0 rfl 0 rfl ?_
  refine gP_X3_9 (pc := 1) hP dX3_isWord_1 ?_
  refine gP_X3_44 (pc := 4) hP dX3_isWord_4 ?_
  refine k_aload_n (pc := 7) hC dX3_isWord_7 rfl 0 rfl ?_
  refine gP_X3_31 (pc := 8) hP dX3_isWord_8 ?_
  refine p_bald (pc := 11) 5 lp_5 hP dX3_isWord_11 hE (fun x1 hE => ?_)
  refine k_iconst (pc := 12) (v := 3) hC dX3_isWord_12 (by decide) ?_
  refine k_icmp_ne (pc := 13) (tgt := 36) hC dX3_isWord_13 (by decide) hE (fun hE => ?_) (fun hE => ?_)
  · refine k_aload_n (pc := 16) hC dX3_isWord_16 rfl 0 rfl ?_
    refine gP_X3_9 (pc := 17) hP dX3_isWord_17 ?_
    refine gP_X3_52 (pc := 20) hP dX3_isWord_20 ?_
    refine k_aload_n (pc := 23) hC dX3_isWord_23 rfl 0 rfl ?_
    refine gP_X3_31 (pc := 24) hP dX3_isWord_24 ?_
    refine p_sald (pc := 27) 8 lp_8 hP dX3_isWord_27 hE (fun x2 hE => ?_)
    refine k_iload_n (pc := 28) hC dX3_isWord_28 rfl 1 rfl ?_
    refine k_icmp_ne (pc := 29) (tgt := 36) hC dX3_isWord_29 (by decide) hE (fun hE => ?_) (fun hE => ?_)
    · refine k_iconst (pc := 32) (v := 1) hC dX3_isWord_32 (by decide) ?_
      refine k_goto (pc := 33) (tgt := 37) hC dX3_isWord_33 (by decide) ?_
      cases hE
      exact a_zret (pc := 37) (by decide) hX hR dX3_isWord_37 (by rfl) (fun _ h => h)
    · refine k_iconst (pc := 36) (v := 0) hC dX3_isWord_36 (by decide) ?_
      cases hE
      exact a_zret (pc := 37) (by decide) hX hR dX3_isWord_37 (by rfl) (fun _ h => h)
  · refine k_iconst (pc := 36) (v := 0) hC dX3_isWord_36 (by decide) ?_
    cases hE
    exact a_zret (pc := 37) (by decide) hX hR dX3_isWord_37 (by rfl) (fun _ h => h)
theorem ct_R_isWord (l : Launch) (D : Dd) (A : Nat → Prop) (x : Nat) (Xp : Jr) (R0 : Heap → Prop) (d : Nat → Prop) (L : Nat × Nat × Nat × Nat) (Q : Ji) (T : Th) (hp : Pf D A x R0 d) (a1 : Int32) (out : Int32 × Ji × Th) (hE : R_isWord Xp a1 Q T = some (.inr out)) : Ct l yX3_isWord (ws_ yX3_isWord cX3_isWord 2 (some .boolean)) (rmA 0 0 L T) vwCl arTy D A [.ref (x + 9), .int a1] (RD D (RP D x Xp R0 Q) d L T) (RD D (RP D x Xp R0 out.2.1) d L out.2.2) (some (.int out.1)) (L.1 - tN T) (L.2.1 - tZ T) := by
  refine Ct.ofA (lv := [(0, .ref (x + 9)), (1, .int a1)]) (by decide) (Nat.le_of_ble_eq_true rfl) rfl hp.1 hp.2.1 ?_
  intro X hl hX hR hXA _
  exact w_R_isWord (Xp := Xp) (out := .inr out) (hp.px hX hXA) hR a1 Q T hE
theorem ctx_R_isWord (l : Launch) (D : Dd) (A : Nat → Prop) (x : Nat) (Xp : Jr) (R0 : Heap → Prop) (d : Nat → Prop) (L : Nat × Nat × Nat × Nat) (Q : Ji) (T : Th) (hp : Pf D A x R0 d) (a1 : Int32) (e : Ji × Jr × Th) (hE : R_isWord Xp a1 Q T = some (.inl e)) : CtT l yX3_isWord (ws_ yX3_isWord cX3_isWord 2 (some .boolean)) (rmA 0 0 L T) D A [.ref (x + 9), .int a1] (RD D (RP D x Xp R0 Q) d L T) (RD D (RP D x e.2.1 R0 e.1) d L e.2.2) (x + 1) (L.1 - tN T) (L.2.1 - tZ T) := by
  refine CtT.ofA (lv := [(0, .ref (x + 9)), (1, .int a1)]) (by decide) (Nat.le_of_ble_eq_true rfl) rfl hp.1 hp.2.1 ?_
  intro X hl hX hR hXA
  exact w_R_isWord (Xp := Xp) (out := .inl e) (hp.px hX hXA) hR a1 Q T hE
theorem cw_R_isWord_X3 {X : Ctx} {cc : ByteArray} {D : Dd} {d : Nat → Prop} {L : Nat × Nat × Nat × Nat} {mL fr lo : Nat} {T : Th} (hX : Ax X cc RX3 D d L mL fr lo) (h1 : 0 + 1 ≤ fr) (h2 : 8 + (2 + 11) + 0 ≤ lo) : CallW X.2.2.2.1 X.2.2.2.2.1 X.2.2.2.2.2.2.1 RX3 RX3 62 yX3_isWord cX3_isWord 2 (some .boolean) (ws_ yX3_isWord cX3_isWord 2 (some .boolean)) (rmA 0 0 L T) (L.1 - tN T) (L.2.1 - tZ T) 1 := cwV 1 (cx_w hX.1) (lw_V q1021 q1023 qs23 q120 q1024) rfl rfl rfl (by decide +kernel) (by rw [hX.2.2.2.1, hX.2.2.2.2.1]; exact ⟨h1, h2⟩)
set_option maxHeartbeats 4000000 in
theorem w_R_isSign {X : Ctx} {D : Dd} {x : Nat} {R0 : Heap → Prop} {d : Nat → Prop} {L : Nat × Nat × Nat × Nat} {Xp : Jr} {out : (Ji × Jr × Th) ⊕ (Int32 × Ji × Th)} (hP : Px X cX3_isSign RX3 D x R0 d L 2 0 0) (hR : RtX X (some .boolean) D L x (fun r => (RD D (RP D x Xp R0 r.2.1) d L r.2.2)) (fun r => (some (.int r.1))) (fun e => RD D (RP D x e.2.1 R0 e.1) d L e.2.2) out) (a1 : Int32) (Q : Ji) (T : Th) (hE : R_isSign Xp a1 Q T = some out) (c z : Nat) : Wk X c z (RD D (RP D x Xp R0 Q) d L T) 0 [(0, .ref (x + 9)), (1, .int a1)] [] := by
  have hX := hP.1
  have hC := hX.1
  have hnL := hX.2.2.1
  have hSt : ∀ {Xp : Jr} {Q : Ji}, Stb (RP D x Xp R0 Q) d := hP.st
  have hDy : ∀ {Xp : Jr} {Q : Ji} {T : Th} (H : Heap), RD D (RP D x Xp R0 Q) d L T H → Dy D T H := fun _ h => h.2.1
  unfold R_isSign at hE
  refine k_aload_n (pc := 0) hC dX3_isSign_0 rfl 0 rfl ?_
  refine gP_X3_9 (pc := 1) hP dX3_isSign_1 ?_
  refine gP_X3_44 (pc := 4) hP dX3_isSign_4 ?_
  refine k_aload_n (pc := 7) hC dX3_isSign_7 rfl 0 rfl ?_
  refine gP_X3_31 (pc := 8) hP dX3_isSign_8 ?_
  refine p_bald (pc := 11) 5 lp_5 hP dX3_isSign_11 hE (fun x1 hE => ?_)
  refine k_iconst (pc := 12) (v := 2) hC dX3_isSign_12 (by decide) ?_
  refine k_icmp_ne (pc := 13) (tgt := 36) hC dX3_isSign_13 (by decide) hE (fun hE => ?_) (fun hE => ?_)
  · refine k_aload_n (pc := 16) hC dX3_isSign_16 rfl 0 rfl ?_
    refine gP_X3_9 (pc := 17) hP dX3_isSign_17 ?_
    refine gP_X3_52 (pc := 20) hP dX3_isSign_20 ?_
    refine k_aload_n (pc := 23) hC dX3_isSign_23 rfl 0 rfl ?_
    refine gP_X3_31 (pc := 24) hP dX3_isSign_24 ?_
    refine p_sald (pc := 27) 8 lp_8 hP dX3_isSign_27 hE (fun x2 hE => ?_)
    refine k_iload_n (pc := 28) hC dX3_isSign_28 rfl 1 rfl ?_
    refine k_icmp_ne (pc := 29) (tgt := 36) hC dX3_isSign_29 (by decide) hE (fun hE => ?_) (fun hE => ?_)
    · refine k_iconst (pc := 32) (v := 1) hC dX3_isSign_32 (by decide) ?_
      refine k_goto (pc := 33) (tgt := 37) hC dX3_isSign_33 (by decide) ?_
      cases hE
      exact a_zret (pc := 37) (by decide) hX hR dX3_isSign_37 (by rfl) (fun _ h => h)
    · refine k_iconst (pc := 36) (v := 0) hC dX3_isSign_36 (by decide) ?_
      cases hE
      exact a_zret (pc := 37) (by decide) hX hR dX3_isSign_37 (by rfl) (fun _ h => h)
  · refine k_iconst (pc := 36) (v := 0) hC dX3_isSign_36 (by decide) ?_
    cases hE
    exact a_zret (pc := 37) (by decide) hX hR dX3_isSign_37 (by rfl) (fun _ h => h)
theorem ct_R_isSign (l : Launch) (D : Dd) (A : Nat → Prop) (x : Nat) (Xp : Jr) (R0 : Heap → Prop) (d : Nat → Prop) (L : Nat × Nat × Nat × Nat) (Q : Ji) (T : Th) (hp : Pf D A x R0 d) (a1 : Int32) (out : Int32 × Ji × Th) (hE : R_isSign Xp a1 Q T = some (.inr out)) : Ct l yX3_isSign (ws_ yX3_isSign cX3_isSign 2 (some .boolean)) (rmA 0 0 L T) vwCl arTy D A [.ref (x + 9), .int a1] (RD D (RP D x Xp R0 Q) d L T) (RD D (RP D x Xp R0 out.2.1) d L out.2.2) (some (.int out.1)) (L.1 - tN T) (L.2.1 - tZ T) := by
  refine Ct.ofA (lv := [(0, .ref (x + 9)), (1, .int a1)]) (by decide) (Nat.le_of_ble_eq_true rfl) rfl hp.1 hp.2.1 ?_
  intro X hl hX hR hXA _
  exact w_R_isSign (Xp := Xp) (out := .inr out) (hp.px hX hXA) hR a1 Q T hE
theorem ctx_R_isSign (l : Launch) (D : Dd) (A : Nat → Prop) (x : Nat) (Xp : Jr) (R0 : Heap → Prop) (d : Nat → Prop) (L : Nat × Nat × Nat × Nat) (Q : Ji) (T : Th) (hp : Pf D A x R0 d) (a1 : Int32) (e : Ji × Jr × Th) (hE : R_isSign Xp a1 Q T = some (.inl e)) : CtT l yX3_isSign (ws_ yX3_isSign cX3_isSign 2 (some .boolean)) (rmA 0 0 L T) D A [.ref (x + 9), .int a1] (RD D (RP D x Xp R0 Q) d L T) (RD D (RP D x e.2.1 R0 e.1) d L e.2.2) (x + 1) (L.1 - tN T) (L.2.1 - tZ T) := by
  refine CtT.ofA (lv := [(0, .ref (x + 9)), (1, .int a1)]) (by decide) (Nat.le_of_ble_eq_true rfl) rfl hp.1 hp.2.1 ?_
  intro X hl hX hR hXA
  exact w_R_isSign (Xp := Xp) (out := .inl e) (hp.px hX hXA) hR a1 Q T hE
theorem cw_R_isSign_X3 {X : Ctx} {cc : ByteArray} {D : Dd} {d : Nat → Prop} {L : Nat × Nat × Nat × Nat} {mL fr lo : Nat} {T : Th} (hX : Ax X cc RX3 D d L mL fr lo) (h1 : 0 + 1 ≤ fr) (h2 : 8 + (2 + 11) + 0 ≤ lo) : CallW X.2.2.2.1 X.2.2.2.2.1 X.2.2.2.2.2.2.1 RX3 RX3 55 yX3_isSign cX3_isSign 2 (some .boolean) (ws_ yX3_isSign cX3_isSign 2 (some .boolean)) (rmA 0 0 L T) (L.1 - tN T) (L.2.1 - tZ T) 1 := cwV 1 (cx_w hX.1) (lw_V q1180 q1182 qs29 q120 q1183) rfl rfl rfl (by decide +kernel) (by rw [hX.2.2.2.1, hX.2.2.2.2.1]; exact ⟨h1, h2⟩)
set_option maxHeartbeats 4000000 in
theorem w_R_sign {X : Ctx} {D : Dd} {x : Nat} {R0 : Heap → Prop} {d : Nat → Prop} {L : Nat × Nat × Nat × Nat} {Xp : Jr} {out : (Ji × Jr × Th) ⊕ (Ji × Th)} (hP : Px X cX3_sign RX3 D x R0 d L 2 4 87) (hR : RtX X none D L x (fun r => (RD D (RP D x Xp R0 r.1) d L r.2)) (fun r => none) (fun e => RD D (RP D x e.2.1 R0 e.1) d L e.2.2) out) (a1 : Int32) (Q : Ji) (T : Th) (hE : R_sign Xp a1 Q T = some out) (c z : Nat) : Wk X c z (RD D (RP D x Xp R0 Q) d L T) 0 [(0, .ref (x + 9)), (1, .int a1)] [] := by
  have hX := hP.1
  have hC := hX.1
  have hnL := hX.2.2.1
  have hSt : ∀ {Xp : Jr} {Q : Ji}, Stb (RP D x Xp R0 Q) d := hP.st
  have hDy : ∀ {Xp : Jr} {Q : Ji} {T : Th} (H : Heap), RD D (RP D x Xp R0 Q) d L T H → Dy D T H := fun _ h => h.2.1
  unfold R_sign at hE
  refine k_aload_n (pc := 0) hC dX3_sign_0 rfl 0 rfl ?_
  refine k_iload_n (pc := 1) hC dX3_sign_1 rfl 1 rfl ?_
  rcases xb_of hE with ⟨e, h1, rfl⟩ | ⟨r1, h1, hE⟩
  · exact p_callVT (pc := 2) (As := [.int a1]) hP hR (ctx_R_isSign X.2.1 D (cxA X) x Xp R0 d L Q T (pxf hP) a1 e h1) (fun H h => p_fault hC.K h) (p_tt hX) (cw_R_isSign_X3 hX (Nat.le_of_ble_eq_true rfl) (Nat.le_of_ble_eq_true rfl)) (p_recv 9 lp_9 cl_X3 hP) rfl rfl (Nat.le_of_ble_eq_true rfl) dX3_sign_2
  refine a_callV (pc := 2) (As := [.int a1]) hX (ct_R_isSign X.2.1 D (cxA X) x Xp R0 d L Q T (pxf hP) a1 r1 h1) (cw_R_isSign_X3 hX (Nat.le_of_ble_eq_true rfl) (Nat.le_of_ble_eq_true rfl)) (p_recv 9 lp_9 cl_X3 hP) rfl rfl (Nat.le_of_ble_eq_true rfl) dX3_sign_2 (fun c z => ?_)
  show Wk X c z (RD D (RP D x Xp R0 r1.2.1) d L r1.2.2) 5 [(0, .ref (x + 9)), (1, .int a1)] [.int r1.1]
  refine k_if_ne (pc := 5) (tgt := 14) hC dX3_sign_5 (by decide) hE (fun hE => ?_) (fun hE => ?_)
  · refine k_aload_n (pc := 8) hC dX3_sign_8 rfl 0 rfl ?_
    refine k_iconst (pc := 9) (v := 1) hC dX3_sign_9 (by decide) ?_
    obtain ⟨r2, h1, hE⟩ := ob_ hE
    refine a_callV (pc := 10) (As := [.int 1]) hX (ct_R_wrong X.2.1 D (cxA X) x Xp R0 d L r1.2.1 r1.2.2 (pxf hP) 1 r2 h1) (cw_R_wrong_X3 hX (Nat.le_of_ble_eq_true rfl) (Nat.le_of_ble_eq_true rfl)) (p_recv 9 lp_9 cl_X3 hP) rfl rfl (Nat.le_of_ble_eq_true rfl) dX3_sign_10 (fun c z => ?_)
    show Wk X c z (RD D (RP D x Xp R0 r2) d L r1.2.2) 13 [(0, .ref (x + 9)), (1, .int a1)] [.ref (x + 1)]
    cases hE
    exact p_athrow (pc := 13) hP hR dX3_sign_13 (fun _ h => h)
  · refine k_aload_n (pc := 14) hC dX3_sign_14 rfl 0 rfl ?_
    rcases xb_of hE with ⟨e, h1, rfl⟩ | ⟨r3, h1, hE⟩
    · exact p_callVT (pc := 15) (As := []) hP hR (ctx_R_pass X.2.1 D (cxA X) x Xp R0 d L r1.2.1 r1.2.2 (pxf hP)  e h1) (fun H h => p_fault hC.K h) (p_tt hX) (cw_R_pass_X3 hX (Nat.le_of_ble_eq_true rfl) (Nat.le_of_ble_eq_true rfl)) (p_recv 9 lp_9 cl_X3 hP) rfl rfl (Nat.le_of_ble_eq_true rfl) dX3_sign_15
    refine a_callV (pc := 15) (As := []) hX (ct_R_pass X.2.1 D (cxA X) x Xp R0 d L r1.2.1 r1.2.2 (pxf hP)  r3 h1) (cw_R_pass_X3 hX (Nat.le_of_ble_eq_true rfl) (Nat.le_of_ble_eq_true rfl)) (p_recv 9 lp_9 cl_X3 hP) rfl rfl (Nat.le_of_ble_eq_true rfl) dX3_sign_15 (fun c z => ?_)
    show Wk X c z (RD D (RP D x Xp R0 r3.1) d L r3.2) 18 [(0, .ref (x + 9)), (1, .int a1)] []
    cases hE
    exact a_vret (pc := 18) hX hR dX3_sign_18 (by rfl) (fun _ h => h)
theorem ct_R_sign (l : Launch) (D : Dd) (A : Nat → Prop) (x : Nat) (Xp : Jr) (R0 : Heap → Prop) (d : Nat → Prop) (L : Nat × Nat × Nat × Nat) (Q : Ji) (T : Th) (hp : Pf D A x R0 d) (a1 : Int32) (out : Ji × Th) (hE : R_sign Xp a1 Q T = some (.inr out)) : Ct l yX3_sign (ws_ yX3_sign cX3_sign 2 none) (rmA 4 87 L T) vwCl arTy D A [.ref (x + 9), .int a1] (RD D (RP D x Xp R0 Q) d L T) (RD D (RP D x Xp R0 out.1) d L out.2) none (L.1 - tN T) (L.2.1 - tZ T) := by
  refine Ct.ofA (lv := [(0, .ref (x + 9)), (1, .int a1)]) (by decide) (Nat.le_of_ble_eq_true rfl) rfl hp.1 hp.2.1 ?_
  intro X hl hX hR hXA _
  exact w_R_sign (Xp := Xp) (out := .inr out) (hp.px hX hXA) hR a1 Q T hE
theorem ctx_R_sign (l : Launch) (D : Dd) (A : Nat → Prop) (x : Nat) (Xp : Jr) (R0 : Heap → Prop) (d : Nat → Prop) (L : Nat × Nat × Nat × Nat) (Q : Ji) (T : Th) (hp : Pf D A x R0 d) (a1 : Int32) (e : Ji × Jr × Th) (hE : R_sign Xp a1 Q T = some (.inl e)) : CtT l yX3_sign (ws_ yX3_sign cX3_sign 2 none) (rmA 4 87 L T) D A [.ref (x + 9), .int a1] (RD D (RP D x Xp R0 Q) d L T) (RD D (RP D x e.2.1 R0 e.1) d L e.2.2) (x + 1) (L.1 - tN T) (L.2.1 - tZ T) := by
  refine CtT.ofA (lv := [(0, .ref (x + 9)), (1, .int a1)]) (by decide) (Nat.le_of_ble_eq_true rfl) rfl hp.1 hp.2.1 ?_
  intro X hl hX hR hXA
  exact w_R_sign (Xp := Xp) (out := .inl e) (hp.px hX hXA) hR a1 Q T hE
theorem cw_R_sign_X3 {X : Ctx} {cc : ByteArray} {D : Dd} {d : Nat → Prop} {L : Nat × Nat × Nat × Nat} {mL fr lo : Nat} {T : Th} (hX : Ax X cc RX3 D d L mL fr lo) (h1 : 4 + 1 ≤ fr) (h2 : 8 + (2 + 11) + 87 ≤ lo) : CallW X.2.2.2.1 X.2.2.2.2.1 X.2.2.2.2.2.2.1 RX3 RX3 105 yX3_sign cX3_sign 2 none (ws_ yX3_sign cX3_sign 2 none) (rmA 4 87 L T) (L.1 - tN T) (L.2.1 - tZ T) 1 := cwV 1 (cx_w hX.1) (lw_V q1176 q1178 qs28 q120 q1179) rfl rfl rfl (by decide +kernel) (by rw [hX.2.2.2.1, hX.2.2.2.2.1]; exact ⟨h1, h2⟩)
set_option maxHeartbeats 4000000 in
theorem w_R_word {X : Ctx} {D : Dd} {x : Nat} {R0 : Heap → Prop} {d : Nat → Prop} {L : Nat × Nat × Nat × Nat} {Xp : Jr} {out : (Ji × Jr × Th) ⊕ (Ji × Th)} (hP : Px X cX3_word RX3 D x R0 d L 2 4 87) (hR : RtX X none D L x (fun r => (RD D (RP D x Xp R0 r.1) d L r.2)) (fun r => none) (fun e => RD D (RP D x e.2.1 R0 e.1) d L e.2.2) out) (a1 : Int32) (Q : Ji) (T : Th) (hE : R_word Xp a1 Q T = some out) (c z : Nat) : Wk X c z (RD D (RP D x Xp R0 Q) d L T) 0 [(0, .ref (x + 9)), (1, .int a1)] [] := by
  have hX := hP.1
  have hC := hX.1
  have hnL := hX.2.2.1
  have hSt : ∀ {Xp : Jr} {Q : Ji}, Stb (RP D x Xp R0 Q) d := hP.st
  have hDy : ∀ {Xp : Jr} {Q : Ji} {T : Th} (H : Heap), RD D (RP D x Xp R0 Q) d L T H → Dy D T H := fun _ h => h.2.1
  unfold R_word at hE
  refine k_aload_n (pc := 0) hC dX3_word_0 rfl 0 rfl ?_
  refine k_iload_n (pc := 1) hC dX3_word_1 rfl 1 rfl ?_
  rcases xb_of hE with ⟨e, h1, rfl⟩ | ⟨r1, h1, hE⟩
  · exact p_callVT (pc := 2) (As := [.int a1]) hP hR (ctx_R_isWord X.2.1 D (cxA X) x Xp R0 d L Q T (pxf hP) a1 e h1) (fun H h => p_fault hC.K h) (p_tt hX) (cw_R_isWord_X3 hX (Nat.le_of_ble_eq_true rfl) (Nat.le_of_ble_eq_true rfl)) (p_recv 9 lp_9 cl_X3 hP) rfl rfl (Nat.le_of_ble_eq_true rfl) dX3_word_2
  refine a_callV (pc := 2) (As := [.int a1]) hX (ct_R_isWord X.2.1 D (cxA X) x Xp R0 d L Q T (pxf hP) a1 r1 h1) (cw_R_isWord_X3 hX (Nat.le_of_ble_eq_true rfl) (Nat.le_of_ble_eq_true rfl)) (p_recv 9 lp_9 cl_X3 hP) rfl rfl (Nat.le_of_ble_eq_true rfl) dX3_word_2 (fun c z => ?_)
  show Wk X c z (RD D (RP D x Xp R0 r1.2.1) d L r1.2.2) 5 [(0, .ref (x + 9)), (1, .int a1)] [.int r1.1]
  refine k_if_ne (pc := 5) (tgt := 14) hC dX3_word_5 (by decide) hE (fun hE => ?_) (fun hE => ?_)
  · refine k_aload_n (pc := 8) hC dX3_word_8 rfl 0 rfl ?_
    refine k_iconst (pc := 9) (v := 1) hC dX3_word_9 (by decide) ?_
    obtain ⟨r2, h1, hE⟩ := ob_ hE
    refine a_callV (pc := 10) (As := [.int 1]) hX (ct_R_wrong X.2.1 D (cxA X) x Xp R0 d L r1.2.1 r1.2.2 (pxf hP) 1 r2 h1) (cw_R_wrong_X3 hX (Nat.le_of_ble_eq_true rfl) (Nat.le_of_ble_eq_true rfl)) (p_recv 9 lp_9 cl_X3 hP) rfl rfl (Nat.le_of_ble_eq_true rfl) dX3_word_10 (fun c z => ?_)
    show Wk X c z (RD D (RP D x Xp R0 r2) d L r1.2.2) 13 [(0, .ref (x + 9)), (1, .int a1)] [.ref (x + 1)]
    cases hE
    exact p_athrow (pc := 13) hP hR dX3_word_13 (fun _ h => h)
  · refine k_aload_n (pc := 14) hC dX3_word_14 rfl 0 rfl ?_
    rcases xb_of hE with ⟨e, h1, rfl⟩ | ⟨r3, h1, hE⟩
    · exact p_callVT (pc := 15) (As := []) hP hR (ctx_R_pass X.2.1 D (cxA X) x Xp R0 d L r1.2.1 r1.2.2 (pxf hP)  e h1) (fun H h => p_fault hC.K h) (p_tt hX) (cw_R_pass_X3 hX (Nat.le_of_ble_eq_true rfl) (Nat.le_of_ble_eq_true rfl)) (p_recv 9 lp_9 cl_X3 hP) rfl rfl (Nat.le_of_ble_eq_true rfl) dX3_word_15
    refine a_callV (pc := 15) (As := []) hX (ct_R_pass X.2.1 D (cxA X) x Xp R0 d L r1.2.1 r1.2.2 (pxf hP)  r3 h1) (cw_R_pass_X3 hX (Nat.le_of_ble_eq_true rfl) (Nat.le_of_ble_eq_true rfl)) (p_recv 9 lp_9 cl_X3 hP) rfl rfl (Nat.le_of_ble_eq_true rfl) dX3_word_15 (fun c z => ?_)
    show Wk X c z (RD D (RP D x Xp R0 r3.1) d L r3.2) 18 [(0, .ref (x + 9)), (1, .int a1)] []
    cases hE
    exact a_vret (pc := 18) hX hR dX3_word_18 (by rfl) (fun _ h => h)
theorem ct_R_word (l : Launch) (D : Dd) (A : Nat → Prop) (x : Nat) (Xp : Jr) (R0 : Heap → Prop) (d : Nat → Prop) (L : Nat × Nat × Nat × Nat) (Q : Ji) (T : Th) (hp : Pf D A x R0 d) (a1 : Int32) (out : Ji × Th) (hE : R_word Xp a1 Q T = some (.inr out)) : Ct l yX3_word (ws_ yX3_word cX3_word 2 none) (rmA 4 87 L T) vwCl arTy D A [.ref (x + 9), .int a1] (RD D (RP D x Xp R0 Q) d L T) (RD D (RP D x Xp R0 out.1) d L out.2) none (L.1 - tN T) (L.2.1 - tZ T) := by
  refine Ct.ofA (lv := [(0, .ref (x + 9)), (1, .int a1)]) (by decide) (Nat.le_of_ble_eq_true rfl) rfl hp.1 hp.2.1 ?_
  intro X hl hX hR hXA _
  exact w_R_word (Xp := Xp) (out := .inr out) (hp.px hX hXA) hR a1 Q T hE
theorem ctx_R_word (l : Launch) (D : Dd) (A : Nat → Prop) (x : Nat) (Xp : Jr) (R0 : Heap → Prop) (d : Nat → Prop) (L : Nat × Nat × Nat × Nat) (Q : Ji) (T : Th) (hp : Pf D A x R0 d) (a1 : Int32) (e : Ji × Jr × Th) (hE : R_word Xp a1 Q T = some (.inl e)) : CtT l yX3_word (ws_ yX3_word cX3_word 2 none) (rmA 4 87 L T) D A [.ref (x + 9), .int a1] (RD D (RP D x Xp R0 Q) d L T) (RD D (RP D x e.2.1 R0 e.1) d L e.2.2) (x + 1) (L.1 - tN T) (L.2.1 - tZ T) := by
  refine CtT.ofA (lv := [(0, .ref (x + 9)), (1, .int a1)]) (by decide) (Nat.le_of_ble_eq_true rfl) rfl hp.1 hp.2.1 ?_
  intro X hl hX hR hXA
  exact w_R_word (Xp := Xp) (out := .inl e) (hp.px hX hXA) hR a1 Q T hE
theorem cw_R_word_X3 {X : Ctx} {cc : ByteArray} {D : Dd} {d : Nat → Prop} {L : Nat × Nat × Nat × Nat} {mL fr lo : Nat} {T : Th} (hX : Ax X cc RX3 D d L mL fr lo) (h1 : 4 + 1 ≤ fr) (h2 : 8 + (2 + 11) + 87 ≤ lo) : CallW X.2.2.2.1 X.2.2.2.2.1 X.2.2.2.2.2.2.1 RX3 RX3 260 yX3_word cX3_word 2 none (ws_ yX3_word cX3_word 2 none) (rmA 4 87 L T) (L.1 - tN T) (L.2.1 - tZ T) 1 := cwV 1 (cx_w hX.1) (lw_V q1235 q1237 qs33 q120 q1238) rfl rfl rfl (by decide +kernel) (by rw [hX.2.2.2.1, hX.2.2.2.2.1]; exact ⟨h1, h2⟩)
set_option maxHeartbeats 4000000 in
theorem w_R_door_B114 {X : Ctx} {D : Dd} {x : Nat} {R0 : Heap → Prop} {d : Nat → Prop} {L : Nat × Nat × Nat × Nat} {Xp : Jr} {out : (Ji × Jr × Th) ⊕ (Ji × Th)} (hP : Px X cX3_door RX3 D x R0 d L 3 9 202) (hR : RtX X none D L x (fun r => (RD D (RP D x Xp R0 r.1) d L r.2)) (fun r => none) (fun e => RD D (RP D x e.2.1 R0 e.1) d L e.2.2) out) (F : Nat) (a1 : Nat) (Q : Ji) (T : Th) (hE : R_door_B114 F Xp a1 Q T = some out) (c z : Nat) : Wk X c z (RD D (RP D x Xp R0 Q) d L T) 114 [(0, .ref (x + 9)), (1, .ref a1)] [] := by
  have hX := hP.1
  have hC := hX.1
  have hnL := hX.2.2.1
  have hSt : ∀ {Xp : Jr} {Q : Ji}, Stb (RP D x Xp R0 Q) d := hP.st
  have hDy : ∀ {Xp : Jr} {Q : Ji} {T : Th} (H : Heap), RD D (RP D x Xp R0 Q) d L T H → Dy D T H := fun _ h => h.2.1
  unfold R_door_B114 at hE
  refine k_aload_n (pc := 114) hC dX3_door_114 rfl 0 rfl ?_
  refine gP_X3_83 (pc := 115) hP dX3_door_115 ?_
  refine k_nn (G := fun z => Wk X _ _ (RD D (RP D x Xp R0 Q) d L T) 118 [(0, .ref (x + 9)), (1, .ref a1)] [z]) hE (fun b30 hE => ?_)
  refine gD_X3_175_X4 (pc := 118) hC hDy dX3_door_118 hE (fun x31 hE => ?_)
  refine k_aload_n (pc := 121) hC dX3_door_121 rfl 1 rfl ?_
  refine k_nn (G := fun z => Wk X _ _ (RD D (RP D x Xp R0 Q) d L T) 122 [(0, .ref (x + 9)), (1, .ref a1)] [.ref a1, z]) hE (fun b32 hE => ?_)
  obtain ⟨hrv, hE⟩ := dC_of hE
  obtain ⟨r33, h1, hE⟩ := ob_ hE
  refine a_callV (pc := 122) (As := [.ref a1]) hX (ct_A_L_add X.2.1 D (cxA X) (RP D x Xp R0 Q) d L T hSt hX.2.1 hX.2.2.2.2.2.2.2.2.2 b32 a1 r33 h1) (cw_A_L_add_X3 hX (Nat.le_of_ble_eq_true rfl) (Nat.le_of_ble_eq_true rfl)) (a_recv hC cl_J5 hrv) rfl rfl (Nat.le_of_ble_eq_true rfl) dX3_door_122 (fun c z => ?_)
  show Wk X c z (RD D (RP D x Xp R0 Q) d L r33.2) 125 [(0, .ref (x + 9)), (1, .ref a1)] [.int r33.1]
  refine k_pop (pc := 125) hC dX3_door_125 rfl ?_
  cases hE
  exact a_vret (pc := 126) hX hR dX3_door_126 (by rfl) (fun _ h => h)
set_option maxHeartbeats 4000000 in
theorem w_R_door_B83 {X : Ctx} {D : Dd} {x : Nat} {R0 : Heap → Prop} {d : Nat → Prop} {L : Nat × Nat × Nat × Nat} {Xp : Jr} {out : (Ji × Jr × Th) ⊕ (Ji × Th)} (hP : Px X cX3_door RX3 D x R0 d L 3 9 202) (hR : RtX X none D L x (fun r => (RD D (RP D x Xp R0 r.1) d L r.2)) (fun r => none) (fun e => RD D (RP D x e.2.1 R0 e.1) d L e.2.2) out) (F : Nat) (a1 : Nat) (Q : Ji) (T : Th) (hE : R_door_B83 F Xp a1 Q T = some out) (c z : Nat) : Wk X c z (RD D (RP D x Xp R0 Q) d L T) 83 [(0, .ref (x + 9)), (1, .ref a1)] [] := by
  have hX := hP.1
  have hC := hX.1
  have hnL := hX.2.2.1
  have hSt : ∀ {Xp : Jr} {Q : Ji}, Stb (RP D x Xp R0 Q) d := hP.st
  have hDy : ∀ {Xp : Jr} {Q : Ji} {T : Th} (H : Heap), RD D (RP D x Xp R0 Q) d L T H → Dy D T H := fun _ h => h.2.1
  unfold R_door_B83 at hE
  refine k_aload_n (pc := 83) hC dX3_door_83 rfl 1 rfl ?_
  refine k_aload_n (pc := 84) hC dX3_door_84 rfl 0 rfl ?_
  refine k_iconst (pc := 85) (v := 1) hC dX3_door_85 (by decide) ?_
  refine k_bipush (pc := 86) (v := 60) hC dX3_door_86 (by decide) ?_
  rcases xb_of hE with ⟨e, h1, rfl⟩ | ⟨r23, h1, hE⟩
  · exact p_callVT (pc := 88) (As := [.int 1, .int 60]) hP hR (ctx_R_number X.2.1 D (cxA X) x Xp R0 d L Q T (pxf hP) F 1 60 e h1) (fun H h => p_fault hC.K h) (p_tt hX) (cw_R_number_X3 hX (Nat.le_of_ble_eq_true rfl) (Nat.le_of_ble_eq_true rfl)) (p_recv 9 lp_9 cl_X3 hP) rfl rfl (Nat.le_of_ble_eq_true rfl) dX3_door_88
  refine a_callV (pc := 88) (As := [.int 1, .int 60]) hX (ct_R_number X.2.1 D (cxA X) x Xp R0 d L Q T (pxf hP) F 1 60 r23 h1) (cw_R_number_X3 hX (Nat.le_of_ble_eq_true rfl) (Nat.le_of_ble_eq_true rfl)) (p_recv 9 lp_9 cl_X3 hP) rfl rfl (Nat.le_of_ble_eq_true rfl) dX3_door_88 (fun c z => ?_)
  show Wk X c z (RD D (RP D x Xp R0 r23.2.1) d L r23.2.2) 91 [(0, .ref (x + 9)), (1, .ref a1)] [.int r23.1, .ref a1]
  refine a_putI (pc := 91) (y := r23.1) hX hSt cl_X11 in_X11 2 (by decide) rfl tyX11 tyX11_ok nmX11 (by exact q996) rfl rfl rfl rfl dX3_door_91 hE (fun T24 _ hE => ?_)
  refine k_aload_n (pc := 94) hC dX3_door_94 rfl 1 rfl ?_
  refine k_aload_n (pc := 95) hC dX3_door_95 rfl 0 rfl ?_
  refine k_iconst (pc := 96) (v := 2) hC dX3_door_96 (by decide) ?_
  rcases xb_of hE with ⟨e, h1, rfl⟩ | ⟨r25, h1, hE⟩
  · exact p_callVT (pc := 97) (As := [.int 2]) hP hR (ctx_R_isWord X.2.1 D (cxA X) x Xp R0 d L r23.2.1 T24 (pxf hP) 2 e h1) (fun H h => p_fault hC.K h) (p_tt hX) (cw_R_isWord_X3 hX (Nat.le_of_ble_eq_true rfl) (Nat.le_of_ble_eq_true rfl)) (p_recv 9 lp_9 cl_X3 hP) rfl rfl (Nat.le_of_ble_eq_true rfl) dX3_door_97
  refine a_callV (pc := 97) (As := [.int 2]) hX (ct_R_isWord X.2.1 D (cxA X) x Xp R0 d L r23.2.1 T24 (pxf hP) 2 r25 h1) (cw_R_isWord_X3 hX (Nat.le_of_ble_eq_true rfl) (Nat.le_of_ble_eq_true rfl)) (p_recv 9 lp_9 cl_X3 hP) rfl rfl (Nat.le_of_ble_eq_true rfl) dX3_door_97 (fun c z => ?_)
  show Wk X c z (RD D (RP D x Xp R0 r25.2.1) d L r25.2.2) 100 [(0, .ref (x + 9)), (1, .ref a1)] [.int r25.1, .ref a1]
  obtain ⟨z27, hz, hE⟩ := ob_ hE
  obtain ⟨hz1, hz⟩ := bz_some hz
  rw [hz1]
  refine a_putI (pc := 100) (y := z27) hX hSt cl_X11 in_X11 3 (by decide) rfl tyX11 tyX11_ok nmX11 (by exact q998) rfl rfl (by rcases hz with h | h <;> rw [h] <;> rfl) (by rcases hz with h | h <;> rw [h] <;> rfl) dX3_door_100 hE (fun T26 _ hE => ?_)
  refine k_aload_n (pc := 103) hC dX3_door_103 rfl 1 rfl ?_
  refine gD_X3_189_X11 (pc := 104) hC hDy dX3_door_104 hE (fun x28 hE => ?_)
  refine k_if_eq (pc := 107) (tgt := 114) hC dX3_door_107 (by decide) hE (fun hE => ?_) (fun hE => ?_)
  · exact w_R_door_B114 hP hR F _ _ _ hE _ _
  · refine k_aload_n (pc := 110) hC dX3_door_110 rfl 0 rfl ?_
    rcases xb_of hE with ⟨e, h1, rfl⟩ | ⟨r29, h1, hE⟩
    · exact p_callVT (pc := 111) (As := []) hP hR (ctx_R_pass X.2.1 D (cxA X) x Xp R0 d L r25.2.1 T26 (pxf hP)  e h1) (fun H h => p_fault hC.K h) (p_tt hX) (cw_R_pass_X3 hX (Nat.le_of_ble_eq_true rfl) (Nat.le_of_ble_eq_true rfl)) (p_recv 9 lp_9 cl_X3 hP) rfl rfl (Nat.le_of_ble_eq_true rfl) dX3_door_111
    refine a_callV (pc := 111) (As := []) hX (ct_R_pass X.2.1 D (cxA X) x Xp R0 d L r25.2.1 T26 (pxf hP)  r29 h1) (cw_R_pass_X3 hX (Nat.le_of_ble_eq_true rfl) (Nat.le_of_ble_eq_true rfl)) (p_recv 9 lp_9 cl_X3 hP) rfl rfl (Nat.le_of_ble_eq_true rfl) dX3_door_111 (fun c z => ?_)
    show Wk X c z (RD D (RP D x Xp R0 r29.1) d L r29.2) 114 [(0, .ref (x + 9)), (1, .ref a1)] []
    exact w_R_door_B114 hP hR F _ _ _ hE _ _
set_option maxHeartbeats 4000000 in
theorem w_R_door {X : Ctx} {D : Dd} {x : Nat} {R0 : Heap → Prop} {d : Nat → Prop} {L : Nat × Nat × Nat × Nat} {Xp : Jr} {out : (Ji × Jr × Th) ⊕ (Ji × Th)} (hP : Px X cX3_door RX3 D x R0 d L 3 9 202) (hR : RtX X none D L x (fun r => (RD D (RP D x Xp R0 r.1) d L r.2)) (fun r => none) (fun e => RD D (RP D x e.2.1 R0 e.1) d L e.2.2) out) (F : Nat) (Q : Ji) (T : Th) (hE : R_door F Xp Q T = some out) (c z : Nat) : Wk X c z (RD D (RP D x Xp R0 Q) d L T) 0 [(0, .ref (x + 9))] [] := by
  have hX := hP.1
  have hC := hX.1
  have hnL := hX.2.2.1
  have hSt : ∀ {Xp : Jr} {Q : Ji}, Stb (RP D x Xp R0 Q) d := hP.st
  have hDy : ∀ {Xp : Jr} {Q : Ji} {T : Th} (H : Heap), RD D (RP D x Xp R0 Q) d L T H → Dy D T H := fun _ h => h.2.1
  unfold R_door at hE
  refine k_aload_n (pc := 0) hC dX3_door_0 rfl 0 rfl ?_
  refine k_aload_n (pc := 1) hC dX3_door_1 rfl 0 rfl ?_
  refine gP_X3_83 (pc := 2) hP dX3_door_2 ?_
  refine k_nn (G := fun z => Wk X _ _ (RD D (RP D x Xp R0 Q) d L T) 5 [(0, .ref (x + 9))] [z, .ref (x + 9)]) hE (fun b1 hE => ?_)
  refine gD_X3_175_X4 (pc := 5) hC hDy dX3_door_5 hE (fun x2 hE => ?_)
  refine k_nn (G := fun z => Wk X _ _ (RD D (RP D x Xp R0 Q) d L T) 8 [(0, .ref (x + 9))] [z, .ref (x + 9)]) hE (fun b3 hE => ?_)
  refine a_tight hX ?_
  refine a_know (a_hcs hX) (fun hcs => ?_)
  refine t_callVI (pc := 8) (As := []) 19 (fun r => r) hC hDy cl_J5 (cw_L_size_X3 hC rfl (by rw [hX.2.2.2.1]; exact Nat.le_of_ble_eq_true rfl) (by rw [hX.2.2.2.2.1]; exact Nat.le_of_ble_eq_true rfl)) rfl rfl (Nat.le_of_ble_eq_true rfl) (a_hc0 hcs) dX3_door_8 hE (fun r h => ct_L_size _ _ _ _ T hDy b3 r h) (fun r4 hE => ?_)
  refine k_bipush (pc := 11) (v := 12) hC dX3_door_11 (by decide) ?_
  rcases xb_of hE with ⟨e, h1, rfl⟩ | ⟨r5, h1, hE⟩
  · exact p_callVT (pc := 13) (As := [.int r4, .int 12]) hP hR (ctx_R_begins X.2.1 D (cxA X) x Xp R0 d L Q T (pxf hP) r4 12 e h1) (fun H h => p_fault hC.K h) (p_tt hX) (cw_R_begins_X3 hX (Nat.le_of_ble_eq_true rfl) (Nat.le_of_ble_eq_true rfl)) (p_recv 9 lp_9 cl_X3 hP) rfl rfl (Nat.le_of_ble_eq_true rfl) dX3_door_13
  refine a_callV (pc := 13) (As := [.int r4, .int 12]) hX (ct_R_begins X.2.1 D (cxA X) x Xp R0 d L Q T (pxf hP) r4 12 r5 h1) (cw_R_begins_X3 hX (Nat.le_of_ble_eq_true rfl) (Nat.le_of_ble_eq_true rfl)) (p_recv 9 lp_9 cl_X3 hP) rfl rfl (Nat.le_of_ble_eq_true rfl) dX3_door_13 (fun c z => ?_)
  show Wk X c z (RD D (RP D x Xp R0 r5.1) d L r5.2) 16 [(0, .ref (x + 9))] []
  refine a_new (pc := 16) hX hSt cl_X11 in_X11 tyX11 tyX11_ok dv_X11 q985 q986 q142 dX3_door_16 hE (fun T6 eT6 hE c z => ?_)
  refine k_dup (pc := 19) hC dX3_door_19 rfl ?_
  obtain ⟨r7, h1, hE⟩ := ob_ hE
  refine a_callIN (pc := 20) (As := []) hX (ct_A_Door X.2.1 D (cxA X) (RP D x Xp R0 r5.1) d L T6 hSt hX.2.1 hX.2.2.2.2.2.2.2.2.2 (tN r5.2) r7 h1) (cw_A_Door_X3 hX (Nat.le_of_ble_eq_true rfl) (Nat.le_of_ble_eq_true rfl)) rfl rfl (Nat.le_of_ble_eq_true rfl) dX3_door_20 (fun c z => ?_)
  show Wk X c z (RD D (RP D x Xp R0 r5.1) d L T6) 23 [(0, .ref (x + 9))] [.ref (tN r5.2)]
  refine k_astore_n (pc := 23) (lv' := [(1, .ref (tN r5.2)), (0, .ref (x + 9))]) hC dX3_door_23 rfl (by rw [hnL]; decide) rfl ?_
  refine k_aload_n (pc := 24) hC dX3_door_24 rfl 0 rfl ?_
  refine k_aload_n (pc := 25) hC dX3_door_25 rfl 1 rfl ?_
  refine k_aload_n (pc := 26) hC dX3_door_26 rfl 1 rfl ?_
  refine gP_X3_83 (pc := 27) hP dX3_door_27 ?_
  refine k_nn (G := fun z => Wk X _ _ (RD D (RP D x Xp R0 r5.1) d L T6) 30 [(1, .ref (tN r5.2)), (0, .ref (x + 9))] [z, .ref (x + 9), .ref (tN r5.2)]) hE (fun b8 hE => ?_)
  refine gD_X3_109_X4 (pc := 30) hC hDy dX3_door_30 hE (fun x9 hE => ?_)
  refine k_nn (G := fun z => Wk X _ _ (RD D (RP D x Xp R0 r5.1) d L T6) 33 [(1, .ref (tN r5.2)), (0, .ref (x + 9))] [z, .ref (x + 9), .ref (tN r5.2)]) hE (fun b10 hE => ?_)
  rcases xb_of hE with ⟨e, h1, rfl⟩ | ⟨r11, h1, hE⟩
  · exact p_callVT (pc := 33) (As := [.ref b10]) hP hR (ctx_R_known X.2.1 D (cxA X) x Xp R0 d L r5.1 T6 (pxf hP) F b10 e h1) (fun H h => p_fault hC.K h) (p_tt hX) (cw_R_known_X3 hX (Nat.le_of_ble_eq_true rfl) (Nat.le_of_ble_eq_true rfl)) (p_recv 9 lp_9 cl_X3 hP) rfl rfl (Nat.le_of_ble_eq_true rfl) dX3_door_33
  refine a_callV (pc := 33) (As := [.ref b10]) hX (ct_R_known X.2.1 D (cxA X) x Xp R0 d L r5.1 T6 (pxf hP) F b10 r11 h1) (cw_R_known_X3 hX (Nat.le_of_ble_eq_true rfl) (Nat.le_of_ble_eq_true rfl)) (p_recv 9 lp_9 cl_X3 hP) rfl rfl (Nat.le_of_ble_eq_true rfl) dX3_door_33 (fun c z => ?_)
  show Wk X c z (RD D (RP D x Xp R0 r11.2.1) d L r11.2.2) 36 [(1, .ref (tN r5.2)), (0, .ref (x + 9))] [.int r11.1, .ref (tN r5.2)]
  refine a_putI (pc := 36) (y := r11.1) hX hSt cl_X11 in_X11 0 (by decide) rfl tyX11 tyX11_ok nmX11 (by exact q992) rfl rfl rfl rfl dX3_door_36 hE (fun T12 _ hE => ?_)
  refine k_aload_n (pc := 39) hC dX3_door_39 rfl 1 rfl ?_
  refine gP_X3_31 (pc := 40) hP dX3_door_40 ?_
  refine k_istoreE_n (pc := 43) (lv' := fun x13 => [(2, .int x13), (1, .ref (tN r5.2)), (0, .ref (x + 9))]) hC dX3_door_43 rfl (by rw [hnL]; decide) hE (fun _ => rfl) (fun x13 hE => ?_)
  refine k_aload_n (pc := 44) hC dX3_door_44 rfl 1 rfl ?_
  refine k_aload_n (pc := 45) hC dX3_door_45 rfl 2 rfl ?_
  refine k_aload_n (pc := 46) hC dX3_door_46 rfl 2 rfl ?_
  refine gP_X3_83 (pc := 47) hP dX3_door_47 ?_
  refine k_nn (G := fun z => Wk X _ _ (RD D (RP D x Xp R0 r11.2.1) d L T12) 50 [(2, .int x13), (1, .ref (tN r5.2)), (0, .ref (x + 9))] [z, .ref (x + 9), .ref (tN r5.2)]) hE (fun b14 hE => ?_)
  refine gD_X3_109_X4 (pc := 50) hC hDy dX3_door_50 hE (fun x15 hE => ?_)
  refine k_nn (G := fun z => Wk X _ _ (RD D (RP D x Xp R0 r11.2.1) d L T12) 53 [(2, .int x13), (1, .ref (tN r5.2)), (0, .ref (x + 9))] [z, .ref (x + 9), .ref (tN r5.2)]) hE (fun b16 hE => ?_)
  rcases xb_of hE with ⟨e, h1, rfl⟩ | ⟨r17, h1, hE⟩
  · exact p_callVT (pc := 53) (As := [.ref b16]) hP hR (ctx_R_known X.2.1 D (cxA X) x Xp R0 d L r11.2.1 T12 (pxf hP) F b16 e h1) (fun H h => p_fault hC.K h) (p_tt hX) (cw_R_known_X3 hX (Nat.le_of_ble_eq_true rfl) (Nat.le_of_ble_eq_true rfl)) (p_recv 9 lp_9 cl_X3 hP) rfl rfl (Nat.le_of_ble_eq_true rfl) dX3_door_53
  refine a_callV (pc := 53) (As := [.ref b16]) hX (ct_R_known X.2.1 D (cxA X) x Xp R0 d L r11.2.1 T12 (pxf hP) F b16 r17 h1) (cw_R_known_X3 hX (Nat.le_of_ble_eq_true rfl) (Nat.le_of_ble_eq_true rfl)) (p_recv 9 lp_9 cl_X3 hP) rfl rfl (Nat.le_of_ble_eq_true rfl) dX3_door_53 (fun c z => ?_)
  show Wk X c z (RD D (RP D x Xp R0 r17.2.1) d L r17.2.2) 56 [(2, .int x13), (1, .ref (tN r5.2)), (0, .ref (x + 9))] [.int r17.1, .ref (tN r5.2)]
  refine a_putI (pc := 56) (y := r17.1) hX hSt cl_X11 in_X11 1 (by decide) rfl tyX11 tyX11_ok nmX11 (by exact q994) rfl rfl rfl rfl dX3_door_56 hE (fun T18 _ hE => ?_)
  refine k_aload_n (pc := 59) hC dX3_door_59 rfl 1 rfl ?_
  refine gD_X3_181_X11 (pc := 60) hC hDy dX3_door_60 hE (fun x19 hE => ?_)
  refine k_if_lt (pc := 63) (tgt := 83) hC dX3_door_63 (by decide) hE (fun hE => ?_) (fun hE => ?_)
  · refine k_sub [2, 1] rfl ?_
    exact w_R_door_B83 hP hR F _ _ _ hE _ _
  · refine k_aload_n (pc := 66) hC dX3_door_66 rfl 1 rfl ?_
    refine gD_X3_181_X11 (pc := 67) hC hDy dX3_door_67 hE (fun x20 hE => ?_)
    refine k_aload_n (pc := 70) hC dX3_door_70 rfl 1 rfl ?_
    refine gD_X3_183_X11 (pc := 71) hC hDy dX3_door_71 hE (fun x21 hE => ?_)
    refine k_icmp_ne (pc := 74) (tgt := 83) hC dX3_door_74 (by decide) hE (fun hE => ?_) (fun hE => ?_)
    · refine k_aload_n (pc := 77) hC dX3_door_77 rfl 2 rfl ?_
      refine k_iconst (pc := 78) (v := 5) hC dX3_door_78 (by decide) ?_
      refine k_iload_n (pc := 79) hC dX3_door_79 rfl 0 rfl ?_
      obtain ⟨r22, h1, hE⟩ := ob_ hE
      refine a_callV (pc := 80) (As := [.int 5, .int x13]) hX (ct_R_tell X.2.1 D (cxA X) x Xp R0 d L r17.2.1 T18 (pxf hP) 5 x13 r22 h1) (cw_R_tell_X3 hX (Nat.le_of_ble_eq_true rfl) (Nat.le_of_ble_eq_true rfl)) (p_recv 9 lp_9 cl_X3 hP) rfl rfl (Nat.le_of_ble_eq_true rfl) dX3_door_80 (fun c z => ?_)
      show Wk X c z (RD D (RP D x Xp R0 r22) d L T18) 83 [(2, .int x13), (1, .ref (tN r5.2)), (0, .ref (x + 9))] []
      refine k_sub [2, 1] rfl ?_
      exact w_R_door_B83 hP hR F _ _ _ hE _ _
    · refine k_sub [2, 1] rfl ?_
      exact w_R_door_B83 hP hR F _ _ _ hE _ _
theorem ct_R_door (l : Launch) (D : Dd) (A : Nat → Prop) (x : Nat) (Xp : Jr) (R0 : Heap → Prop) (d : Nat → Prop) (L : Nat × Nat × Nat × Nat) (Q : Ji) (T : Th) (hp : Pf D A x R0 d) (F : Nat) (out : Ji × Th) (hE : R_door F Xp Q T = some (.inr out)) : Ct l yX3_door (ws_ yX3_door cX3_door 3 none) (rmA 9 202 L T) vwCl arTy D A [.ref (x + 9)] (RD D (RP D x Xp R0 Q) d L T) (RD D (RP D x Xp R0 out.1) d L out.2) none (L.1 - tN T) (L.2.1 - tZ T) := by
  refine Ct.ofA (lv := [(0, .ref (x + 9))]) (by decide) (Nat.le_of_ble_eq_true rfl) rfl hp.1 hp.2.1 ?_
  intro X hl hX hR hXA _
  exact w_R_door (Xp := Xp) (out := .inr out) (hp.px hX hXA) hR F Q T hE
theorem ctx_R_door (l : Launch) (D : Dd) (A : Nat → Prop) (x : Nat) (Xp : Jr) (R0 : Heap → Prop) (d : Nat → Prop) (L : Nat × Nat × Nat × Nat) (Q : Ji) (T : Th) (hp : Pf D A x R0 d) (F : Nat) (e : Ji × Jr × Th) (hE : R_door F Xp Q T = some (.inl e)) : CtT l yX3_door (ws_ yX3_door cX3_door 3 none) (rmA 9 202 L T) D A [.ref (x + 9)] (RD D (RP D x Xp R0 Q) d L T) (RD D (RP D x e.2.1 R0 e.1) d L e.2.2) (x + 1) (L.1 - tN T) (L.2.1 - tZ T) := by
  refine CtT.ofA (lv := [(0, .ref (x + 9))]) (by decide) (Nat.le_of_ble_eq_true rfl) rfl hp.1 hp.2.1 ?_
  intro X hl hX hR hXA
  exact w_R_door (Xp := Xp) (out := .inl e) (hp.px hX hXA) hR F Q T hE
theorem cw_R_door_X3 {X : Ctx} {cc : ByteArray} {D : Dd} {d : Nat → Prop} {L : Nat × Nat × Nat × Nat} {mL fr lo : Nat} {T : Th} (hX : Ax X cc RX3 D d L mL fr lo) (h1 : 9 + 1 ≤ fr) (h2 : 8 + (3 + 11) + 202 ≤ lo) : CallW X.2.2.2.1 X.2.2.2.2.1 X.2.2.2.2.2.2.1 RX3 RX3 134 yX3_door cX3_door 3 none (ws_ yX3_door cX3_door 3 none) (rmA 9 202 L T) (L.1 - tN T) (L.2.1 - tZ T) 0 := cwV 0 (cx_w hX.1) (lw_V q981 q983 qs20 q120 q984) rfl rfl rfl (by decide +kernel) (by rw [hX.2.2.2.1, hX.2.2.2.2.1]; exact ⟨h1, h2⟩)
set_option maxHeartbeats 4000000 in
theorem w_R_stepOf {X : Ctx} {D : Dd} {x : Nat} {R0 : Heap → Prop} {d : Nat → Prop} {L : Nat × Nat × Nat × Nat} {Xp : Jr} {out : (Ji × Jr × Th) ⊕ (Int32 × Ji × Th)} (hP : Px X cX3_stepOf RX3 D x R0 d L 4 5 108) (hR : RtX X (some .int) D L x (fun r => (RD D (RP D x Xp R0 r.2.1) d L r.2.2)) (fun r => (some (.int r.1))) (fun e => RD D (RP D x e.2.1 R0 e.1) d L e.2.2) out) (F : Nat) (a1 : Option Nat) (Q : Ji) (T : Th) (hE : R_stepOf F Xp a1 Q T = some out) (c z : Nat) : Wk X c z (RD D (RP D x Xp R0 Q) d L T) 0 [(0, .ref (x + 9)), (1, va_rf a1)] [] := by
  have hX := hP.1
  have hC := hX.1
  have hnL := hX.2.2.1
  have hSt : ∀ {Xp : Jr} {Q : Ji}, Stb (RP D x Xp R0 Q) d := hP.st
  have hDy : ∀ {Xp : Jr} {Q : Ji} {T : Th} (H : Heap), RD D (RP D x Xp R0 Q) d L T H → Dy D T H := fun _ h => h.2.1
  unfold R_stepOf at hE
  refine k_aload_n (pc := 0) hC dX3_stepOf_0 rfl 0 rfl ?_
  refine k_iconst (pc := 1) (v := 1) hC dX3_stepOf_1 (by decide) ?_
  rcases xb_of hE with ⟨e, h1, rfl⟩ | ⟨r1, h1, hE⟩
  · exact p_callVT (pc := 2) (As := [.int 1]) hP hR (ctx_R_take X.2.1 D (cxA X) x Xp R0 d L Q T (pxf hP) 1 e h1) (fun H h => p_fault hC.K h) (p_tt hX) (cw_R_take_X3 hX (Nat.le_of_ble_eq_true rfl) (Nat.le_of_ble_eq_true rfl)) (p_recv 9 lp_9 cl_X3 hP) rfl rfl (Nat.le_of_ble_eq_true rfl) dX3_stepOf_2
  refine a_callV (pc := 2) (As := [.int 1]) hX (ct_R_take X.2.1 D (cxA X) x Xp R0 d L Q T (pxf hP) 1 r1 h1) (cw_R_take_X3 hX (Nat.le_of_ble_eq_true rfl) (Nat.le_of_ble_eq_true rfl)) (p_recv 9 lp_9 cl_X3 hP) rfl rfl (Nat.le_of_ble_eq_true rfl) dX3_stepOf_2 (fun c z => ?_)
  show Wk X c z (RD D (RP D x Xp R0 r1.2.1) d L r1.2.2) 5 [(0, .ref (x + 9)), (1, va_rf a1)] [.int r1.1]
  refine k_istore_n (pc := 5) (lv' := [(2, .int r1.1), (0, .ref (x + 9)), (1, va_rf a1)]) hC dX3_stepOf_5 rfl (by rw [hnL]; decide) (by cases a1 <;> rfl) ?_
  refine k_aload_n (pc := 6) hC dX3_stepOf_6 rfl 1 rfl ?_
  refine gP_X3_9 (pc := 7) hP dX3_stepOf_7 ?_
  refine k_iload_n (pc := 10) hC dX3_stepOf_10 rfl 0 rfl ?_
  obtain ⟨r2, h1, hE⟩ := ob_ hE
  refine a_callV (pc := 11) (As := [.int r1.1]) hX (ct_T_number X.2.1 D (cxA X) x Xp R0 d L r1.2.1 r1.2.2 (pxf hP) F r1.1 r2 h1) (cw_T_number_X3 hX (Nat.le_of_ble_eq_true rfl) (Nat.le_of_ble_eq_true rfl)) (p_recv 2 lp_2 cl_X2 hP) rfl rfl (Nat.le_of_ble_eq_true rfl) dX3_stepOf_11 (fun c z => ?_)
  show Wk X c z (RD D (RP D x Xp R0 r1.2.1) d L r1.2.2) 14 [(2, .int r1.1), (0, .ref (x + 9)), (1, va_rf a1)] [.int r2]
  refine k_istore_n (pc := 14) (lv' := [(3, .int r2), (2, .int r1.1), (0, .ref (x + 9)), (1, va_rf a1)]) hC dX3_stepOf_14 rfl (by rw [hnL]; decide) rfl ?_
  refine k_aloadR_n (pc := 15) hC dX3_stepOf_15 rfl 3 rfl ?_
  refine k_rc (G := fun z => Wk X _ _ (RD D (RP D x Xp R0 r1.2.1) d L r1.2.2) 16 [(3, .int r2), (2, .int r1.1), (0, .ref (x + 9)), (1, z)] [z]) hE (fun hE => ?_) (fun b3 hE => ?_)
  · refine k_ifnullN (pc := 16) (tgt := 33) hC dX3_stepOf_16 (by decide) ?_
    refine k_iload_n (pc := 33) hC dX3_stepOf_33 rfl 0 rfl ?_
    cases hE
    exact a_iret (pc := 34) hX hR dX3_stepOf_34 (by rfl) (fun _ h => h)
  · refine k_ifnull (pc := 16) hC dX3_stepOf_16 ?_
    refine k_aload_n (pc := 19) hC dX3_stepOf_19 rfl 3 rfl ?_
    refine k_iload_n (pc := 20) hC dX3_stepOf_20 rfl 0 rfl ?_
    refine a_tight hX ?_
    refine a_know (a_hcs hX) (fun hcs => ?_)
    refine t_callVI (pc := 21) (As := [.int r2]) 12 (fun r => r) hC hDy cl_X13 (cw_C_isStep_X3 hC rfl (by rw [hX.2.2.2.1]; exact Nat.le_of_ble_eq_true rfl) (by rw [hX.2.2.2.2.1]; exact Nat.le_of_ble_eq_true rfl)) rfl rfl (Nat.le_of_ble_eq_true rfl) (a_hc0 hcs) dX3_stepOf_21 hE (fun r h => ct_C_isStep _ _ _ _ r1.2.2 hDy b3 r2 r h) (fun r4 hE => ?_)
    refine k_if_ne (pc := 24) (tgt := 33) hC dX3_stepOf_24 (by decide) hE (fun hE => ?_) (fun hE => ?_)
    · refine k_aload_n (pc := 27) hC dX3_stepOf_27 rfl 2 rfl ?_
      refine k_iconst (pc := 28) (v := 5) hC dX3_stepOf_28 (by decide) ?_
      refine k_iload_n (pc := 29) hC dX3_stepOf_29 rfl 1 rfl ?_
      obtain ⟨r5, h1, hE⟩ := ob_ hE
      refine a_callV (pc := 30) (As := [.int 5, .int r1.1]) hX (ct_R_tell X.2.1 D (cxA X) x Xp R0 d L r1.2.1 r1.2.2 (pxf hP) 5 r1.1 r5 h1) (cw_R_tell_X3 hX (Nat.le_of_ble_eq_true rfl) (Nat.le_of_ble_eq_true rfl)) (p_recv 9 lp_9 cl_X3 hP) rfl rfl (Nat.le_of_ble_eq_true rfl) dX3_stepOf_30 (fun c z => ?_)
      show Wk X c z (RD D (RP D x Xp R0 r5) d L r1.2.2) 33 [(3, .int r2), (2, .int r1.1), (0, .ref (x + 9)), (1, .ref b3)] []
      refine k_iload_n (pc := 33) hC dX3_stepOf_33 rfl 0 rfl ?_
      cases hE
      exact a_iret (pc := 34) hX hR dX3_stepOf_34 (by rfl) (fun _ h => h)
    · refine k_iload_n (pc := 33) hC dX3_stepOf_33 rfl 0 rfl ?_
      cases hE
      exact a_iret (pc := 34) hX hR dX3_stepOf_34 (by rfl) (fun _ h => h)
theorem ct_R_stepOf (l : Launch) (D : Dd) (A : Nat → Prop) (x : Nat) (Xp : Jr) (R0 : Heap → Prop) (d : Nat → Prop) (L : Nat × Nat × Nat × Nat) (Q : Ji) (T : Th) (hp : Pf D A x R0 d) (F : Nat) (a1 : Option Nat) (out : Int32 × Ji × Th) (hE : R_stepOf F Xp a1 Q T = some (.inr out)) : Ct l yX3_stepOf (ws_ yX3_stepOf cX3_stepOf 4 (some .int)) (rmA 5 108 L T) vwCl arTy D A [.ref (x + 9), va_rf a1] (RD D (RP D x Xp R0 Q) d L T) (RD D (RP D x Xp R0 out.2.1) d L out.2.2) (some (.int out.1)) (L.1 - tN T) (L.2.1 - tZ T) := by
  refine Ct.ofA (lv := [(0, .ref (x + 9)), (1, va_rf a1)]) (by decide) (by cases a1 <;> exact Nat.le_of_ble_eq_true rfl) (by cases a1 <;> rfl) hp.1 hp.2.1 ?_
  intro X hl hX hR hXA _
  exact w_R_stepOf (Xp := Xp) (out := .inr out) (hp.px hX hXA) hR F a1 Q T hE
theorem ctx_R_stepOf (l : Launch) (D : Dd) (A : Nat → Prop) (x : Nat) (Xp : Jr) (R0 : Heap → Prop) (d : Nat → Prop) (L : Nat × Nat × Nat × Nat) (Q : Ji) (T : Th) (hp : Pf D A x R0 d) (F : Nat) (a1 : Option Nat) (e : Ji × Jr × Th) (hE : R_stepOf F Xp a1 Q T = some (.inl e)) : CtT l yX3_stepOf (ws_ yX3_stepOf cX3_stepOf 4 (some .int)) (rmA 5 108 L T) D A [.ref (x + 9), va_rf a1] (RD D (RP D x Xp R0 Q) d L T) (RD D (RP D x e.2.1 R0 e.1) d L e.2.2) (x + 1) (L.1 - tN T) (L.2.1 - tZ T) := by
  refine CtT.ofA (lv := [(0, .ref (x + 9)), (1, va_rf a1)]) (by decide) (by cases a1 <;> exact Nat.le_of_ble_eq_true rfl) (by cases a1 <;> rfl) hp.1 hp.2.1 ?_
  intro X hl hX hR hXA
  exact w_R_stepOf (Xp := Xp) (out := .inl e) (hp.px hX hXA) hR F a1 Q T hE
theorem cw_R_stepOf_X3 {X : Ctx} {cc : ByteArray} {D : Dd} {d : Nat → Prop} {L : Nat × Nat × Nat × Nat} {mL fr lo : Nat} {T : Th} (hX : Ax X cc RX3 D d L mL fr lo) (h1 : 5 + 1 ≤ fr) (h2 : 8 + (4 + 11) + 108 ≤ lo) : CallW X.2.2.2.1 X.2.2.2.2.1 X.2.2.2.2.2.2.1 RX3 RX3 219 yX3_stepOf cX3_stepOf 4 (some .int) (ws_ yX3_stepOf cX3_stepOf 4 (some .int)) (rmA 5 108 L T) (L.1 - tN T) (L.2.1 - tZ T) 1 := cwV 1 (cx_w hX.1) (lw_V q1107 q1109 qs25 q120 q1110) rfl rfl rfl (by decide +kernel) (by rw [hX.2.2.2.1, hX.2.2.2.2.1]; exact ⟨h1, h2⟩)
set_option maxHeartbeats 4000000 in
theorem w_R_step_B176 {X : Ctx} {D : Dd} {x : Nat} {R0 : Heap → Prop} {d : Nat → Prop} {L : Nat × Nat × Nat × Nat} {Xp : Jr} {out : (Ji × Jr × Th) ⊕ (Ji × Th)} (hP : Px X cX3_step RX3 D x R0 d L 5 9 202) (hR : RtX X none D L x (fun r => (RD D (RP D x Xp R0 r.1) d L r.2)) (fun r => none) (fun e => RD D (RP D x e.2.1 R0 e.1) d L e.2.2) out) (F : Nat) (a3 : Option Nat) (a4 : Nat) (Q : Ji) (T : Th) (hE : R_step_B176 F Xp a3 a4 Q T = some out) (c z : Nat) : Wk X c z (RD D (RP D x Xp R0 Q) d L T) 176 [(3, va_rf a3), (4, .ref a4)] [] := by
  have hX := hP.1
  have hC := hX.1
  have hnL := hX.2.2.1
  have hSt : ∀ {Xp : Jr} {Q : Ji}, Stb (RP D x Xp R0 Q) d := hP.st
  have hDy : ∀ {Xp : Jr} {Q : Ji} {T : Th} (H : Heap), RD D (RP D x Xp R0 Q) d L T H → Dy D T H := fun _ h => h.2.1
  unfold R_step_B176 at hE
  refine k_aloadR_n (pc := 176) hC dX3_step_176 rfl 0 rfl ?_
  refine k_rc (G := fun z => Wk X _ _ (RD D (RP D x Xp R0 Q) d L T) 177 [(3, z), (4, .ref a4)] [z]) hE (fun hE => ?_) (fun b38 hE => ?_)
  · refine k_ifnullN (pc := 177) (tgt := 190) hC dX3_step_177 (by decide) ?_
    cases hE
    exact a_vret (pc := 190) hX hR dX3_step_190 (by rfl) (fun _ h => h)
  · refine k_ifnull (pc := 177) hC dX3_step_177 ?_
    refine k_aload_n (pc := 180) hC dX3_step_180 rfl 0 rfl ?_
    refine gD_X3_200_X13 (pc := 181) hC hDy dX3_step_181 hE (fun x39 hE => ?_)
    refine k_aload (pc := 184) hC dX3_step_184 1 rfl ?_
    refine k_nn (G := fun z => Wk X _ _ (RD D (RP D x Xp R0 Q) d L T) 186 [(3, .ref b38), (4, .ref a4)] [.ref a4, z]) hE (fun b40 hE => ?_)
    obtain ⟨hrv, hE⟩ := dC_of hE
    obtain ⟨r41, h1, hE⟩ := ob_ hE
    refine a_callV (pc := 186) (As := [.ref a4]) hX (ct_A_L_add X.2.1 D (cxA X) (RP D x Xp R0 Q) d L T hSt hX.2.1 hX.2.2.2.2.2.2.2.2.2 b40 a4 r41 h1) (cw_A_L_add_X3 hX (Nat.le_of_ble_eq_true rfl) (Nat.le_of_ble_eq_true rfl)) (a_recv hC cl_J5 hrv) rfl rfl (Nat.le_of_ble_eq_true rfl) dX3_step_186 (fun c z => ?_)
    show Wk X c z (RD D (RP D x Xp R0 Q) d L r41.2) 189 [(3, .ref b38), (4, .ref a4)] [.int r41.1]
    refine k_pop (pc := 189) hC dX3_step_189 rfl ?_
    cases hE
    exact a_vret (pc := 190) hX hR dX3_step_190 (by rfl) (fun _ h => h)
set_option maxHeartbeats 4000000 in
theorem w_R_step_B153 {X : Ctx} {D : Dd} {x : Nat} {R0 : Heap → Prop} {d : Nat → Prop} {L : Nat × Nat × Nat × Nat} {Xp : Jr} {out : (Ji × Jr × Th) ⊕ (Ji × Th)} (hP : Px X cX3_step RX3 D x R0 d L 5 9 202) (hR : RtX X none D L x (fun r => (RD D (RP D x Xp R0 r.1) d L r.2)) (fun r => none) (fun e => RD D (RP D x e.2.1 R0 e.1) d L e.2.2) out) (F : Nat) (a3 : Option Nat) (a4 : Nat) (Q : Ji) (T : Th) (hE : R_step_B153 F Xp a3 a4 Q T = some out) (c z : Nat) : Wk X c z (RD D (RP D x Xp R0 Q) d L T) 153 [(0, .ref (x + 9)), (3, va_rf a3), (4, .ref a4)] [] := by
  have hX := hP.1
  have hC := hX.1
  have hnL := hX.2.2.1
  have hSt : ∀ {Xp : Jr} {Q : Ji}, Stb (RP D x Xp R0 Q) d := hP.st
  have hDy : ∀ {Xp : Jr} {Q : Ji} {T : Th} (H : Heap), RD D (RP D x Xp R0 Q) d L T H → Dy D T H := fun _ h => h.2.1
  unfold R_step_B153 at hE
  refine k_aload_n (pc := 153) hC dX3_step_153 rfl 0 rfl ?_
  refine k_bipush (pc := 154) (v := 7) hC dX3_step_154 (by decide) ?_
  rcases xb_of hE with ⟨e, h1, rfl⟩ | ⟨r34, h1, hE⟩
  · exact p_callVT (pc := 156) (As := [.int 7]) hP hR (ctx_R_isWord X.2.1 D (cxA X) x Xp R0 d L Q T (pxf hP) 7 e h1) (fun H h => p_fault hC.K h) (p_tt hX) (cw_R_isWord_X3 hX (Nat.le_of_ble_eq_true rfl) (Nat.le_of_ble_eq_true rfl)) (p_recv 9 lp_9 cl_X3 hP) rfl rfl (Nat.le_of_ble_eq_true rfl) dX3_step_156
  refine a_callV (pc := 156) (As := [.int 7]) hX (ct_R_isWord X.2.1 D (cxA X) x Xp R0 d L Q T (pxf hP) 7 r34 h1) (cw_R_isWord_X3 hX (Nat.le_of_ble_eq_true rfl) (Nat.le_of_ble_eq_true rfl)) (p_recv 9 lp_9 cl_X3 hP) rfl rfl (Nat.le_of_ble_eq_true rfl) dX3_step_156 (fun c z => ?_)
  show Wk X c z (RD D (RP D x Xp R0 r34.2.1) d L r34.2.2) 159 [(0, .ref (x + 9)), (3, va_rf a3), (4, .ref a4)] [.int r34.1]
  refine k_if_eq (pc := 159) (tgt := 176) hC dX3_step_159 (by decide) hE (fun hE => ?_) (fun hE => ?_)
  · refine k_sub [1, 2] rfl ?_
    exact w_R_step_B176 hP hR F _ _ _ _ hE _ _
  · refine k_aload_n (pc := 162) hC dX3_step_162 rfl 0 rfl ?_
    rcases xb_of hE with ⟨e, h1, rfl⟩ | ⟨r35, h1, hE⟩
    · exact p_callVT (pc := 163) (As := []) hP hR (ctx_R_pass X.2.1 D (cxA X) x Xp R0 d L r34.2.1 r34.2.2 (pxf hP)  e h1) (fun H h => p_fault hC.K h) (p_tt hX) (cw_R_pass_X3 hX (Nat.le_of_ble_eq_true rfl) (Nat.le_of_ble_eq_true rfl)) (p_recv 9 lp_9 cl_X3 hP) rfl rfl (Nat.le_of_ble_eq_true rfl) dX3_step_163
    refine a_callV (pc := 163) (As := []) hX (ct_R_pass X.2.1 D (cxA X) x Xp R0 d L r34.2.1 r34.2.2 (pxf hP)  r35 h1) (cw_R_pass_X3 hX (Nat.le_of_ble_eq_true rfl) (Nat.le_of_ble_eq_true rfl)) (p_recv 9 lp_9 cl_X3 hP) rfl rfl (Nat.le_of_ble_eq_true rfl) dX3_step_163 (fun c z => ?_)
    show Wk X c z (RD D (RP D x Xp R0 r35.1) d L r35.2) 166 [(0, .ref (x + 9)), (3, va_rf a3), (4, .ref a4)] []
    refine k_aload (pc := 166) hC dX3_step_166 2 rfl ?_
    refine k_aload_n (pc := 168) hC dX3_step_168 rfl 0 rfl ?_
    refine k_aloadR_n (pc := 169) hC dX3_step_169 rfl 1 rfl ?_
    rcases xb_of hE with ⟨e, h1, rfl⟩ | ⟨r36, h1, hE⟩
    · exact p_callVT (pc := 170) (As := [va_rf a3]) hP hR (ctx_R_stepOf X.2.1 D (cxA X) x Xp R0 d L r35.1 r35.2 (pxf hP) F a3 e h1) (fun H h => p_fault hC.K h) (p_tt hX) (cw_R_stepOf_X3 hX (Nat.le_of_ble_eq_true rfl) (Nat.le_of_ble_eq_true rfl)) (p_recv 9 lp_9 cl_X3 hP) rfl rfl (Nat.le_of_ble_eq_true rfl) dX3_step_170
    refine a_callV (pc := 170) (As := [va_rf a3]) hX (ct_R_stepOf X.2.1 D (cxA X) x Xp R0 d L r35.1 r35.2 (pxf hP) F a3 r36 h1) (cw_R_stepOf_X3 hX (Nat.le_of_ble_eq_true rfl) (Nat.le_of_ble_eq_true rfl)) (p_recv 9 lp_9 cl_X3 hP) rfl rfl (Nat.le_of_ble_eq_true rfl) dX3_step_170 (fun c z => ?_)
    show Wk X c z (RD D (RP D x Xp R0 r36.2.1) d L r36.2.2) 173 [(0, .ref (x + 9)), (3, va_rf a3), (4, .ref a4)] [.int r36.1, .ref a4]
    refine a_putI (pc := 173) (y := r36.1) hX hSt cl_X14 in_X14 5 (by decide) rfl tyX14 tyX14_ok nmX14 (by exact q1093) rfl rfl rfl rfl dX3_step_173 hE (fun T37 _ hE => ?_)
    refine k_sub [1, 2] rfl ?_
    exact w_R_step_B176 hP hR F _ _ _ _ hE _ _
set_option maxHeartbeats 4000000 in
theorem w_R_step_B67 {X : Ctx} {D : Dd} {x : Nat} {R0 : Heap → Prop} {d : Nat → Prop} {L : Nat × Nat × Nat × Nat} {Xp : Jr} {out : (Ji × Jr × Th) ⊕ (Ji × Th)} (hP : Px X cX3_step RX3 D x R0 d L 5 9 202) (hR : RtX X none D L x (fun r => (RD D (RP D x Xp R0 r.1) d L r.2)) (fun r => none) (fun e => RD D (RP D x e.2.1 R0 e.1) d L e.2.2) out) (F : Nat) (a3 : Option Nat) (Q : Ji) (T : Th) (hE : R_step_B67 F Xp a3 Q T = some out) (c z : Nat) : Wk X c z (RD D (RP D x Xp R0 Q) d L T) 67 [(0, .ref (x + 9)), (3, va_rf a3)] [] := by
  have hX := hP.1
  have hC := hX.1
  have hnL := hX.2.2.1
  have hSt : ∀ {Xp : Jr} {Q : Ji}, Stb (RP D x Xp R0 Q) d := hP.st
  have hDy : ∀ {Xp : Jr} {Q : Ji} {T : Th} (H : Heap), RD D (RP D x Xp R0 Q) d L T H → Dy D T H := fun _ h => h.2.1
  unfold R_step_B67 at hE
  refine a_new (pc := 67) hX hSt cl_X14 in_X14 tyX14 tyX14_ok dv_X14 q1068 q1069 q145 dX3_step_67 hE (fun T17 eT17 hE c z => ?_)
  refine k_dup (pc := 70) hC dX3_step_70 rfl ?_
  obtain ⟨r18, h1, hE⟩ := ob_ hE
  refine a_callIN (pc := 71) (As := []) hX (ct_A_Step X.2.1 D (cxA X) (RP D x Xp R0 Q) d L T17 hSt hX.2.1 hX.2.2.2.2.2.2.2.2.2 (tN T) r18 h1) (cw_A_Step_X3 hX (Nat.le_of_ble_eq_true rfl) (Nat.le_of_ble_eq_true rfl)) rfl rfl (Nat.le_of_ble_eq_true rfl) dX3_step_71 (fun c z => ?_)
  show Wk X c z (RD D (RP D x Xp R0 Q) d L r18) 74 [(0, .ref (x + 9)), (3, va_rf a3)] [.ref (tN T)]
  refine k_astore (pc := 74) (lv' := [(4, .ref (tN T)), (0, .ref (x + 9)), (3, va_rf a3)]) hC dX3_step_74 (by rw [hnL]; decide) (by cases a3 <;> rfl) ?_
  refine k_aload (pc := 76) hC dX3_step_76 0 rfl ?_
  refine k_aload_n (pc := 78) hC dX3_step_78 rfl 1 rfl ?_
  refine k_iconst (pc := 79) (v := 1) hC dX3_step_79 (by decide) ?_
  refine k_bipush (pc := 80) (v := 120) hC dX3_step_80 (by decide) ?_
  rcases xb_of hE with ⟨e, h1, rfl⟩ | ⟨r19, h1, hE⟩
  · exact p_callVT (pc := 82) (As := [.int 1, .int 120]) hP hR (ctx_R_number X.2.1 D (cxA X) x Xp R0 d L Q r18 (pxf hP) F 1 120 e h1) (fun H h => p_fault hC.K h) (p_tt hX) (cw_R_number_X3 hX (Nat.le_of_ble_eq_true rfl) (Nat.le_of_ble_eq_true rfl)) (p_recv 9 lp_9 cl_X3 hP) rfl rfl (Nat.le_of_ble_eq_true rfl) dX3_step_82
  refine a_callV (pc := 82) (As := [.int 1, .int 120]) hX (ct_R_number X.2.1 D (cxA X) x Xp R0 d L Q r18 (pxf hP) F 1 120 r19 h1) (cw_R_number_X3 hX (Nat.le_of_ble_eq_true rfl) (Nat.le_of_ble_eq_true rfl)) (p_recv 9 lp_9 cl_X3 hP) rfl rfl (Nat.le_of_ble_eq_true rfl) dX3_step_82 (fun c z => ?_)
  show Wk X c z (RD D (RP D x Xp R0 r19.2.1) d L r19.2.2) 85 [(4, .ref (tN T)), (0, .ref (x + 9)), (3, va_rf a3)] [.int r19.1, .ref (tN T)]
  refine a_putI (pc := 85) (y := r19.1) hX hSt cl_X14 in_X14 0 (by decide) rfl tyX14 tyX14_ok nmX14 (by exact q1076) rfl rfl rfl rfl dX3_step_85 hE (fun T20 _ hE => ?_)
  refine k_aload (pc := 88) hC dX3_step_88 0 rfl ?_
  refine k_aload_n (pc := 90) hC dX3_step_90 rfl 1 rfl ?_
  refine k_iconst (pc := 91) (v := 0) hC dX3_step_91 (by decide) ?_
  refine k_bipush (pc := 92) (v := 99) hC dX3_step_92 (by decide) ?_
  rcases xb_of hE with ⟨e, h1, rfl⟩ | ⟨r21, h1, hE⟩
  · exact p_callVT (pc := 94) (As := [.int 0, .int 99]) hP hR (ctx_R_number X.2.1 D (cxA X) x Xp R0 d L r19.2.1 T20 (pxf hP) F 0 99 e h1) (fun H h => p_fault hC.K h) (p_tt hX) (cw_R_number_X3 hX (Nat.le_of_ble_eq_true rfl) (Nat.le_of_ble_eq_true rfl)) (p_recv 9 lp_9 cl_X3 hP) rfl rfl (Nat.le_of_ble_eq_true rfl) dX3_step_94
  refine a_callV (pc := 94) (As := [.int 0, .int 99]) hX (ct_R_number X.2.1 D (cxA X) x Xp R0 d L r19.2.1 T20 (pxf hP) F 0 99 r21 h1) (cw_R_number_X3 hX (Nat.le_of_ble_eq_true rfl) (Nat.le_of_ble_eq_true rfl)) (p_recv 9 lp_9 cl_X3 hP) rfl rfl (Nat.le_of_ble_eq_true rfl) dX3_step_94 (fun c z => ?_)
  show Wk X c z (RD D (RP D x Xp R0 r21.2.1) d L r21.2.2) 97 [(4, .ref (tN T)), (0, .ref (x + 9)), (3, va_rf a3)] [.int r21.1, .ref (tN T)]
  refine a_putI (pc := 97) (y := r21.1) hX hSt cl_X14 in_X14 1 (by decide) rfl tyX14 tyX14_ok nmX14 (by exact q1079) rfl rfl rfl rfl dX3_step_97 hE (fun T22 _ hE => ?_)
  refine k_aload (pc := 100) hC dX3_step_100 0 rfl ?_
  refine k_aload_n (pc := 102) hC dX3_step_102 rfl 1 rfl ?_
  refine k_iconst (pc := 103) (v := 0) hC dX3_step_103 (by decide) ?_
  refine k_bipush (pc := 104) (v := 99) hC dX3_step_104 (by decide) ?_
  rcases xb_of hE with ⟨e, h1, rfl⟩ | ⟨r23, h1, hE⟩
  · exact p_callVT (pc := 106) (As := [.int 0, .int 99]) hP hR (ctx_R_number X.2.1 D (cxA X) x Xp R0 d L r21.2.1 T22 (pxf hP) F 0 99 e h1) (fun H h => p_fault hC.K h) (p_tt hX) (cw_R_number_X3 hX (Nat.le_of_ble_eq_true rfl) (Nat.le_of_ble_eq_true rfl)) (p_recv 9 lp_9 cl_X3 hP) rfl rfl (Nat.le_of_ble_eq_true rfl) dX3_step_106
  refine a_callV (pc := 106) (As := [.int 0, .int 99]) hX (ct_R_number X.2.1 D (cxA X) x Xp R0 d L r21.2.1 T22 (pxf hP) F 0 99 r23 h1) (cw_R_number_X3 hX (Nat.le_of_ble_eq_true rfl) (Nat.le_of_ble_eq_true rfl)) (p_recv 9 lp_9 cl_X3 hP) rfl rfl (Nat.le_of_ble_eq_true rfl) dX3_step_106 (fun c z => ?_)
  show Wk X c z (RD D (RP D x Xp R0 r23.2.1) d L r23.2.2) 109 [(4, .ref (tN T)), (0, .ref (x + 9)), (3, va_rf a3)] [.int r23.1, .ref (tN T)]
  refine a_putI (pc := 109) (y := r23.1) hX hSt cl_X14 in_X14 2 (by decide) rfl tyX14 tyX14_ok nmX14 (by exact q1082) rfl rfl rfl rfl dX3_step_109 hE (fun T24 _ hE => ?_)
  refine k_aload (pc := 112) hC dX3_step_112 0 rfl ?_
  refine k_aload_n (pc := 114) hC dX3_step_114 rfl 1 rfl ?_
  refine k_iconst (pc := 115) (v := 0) hC dX3_step_115 (by decide) ?_
  refine k_bipush (pc := 116) (v := 99) hC dX3_step_116 (by decide) ?_
  rcases xb_of hE with ⟨e, h1, rfl⟩ | ⟨r25, h1, hE⟩
  · exact p_callVT (pc := 118) (As := [.int 0, .int 99]) hP hR (ctx_R_number X.2.1 D (cxA X) x Xp R0 d L r23.2.1 T24 (pxf hP) F 0 99 e h1) (fun H h => p_fault hC.K h) (p_tt hX) (cw_R_number_X3 hX (Nat.le_of_ble_eq_true rfl) (Nat.le_of_ble_eq_true rfl)) (p_recv 9 lp_9 cl_X3 hP) rfl rfl (Nat.le_of_ble_eq_true rfl) dX3_step_118
  refine a_callV (pc := 118) (As := [.int 0, .int 99]) hX (ct_R_number X.2.1 D (cxA X) x Xp R0 d L r23.2.1 T24 (pxf hP) F 0 99 r25 h1) (cw_R_number_X3 hX (Nat.le_of_ble_eq_true rfl) (Nat.le_of_ble_eq_true rfl)) (p_recv 9 lp_9 cl_X3 hP) rfl rfl (Nat.le_of_ble_eq_true rfl) dX3_step_118 (fun c z => ?_)
  show Wk X c z (RD D (RP D x Xp R0 r25.2.1) d L r25.2.2) 121 [(4, .ref (tN T)), (0, .ref (x + 9)), (3, va_rf a3)] [.int r25.1, .ref (tN T)]
  refine a_putI (pc := 121) (y := r25.1) hX hSt cl_X14 in_X14 3 (by decide) rfl tyX14 tyX14_ok nmX14 (by exact q1085) rfl rfl rfl rfl dX3_step_121 hE (fun T26 _ hE => ?_)
  refine k_aload_n (pc := 124) hC dX3_step_124 rfl 1 rfl ?_
  refine k_bipush (pc := 125) (v := 6) hC dX3_step_125 (by decide) ?_
  rcases xb_of hE with ⟨e, h1, rfl⟩ | ⟨r27, h1, hE⟩
  · exact p_callVT (pc := 127) (As := [.int 6]) hP hR (ctx_R_isWord X.2.1 D (cxA X) x Xp R0 d L r25.2.1 T26 (pxf hP) 6 e h1) (fun H h => p_fault hC.K h) (p_tt hX) (cw_R_isWord_X3 hX (Nat.le_of_ble_eq_true rfl) (Nat.le_of_ble_eq_true rfl)) (p_recv 9 lp_9 cl_X3 hP) rfl rfl (Nat.le_of_ble_eq_true rfl) dX3_step_127
  refine a_callV (pc := 127) (As := [.int 6]) hX (ct_R_isWord X.2.1 D (cxA X) x Xp R0 d L r25.2.1 T26 (pxf hP) 6 r27 h1) (cw_R_isWord_X3 hX (Nat.le_of_ble_eq_true rfl) (Nat.le_of_ble_eq_true rfl)) (p_recv 9 lp_9 cl_X3 hP) rfl rfl (Nat.le_of_ble_eq_true rfl) dX3_step_127 (fun c z => ?_)
  show Wk X c z (RD D (RP D x Xp R0 r27.2.1) d L r27.2.2) 130 [(4, .ref (tN T)), (0, .ref (x + 9)), (3, va_rf a3)] [.int r27.1]
  refine k_if_eq (pc := 130) (tgt := 153) hC dX3_step_130 (by decide) hE (fun hE => ?_) (fun hE => ?_)
  · refine k_sub [1, 2, 0] rfl ?_
    exact w_R_step_B153 hP hR F _ _ _ _ hE _ _
  · refine k_aload_n (pc := 133) hC dX3_step_133 rfl 1 rfl ?_
    rcases xb_of hE with ⟨e, h1, rfl⟩ | ⟨r28, h1, hE⟩
    · exact p_callVT (pc := 134) (As := []) hP hR (ctx_R_pass X.2.1 D (cxA X) x Xp R0 d L r27.2.1 r27.2.2 (pxf hP)  e h1) (fun H h => p_fault hC.K h) (p_tt hX) (cw_R_pass_X3 hX (Nat.le_of_ble_eq_true rfl) (Nat.le_of_ble_eq_true rfl)) (p_recv 9 lp_9 cl_X3 hP) rfl rfl (Nat.le_of_ble_eq_true rfl) dX3_step_134
    refine a_callV (pc := 134) (As := []) hX (ct_R_pass X.2.1 D (cxA X) x Xp R0 d L r27.2.1 r27.2.2 (pxf hP)  r28 h1) (cw_R_pass_X3 hX (Nat.le_of_ble_eq_true rfl) (Nat.le_of_ble_eq_true rfl)) (p_recv 9 lp_9 cl_X3 hP) rfl rfl (Nat.le_of_ble_eq_true rfl) dX3_step_134 (fun c z => ?_)
    show Wk X c z (RD D (RP D x Xp R0 r28.1) d L r28.2) 137 [(4, .ref (tN T)), (0, .ref (x + 9)), (3, va_rf a3)] []
    refine k_aload (pc := 137) hC dX3_step_137 0 rfl ?_
    refine k_aload_n (pc := 139) hC dX3_step_139 rfl 1 rfl ?_
    refine k_aload_n (pc := 140) hC dX3_step_140 rfl 1 rfl ?_
    refine gP_X3_83 (pc := 141) hP dX3_step_141 ?_
    refine k_nn (G := fun z => Wk X _ _ (RD D (RP D x Xp R0 r28.1) d L r28.2) 144 [(4, .ref (tN T)), (0, .ref (x + 9)), (3, va_rf a3)] [z, .ref (x + 9), .ref (tN T)]) hE (fun b29 hE => ?_)
    refine gD_X3_137_X4 (pc := 144) hC hDy dX3_step_144 hE (fun x30 hE => ?_)
    refine k_nn (G := fun z => Wk X _ _ (RD D (RP D x Xp R0 r28.1) d L r28.2) 147 [(4, .ref (tN T)), (0, .ref (x + 9)), (3, va_rf a3)] [z, .ref (x + 9), .ref (tN T)]) hE (fun b31 hE => ?_)
    rcases xb_of hE with ⟨e, h1, rfl⟩ | ⟨r32, h1, hE⟩
    · exact p_callVT (pc := 147) (As := [.ref b31]) hP hR (ctx_R_known X.2.1 D (cxA X) x Xp R0 d L r28.1 r28.2 (pxf hP) F b31 e h1) (fun H h => p_fault hC.K h) (p_tt hX) (cw_R_known_X3 hX (Nat.le_of_ble_eq_true rfl) (Nat.le_of_ble_eq_true rfl)) (p_recv 9 lp_9 cl_X3 hP) rfl rfl (Nat.le_of_ble_eq_true rfl) dX3_step_147
    refine a_callV (pc := 147) (As := [.ref b31]) hX (ct_R_known X.2.1 D (cxA X) x Xp R0 d L r28.1 r28.2 (pxf hP) F b31 r32 h1) (cw_R_known_X3 hX (Nat.le_of_ble_eq_true rfl) (Nat.le_of_ble_eq_true rfl)) (p_recv 9 lp_9 cl_X3 hP) rfl rfl (Nat.le_of_ble_eq_true rfl) dX3_step_147 (fun c z => ?_)
    show Wk X c z (RD D (RP D x Xp R0 r32.2.1) d L r32.2.2) 150 [(4, .ref (tN T)), (0, .ref (x + 9)), (3, va_rf a3)] [.int r32.1, .ref (tN T)]
    refine a_putI (pc := 150) (y := r32.1) hX hSt cl_X14 in_X14 4 (by decide) rfl tyX14 tyX14_ok nmX14 (by exact q1089) rfl rfl rfl rfl dX3_step_150 hE (fun T33 _ hE => ?_)
    refine k_sub [1, 2, 0] rfl ?_
    exact w_R_step_B153 hP hR F _ _ _ _ hE _ _
set_option maxHeartbeats 4000000 in
theorem w_R_step_B43 {X : Ctx} {D : Dd} {x : Nat} {R0 : Heap → Prop} {d : Nat → Prop} {L : Nat × Nat × Nat × Nat} {Xp : Jr} {out : (Ji × Jr × Th) ⊕ (Ji × Th)} (hP : Px X cX3_step RX3 D x R0 d L 5 9 202) (hR : RtX X none D L x (fun r => (RD D (RP D x Xp R0 r.1) d L r.2)) (fun r => none) (fun e => RD D (RP D x e.2.1 R0 e.1) d L e.2.2) out) (F : Nat) (a1 : Int32) (s0 : Option Nat) (Q : Ji) (T : Th) (hE : R_step_B43 F Xp a1 s0 Q T = some out) (c z : Nat) : Wk X c z (RD D (RP D x Xp R0 Q) d L T) 43 [(0, .ref (x + 9)), (1, .int a1)] [va_rf s0] := by
  have hX := hP.1
  have hC := hX.1
  have hnL := hX.2.2.1
  have hSt : ∀ {Xp : Jr} {Q : Ji}, Stb (RP D x Xp R0 Q) d := hP.st
  have hDy : ∀ {Xp : Jr} {Q : Ji} {T : Th} (H : Heap), RD D (RP D x Xp R0 Q) d L T H → Dy D T H := fun _ h => h.2.1
  unfold R_step_B43 at hE
  refine k_astoreR_n (pc := 43) (lv' := [(3, va_rf s0), (0, .ref (x + 9)), (1, .int a1)]) hC dX3_step_43 rfl (by rw [hnL]; decide) rfl ?_
  refine k_aloadR_n (pc := 44) hC dX3_step_44 rfl 0 rfl ?_
  refine k_rc (G := fun z => Wk X _ _ (RD D (RP D x Xp R0 Q) d L T) 45 [(3, z), (0, .ref (x + 9)), (1, .int a1)] [z]) hE (fun hE => ?_) (fun b12 hE => ?_)
  · refine k_ifnullN (pc := 45) (tgt := 67) hC dX3_step_45 (by decide) ?_
    refine k_sub [1, 0] rfl ?_
    exact w_R_step_B67 hP hR F _ _ _ hE _ _
  · refine k_ifnull (pc := 45) hC dX3_step_45 ?_
    refine k_aload_n (pc := 48) hC dX3_step_48 rfl 0 rfl ?_
    refine gD_X3_200_X13 (pc := 49) hC hDy dX3_step_49 hE (fun x13 hE => ?_)
    refine k_nn (G := fun z => Wk X _ _ (RD D (RP D x Xp R0 Q) d L T) 52 [(3, .ref b12), (0, .ref (x + 9)), (1, .int a1)] [z]) hE (fun b14 hE => ?_)
    refine a_tight hX ?_
    refine a_know (a_hcs hX) (fun hcs => ?_)
    refine t_callVI (pc := 52) (As := []) 19 (fun r => r) hC hDy cl_J5 (cw_L_size_X3 hC rfl (by rw [hX.2.2.2.1]; exact Nat.le_of_ble_eq_true rfl) (by rw [hX.2.2.2.2.1]; exact Nat.le_of_ble_eq_true rfl)) rfl rfl (Nat.le_of_ble_eq_true rfl) (a_hc0 hcs) dX3_step_52 hE (fun r h => ct_L_size _ _ _ _ T hDy b14 r h) (fun r15 hE => ?_)
    refine k_bipush (pc := 55) (v := 6) hC dX3_step_55 (by decide) ?_
    refine k_icmp_ne (pc := 57) (tgt := 67) hC dX3_step_57 (by decide) hE (fun hE => ?_) (fun hE => ?_)
    · refine k_aload_n (pc := 60) hC dX3_step_60 rfl 1 rfl ?_
      refine k_iconst (pc := 61) (v := 2) hC dX3_step_61 (by decide) ?_
      refine k_iload_n (pc := 62) hC dX3_step_62 rfl 2 rfl ?_
      obtain ⟨r16, h1, hE⟩ := ob_ hE
      refine a_callV (pc := 63) (As := [.int 2, .int a1]) hX (ct_R_wrongAt X.2.1 D (cxA X) x Xp R0 d L Q T (pxf hP) 2 a1 r16 h1) (cw_R_wrongAt_X3 hX (Nat.le_of_ble_eq_true rfl) (Nat.le_of_ble_eq_true rfl)) (p_recv 9 lp_9 cl_X3 hP) rfl rfl (Nat.le_of_ble_eq_true rfl) dX3_step_63 (fun c z => ?_)
      show Wk X c z (RD D (RP D x Xp R0 r16) d L T) 66 [(3, .ref b12), (0, .ref (x + 9)), (1, .int a1)] [.ref (x + 1)]
      cases hE
      exact p_athrow (pc := 66) hP hR dX3_step_66 (fun _ h => h)
    · refine k_sub [1, 0] rfl ?_
      exact w_R_step_B67 hP hR F _ _ _ hE _ _
set_option maxHeartbeats 4000000 in
theorem w_R_step {X : Ctx} {D : Dd} {x : Nat} {R0 : Heap → Prop} {d : Nat → Prop} {L : Nat × Nat × Nat × Nat} {Xp : Jr} {out : (Ji × Jr × Th) ⊕ (Ji × Th)} (hP : Px X cX3_step RX3 D x R0 d L 5 9 202) (hR : RtX X none D L x (fun r => (RD D (RP D x Xp R0 r.1) d L r.2)) (fun r => none) (fun e => RD D (RP D x e.2.1 R0 e.1) d L e.2.2) out) (F : Nat) (Q : Ji) (T : Th) (hE : R_step F Xp Q T = some out) (c z : Nat) : Wk X c z (RD D (RP D x Xp R0 Q) d L T) 0 [(0, .ref (x + 9))] [] := by
  have hX := hP.1
  have hC := hX.1
  have hnL := hX.2.2.1
  have hSt : ∀ {Xp : Jr} {Q : Ji}, Stb (RP D x Xp R0 Q) d := hP.st
  have hDy : ∀ {Xp : Jr} {Q : Ji} {T : Th} (H : Heap), RD D (RP D x Xp R0 Q) d L T H → Dy D T H := fun _ h => h.2.1
  unfold R_step at hE
  refine k_aload_n (pc := 0) hC dX3_step_0 rfl 0 rfl ?_
  refine gP_X3_31 (pc := 1) hP dX3_step_1 ?_
  refine k_istoreE_n (pc := 4) (lv' := fun x1 => [(1, .int x1), (0, .ref (x + 9))]) hC dX3_step_4 rfl (by rw [hnL]; decide) hE (fun _ => rfl) (fun x1 hE => ?_)
  refine k_aload_n (pc := 5) hC dX3_step_5 rfl 1 rfl ?_
  rcases xb_of hE with ⟨e, h1, rfl⟩ | ⟨r2, h1, hE⟩
  · exact p_callVT (pc := 6) (As := []) hP hR (ctx_R_pass X.2.1 D (cxA X) x Xp R0 d L Q T (pxf hP)  e h1) (fun H h => p_fault hC.K h) (p_tt hX) (cw_R_pass_X3 hX (Nat.le_of_ble_eq_true rfl) (Nat.le_of_ble_eq_true rfl)) (p_recv 9 lp_9 cl_X3 hP) rfl rfl (Nat.le_of_ble_eq_true rfl) dX3_step_6
  refine a_callV (pc := 6) (As := []) hX (ct_R_pass X.2.1 D (cxA X) x Xp R0 d L Q T (pxf hP)  r2 h1) (cw_R_pass_X3 hX (Nat.le_of_ble_eq_true rfl) (Nat.le_of_ble_eq_true rfl)) (p_recv 9 lp_9 cl_X3 hP) rfl rfl (Nat.le_of_ble_eq_true rfl) dX3_step_6 (fun c z => ?_)
  show Wk X c z (RD D (RP D x Xp R0 r2.1) d L r2.2) 9 [(1, .int x1), (0, .ref (x + 9))] []
  refine k_aload_n (pc := 9) hC dX3_step_9 rfl 1 rfl ?_
  refine k_aload_n (pc := 10) hC dX3_step_10 rfl 1 rfl ?_
  refine gP_X3_83 (pc := 11) hP dX3_step_11 ?_
  refine k_nn (G := fun z => Wk X _ _ (RD D (RP D x Xp R0 r2.1) d L r2.2) 14 [(1, .int x1), (0, .ref (x + 9))] [z, .ref (x + 9)]) hE (fun b3 hE => ?_)
  refine gD_X3_150_X4 (pc := 14) hC hDy dX3_step_14 hE (fun x4 hE => ?_)
  refine k_nn (G := fun z => Wk X _ _ (RD D (RP D x Xp R0 r2.1) d L r2.2) 17 [(1, .int x1), (0, .ref (x + 9))] [z, .ref (x + 9)]) hE (fun b5 hE => ?_)
  rcases xb_of hE with ⟨e, h1, rfl⟩ | ⟨r6, h1, hE⟩
  · exact p_callVT (pc := 17) (As := [.ref b5]) hP hR (ctx_R_known X.2.1 D (cxA X) x Xp R0 d L r2.1 r2.2 (pxf hP) F b5 e h1) (fun H h => p_fault hC.K h) (p_tt hX) (cw_R_known_X3 hX (Nat.le_of_ble_eq_true rfl) (Nat.le_of_ble_eq_true rfl)) (p_recv 9 lp_9 cl_X3 hP) rfl rfl (Nat.le_of_ble_eq_true rfl) dX3_step_17
  refine a_callV (pc := 17) (As := [.ref b5]) hX (ct_R_known X.2.1 D (cxA X) x Xp R0 d L r2.1 r2.2 (pxf hP) F b5 r6 h1) (cw_R_known_X3 hX (Nat.le_of_ble_eq_true rfl) (Nat.le_of_ble_eq_true rfl)) (p_recv 9 lp_9 cl_X3 hP) rfl rfl (Nat.le_of_ble_eq_true rfl) dX3_step_17 (fun c z => ?_)
  show Wk X c z (RD D (RP D x Xp R0 r6.2.1) d L r6.2.2) 20 [(1, .int x1), (0, .ref (x + 9))] [.int r6.1]
  refine k_istore_n (pc := 20) (lv' := [(2, .int r6.1), (1, .int x1), (0, .ref (x + 9))]) hC dX3_step_20 rfl (by rw [hnL]; decide) rfl ?_
  refine k_iload_n (pc := 21) hC dX3_step_21 rfl 0 rfl ?_
  refine k_if_ge (pc := 22) (tgt := 29) hC dX3_step_22 (by decide) hE (fun hE => ?_) (fun hE => ?_)
  · refine k_aload_n (pc := 29) hC dX3_step_29 rfl 2 rfl ?_
    refine gP_X3_83 (pc := 30) hP dX3_step_30 ?_
    refine k_nn (G := fun z => Wk X _ _ (RD D (RP D x Xp R0 r6.2.1) d L r6.2.2) 33 [(2, .int r6.1), (1, .int x1), (0, .ref (x + 9))] [z]) hE (fun b7 hE => ?_)
    refine gD_X3_150_X4 (pc := 33) hC hDy dX3_step_33 hE (fun x8 hE => ?_)
    refine k_iload_n (pc := 36) hC dX3_step_36 rfl 0 rfl ?_
    refine k_nn (G := fun z => Wk X _ _ (RD D (RP D x Xp R0 r6.2.1) d L r6.2.2) 37 [(2, .int r6.1), (1, .int x1), (0, .ref (x + 9))] [.int r6.1, z]) hE (fun b9 hE => ?_)
    refine a_tight hX ?_
    refine a_know (a_hcs hX) (fun hcs => ?_)
    refine t_callVR (pc := 37) (As := [.int r6.1]) 19 (fun r => r) hC hDy cl_J5 (cw_L_get_X3 hC rfl (by rw [hX.2.2.2.1]; exact Nat.le_of_ble_eq_true rfl) (by rw [hX.2.2.2.2.1]; exact Nat.le_of_ble_eq_true rfl)) rfl rfl (Nat.le_of_ble_eq_true rfl) (a_hc0 hcs) dX3_step_37 hE (fun r h => ct_L_get _ _ _ _ r6.2.2 hDy b9 r6.1 r h) (fun r10 hE => ?_)
    refine k_nn (G := fun z => Wk X _ _ (RD D (RP D x Xp R0 r6.2.1) d L r6.2.2) 40 [(2, .int r6.1), (1, .int x1), (0, .ref (x + 9))] [z]) hE (fun b11 hE => ?_)
    refine dy_castS (pc := 40) hC hDy cl_X13 q1037 dX3_step_40 hE (fun hE => ?_)
    refine k_sub [2, 1] rfl ?_
    exact w_R_step_B43 hP hR F _ _ _ _ hE _ _
  · refine k_null (pc := 25) hC dX3_step_25 ?_
    refine k_goto (pc := 26) (tgt := 43) hC dX3_step_26 (by decide) ?_
    refine k_sub [2, 1] rfl ?_
    exact w_R_step_B43 hP hR F _ _ _ _ hE _ _
theorem ct_R_step (l : Launch) (D : Dd) (A : Nat → Prop) (x : Nat) (Xp : Jr) (R0 : Heap → Prop) (d : Nat → Prop) (L : Nat × Nat × Nat × Nat) (Q : Ji) (T : Th) (hp : Pf D A x R0 d) (F : Nat) (out : Ji × Th) (hE : R_step F Xp Q T = some (.inr out)) : Ct l yX3_step (ws_ yX3_step cX3_step 5 none) (rmA 9 202 L T) vwCl arTy D A [.ref (x + 9)] (RD D (RP D x Xp R0 Q) d L T) (RD D (RP D x Xp R0 out.1) d L out.2) none (L.1 - tN T) (L.2.1 - tZ T) := by
  refine Ct.ofA (lv := [(0, .ref (x + 9))]) (by decide) (Nat.le_of_ble_eq_true rfl) rfl hp.1 hp.2.1 ?_
  intro X hl hX hR hXA _
  exact w_R_step (Xp := Xp) (out := .inr out) (hp.px hX hXA) hR F Q T hE
theorem ctx_R_step (l : Launch) (D : Dd) (A : Nat → Prop) (x : Nat) (Xp : Jr) (R0 : Heap → Prop) (d : Nat → Prop) (L : Nat × Nat × Nat × Nat) (Q : Ji) (T : Th) (hp : Pf D A x R0 d) (F : Nat) (e : Ji × Jr × Th) (hE : R_step F Xp Q T = some (.inl e)) : CtT l yX3_step (ws_ yX3_step cX3_step 5 none) (rmA 9 202 L T) D A [.ref (x + 9)] (RD D (RP D x Xp R0 Q) d L T) (RD D (RP D x e.2.1 R0 e.1) d L e.2.2) (x + 1) (L.1 - tN T) (L.2.1 - tZ T) := by
  refine CtT.ofA (lv := [(0, .ref (x + 9))]) (by decide) (Nat.le_of_ble_eq_true rfl) rfl hp.1 hp.2.1 ?_
  intro X hl hX hR hXA
  exact w_R_step (Xp := Xp) (out := .inl e) (hp.px hX hXA) hR F Q T hE
theorem cw_R_step_X3 {X : Ctx} {cc : ByteArray} {D : Dd} {d : Nat → Prop} {L : Nat × Nat × Nat × Nat} {mL fr lo : Nat} {T : Th} (hX : Ax X cc RX3 D d L mL fr lo) (h1 : 9 + 1 ≤ fr) (h2 : 8 + (5 + 11) + 202 ≤ lo) : CallW X.2.2.2.1 X.2.2.2.2.1 X.2.2.2.2.2.2.1 RX3 RX3 163 yX3_step cX3_step 5 none (ws_ yX3_step cX3_step 5 none) (rmA 9 202 L T) (L.1 - tN T) (L.2.1 - tZ T) 0 := cwV 0 (cx_w hX.1) (lw_V q1063 q1065 qs24 q120 q1066) rfl rfl rfl (by decide +kernel) (by rw [hX.2.2.2.1, hX.2.2.2.2.1]; exact ⟨h1, h2⟩)
set_option maxHeartbeats 4000000 in
theorem w_R_man_B103 {X : Ctx} {D : Dd} {x : Nat} {R0 : Heap → Prop} {d : Nat → Prop} {L : Nat × Nat × Nat × Nat} {Xp : Jr} {out : (Ji × Jr × Th) ⊕ (Ji × Th)} (hP : Px X cX3_man RX3 D x R0 d L 3 9 202) (hR : RtX X none D L x (fun r => (RD D (RP D x Xp R0 r.1) d L r.2)) (fun r => none) (fun e => RD D (RP D x e.2.1 R0 e.1) d L e.2.2) out) (F : Nat) (a1 : Nat) (Q : Ji) (T : Th) (hE : R_man_B103 F Xp a1 Q T = some out) (c z : Nat) : Wk X c z (RD D (RP D x Xp R0 Q) d L T) 103 [(0, .ref (x + 9)), (1, .ref a1)] [] := by
  have hX := hP.1
  have hC := hX.1
  have hnL := hX.2.2.1
  have hSt : ∀ {Xp : Jr} {Q : Ji}, Stb (RP D x Xp R0 Q) d := hP.st
  have hDy : ∀ {Xp : Jr} {Q : Ji} {T : Th} (H : Heap), RD D (RP D x Xp R0 Q) d L T H → Dy D T H := fun _ h => h.2.1
  unfold R_man_B103 at hE
  refine k_aload_n (pc := 103) hC dX3_man_103 rfl 0 rfl ?_
  refine gP_X3_83 (pc := 104) hP dX3_man_104 ?_
  refine k_nn (G := fun z => Wk X _ _ (RD D (RP D x Xp R0 Q) d L T) 107 [(0, .ref (x + 9)), (1, .ref a1)] [z]) hE (fun b29 hE => ?_)
  refine gD_X3_226_X4 (pc := 107) hC hDy dX3_man_107 hE (fun x30 hE => ?_)
  refine k_aload_n (pc := 110) hC dX3_man_110 rfl 1 rfl ?_
  refine k_nn (G := fun z => Wk X _ _ (RD D (RP D x Xp R0 Q) d L T) 111 [(0, .ref (x + 9)), (1, .ref a1)] [.ref a1, z]) hE (fun b31 hE => ?_)
  obtain ⟨hrv, hE⟩ := dC_of hE
  obtain ⟨r32, h1, hE⟩ := ob_ hE
  refine a_callV (pc := 111) (As := [.ref a1]) hX (ct_A_L_add X.2.1 D (cxA X) (RP D x Xp R0 Q) d L T hSt hX.2.1 hX.2.2.2.2.2.2.2.2.2 b31 a1 r32 h1) (cw_A_L_add_X3 hX (Nat.le_of_ble_eq_true rfl) (Nat.le_of_ble_eq_true rfl)) (a_recv hC cl_J5 hrv) rfl rfl (Nat.le_of_ble_eq_true rfl) dX3_man_111 (fun c z => ?_)
  show Wk X c z (RD D (RP D x Xp R0 Q) d L r32.2) 114 [(0, .ref (x + 9)), (1, .ref a1)] [.int r32.1]
  refine k_pop (pc := 114) hC dX3_man_114 rfl ?_
  cases hE
  exact a_vret (pc := 115) hX hR dX3_man_115 (by rfl) (fun _ h => h)
set_option maxHeartbeats 4000000 in
theorem w_R_man_B97 {X : Ctx} {D : Dd} {x : Nat} {R0 : Heap → Prop} {d : Nat → Prop} {L : Nat × Nat × Nat × Nat} {Xp : Jr} {out : (Ji × Jr × Th) ⊕ (Ji × Th)} (hP : Px X cX3_man RX3 D x R0 d L 3 9 202) (hR : RtX X none D L x (fun r => (RD D (RP D x Xp R0 r.1) d L r.2)) (fun r => none) (fun e => RD D (RP D x e.2.1 R0 e.1) d L e.2.2) out) (F : Nat) (a1 : Nat) (s0 : Option Nat) (s2 : Nat) (Q : Ji) (T : Th) (hE : R_man_B97 F Xp a1 s0 s2 Q T = some out) (c z : Nat) : Wk X c z (RD D (RP D x Xp R0 Q) d L T) 97 [(0, .ref (x + 9)), (1, .ref a1)] [va_rf s0, .ref (x + 9), .ref s2] := by
  have hX := hP.1
  have hC := hX.1
  have hnL := hX.2.2.1
  have hSt : ∀ {Xp : Jr} {Q : Ji}, Stb (RP D x Xp R0 Q) d := hP.st
  have hDy : ∀ {Xp : Jr} {Q : Ji} {T : Th} (H : Heap), RD D (RP D x Xp R0 Q) d L T H → Dy D T H := fun _ h => h.2.1
  unfold R_man_B97 at hE
  rcases xb_of hE with ⟨e, h1, rfl⟩ | ⟨r27, h1, hE⟩
  · exact p_callVT (pc := 97) (As := [va_rf s0]) hP hR (ctx_R_stepOf X.2.1 D (cxA X) x Xp R0 d L Q T (pxf hP) F s0 e h1) (fun H h => p_fault hC.K h) (p_tt hX) (cw_R_stepOf_X3 hX (Nat.le_of_ble_eq_true rfl) (Nat.le_of_ble_eq_true rfl)) (p_recv 9 lp_9 cl_X3 hP) rfl rfl (Nat.le_of_ble_eq_true rfl) dX3_man_97
  refine a_callV (pc := 97) (As := [va_rf s0]) hX (ct_R_stepOf X.2.1 D (cxA X) x Xp R0 d L Q T (pxf hP) F s0 r27 h1) (cw_R_stepOf_X3 hX (Nat.le_of_ble_eq_true rfl) (Nat.le_of_ble_eq_true rfl)) (p_recv 9 lp_9 cl_X3 hP) rfl rfl (Nat.le_of_ble_eq_true rfl) dX3_man_97 (fun c z => ?_)
  show Wk X c z (RD D (RP D x Xp R0 r27.2.1) d L r27.2.2) 100 [(0, .ref (x + 9)), (1, .ref a1)] [.int r27.1, .ref s2]
  refine a_putI (pc := 100) (y := r27.1) hX hSt cl_X15 in_X15 3 (by decide) rfl tyX15 tyX15_ok nmX15 (by exact q1134) rfl rfl rfl rfl dX3_man_100 hE (fun T28 _ hE => ?_)
  exact w_R_man_B103 hP hR F _ _ _ hE _ _
set_option maxHeartbeats 4000000 in
theorem w_R_man {X : Ctx} {D : Dd} {x : Nat} {R0 : Heap → Prop} {d : Nat → Prop} {L : Nat × Nat × Nat × Nat} {Xp : Jr} {out : (Ji × Jr × Th) ⊕ (Ji × Th)} (hP : Px X cX3_man RX3 D x R0 d L 3 9 202) (hR : RtX X none D L x (fun r => (RD D (RP D x Xp R0 r.1) d L r.2)) (fun r => none) (fun e => RD D (RP D x e.2.1 R0 e.1) d L e.2.2) out) (F : Nat) (Q : Ji) (T : Th) (hE : R_man F Xp Q T = some out) (c z : Nat) : Wk X c z (RD D (RP D x Xp R0 Q) d L T) 0 [(0, .ref (x + 9))] [] := by
  have hX := hP.1
  have hC := hX.1
  have hnL := hX.2.2.1
  have hSt : ∀ {Xp : Jr} {Q : Ji}, Stb (RP D x Xp R0 Q) d := hP.st
  have hDy : ∀ {Xp : Jr} {Q : Ji} {T : Th} (H : Heap), RD D (RP D x Xp R0 Q) d L T H → Dy D T H := fun _ h => h.2.1
  unfold R_man at hE
  refine k_aload_n (pc := 0) hC dX3_man_0 rfl 0 rfl ?_
  refine k_aload_n (pc := 1) hC dX3_man_1 rfl 0 rfl ?_
  refine gP_X3_83 (pc := 2) hP dX3_man_2 ?_
  refine k_nn (G := fun z => Wk X _ _ (RD D (RP D x Xp R0 Q) d L T) 5 [(0, .ref (x + 9))] [z, .ref (x + 9)]) hE (fun b1 hE => ?_)
  refine gD_X3_226_X4 (pc := 5) hC hDy dX3_man_5 hE (fun x2 hE => ?_)
  refine k_nn (G := fun z => Wk X _ _ (RD D (RP D x Xp R0 Q) d L T) 8 [(0, .ref (x + 9))] [z, .ref (x + 9)]) hE (fun b3 hE => ?_)
  refine a_tight hX ?_
  refine a_know (a_hcs hX) (fun hcs => ?_)
  refine t_callVI (pc := 8) (As := []) 19 (fun r => r) hC hDy cl_J5 (cw_L_size_X3 hC rfl (by rw [hX.2.2.2.1]; exact Nat.le_of_ble_eq_true rfl) (by rw [hX.2.2.2.2.1]; exact Nat.le_of_ble_eq_true rfl)) rfl rfl (Nat.le_of_ble_eq_true rfl) (a_hc0 hcs) dX3_man_8 hE (fun r h => ct_L_size _ _ _ _ T hDy b3 r h) (fun r4 hE => ?_)
  refine k_bipush (pc := 11) (v := 6) hC dX3_man_11 (by decide) ?_
  rcases xb_of hE with ⟨e, h1, rfl⟩ | ⟨r5, h1, hE⟩
  · exact p_callVT (pc := 13) (As := [.int r4, .int 6]) hP hR (ctx_R_begins X.2.1 D (cxA X) x Xp R0 d L Q T (pxf hP) r4 6 e h1) (fun H h => p_fault hC.K h) (p_tt hX) (cw_R_begins_X3 hX (Nat.le_of_ble_eq_true rfl) (Nat.le_of_ble_eq_true rfl)) (p_recv 9 lp_9 cl_X3 hP) rfl rfl (Nat.le_of_ble_eq_true rfl) dX3_man_13
  refine a_callV (pc := 13) (As := [.int r4, .int 6]) hX (ct_R_begins X.2.1 D (cxA X) x Xp R0 d L Q T (pxf hP) r4 6 r5 h1) (cw_R_begins_X3 hX (Nat.le_of_ble_eq_true rfl) (Nat.le_of_ble_eq_true rfl)) (p_recv 9 lp_9 cl_X3 hP) rfl rfl (Nat.le_of_ble_eq_true rfl) dX3_man_13 (fun c z => ?_)
  show Wk X c z (RD D (RP D x Xp R0 r5.1) d L r5.2) 16 [(0, .ref (x + 9))] []
  refine a_new (pc := 16) hX hSt cl_X15 in_X15 tyX15 tyX15_ok dv_X15 q1120 q1121 q146 dX3_man_16 hE (fun T6 eT6 hE c z => ?_)
  refine k_dup (pc := 19) hC dX3_man_19 rfl ?_
  refine k_aload_n (pc := 20) hC dX3_man_20 rfl 0 rfl ?_
  rcases xb_of hE with ⟨e, h1, rfl⟩ | ⟨r7, h1, hE⟩
  · exact p_callVT (pc := 21) (As := []) hP hR (ctx_R_name X.2.1 D (cxA X) x Xp R0 d L r5.1 T6 (pxf hP) F e h1) (fun H h => p_fault hC.K h) (p_tt hX) (cw_R_name_X3 hX (Nat.le_of_ble_eq_true rfl) (Nat.le_of_ble_eq_true rfl)) (p_recv 9 lp_9 cl_X3 hP) rfl rfl (Nat.le_of_ble_eq_true rfl) dX3_man_21
  refine a_callV (pc := 21) (As := []) hX (ct_R_name X.2.1 D (cxA X) x Xp R0 d L r5.1 T6 (pxf hP) F r7 h1) (cw_R_name_X3 hX (Nat.le_of_ble_eq_true rfl) (Nat.le_of_ble_eq_true rfl)) (p_recv 9 lp_9 cl_X3 hP) rfl rfl (Nat.le_of_ble_eq_true rfl) dX3_man_21 (fun c z => ?_)
  show Wk X c z (RD D (RP D x Xp R0 r7.2.1) d L r7.2.2) 24 [(0, .ref (x + 9))] [va_rf r7.1, .ref (tN r5.2), .ref (tN r5.2)]
  refine k_nn (G := fun z => Wk X _ _ (RD D (RP D x Xp R0 r7.2.1) d L r7.2.2) 24 [(0, .ref (x + 9))] [z, .ref (tN r5.2), .ref (tN r5.2)]) hE (fun b8 hE => ?_)
  obtain ⟨r9, h1, hE⟩ := ob_ hE
  refine a_callI (pc := 24) (As := [.ref b8]) hX (ct_A_Man X.2.1 D (cxA X) (RP D x Xp R0 r7.2.1) d L r7.2.2 hSt hX.2.1 hX.2.2.2.2.2.2.2.2.2 (tN r5.2) b8 r9 h1) (cw_A_Man_X3 hX (Nat.le_of_ble_eq_true rfl) (Nat.le_of_ble_eq_true rfl)) rfl rfl (Nat.le_of_ble_eq_true rfl) dX3_man_24 (fun c z => ?_)
  show Wk X c z (RD D (RP D x Xp R0 r7.2.1) d L r9) 27 [(0, .ref (x + 9))] [.ref (tN r5.2)]
  refine k_astore_n (pc := 27) (lv' := [(1, .ref (tN r5.2)), (0, .ref (x + 9))]) hC dX3_man_27 rfl (by rw [hnL]; decide) rfl ?_
  refine k_aload_n (pc := 28) hC dX3_man_28 rfl 0 rfl ?_
  refine k_aload_n (pc := 29) hC dX3_man_29 rfl 1 rfl ?_
  refine k_aload_n (pc := 30) hC dX3_man_30 rfl 1 rfl ?_
  refine gP_X3_83 (pc := 31) hP dX3_man_31 ?_
  refine k_nn (G := fun z => Wk X _ _ (RD D (RP D x Xp R0 r7.2.1) d L r9) 34 [(1, .ref (tN r5.2)), (0, .ref (x + 9))] [z, .ref (x + 9), .ref (tN r5.2)]) hE (fun b10 hE => ?_)
  refine gD_X3_109_X4 (pc := 34) hC hDy dX3_man_34 hE (fun x11 hE => ?_)
  refine k_nn (G := fun z => Wk X _ _ (RD D (RP D x Xp R0 r7.2.1) d L r9) 37 [(1, .ref (tN r5.2)), (0, .ref (x + 9))] [z, .ref (x + 9), .ref (tN r5.2)]) hE (fun b12 hE => ?_)
  rcases xb_of hE with ⟨e, h1, rfl⟩ | ⟨r13, h1, hE⟩
  · exact p_callVT (pc := 37) (As := [.ref b12]) hP hR (ctx_R_known X.2.1 D (cxA X) x Xp R0 d L r7.2.1 r9 (pxf hP) F b12 e h1) (fun H h => p_fault hC.K h) (p_tt hX) (cw_R_known_X3 hX (Nat.le_of_ble_eq_true rfl) (Nat.le_of_ble_eq_true rfl)) (p_recv 9 lp_9 cl_X3 hP) rfl rfl (Nat.le_of_ble_eq_true rfl) dX3_man_37
  refine a_callV (pc := 37) (As := [.ref b12]) hX (ct_R_known X.2.1 D (cxA X) x Xp R0 d L r7.2.1 r9 (pxf hP) F b12 r13 h1) (cw_R_known_X3 hX (Nat.le_of_ble_eq_true rfl) (Nat.le_of_ble_eq_true rfl)) (p_recv 9 lp_9 cl_X3 hP) rfl rfl (Nat.le_of_ble_eq_true rfl) dX3_man_37 (fun c z => ?_)
  show Wk X c z (RD D (RP D x Xp R0 r13.2.1) d L r13.2.2) 40 [(1, .ref (tN r5.2)), (0, .ref (x + 9))] [.int r13.1, .ref (tN r5.2)]
  refine a_putI (pc := 40) (y := r13.1) hX hSt cl_X15 in_X15 1 (by decide) rfl tyX15 tyX15_ok nmX15 (by exact q1128) rfl rfl rfl rfl dX3_man_40 hE (fun T14 _ hE => ?_)
  refine k_aload_n (pc := 43) hC dX3_man_43 rfl 1 rfl ?_
  refine k_bipush (pc := 44) (v := 9) hC dX3_man_44 (by decide) ?_
  rcases xb_of hE with ⟨e, h1, rfl⟩ | ⟨r15, h1, hE⟩
  · exact p_callVT (pc := 46) (As := [.int 9]) hP hR (ctx_R_isWord X.2.1 D (cxA X) x Xp R0 d L r13.2.1 T14 (pxf hP) 9 e h1) (fun H h => p_fault hC.K h) (p_tt hX) (cw_R_isWord_X3 hX (Nat.le_of_ble_eq_true rfl) (Nat.le_of_ble_eq_true rfl)) (p_recv 9 lp_9 cl_X3 hP) rfl rfl (Nat.le_of_ble_eq_true rfl) dX3_man_46
  refine a_callV (pc := 46) (As := [.int 9]) hX (ct_R_isWord X.2.1 D (cxA X) x Xp R0 d L r13.2.1 T14 (pxf hP) 9 r15 h1) (cw_R_isWord_X3 hX (Nat.le_of_ble_eq_true rfl) (Nat.le_of_ble_eq_true rfl)) (p_recv 9 lp_9 cl_X3 hP) rfl rfl (Nat.le_of_ble_eq_true rfl) dX3_man_46 (fun c z => ?_)
  show Wk X c z (RD D (RP D x Xp R0 r15.2.1) d L r15.2.2) 49 [(1, .ref (tN r5.2)), (0, .ref (x + 9))] [.int r15.1]
  refine k_if_eq (pc := 49) (tgt := 103) hC dX3_man_49 (by decide) hE (fun hE => ?_) (fun hE => ?_)
  · refine k_sub [1, 0] rfl ?_
    exact w_R_man_B103 hP hR F _ _ _ hE _ _
  · refine k_aload_n (pc := 52) hC dX3_man_52 rfl 1 rfl ?_
    rcases xb_of hE with ⟨e, h1, rfl⟩ | ⟨r16, h1, hE⟩
    · exact p_callVT (pc := 53) (As := []) hP hR (ctx_R_pass X.2.1 D (cxA X) x Xp R0 d L r15.2.1 r15.2.2 (pxf hP)  e h1) (fun H h => p_fault hC.K h) (p_tt hX) (cw_R_pass_X3 hX (Nat.le_of_ble_eq_true rfl) (Nat.le_of_ble_eq_true rfl)) (p_recv 9 lp_9 cl_X3 hP) rfl rfl (Nat.le_of_ble_eq_true rfl) dX3_man_53
    refine a_callV (pc := 53) (As := []) hX (ct_R_pass X.2.1 D (cxA X) x Xp R0 d L r15.2.1 r15.2.2 (pxf hP)  r16 h1) (cw_R_pass_X3 hX (Nat.le_of_ble_eq_true rfl) (Nat.le_of_ble_eq_true rfl)) (p_recv 9 lp_9 cl_X3 hP) rfl rfl (Nat.le_of_ble_eq_true rfl) dX3_man_53 (fun c z => ?_)
    show Wk X c z (RD D (RP D x Xp R0 r16.1) d L r16.2) 56 [(1, .ref (tN r5.2)), (0, .ref (x + 9))] []
    refine k_aload_n (pc := 56) hC dX3_man_56 rfl 1 rfl ?_
    refine k_aload_n (pc := 57) hC dX3_man_57 rfl 1 rfl ?_
    refine gP_X3_83 (pc := 58) hP dX3_man_58 ?_
    refine k_nn (G := fun z => Wk X _ _ (RD D (RP D x Xp R0 r16.1) d L r16.2) 61 [(1, .ref (tN r5.2)), (0, .ref (x + 9))] [z, .ref (x + 9)]) hE (fun b17 hE => ?_)
    refine gD_X3_150_X4 (pc := 61) hC hDy dX3_man_61 hE (fun x18 hE => ?_)
    refine k_nn (G := fun z => Wk X _ _ (RD D (RP D x Xp R0 r16.1) d L r16.2) 64 [(1, .ref (tN r5.2)), (0, .ref (x + 9))] [z, .ref (x + 9)]) hE (fun b19 hE => ?_)
    rcases xb_of hE with ⟨e, h1, rfl⟩ | ⟨r20, h1, hE⟩
    · exact p_callVT (pc := 64) (As := [.ref b19]) hP hR (ctx_R_known X.2.1 D (cxA X) x Xp R0 d L r16.1 r16.2 (pxf hP) F b19 e h1) (fun H h => p_fault hC.K h) (p_tt hX) (cw_R_known_X3 hX (Nat.le_of_ble_eq_true rfl) (Nat.le_of_ble_eq_true rfl)) (p_recv 9 lp_9 cl_X3 hP) rfl rfl (Nat.le_of_ble_eq_true rfl) dX3_man_64
    refine a_callV (pc := 64) (As := [.ref b19]) hX (ct_R_known X.2.1 D (cxA X) x Xp R0 d L r16.1 r16.2 (pxf hP) F b19 r20 h1) (cw_R_known_X3 hX (Nat.le_of_ble_eq_true rfl) (Nat.le_of_ble_eq_true rfl)) (p_recv 9 lp_9 cl_X3 hP) rfl rfl (Nat.le_of_ble_eq_true rfl) dX3_man_64 (fun c z => ?_)
    show Wk X c z (RD D (RP D x Xp R0 r20.2.1) d L r20.2.2) 67 [(1, .ref (tN r5.2)), (0, .ref (x + 9))] [.int r20.1]
    refine k_istore_n (pc := 67) (lv' := [(2, .int r20.1), (1, .ref (tN r5.2)), (0, .ref (x + 9))]) hC dX3_man_67 rfl (by rw [hnL]; decide) rfl ?_
    refine k_aload_n (pc := 68) hC dX3_man_68 rfl 1 rfl ?_
    refine k_iload_n (pc := 69) hC dX3_man_69 rfl 0 rfl ?_
    refine a_putI (pc := 70) (y := r20.1) hX hSt cl_X15 in_X15 2 (by decide) rfl tyX15 tyX15_ok nmX15 (by exact q1131) rfl rfl rfl rfl dX3_man_70 hE (fun T21 _ hE => ?_)
    refine k_aload_n (pc := 73) hC dX3_man_73 rfl 1 rfl ?_
    refine k_aload_n (pc := 74) hC dX3_man_74 rfl 2 rfl ?_
    refine k_iload_n (pc := 75) hC dX3_man_75 rfl 0 rfl ?_
    refine k_if_ge (pc := 76) (tgt := 83) hC dX3_man_76 (by decide) hE (fun hE => ?_) (fun hE => ?_)
    · refine k_aload_n (pc := 83) hC dX3_man_83 rfl 2 rfl ?_
      refine gP_X3_83 (pc := 84) hP dX3_man_84 ?_
      refine k_nn (G := fun z => Wk X _ _ (RD D (RP D x Xp R0 r20.2.1) d L T21) 87 [(2, .int r20.1), (1, .ref (tN r5.2)), (0, .ref (x + 9))] [z, .ref (x + 9), .ref (tN r5.2)]) hE (fun b22 hE => ?_)
      refine gD_X3_150_X4 (pc := 87) hC hDy dX3_man_87 hE (fun x23 hE => ?_)
      refine k_iload_n (pc := 90) hC dX3_man_90 rfl 0 rfl ?_
      refine k_nn (G := fun z => Wk X _ _ (RD D (RP D x Xp R0 r20.2.1) d L T21) 91 [(2, .int r20.1), (1, .ref (tN r5.2)), (0, .ref (x + 9))] [.int r20.1, z, .ref (x + 9), .ref (tN r5.2)]) hE (fun b24 hE => ?_)
      refine a_tight hX ?_
      refine a_know (a_hcs hX) (fun hcs => ?_)
      refine t_callVR (pc := 91) (As := [.int r20.1]) 19 (fun r => r) hC hDy cl_J5 (cw_L_get_X3 hC rfl (by rw [hX.2.2.2.1]; exact Nat.le_of_ble_eq_true rfl) (by rw [hX.2.2.2.2.1]; exact Nat.le_of_ble_eq_true rfl)) rfl rfl (Nat.le_of_ble_eq_true rfl) (a_hc0 hcs) dX3_man_91 hE (fun r h => ct_L_get _ _ _ _ T21 hDy b24 r20.1 r h) (fun r25 hE => ?_)
      refine k_nn (G := fun z => Wk X _ _ (RD D (RP D x Xp R0 r20.2.1) d L T21) 94 [(2, .int r20.1), (1, .ref (tN r5.2)), (0, .ref (x + 9))] [z, .ref (x + 9), .ref (tN r5.2)]) hE (fun b26 hE => ?_)
      refine dy_castS (pc := 94) hC hDy cl_X13 q1037 dX3_man_94 hE (fun hE => ?_)
      refine k_sub [2, 1] rfl ?_
      exact w_R_man_B97 hP hR F _ _ _ _ _ hE _ _
    · refine k_null (pc := 79) hC dX3_man_79 ?_
      refine k_goto (pc := 80) (tgt := 97) hC dX3_man_80 (by decide) ?_
      refine k_sub [2, 1] rfl ?_
      exact w_R_man_B97 hP hR F _ _ _ _ _ hE _ _
theorem ct_R_man (l : Launch) (D : Dd) (A : Nat → Prop) (x : Nat) (Xp : Jr) (R0 : Heap → Prop) (d : Nat → Prop) (L : Nat × Nat × Nat × Nat) (Q : Ji) (T : Th) (hp : Pf D A x R0 d) (F : Nat) (out : Ji × Th) (hE : R_man F Xp Q T = some (.inr out)) : Ct l yX3_man (ws_ yX3_man cX3_man 3 none) (rmA 9 202 L T) vwCl arTy D A [.ref (x + 9)] (RD D (RP D x Xp R0 Q) d L T) (RD D (RP D x Xp R0 out.1) d L out.2) none (L.1 - tN T) (L.2.1 - tZ T) := by
  refine Ct.ofA (lv := [(0, .ref (x + 9))]) (by decide) (Nat.le_of_ble_eq_true rfl) rfl hp.1 hp.2.1 ?_
  intro X hl hX hR hXA _
  exact w_R_man (Xp := Xp) (out := .inr out) (hp.px hX hXA) hR F Q T hE
theorem ctx_R_man (l : Launch) (D : Dd) (A : Nat → Prop) (x : Nat) (Xp : Jr) (R0 : Heap → Prop) (d : Nat → Prop) (L : Nat × Nat × Nat × Nat) (Q : Ji) (T : Th) (hp : Pf D A x R0 d) (F : Nat) (e : Ji × Jr × Th) (hE : R_man F Xp Q T = some (.inl e)) : CtT l yX3_man (ws_ yX3_man cX3_man 3 none) (rmA 9 202 L T) D A [.ref (x + 9)] (RD D (RP D x Xp R0 Q) d L T) (RD D (RP D x e.2.1 R0 e.1) d L e.2.2) (x + 1) (L.1 - tN T) (L.2.1 - tZ T) := by
  refine CtT.ofA (lv := [(0, .ref (x + 9))]) (by decide) (Nat.le_of_ble_eq_true rfl) rfl hp.1 hp.2.1 ?_
  intro X hl hX hR hXA
  exact w_R_man (Xp := Xp) (out := .inl e) (hp.px hX hXA) hR F Q T hE
theorem cw_R_man_X3 {X : Ctx} {cc : ByteArray} {D : Dd} {d : Nat → Prop} {L : Nat × Nat × Nat × Nat} {mL fr lo : Nat} {T : Th} (hX : Ax X cc RX3 D d L mL fr lo) (h1 : 9 + 1 ≤ fr) (h2 : 8 + (3 + 11) + 202 ≤ lo) : CallW X.2.2.2.1 X.2.2.2.2.1 X.2.2.2.2.2.2.1 RX3 RX3 166 yX3_man cX3_man 3 none (ws_ yX3_man cX3_man 3 none) (rmA 9 202 L T) (L.1 - tN T) (L.2.1 - tZ T) 0 := cwV 0 (cx_w hX.1) (lw_V q1116 q1118 qs26 q120 q1119) rfl rfl rfl (by decide +kernel) (by rw [hX.2.2.2.1, hX.2.2.2.2.1]; exact ⟨h1, h2⟩)
set_option maxHeartbeats 4000000 in
theorem w_R_unit_0_B87 {X : Ctx} {D : Dd} {x : Nat} {R0 : Heap → Prop} {d : Nat → Prop} {L : Nat × Nat × Nat × Nat} {Xp : Jr} {out : (Ji × Jr × Th) ⊕ (Option Nat × Ji × Th)} (hP : Px X cX3_unit RX3 D x R0 d L 2 5 108) (hR : RtX X (some (.object "SleepWork$Sum")) D L x (fun r => (RD D (RP D x Xp R0 r.2.1) d L r.2.2)) (fun r => (some (va_rf r.1))) (fun e => RD D (RP D x e.2.1 R0 e.1) d L e.2.2) out) (F : Nat) (Q : Ji) (T : Th) (hE : R_unit_0_B87 F Xp Q T = some out) (c z : Nat) : Wk X c z (RD D (RP D x Xp R0 Q) d L T) 87 [(0, .ref (x + 9))] [] := by
  have hX := hP.1
  have hC := hX.1
  have hnL := hX.2.2.1
  have hSt : ∀ {Xp : Jr} {Q : Ji}, Stb (RP D x Xp R0 Q) d := hP.st
  have hDy : ∀ {Xp : Jr} {Q : Ji} {T : Th} (H : Heap), RD D (RP D x Xp R0 Q) d L T H → Dy D T H := fun _ h => h.2.1
  unfold R_unit_0_B87 at hE
  refine k_aload_n (pc := 87) hC dX3_unit_87 rfl 0 rfl ?_
  refine k_bipush (pc := 88) (v := 40) hC dX3_unit_88 (by decide) ?_
  rcases xb_of hE with ⟨e, h1, rfl⟩ | ⟨r12, h1, hE⟩
  · exact p_callVT (pc := 90) (As := [.int 40]) hP hR (ctx_R_isSign X.2.1 D (cxA X) x Xp R0 d L Q T (pxf hP) 40 e h1) (fun H h => p_fault hC.K h) (p_tt hX) (cw_R_isSign_X3 hX (Nat.le_of_ble_eq_true rfl) (Nat.le_of_ble_eq_true rfl)) (p_recv 9 lp_9 cl_X3 hP) rfl rfl (Nat.le_of_ble_eq_true rfl) dX3_unit_90
  refine a_callV (pc := 90) (As := [.int 40]) hX (ct_R_isSign X.2.1 D (cxA X) x Xp R0 d L Q T (pxf hP) 40 r12 h1) (cw_R_isSign_X3 hX (Nat.le_of_ble_eq_true rfl) (Nat.le_of_ble_eq_true rfl)) (p_recv 9 lp_9 cl_X3 hP) rfl rfl (Nat.le_of_ble_eq_true rfl) dX3_unit_90 (fun c z => ?_)
  show Wk X c z (RD D (RP D x Xp R0 r12.2.1) d L r12.2.2) 93 [(0, .ref (x + 9))] [.int r12.1]
  refine k_if_ne (pc := 93) (tgt := 102) hC dX3_unit_93 (by decide) hE (fun hE => ?_) (fun hE => ?_)
  · refine k_aload_n (pc := 96) hC dX3_unit_96 rfl 0 rfl ?_
    refine k_iconst (pc := 97) (v := 1) hC dX3_unit_97 (by decide) ?_
    obtain ⟨r13, h1, hE⟩ := ob_ hE
    refine a_callV (pc := 98) (As := [.int 1]) hX (ct_R_wrong X.2.1 D (cxA X) x Xp R0 d L r12.2.1 r12.2.2 (pxf hP) 1 r13 h1) (cw_R_wrong_X3 hX (Nat.le_of_ble_eq_true rfl) (Nat.le_of_ble_eq_true rfl)) (p_recv 9 lp_9 cl_X3 hP) rfl rfl (Nat.le_of_ble_eq_true rfl) dX3_unit_98 (fun c z => ?_)
    show Wk X c z (RD D (RP D x Xp R0 r13) d L r12.2.2) 101 [(0, .ref (x + 9))] [.ref (x + 1)]
    cases hE
    exact p_athrow (pc := 101) hP hR dX3_unit_101 (fun _ h => h)
  · refine k_aload_n (pc := 102) hC dX3_unit_102 rfl 0 rfl ?_
    refine gP_X3_99 (pc := 103) hP dX3_unit_103 ?_
    refine k_bipush (pc := 106) (v := 6) hC dX3_unit_106 (by decide) ?_
    refine k_icmp_ne (pc := 108) (tgt := 117) hC dX3_unit_108 (by decide) hE (fun hE => ?_) (fun hE => ?_)
    · refine k_aload_n (pc := 111) hC dX3_unit_111 rfl 0 rfl ?_
      refine k_iconst (pc := 112) (v := 2) hC dX3_unit_112 (by decide) ?_
      obtain ⟨r14, h1, hE⟩ := ob_ hE
      refine a_callV (pc := 113) (As := [.int 2]) hX (ct_R_wrong X.2.1 D (cxA X) x Xp R0 d L r12.2.1 r12.2.2 (pxf hP) 2 r14 h1) (cw_R_wrong_X3 hX (Nat.le_of_ble_eq_true rfl) (Nat.le_of_ble_eq_true rfl)) (p_recv 9 lp_9 cl_X3 hP) rfl rfl (Nat.le_of_ble_eq_true rfl) dX3_unit_113 (fun c z => ?_)
      show Wk X c z (RD D (RP D x Xp R0 r14) d L r12.2.2) 116 [(0, .ref (x + 9))] [.ref (x + 1)]
      cases hE
      exact p_athrow (pc := 116) hP hR dX3_unit_116 (fun _ h => h)
    · refine k_aload_n (pc := 117) hC dX3_unit_117 rfl 0 rfl ?_
      refine k_dup (pc := 118) hC dX3_unit_118 rfl ?_
      refine gP_X3_99 (pc := 119) hP dX3_unit_119 ?_
      refine k_iconst (pc := 122) (v := 1) hC dX3_unit_122 (by decide) ?_
      refine k_iadd (pc := 123) hC dX3_unit_123 ?_
      refine pP_X3_99 (pc := 124) hP dX3_unit_124 hE (fun Q15 hE => ?_)
      refine k_aload_n (pc := 127) hC dX3_unit_127 rfl 0 rfl ?_
      rcases xb_of hE with ⟨e, h1, rfl⟩ | ⟨r16, h1, hE⟩
      · exact p_callVT (pc := 128) (As := []) hP hR (ctx_R_pass X.2.1 D (cxA X) x Xp R0 d L Q15 r12.2.2 (pxf hP)  e h1) (fun H h => p_fault hC.K h) (p_tt hX) (cw_R_pass_X3 hX (Nat.le_of_ble_eq_true rfl) (Nat.le_of_ble_eq_true rfl)) (p_recv 9 lp_9 cl_X3 hP) rfl rfl (Nat.le_of_ble_eq_true rfl) dX3_unit_128
      refine a_callV (pc := 128) (As := []) hX (ct_R_pass X.2.1 D (cxA X) x Xp R0 d L Q15 r12.2.2 (pxf hP)  r16 h1) (cw_R_pass_X3 hX (Nat.le_of_ble_eq_true rfl) (Nat.le_of_ble_eq_true rfl)) (p_recv 9 lp_9 cl_X3 hP) rfl rfl (Nat.le_of_ble_eq_true rfl) dX3_unit_128 (fun c z => ?_)
      show Wk X c z (RD D (RP D x Xp R0 r16.1) d L r16.2) 131 [(0, .ref (x + 9))] []
      refine k_aload_n (pc := 131) hC dX3_unit_131 rfl 0 rfl ?_
      cases hE
set_option maxHeartbeats 4000000 in
theorem w_R_unit_0 {X : Ctx} {D : Dd} {x : Nat} {R0 : Heap → Prop} {d : Nat → Prop} {L : Nat × Nat × Nat × Nat} {Xp : Jr} {out : (Ji × Jr × Th) ⊕ (Option Nat × Ji × Th)} (hP : Px X cX3_unit RX3 D x R0 d L 2 5 108) (hR : RtX X (some (.object "SleepWork$Sum")) D L x (fun r => (RD D (RP D x Xp R0 r.2.1) d L r.2.2)) (fun r => (some (va_rf r.1))) (fun e => RD D (RP D x e.2.1 R0 e.1) d L e.2.2) out) (F : Nat) (Q : Ji) (T : Th) (hE : R_unit_0 F Xp Q T = some out) (c z : Nat) : Wk X c z (RD D (RP D x Xp R0 Q) d L T) 0 [(0, .ref (x + 9))] [] := by
  have hX := hP.1
  have hC := hX.1
  have hnL := hX.2.2.1
  have hSt : ∀ {Xp : Jr} {Q : Ji}, Stb (RP D x Xp R0 Q) d := hP.st
  have hDy : ∀ {Xp : Jr} {Q : Ji} {T : Th} (H : Heap), RD D (RP D x Xp R0 Q) d L T H → Dy D T H := fun _ h => h.2.1
  unfold R_unit_0 at hE
  refine k_aload_n (pc := 0) hC dX3_unit_0 rfl 0 rfl ?_
  rcases xb_of hE with ⟨e, h1, rfl⟩ | ⟨r1, h1, hE⟩
  · exact p_callVT (pc := 1) (As := []) hP hR (ctx_R_sort X.2.1 D (cxA X) x Xp R0 d L Q T (pxf hP)  e h1) (fun H h => p_fault hC.K h) (p_tt hX) (cw_R_sort_X3 hX (Nat.le_of_ble_eq_true rfl) (Nat.le_of_ble_eq_true rfl)) (p_recv 9 lp_9 cl_X3 hP) rfl rfl (Nat.le_of_ble_eq_true rfl) dX3_unit_1
  refine a_callV (pc := 1) (As := []) hX (ct_R_sort X.2.1 D (cxA X) x Xp R0 d L Q T (pxf hP)  r1 h1) (cw_R_sort_X3 hX (Nat.le_of_ble_eq_true rfl) (Nat.le_of_ble_eq_true rfl)) (p_recv 9 lp_9 cl_X3 hP) rfl rfl (Nat.le_of_ble_eq_true rfl) dX3_unit_1 (fun c z => ?_)
  show Wk X c z (RD D (RP D x Xp R0 r1.2.1) d L r1.2.2) 4 [(0, .ref (x + 9))] [.int r1.1]
  refine k_iconst (pc := 4) (v := 1) hC dX3_unit_4 (by decide) ?_
  refine k_icmp_ne (pc := 5) (tgt := 33) hC dX3_unit_5 (by decide) hE (fun hE => ?_) (fun hE => ?_)
  · refine k_aload_n (pc := 8) hC dX3_unit_8 rfl 0 rfl ?_
    rcases xb_of hE with ⟨e, h1, rfl⟩ | ⟨r2, h1, hE⟩
    · exact p_callVT (pc := 9) (As := []) hP hR (ctx_R_pass X.2.1 D (cxA X) x Xp R0 d L r1.2.1 r1.2.2 (pxf hP)  e h1) (fun H h => p_fault hC.K h) (p_tt hX) (cw_R_pass_X3 hX (Nat.le_of_ble_eq_true rfl) (Nat.le_of_ble_eq_true rfl)) (p_recv 9 lp_9 cl_X3 hP) rfl rfl (Nat.le_of_ble_eq_true rfl) dX3_unit_9
    refine a_callV (pc := 9) (As := []) hX (ct_R_pass X.2.1 D (cxA X) x Xp R0 d L r1.2.1 r1.2.2 (pxf hP)  r2 h1) (cw_R_pass_X3 hX (Nat.le_of_ble_eq_true rfl) (Nat.le_of_ble_eq_true rfl)) (p_recv 9 lp_9 cl_X3 hP) rfl rfl (Nat.le_of_ble_eq_true rfl) dX3_unit_9 (fun c z => ?_)
    show Wk X c z (RD D (RP D x Xp R0 r2.1) d L r2.2) 12 [(0, .ref (x + 9))] []
    refine a_new (pc := 12) hX hSt cl_X18 in_X18 tyX18 tyX18_ok dv_X18 q1196 q1197 q149 dX3_unit_12 hE (fun T3 eT3 hE c z => ?_)
    refine k_dup (pc := 15) hC dX3_unit_15 rfl ?_
    refine k_aload_n (pc := 16) hC dX3_unit_16 rfl 0 rfl ?_
    refine gP_X3_9 (pc := 17) hP dX3_unit_17 ?_
    refine k_aload_n (pc := 20) hC dX3_unit_20 rfl 0 rfl ?_
    refine gP_X3_31 (pc := 21) hP dX3_unit_21 ?_
    refine k_iconst (pc := 24) (v := 1) hC dX3_unit_24 (by decide) ?_
    refine k_isub (pc := 25) hC dX3_unit_25 ?_
    obtain ⟨r4, h1, hE⟩ := ob_ hE
    refine a_callV (pc := 26) (As := [.int ((r2.1 9 3) - 1)]) hX (ct_T_number X.2.1 D (cxA X) x Xp R0 d L r2.1 T3 (pxf hP) F ((r2.1 9 3) - 1) r4 h1) (cw_T_number_X3 hX (Nat.le_of_ble_eq_true rfl) (Nat.le_of_ble_eq_true rfl)) (p_recv 2 lp_2 cl_X2 hP) rfl rfl (Nat.le_of_ble_eq_true rfl) dX3_unit_26 (fun c z => ?_)
    show Wk X c z (RD D (RP D x Xp R0 r2.1) d L T3) 29 [(0, .ref (x + 9))] [.int r4, .ref (tN r2.2), .ref (tN r2.2)]
    obtain ⟨r5, h1, hE⟩ := ob_ hE
    refine a_callI (pc := 29) (As := [.int r4]) hX (ct_A_Number X.2.1 D (cxA X) (RP D x Xp R0 r2.1) d L T3 hSt hX.2.1 hX.2.2.2.2.2.2.2.2.2 (tN r2.2) r4 r5 h1) (cw_A_Number_X3 hX (Nat.le_of_ble_eq_true rfl) (Nat.le_of_ble_eq_true rfl)) rfl rfl (Nat.le_of_ble_eq_true rfl) dX3_unit_29 (fun c z => ?_)
    show Wk X c z (RD D (RP D x Xp R0 r2.1) d L r5) 32 [(0, .ref (x + 9))] [.ref (tN r2.2)]
    cases hE
    exact a_aret (pc := 32) (v := va_rf _) (rt := (.object "SleepWork$Sum")) (by first | exact Or.inl ⟨_, rfl⟩ | exact Or.inr ⟨_, rfl⟩) (va_rfv _) hX hR dX3_unit_32 (by rfl) (fun _ h => h)
  · refine k_aload_n (pc := 33) hC dX3_unit_33 rfl 0 rfl ?_
    rcases xb_of hE with ⟨e, h1, rfl⟩ | ⟨r6, h1, hE⟩
    · exact p_callVT (pc := 34) (As := []) hP hR (ctx_R_sort X.2.1 D (cxA X) x Xp R0 d L r1.2.1 r1.2.2 (pxf hP)  e h1) (fun H h => p_fault hC.K h) (p_tt hX) (cw_R_sort_X3 hX (Nat.le_of_ble_eq_true rfl) (Nat.le_of_ble_eq_true rfl)) (p_recv 9 lp_9 cl_X3 hP) rfl rfl (Nat.le_of_ble_eq_true rfl) dX3_unit_34
    refine a_callV (pc := 34) (As := []) hX (ct_R_sort X.2.1 D (cxA X) x Xp R0 d L r1.2.1 r1.2.2 (pxf hP)  r6 h1) (cw_R_sort_X3 hX (Nat.le_of_ble_eq_true rfl) (Nat.le_of_ble_eq_true rfl)) (p_recv 9 lp_9 cl_X3 hP) rfl rfl (Nat.le_of_ble_eq_true rfl) dX3_unit_34 (fun c z => ?_)
    show Wk X c z (RD D (RP D x Xp R0 r6.2.1) d L r6.2.2) 37 [(0, .ref (x + 9))] [.int r6.1]
    refine k_iconst (pc := 37) (v := 3) hC dX3_unit_37 (by decide) ?_
    refine k_icmp_ne (pc := 38) (tgt := 87) hC dX3_unit_38 (by decide) hE (fun hE => ?_) (fun hE => ?_)
    · refine k_aload_n (pc := 41) hC dX3_unit_41 rfl 0 rfl ?_
      refine gP_X3_9 (pc := 42) hP dX3_unit_42 ?_
      refine gP_X3_52 (pc := 45) hP dX3_unit_45 ?_
      refine k_aload_n (pc := 48) hC dX3_unit_48 rfl 0 rfl ?_
      refine gP_X3_31 (pc := 49) hP dX3_unit_49 ?_
      refine p_sald (pc := 52) 8 lp_8 hP dX3_unit_52 hE (fun x7 hE => ?_)
      refine k_bipush (pc := 53) (v := 15) hC dX3_unit_53 (by decide) ?_
      refine k_icmp_lt (pc := 55) (tgt := 87) hC dX3_unit_55 (by decide) hE (fun hE => ?_) (fun hE => ?_)
      · exact w_R_unit_0_B87 hP hR F _ _ hE _ _
      · refine k_aload_n (pc := 58) hC dX3_unit_58 rfl 0 rfl ?_
        rcases xb_of hE with ⟨e, h1, rfl⟩ | ⟨r8, h1, hE⟩
        · exact p_callVT (pc := 59) (As := []) hP hR (ctx_R_pass X.2.1 D (cxA X) x Xp R0 d L r6.2.1 r6.2.2 (pxf hP)  e h1) (fun H h => p_fault hC.K h) (p_tt hX) (cw_R_pass_X3 hX (Nat.le_of_ble_eq_true rfl) (Nat.le_of_ble_eq_true rfl)) (p_recv 9 lp_9 cl_X3 hP) rfl rfl (Nat.le_of_ble_eq_true rfl) dX3_unit_59
        refine a_callV (pc := 59) (As := []) hX (ct_R_pass X.2.1 D (cxA X) x Xp R0 d L r6.2.1 r6.2.2 (pxf hP)  r8 h1) (cw_R_pass_X3 hX (Nat.le_of_ble_eq_true rfl) (Nat.le_of_ble_eq_true rfl)) (p_recv 9 lp_9 cl_X3 hP) rfl rfl (Nat.le_of_ble_eq_true rfl) dX3_unit_59 (fun c z => ?_)
        show Wk X c z (RD D (RP D x Xp R0 r8.1) d L r8.2) 62 [(0, .ref (x + 9))] []
        refine a_new (pc := 62) hX hSt cl_X19 in_X19 tyX19 tyX19_ok dv_X19 q1209 q1210 q150 dX3_unit_62 hE (fun T9 eT9 hE c z => ?_)
        refine k_dup (pc := 65) hC dX3_unit_65 rfl ?_
        refine k_aload_n (pc := 66) hC dX3_unit_66 rfl 0 rfl ?_
        refine gP_X3_9 (pc := 67) hP dX3_unit_67 ?_
        refine gP_X3_52 (pc := 70) hP dX3_unit_70 ?_
        refine k_aload_n (pc := 73) hC dX3_unit_73 rfl 0 rfl ?_
        refine gP_X3_31 (pc := 74) hP dX3_unit_74 ?_
        refine k_iconst (pc := 77) (v := 1) hC dX3_unit_77 (by decide) ?_
        refine k_isub (pc := 78) hC dX3_unit_78 ?_
        refine p_sald (pc := 79) 8 lp_8 hP dX3_unit_79 hE (fun x10 hE => ?_)
        refine k_bipush (pc := 80) (v := 15) hC dX3_unit_80 (by decide) ?_
        refine k_isub (pc := 82) hC dX3_unit_82 ?_
        obtain ⟨r11, h1, hE⟩ := ob_ hE
        refine a_callI (pc := 83) (As := [.int (x10 - 15)]) hX (ct_A_Var X.2.1 D (cxA X) (RP D x Xp R0 r8.1) d L T9 hSt hX.2.1 hX.2.2.2.2.2.2.2.2.2 (tN r8.2) (x10 - 15) r11 h1) (cw_A_Var_X3 hX (Nat.le_of_ble_eq_true rfl) (Nat.le_of_ble_eq_true rfl)) rfl rfl (Nat.le_of_ble_eq_true rfl) dX3_unit_83 (fun c z => ?_)
        show Wk X c z (RD D (RP D x Xp R0 r8.1) d L r11) 86 [(0, .ref (x + 9))] [.ref (tN r8.2)]
        cases hE
        exact a_aret (pc := 86) (v := va_rf _) (rt := (.object "SleepWork$Sum")) (by first | exact Or.inl ⟨_, rfl⟩ | exact Or.inr ⟨_, rfl⟩) (va_rfv _) hX hR dX3_unit_86 (by rfl) (fun _ h => h)
    · exact w_R_unit_0_B87 hP hR F _ _ hE _ _
theorem ct_R_unit_0 (l : Launch) (D : Dd) (A : Nat → Prop) (x : Nat) (Xp : Jr) (R0 : Heap → Prop) (d : Nat → Prop) (L : Nat × Nat × Nat × Nat) (Q : Ji) (T : Th) (hp : Pf D A x R0 d) (F : Nat) (out : Option Nat × Ji × Th) (hE : R_unit_0 F Xp Q T = some (.inr out)) : Ct l yX3_unit (ws_ yX3_unit cX3_unit 2 (some (.object "SleepWork$Sum"))) (rmA 5 108 L T) vwCl arTy D A [.ref (x + 9)] (RD D (RP D x Xp R0 Q) d L T) (RD D (RP D x Xp R0 out.2.1) d L out.2.2) (some (va_rf out.1)) (L.1 - tN T) (L.2.1 - tZ T) := by
  refine Ct.ofA (lv := [(0, .ref (x + 9))]) (by decide) (Nat.le_of_ble_eq_true rfl) rfl hp.1 hp.2.1 ?_
  intro X hl hX hR hXA _
  exact w_R_unit_0 (Xp := Xp) (out := .inr out) (hp.px hX hXA) hR F Q T hE
theorem ctx_R_unit_0 (l : Launch) (D : Dd) (A : Nat → Prop) (x : Nat) (Xp : Jr) (R0 : Heap → Prop) (d : Nat → Prop) (L : Nat × Nat × Nat × Nat) (Q : Ji) (T : Th) (hp : Pf D A x R0 d) (F : Nat) (e : Ji × Jr × Th) (hE : R_unit_0 F Xp Q T = some (.inl e)) : CtT l yX3_unit (ws_ yX3_unit cX3_unit 2 (some (.object "SleepWork$Sum"))) (rmA 5 108 L T) D A [.ref (x + 9)] (RD D (RP D x Xp R0 Q) d L T) (RD D (RP D x e.2.1 R0 e.1) d L e.2.2) (x + 1) (L.1 - tN T) (L.2.1 - tZ T) := by
  refine CtT.ofA (lv := [(0, .ref (x + 9))]) (by decide) (Nat.le_of_ble_eq_true rfl) rfl hp.1 hp.2.1 ?_
  intro X hl hX hR hXA
  exact w_R_unit_0 (Xp := Xp) (out := .inl e) (hp.px hX hXA) hR F Q T hE
theorem cw_R_unit_0_X3 {X : Ctx} {cc : ByteArray} {D : Dd} {d : Nat → Prop} {L : Nat × Nat × Nat × Nat} {mL fr lo : Nat} {T : Th} (hX : Ax X cc RX3 D d L mL fr lo) (h1 : 5 + 1 ≤ fr) (h2 : 8 + (2 + 11) + 108 ≤ lo) : CallW X.2.2.2.1 X.2.2.2.2.1 X.2.2.2.2.2.2.1 RX3 RX3 277 yX3_unit cX3_unit 2 (some (.object "SleepWork$Sum")) (ws_ yX3_unit cX3_unit 2 (some (.object "SleepWork$Sum"))) (rmA 5 108 L T) (L.1 - tN T) (L.2.1 - tZ T) 0 := cwV 0 (cx_w hX.1) (lw_V q1192 q1194 qs32 q120 q1195) rfl rfl rfl (by decide +kernel) (by rw [hX.2.2.2.1, hX.2.2.2.2.1]; exact ⟨h1, h2⟩)
set_option maxHeartbeats 4000000 in
theorem w_R_part_0_B23 {X : Ctx} {D : Dd} {x : Nat} {R0 : Heap → Prop} {d : Nat → Prop} {L : Nat × Nat × Nat × Nat} {Xp : Jr} {out : (Ji × Jr × Th) ⊕ (Option Nat × Ji × Th)} (hP : Px X cX3_part RX3 D x R0 d L 3 6 129) (hR : RtX X (some (.object "SleepWork$Sum")) D L x (fun r => (RD D (RP D x Xp R0 r.2.1) d L r.2.2)) (fun r => (some (va_rf r.1))) (fun e => RD D (RP D x e.2.1 R0 e.1) d L e.2.2) out) (F : Nat) (k5 : Option Nat → Ji → Th → Option ((Ji × Jr × Th) ⊕ (Option Nat × Ji × Th))) (hk5 : ∀ (a1 : Option Nat) (Q : Ji) (T : Th) , k5 a1 Q T = some out → ∀ c z, Wk X c z (RD D (RP D x Xp R0 Q) d L T) 5 [(0, .ref (x + 9)), (1, va_rf a1)] []) (a1 : Option Nat) (Q : Ji) (T : Th) (hE : R_part_0_B23 F k5 Xp a1 Q T = some out) (c z : Nat) : Wk X c z (RD D (RP D x Xp R0 Q) d L T) 23 [(0, .ref (x + 9)), (1, va_rf a1)] [] := by
  have hX := hP.1
  have hC := hX.1
  have hnL := hX.2.2.1
  have hSt : ∀ {Xp : Jr} {Q : Ji}, Stb (RP D x Xp R0 Q) d := hP.st
  have hDy : ∀ {Xp : Jr} {Q : Ji} {T : Th} (H : Heap), RD D (RP D x Xp R0 Q) d L T H → Dy D T H := fun _ h => h.2.1
  unfold R_part_0_B23 at hE
  refine k_aload_n (pc := 23) hC dX3_part_23 rfl 0 rfl ?_
  refine gP_X3_9 (pc := 24) hP dX3_part_24 ?_
  refine gP_X3_52 (pc := 27) hP dX3_part_27 ?_
  refine k_aload_n (pc := 30) hC dX3_part_30 rfl 0 rfl ?_
  refine gP_X3_31 (pc := 31) hP dX3_part_31 ?_
  refine p_sald (pc := 34) 8 lp_8 hP dX3_part_34 hE (fun x4 hE => ?_)
  refine k_istore_n (pc := 35) (lv' := [(2, .int x4), (0, .ref (x + 9)), (1, va_rf a1)]) hC dX3_part_35 rfl (by rw [hnL]; decide) (by cases a1 <;> rfl) ?_
  refine k_aload_n (pc := 36) hC dX3_part_36 rfl 1 rfl ?_
  rcases xb_of hE with ⟨e, h1, rfl⟩ | ⟨r5, h1, hE⟩
  · exact p_callVT (pc := 37) (As := []) hP hR (ctx_R_pass X.2.1 D (cxA X) x Xp R0 d L Q T (pxf hP)  e h1) (fun H h => p_fault hC.K h) (p_tt hX) (cw_R_pass_X3 hX (Nat.le_of_ble_eq_true rfl) (Nat.le_of_ble_eq_true rfl)) (p_recv 9 lp_9 cl_X3 hP) rfl rfl (Nat.le_of_ble_eq_true rfl) dX3_part_37
  refine a_callV (pc := 37) (As := []) hX (ct_R_pass X.2.1 D (cxA X) x Xp R0 d L Q T (pxf hP)  r5 h1) (cw_R_pass_X3 hX (Nat.le_of_ble_eq_true rfl) (Nat.le_of_ble_eq_true rfl)) (p_recv 9 lp_9 cl_X3 hP) rfl rfl (Nat.le_of_ble_eq_true rfl) dX3_part_37 (fun c z => ?_)
  show Wk X c z (RD D (RP D x Xp R0 r5.1) d L r5.2) 40 [(2, .int x4), (0, .ref (x + 9)), (1, va_rf a1)] []
  refine a_new (pc := 40) hX hSt cl_X20 in_X20 tyX20 tyX20_ok dv_X20 q1219 q1220 q151 dX3_part_40 hE (fun T6 eT6 hE c z => ?_)
  refine k_dup (pc := 43) hC dX3_part_43 rfl ?_
  refine k_iload_n (pc := 44) hC dX3_part_44 rfl 0 rfl ?_
  refine k_aloadR_n (pc := 45) hC dX3_part_45 rfl 2 rfl ?_
  refine k_aload_n (pc := 46) hC dX3_part_46 rfl 1 rfl ?_
  rcases xb_of hE with ⟨e, h1, rfl⟩ | ⟨r7, h1, hE⟩
  · exact p_callVT (pc := 47) (As := []) hP hR (ctx_R_unit_0 X.2.1 D (cxA X) x Xp R0 d L r5.1 T6 (pxf hP) F e h1) (fun H h => p_fault hC.K h) (p_tt hX) (cw_R_unit_0_X3 hX (Nat.le_of_ble_eq_true rfl) (Nat.le_of_ble_eq_true rfl)) (p_recv 9 lp_9 cl_X3 hP) rfl rfl (by cases a1 <;> exact Nat.le_of_ble_eq_true rfl) dX3_part_47
  refine a_callV (pc := 47) (As := []) hX (ct_R_unit_0 X.2.1 D (cxA X) x Xp R0 d L r5.1 T6 (pxf hP) F r7 h1) (cw_R_unit_0_X3 hX (Nat.le_of_ble_eq_true rfl) (Nat.le_of_ble_eq_true rfl)) (p_recv 9 lp_9 cl_X3 hP) rfl rfl (by cases a1 <;> exact Nat.le_of_ble_eq_true rfl) dX3_part_47 (fun c z => ?_)
  show Wk X c z (RD D (RP D x Xp R0 r7.2.1) d L r7.2.2) 50 [(2, .int x4), (0, .ref (x + 9)), (1, va_rf a1)] [va_rf r7.1, va_rf a1, .int x4, .ref (tN r5.2), .ref (tN r5.2)]
  refine k_nn (G := fun z => Wk X _ _ (RD D (RP D x Xp R0 r7.2.1) d L r7.2.2) 50 [(2, .int x4), (0, .ref (x + 9)), (1, va_rf a1)] [z, va_rf a1, .int x4, .ref (tN r5.2), .ref (tN r5.2)]) hE (fun b8 hE => ?_)
  refine k_nn (G := fun z => Wk X _ _ (RD D (RP D x Xp R0 r7.2.1) d L r7.2.2) 50 [(2, .int x4), (0, .ref (x + 9)), (1, z)] [.ref b8, z, .int x4, .ref (tN r5.2), .ref (tN r5.2)]) hE (fun b9 hE => ?_)
  obtain ⟨r10, h1, hE⟩ := ob_ hE
  refine a_callI (pc := 50) (As := [.int x4, .ref b9, .ref b8]) hX (ct_A_Joined X.2.1 D (cxA X) (RP D x Xp R0 r7.2.1) d L r7.2.2 hSt hX.2.1 hX.2.2.2.2.2.2.2.2.2 (tN r5.2) x4 b9 b8 r10 h1) (cw_A_Joined_X3 hX (Nat.le_of_ble_eq_true rfl) (Nat.le_of_ble_eq_true rfl)) rfl rfl (Nat.le_of_ble_eq_true rfl) dX3_part_50 (fun c z => ?_)
  show Wk X c z (RD D (RP D x Xp R0 r7.2.1) d L r10) 53 [(2, .int x4), (0, .ref (x + 9)), (1, .ref b9)] [.ref (tN r5.2)]
  refine k_astore_n (pc := 53) (lv' := [(1, .ref (tN r5.2)), (2, .int x4), (0, .ref (x + 9))]) hC dX3_part_53 rfl (by rw [hnL]; decide) rfl ?_
  refine k_goto (pc := 54) (tgt := 5) hC dX3_part_54 (by decide) ?_
  refine k_sub [2, 0] rfl ?_
  exact hk5 _ _ _ hE _ _
set_option maxHeartbeats 4000000 in
theorem w_R_part_0_B5 {X : Ctx} {D : Dd} {x : Nat} {R0 : Heap → Prop} {d : Nat → Prop} {L : Nat × Nat × Nat × Nat} {Xp : Jr} {out : (Ji × Jr × Th) ⊕ (Option Nat × Ji × Th)} (hP : Px X cX3_part RX3 D x R0 d L 3 6 129) (hR : RtX X (some (.object "SleepWork$Sum")) D L x (fun r => (RD D (RP D x Xp R0 r.2.1) d L r.2.2)) (fun r => (some (va_rf r.1))) (fun e => RD D (RP D x e.2.1 R0 e.1) d L e.2.2) out) (F : Nat) (k5 : Option Nat → Ji → Th → Option ((Ji × Jr × Th) ⊕ (Option Nat × Ji × Th))) (hk5 : ∀ (a1 : Option Nat) (Q : Ji) (T : Th) , k5 a1 Q T = some out → ∀ c z, Wk X c z (RD D (RP D x Xp R0 Q) d L T) 5 [(0, .ref (x + 9)), (1, va_rf a1)] []) (a1 : Option Nat) (Q : Ji) (T : Th) (hE : R_part_0_B5 F k5 Xp a1 Q T = some out) (c z : Nat) : Wk X c z (RD D (RP D x Xp R0 Q) d L T) 5 [(0, .ref (x + 9)), (1, va_rf a1)] [] := by
  have hX := hP.1
  have hC := hX.1
  have hnL := hX.2.2.1
  have hSt : ∀ {Xp : Jr} {Q : Ji}, Stb (RP D x Xp R0 Q) d := hP.st
  have hDy : ∀ {Xp : Jr} {Q : Ji} {T : Th} (H : Heap), RD D (RP D x Xp R0 Q) d L T H → Dy D T H := fun _ h => h.2.1
  unfold R_part_0_B5 at hE
  refine k_aload_n (pc := 5) hC dX3_part_5 rfl 0 rfl ?_
  refine k_bipush (pc := 6) (v := 42) hC dX3_part_6 (by decide) ?_
  rcases xb_of hE with ⟨e, h1, rfl⟩ | ⟨r2, h1, hE⟩
  · exact p_callVT (pc := 8) (As := [.int 42]) hP hR (ctx_R_isSign X.2.1 D (cxA X) x Xp R0 d L Q T (pxf hP) 42 e h1) (fun H h => p_fault hC.K h) (p_tt hX) (cw_R_isSign_X3 hX (Nat.le_of_ble_eq_true rfl) (Nat.le_of_ble_eq_true rfl)) (p_recv 9 lp_9 cl_X3 hP) rfl rfl (Nat.le_of_ble_eq_true rfl) dX3_part_8
  refine a_callV (pc := 8) (As := [.int 42]) hX (ct_R_isSign X.2.1 D (cxA X) x Xp R0 d L Q T (pxf hP) 42 r2 h1) (cw_R_isSign_X3 hX (Nat.le_of_ble_eq_true rfl) (Nat.le_of_ble_eq_true rfl)) (p_recv 9 lp_9 cl_X3 hP) rfl rfl (Nat.le_of_ble_eq_true rfl) dX3_part_8 (fun c z => ?_)
  show Wk X c z (RD D (RP D x Xp R0 r2.2.1) d L r2.2.2) 11 [(0, .ref (x + 9)), (1, va_rf a1)] [.int r2.1]
  refine k_if_ne (pc := 11) (tgt := 23) hC dX3_part_11 (by decide) hE (fun hE => ?_) (fun hE => ?_)
  · refine k_aload_n (pc := 14) hC dX3_part_14 rfl 0 rfl ?_
    refine k_bipush (pc := 15) (v := 47) hC dX3_part_15 (by decide) ?_
    rcases xb_of hE with ⟨e, h1, rfl⟩ | ⟨r3, h1, hE⟩
    · exact p_callVT (pc := 17) (As := [.int 47]) hP hR (ctx_R_isSign X.2.1 D (cxA X) x Xp R0 d L r2.2.1 r2.2.2 (pxf hP) 47 e h1) (fun H h => p_fault hC.K h) (p_tt hX) (cw_R_isSign_X3 hX (Nat.le_of_ble_eq_true rfl) (Nat.le_of_ble_eq_true rfl)) (p_recv 9 lp_9 cl_X3 hP) rfl rfl (Nat.le_of_ble_eq_true rfl) dX3_part_17
    refine a_callV (pc := 17) (As := [.int 47]) hX (ct_R_isSign X.2.1 D (cxA X) x Xp R0 d L r2.2.1 r2.2.2 (pxf hP) 47 r3 h1) (cw_R_isSign_X3 hX (Nat.le_of_ble_eq_true rfl) (Nat.le_of_ble_eq_true rfl)) (p_recv 9 lp_9 cl_X3 hP) rfl rfl (Nat.le_of_ble_eq_true rfl) dX3_part_17 (fun c z => ?_)
    show Wk X c z (RD D (RP D x Xp R0 r3.2.1) d L r3.2.2) 20 [(0, .ref (x + 9)), (1, va_rf a1)] [.int r3.1]
    refine k_if_eq (pc := 20) (tgt := 57) hC dX3_part_20 (by decide) hE (fun hE => ?_) (fun hE => ?_)
    · refine k_aloadR_n (pc := 57) hC dX3_part_57 rfl 1 rfl ?_
      cases hE
      exact a_aret (pc := 58) (v := va_rf _) (rt := (.object "SleepWork$Sum")) (by first | exact Or.inl ⟨_, rfl⟩ | exact Or.inr ⟨_, rfl⟩) (va_rfv _) hX hR dX3_part_58 (by rfl) (fun _ h => h)
    · exact w_R_part_0_B23 hP hR F k5 hk5 _ _ _ hE _ _
  · exact w_R_part_0_B23 hP hR F k5 hk5 _ _ _ hE _ _
theorem w_R_part_0_L5 {X : Ctx} {D : Dd} {x : Nat} {R0 : Heap → Prop} {d : Nat → Prop} {L : Nat × Nat × Nat × Nat} {Xp : Jr} {out : (Ji × Jr × Th) ⊕ (Option Nat × Ji × Th)} (hP : Px X cX3_part RX3 D x R0 d L 3 6 129) (hR : RtX X (some (.object "SleepWork$Sum")) D L x (fun r => (RD D (RP D x Xp R0 r.2.1) d L r.2.2)) (fun r => (some (va_rf r.1))) (fun e => RD D (RP D x e.2.1 R0 e.1) d L e.2.2) out) (F : Nat) (n : Nat) : ∀ (a1 : Option Nat) (Q : Ji) (T : Th) , R_part_0_L5 F Xp n a1 Q T = some out → ∀ c z, Wk X c z (RD D (RP D x Xp R0 Q) d L T) 5 [(0, .ref (x + 9)), (1, va_rf a1)] [] := by
  induction n with
  | zero => intro a1 Q T h; cases h
  | succ n ih => intro a1 Q T h; exact w_R_part_0_B5 hP hR F (R_part_0_L5 F Xp n) ih a1 Q T h
set_option maxHeartbeats 4000000 in
theorem w_R_part_0 {X : Ctx} {D : Dd} {x : Nat} {R0 : Heap → Prop} {d : Nat → Prop} {L : Nat × Nat × Nat × Nat} {Xp : Jr} {out : (Ji × Jr × Th) ⊕ (Option Nat × Ji × Th)} (hP : Px X cX3_part RX3 D x R0 d L 3 6 129) (hR : RtX X (some (.object "SleepWork$Sum")) D L x (fun r => (RD D (RP D x Xp R0 r.2.1) d L r.2.2)) (fun r => (some (va_rf r.1))) (fun e => RD D (RP D x e.2.1 R0 e.1) d L e.2.2) out) (F : Nat) (Q : Ji) (T : Th) (hE : R_part_0 F Xp Q T = some out) (c z : Nat) : Wk X c z (RD D (RP D x Xp R0 Q) d L T) 0 [(0, .ref (x + 9))] [] := by
  have hX := hP.1
  have hC := hX.1
  have hnL := hX.2.2.1
  have hSt : ∀ {Xp : Jr} {Q : Ji}, Stb (RP D x Xp R0 Q) d := hP.st
  have hDy : ∀ {Xp : Jr} {Q : Ji} {T : Th} (H : Heap), RD D (RP D x Xp R0 Q) d L T H → Dy D T H := fun _ h => h.2.1
  unfold R_part_0 at hE
  refine k_aload_n (pc := 0) hC dX3_part_0 rfl 0 rfl ?_
  rcases xb_of hE with ⟨e, h1, rfl⟩ | ⟨r1, h1, hE⟩
  · exact p_callVT (pc := 1) (As := []) hP hR (ctx_R_unit_0 X.2.1 D (cxA X) x Xp R0 d L Q T (pxf hP) F e h1) (fun H h => p_fault hC.K h) (p_tt hX) (cw_R_unit_0_X3 hX (Nat.le_of_ble_eq_true rfl) (Nat.le_of_ble_eq_true rfl)) (p_recv 9 lp_9 cl_X3 hP) rfl rfl (Nat.le_of_ble_eq_true rfl) dX3_part_1
  refine a_callV (pc := 1) (As := []) hX (ct_R_unit_0 X.2.1 D (cxA X) x Xp R0 d L Q T (pxf hP) F r1 h1) (cw_R_unit_0_X3 hX (Nat.le_of_ble_eq_true rfl) (Nat.le_of_ble_eq_true rfl)) (p_recv 9 lp_9 cl_X3 hP) rfl rfl (Nat.le_of_ble_eq_true rfl) dX3_part_1 (fun c z => ?_)
  show Wk X c z (RD D (RP D x Xp R0 r1.2.1) d L r1.2.2) 4 [(0, .ref (x + 9))] [va_rf r1.1]
  refine k_astoreR_n (pc := 4) (lv' := [(1, va_rf r1.1), (0, .ref (x + 9))]) hC dX3_part_4 rfl (by rw [hnL]; decide) rfl ?_
  refine k_sub [1, 0] rfl ?_
  exact w_R_part_0_L5 hP hR F _ _ _ _ hE _ _
theorem ct_R_part_0 (l : Launch) (D : Dd) (A : Nat → Prop) (x : Nat) (Xp : Jr) (R0 : Heap → Prop) (d : Nat → Prop) (L : Nat × Nat × Nat × Nat) (Q : Ji) (T : Th) (hp : Pf D A x R0 d) (F : Nat) (out : Option Nat × Ji × Th) (hE : R_part_0 F Xp Q T = some (.inr out)) : Ct l yX3_part (ws_ yX3_part cX3_part 3 (some (.object "SleepWork$Sum"))) (rmA 6 129 L T) vwCl arTy D A [.ref (x + 9)] (RD D (RP D x Xp R0 Q) d L T) (RD D (RP D x Xp R0 out.2.1) d L out.2.2) (some (va_rf out.1)) (L.1 - tN T) (L.2.1 - tZ T) := by
  refine Ct.ofA (lv := [(0, .ref (x + 9))]) (by decide) (Nat.le_of_ble_eq_true rfl) rfl hp.1 hp.2.1 ?_
  intro X hl hX hR hXA _
  exact w_R_part_0 (Xp := Xp) (out := .inr out) (hp.px hX hXA) hR F Q T hE
theorem ctx_R_part_0 (l : Launch) (D : Dd) (A : Nat → Prop) (x : Nat) (Xp : Jr) (R0 : Heap → Prop) (d : Nat → Prop) (L : Nat × Nat × Nat × Nat) (Q : Ji) (T : Th) (hp : Pf D A x R0 d) (F : Nat) (e : Ji × Jr × Th) (hE : R_part_0 F Xp Q T = some (.inl e)) : CtT l yX3_part (ws_ yX3_part cX3_part 3 (some (.object "SleepWork$Sum"))) (rmA 6 129 L T) D A [.ref (x + 9)] (RD D (RP D x Xp R0 Q) d L T) (RD D (RP D x e.2.1 R0 e.1) d L e.2.2) (x + 1) (L.1 - tN T) (L.2.1 - tZ T) := by
  refine CtT.ofA (lv := [(0, .ref (x + 9))]) (by decide) (Nat.le_of_ble_eq_true rfl) rfl hp.1 hp.2.1 ?_
  intro X hl hX hR hXA
  exact w_R_part_0 (Xp := Xp) (out := .inl e) (hp.px hX hXA) hR F Q T hE
theorem cw_R_part_0_X3 {X : Ctx} {cc : ByteArray} {D : Dd} {d : Nat → Prop} {L : Nat × Nat × Nat × Nat} {mL fr lo : Nat} {T : Th} (hX : Ax X cc RX3 D d L mL fr lo) (h1 : 6 + 1 ≤ fr) (h2 : 8 + (3 + 11) + 129 ≤ lo) : CallW X.2.2.2.1 X.2.2.2.2.1 X.2.2.2.2.2.2.1 RX3 RX3 269 yX3_part cX3_part 3 (some (.object "SleepWork$Sum")) (ws_ yX3_part cX3_part 3 (some (.object "SleepWork$Sum"))) (rmA 6 129 L T) (L.1 - tN T) (L.2.1 - tZ T) 0 := cwV 0 (cx_w hX.1) (lw_V q1188 q1190 qs31 q120 q1191) rfl rfl rfl (by decide +kernel) (by rw [hX.2.2.2.1, hX.2.2.2.2.1]; exact ⟨h1, h2⟩)
set_option maxHeartbeats 4000000 in
theorem w_R_sum_0_B23 {X : Ctx} {D : Dd} {x : Nat} {R0 : Heap → Prop} {d : Nat → Prop} {L : Nat × Nat × Nat × Nat} {Xp : Jr} {out : (Ji × Jr × Th) ⊕ (Option Nat × Ji × Th)} (hP : Px X cX3_sum RX3 D x R0 d L 3 7 151) (hR : RtX X (some (.object "SleepWork$Sum")) D L x (fun r => (RD D (RP D x Xp R0 r.2.1) d L r.2.2)) (fun r => (some (va_rf r.1))) (fun e => RD D (RP D x e.2.1 R0 e.1) d L e.2.2) out) (F : Nat) (k5 : Option Nat → Ji → Th → Option ((Ji × Jr × Th) ⊕ (Option Nat × Ji × Th))) (hk5 : ∀ (a1 : Option Nat) (Q : Ji) (T : Th) , k5 a1 Q T = some out → ∀ c z, Wk X c z (RD D (RP D x Xp R0 Q) d L T) 5 [(0, .ref (x + 9)), (1, va_rf a1)] []) (a1 : Option Nat) (Q : Ji) (T : Th) (hE : R_sum_0_B23 F k5 Xp a1 Q T = some out) (c z : Nat) : Wk X c z (RD D (RP D x Xp R0 Q) d L T) 23 [(0, .ref (x + 9)), (1, va_rf a1)] [] := by
  have hX := hP.1
  have hC := hX.1
  have hnL := hX.2.2.1
  have hSt : ∀ {Xp : Jr} {Q : Ji}, Stb (RP D x Xp R0 Q) d := hP.st
  have hDy : ∀ {Xp : Jr} {Q : Ji} {T : Th} (H : Heap), RD D (RP D x Xp R0 Q) d L T H → Dy D T H := fun _ h => h.2.1
  unfold R_sum_0_B23 at hE
  refine k_aload_n (pc := 23) hC dX3_sum_23 rfl 0 rfl ?_
  refine gP_X3_9 (pc := 24) hP dX3_sum_24 ?_
  refine gP_X3_52 (pc := 27) hP dX3_sum_27 ?_
  refine k_aload_n (pc := 30) hC dX3_sum_30 rfl 0 rfl ?_
  refine gP_X3_31 (pc := 31) hP dX3_sum_31 ?_
  refine p_sald (pc := 34) 8 lp_8 hP dX3_sum_34 hE (fun x4 hE => ?_)
  refine k_istore_n (pc := 35) (lv' := [(2, .int x4), (0, .ref (x + 9)), (1, va_rf a1)]) hC dX3_sum_35 rfl (by rw [hnL]; decide) (by cases a1 <;> rfl) ?_
  refine k_aload_n (pc := 36) hC dX3_sum_36 rfl 1 rfl ?_
  rcases xb_of hE with ⟨e, h1, rfl⟩ | ⟨r5, h1, hE⟩
  · exact p_callVT (pc := 37) (As := []) hP hR (ctx_R_pass X.2.1 D (cxA X) x Xp R0 d L Q T (pxf hP)  e h1) (fun H h => p_fault hC.K h) (p_tt hX) (cw_R_pass_X3 hX (Nat.le_of_ble_eq_true rfl) (Nat.le_of_ble_eq_true rfl)) (p_recv 9 lp_9 cl_X3 hP) rfl rfl (Nat.le_of_ble_eq_true rfl) dX3_sum_37
  refine a_callV (pc := 37) (As := []) hX (ct_R_pass X.2.1 D (cxA X) x Xp R0 d L Q T (pxf hP)  r5 h1) (cw_R_pass_X3 hX (Nat.le_of_ble_eq_true rfl) (Nat.le_of_ble_eq_true rfl)) (p_recv 9 lp_9 cl_X3 hP) rfl rfl (Nat.le_of_ble_eq_true rfl) dX3_sum_37 (fun c z => ?_)
  show Wk X c z (RD D (RP D x Xp R0 r5.1) d L r5.2) 40 [(2, .int x4), (0, .ref (x + 9)), (1, va_rf a1)] []
  refine a_new (pc := 40) hX hSt cl_X20 in_X20 tyX20 tyX20_ok dv_X20 q1219 q1220 q151 dX3_sum_40 hE (fun T6 eT6 hE c z => ?_)
  refine k_dup (pc := 43) hC dX3_sum_43 rfl ?_
  refine k_iload_n (pc := 44) hC dX3_sum_44 rfl 0 rfl ?_
  refine k_aloadR_n (pc := 45) hC dX3_sum_45 rfl 2 rfl ?_
  refine k_aload_n (pc := 46) hC dX3_sum_46 rfl 1 rfl ?_
  rcases xb_of hE with ⟨e, h1, rfl⟩ | ⟨r7, h1, hE⟩
  · exact p_callVT (pc := 47) (As := []) hP hR (ctx_R_part_0 X.2.1 D (cxA X) x Xp R0 d L r5.1 T6 (pxf hP) F e h1) (fun H h => p_fault hC.K h) (p_tt hX) (cw_R_part_0_X3 hX (Nat.le_of_ble_eq_true rfl) (Nat.le_of_ble_eq_true rfl)) (p_recv 9 lp_9 cl_X3 hP) rfl rfl (by cases a1 <;> exact Nat.le_of_ble_eq_true rfl) dX3_sum_47
  refine a_callV (pc := 47) (As := []) hX (ct_R_part_0 X.2.1 D (cxA X) x Xp R0 d L r5.1 T6 (pxf hP) F r7 h1) (cw_R_part_0_X3 hX (Nat.le_of_ble_eq_true rfl) (Nat.le_of_ble_eq_true rfl)) (p_recv 9 lp_9 cl_X3 hP) rfl rfl (by cases a1 <;> exact Nat.le_of_ble_eq_true rfl) dX3_sum_47 (fun c z => ?_)
  show Wk X c z (RD D (RP D x Xp R0 r7.2.1) d L r7.2.2) 50 [(2, .int x4), (0, .ref (x + 9)), (1, va_rf a1)] [va_rf r7.1, va_rf a1, .int x4, .ref (tN r5.2), .ref (tN r5.2)]
  refine k_nn (G := fun z => Wk X _ _ (RD D (RP D x Xp R0 r7.2.1) d L r7.2.2) 50 [(2, .int x4), (0, .ref (x + 9)), (1, va_rf a1)] [z, va_rf a1, .int x4, .ref (tN r5.2), .ref (tN r5.2)]) hE (fun b8 hE => ?_)
  refine k_nn (G := fun z => Wk X _ _ (RD D (RP D x Xp R0 r7.2.1) d L r7.2.2) 50 [(2, .int x4), (0, .ref (x + 9)), (1, z)] [.ref b8, z, .int x4, .ref (tN r5.2), .ref (tN r5.2)]) hE (fun b9 hE => ?_)
  obtain ⟨r10, h1, hE⟩ := ob_ hE
  refine a_callI (pc := 50) (As := [.int x4, .ref b9, .ref b8]) hX (ct_A_Joined X.2.1 D (cxA X) (RP D x Xp R0 r7.2.1) d L r7.2.2 hSt hX.2.1 hX.2.2.2.2.2.2.2.2.2 (tN r5.2) x4 b9 b8 r10 h1) (cw_A_Joined_X3 hX (Nat.le_of_ble_eq_true rfl) (Nat.le_of_ble_eq_true rfl)) rfl rfl (Nat.le_of_ble_eq_true rfl) dX3_sum_50 (fun c z => ?_)
  show Wk X c z (RD D (RP D x Xp R0 r7.2.1) d L r10) 53 [(2, .int x4), (0, .ref (x + 9)), (1, .ref b9)] [.ref (tN r5.2)]
  refine k_astore_n (pc := 53) (lv' := [(1, .ref (tN r5.2)), (2, .int x4), (0, .ref (x + 9))]) hC dX3_sum_53 rfl (by rw [hnL]; decide) rfl ?_
  refine k_goto (pc := 54) (tgt := 5) hC dX3_sum_54 (by decide) ?_
  refine k_sub [2, 0] rfl ?_
  exact hk5 _ _ _ hE _ _
set_option maxHeartbeats 4000000 in
theorem w_R_sum_0_B5 {X : Ctx} {D : Dd} {x : Nat} {R0 : Heap → Prop} {d : Nat → Prop} {L : Nat × Nat × Nat × Nat} {Xp : Jr} {out : (Ji × Jr × Th) ⊕ (Option Nat × Ji × Th)} (hP : Px X cX3_sum RX3 D x R0 d L 3 7 151) (hR : RtX X (some (.object "SleepWork$Sum")) D L x (fun r => (RD D (RP D x Xp R0 r.2.1) d L r.2.2)) (fun r => (some (va_rf r.1))) (fun e => RD D (RP D x e.2.1 R0 e.1) d L e.2.2) out) (F : Nat) (k5 : Option Nat → Ji → Th → Option ((Ji × Jr × Th) ⊕ (Option Nat × Ji × Th))) (hk5 : ∀ (a1 : Option Nat) (Q : Ji) (T : Th) , k5 a1 Q T = some out → ∀ c z, Wk X c z (RD D (RP D x Xp R0 Q) d L T) 5 [(0, .ref (x + 9)), (1, va_rf a1)] []) (a1 : Option Nat) (Q : Ji) (T : Th) (hE : R_sum_0_B5 F k5 Xp a1 Q T = some out) (c z : Nat) : Wk X c z (RD D (RP D x Xp R0 Q) d L T) 5 [(0, .ref (x + 9)), (1, va_rf a1)] [] := by
  have hX := hP.1
  have hC := hX.1
  have hnL := hX.2.2.1
  have hSt : ∀ {Xp : Jr} {Q : Ji}, Stb (RP D x Xp R0 Q) d := hP.st
  have hDy : ∀ {Xp : Jr} {Q : Ji} {T : Th} (H : Heap), RD D (RP D x Xp R0 Q) d L T H → Dy D T H := fun _ h => h.2.1
  unfold R_sum_0_B5 at hE
  refine k_aload_n (pc := 5) hC dX3_sum_5 rfl 0 rfl ?_
  refine k_bipush (pc := 6) (v := 43) hC dX3_sum_6 (by decide) ?_
  rcases xb_of hE with ⟨e, h1, rfl⟩ | ⟨r2, h1, hE⟩
  · exact p_callVT (pc := 8) (As := [.int 43]) hP hR (ctx_R_isSign X.2.1 D (cxA X) x Xp R0 d L Q T (pxf hP) 43 e h1) (fun H h => p_fault hC.K h) (p_tt hX) (cw_R_isSign_X3 hX (Nat.le_of_ble_eq_true rfl) (Nat.le_of_ble_eq_true rfl)) (p_recv 9 lp_9 cl_X3 hP) rfl rfl (Nat.le_of_ble_eq_true rfl) dX3_sum_8
  refine a_callV (pc := 8) (As := [.int 43]) hX (ct_R_isSign X.2.1 D (cxA X) x Xp R0 d L Q T (pxf hP) 43 r2 h1) (cw_R_isSign_X3 hX (Nat.le_of_ble_eq_true rfl) (Nat.le_of_ble_eq_true rfl)) (p_recv 9 lp_9 cl_X3 hP) rfl rfl (Nat.le_of_ble_eq_true rfl) dX3_sum_8 (fun c z => ?_)
  show Wk X c z (RD D (RP D x Xp R0 r2.2.1) d L r2.2.2) 11 [(0, .ref (x + 9)), (1, va_rf a1)] [.int r2.1]
  refine k_if_ne (pc := 11) (tgt := 23) hC dX3_sum_11 (by decide) hE (fun hE => ?_) (fun hE => ?_)
  · refine k_aload_n (pc := 14) hC dX3_sum_14 rfl 0 rfl ?_
    refine k_bipush (pc := 15) (v := 45) hC dX3_sum_15 (by decide) ?_
    rcases xb_of hE with ⟨e, h1, rfl⟩ | ⟨r3, h1, hE⟩
    · exact p_callVT (pc := 17) (As := [.int 45]) hP hR (ctx_R_isSign X.2.1 D (cxA X) x Xp R0 d L r2.2.1 r2.2.2 (pxf hP) 45 e h1) (fun H h => p_fault hC.K h) (p_tt hX) (cw_R_isSign_X3 hX (Nat.le_of_ble_eq_true rfl) (Nat.le_of_ble_eq_true rfl)) (p_recv 9 lp_9 cl_X3 hP) rfl rfl (Nat.le_of_ble_eq_true rfl) dX3_sum_17
    refine a_callV (pc := 17) (As := [.int 45]) hX (ct_R_isSign X.2.1 D (cxA X) x Xp R0 d L r2.2.1 r2.2.2 (pxf hP) 45 r3 h1) (cw_R_isSign_X3 hX (Nat.le_of_ble_eq_true rfl) (Nat.le_of_ble_eq_true rfl)) (p_recv 9 lp_9 cl_X3 hP) rfl rfl (Nat.le_of_ble_eq_true rfl) dX3_sum_17 (fun c z => ?_)
    show Wk X c z (RD D (RP D x Xp R0 r3.2.1) d L r3.2.2) 20 [(0, .ref (x + 9)), (1, va_rf a1)] [.int r3.1]
    refine k_if_eq (pc := 20) (tgt := 57) hC dX3_sum_20 (by decide) hE (fun hE => ?_) (fun hE => ?_)
    · refine k_aloadR_n (pc := 57) hC dX3_sum_57 rfl 1 rfl ?_
      cases hE
      exact a_aret (pc := 58) (v := va_rf _) (rt := (.object "SleepWork$Sum")) (by first | exact Or.inl ⟨_, rfl⟩ | exact Or.inr ⟨_, rfl⟩) (va_rfv _) hX hR dX3_sum_58 (by rfl) (fun _ h => h)
    · exact w_R_sum_0_B23 hP hR F k5 hk5 _ _ _ hE _ _
  · exact w_R_sum_0_B23 hP hR F k5 hk5 _ _ _ hE _ _
theorem w_R_sum_0_L5 {X : Ctx} {D : Dd} {x : Nat} {R0 : Heap → Prop} {d : Nat → Prop} {L : Nat × Nat × Nat × Nat} {Xp : Jr} {out : (Ji × Jr × Th) ⊕ (Option Nat × Ji × Th)} (hP : Px X cX3_sum RX3 D x R0 d L 3 7 151) (hR : RtX X (some (.object "SleepWork$Sum")) D L x (fun r => (RD D (RP D x Xp R0 r.2.1) d L r.2.2)) (fun r => (some (va_rf r.1))) (fun e => RD D (RP D x e.2.1 R0 e.1) d L e.2.2) out) (F : Nat) (n : Nat) : ∀ (a1 : Option Nat) (Q : Ji) (T : Th) , R_sum_0_L5 F Xp n a1 Q T = some out → ∀ c z, Wk X c z (RD D (RP D x Xp R0 Q) d L T) 5 [(0, .ref (x + 9)), (1, va_rf a1)] [] := by
  induction n with
  | zero => intro a1 Q T h; cases h
  | succ n ih => intro a1 Q T h; exact w_R_sum_0_B5 hP hR F (R_sum_0_L5 F Xp n) ih a1 Q T h
set_option maxHeartbeats 4000000 in
theorem w_R_sum_0 {X : Ctx} {D : Dd} {x : Nat} {R0 : Heap → Prop} {d : Nat → Prop} {L : Nat × Nat × Nat × Nat} {Xp : Jr} {out : (Ji × Jr × Th) ⊕ (Option Nat × Ji × Th)} (hP : Px X cX3_sum RX3 D x R0 d L 3 7 151) (hR : RtX X (some (.object "SleepWork$Sum")) D L x (fun r => (RD D (RP D x Xp R0 r.2.1) d L r.2.2)) (fun r => (some (va_rf r.1))) (fun e => RD D (RP D x e.2.1 R0 e.1) d L e.2.2) out) (F : Nat) (Q : Ji) (T : Th) (hE : R_sum_0 F Xp Q T = some out) (c z : Nat) : Wk X c z (RD D (RP D x Xp R0 Q) d L T) 0 [(0, .ref (x + 9))] [] := by
  have hX := hP.1
  have hC := hX.1
  have hnL := hX.2.2.1
  have hSt : ∀ {Xp : Jr} {Q : Ji}, Stb (RP D x Xp R0 Q) d := hP.st
  have hDy : ∀ {Xp : Jr} {Q : Ji} {T : Th} (H : Heap), RD D (RP D x Xp R0 Q) d L T H → Dy D T H := fun _ h => h.2.1
  unfold R_sum_0 at hE
  refine k_aload_n (pc := 0) hC dX3_sum_0 rfl 0 rfl ?_
  rcases xb_of hE with ⟨e, h1, rfl⟩ | ⟨r1, h1, hE⟩
  · exact p_callVT (pc := 1) (As := []) hP hR (ctx_R_part_0 X.2.1 D (cxA X) x Xp R0 d L Q T (pxf hP) F e h1) (fun H h => p_fault hC.K h) (p_tt hX) (cw_R_part_0_X3 hX (Nat.le_of_ble_eq_true rfl) (Nat.le_of_ble_eq_true rfl)) (p_recv 9 lp_9 cl_X3 hP) rfl rfl (Nat.le_of_ble_eq_true rfl) dX3_sum_1
  refine a_callV (pc := 1) (As := []) hX (ct_R_part_0 X.2.1 D (cxA X) x Xp R0 d L Q T (pxf hP) F r1 h1) (cw_R_part_0_X3 hX (Nat.le_of_ble_eq_true rfl) (Nat.le_of_ble_eq_true rfl)) (p_recv 9 lp_9 cl_X3 hP) rfl rfl (Nat.le_of_ble_eq_true rfl) dX3_sum_1 (fun c z => ?_)
  show Wk X c z (RD D (RP D x Xp R0 r1.2.1) d L r1.2.2) 4 [(0, .ref (x + 9))] [va_rf r1.1]
  refine k_astoreR_n (pc := 4) (lv' := [(1, va_rf r1.1), (0, .ref (x + 9))]) hC dX3_sum_4 rfl (by rw [hnL]; decide) rfl ?_
  refine k_sub [1, 0] rfl ?_
  exact w_R_sum_0_L5 hP hR F _ _ _ _ hE _ _
theorem ct_R_sum_0 (l : Launch) (D : Dd) (A : Nat → Prop) (x : Nat) (Xp : Jr) (R0 : Heap → Prop) (d : Nat → Prop) (L : Nat × Nat × Nat × Nat) (Q : Ji) (T : Th) (hp : Pf D A x R0 d) (F : Nat) (out : Option Nat × Ji × Th) (hE : R_sum_0 F Xp Q T = some (.inr out)) : Ct l yX3_sum (ws_ yX3_sum cX3_sum 3 (some (.object "SleepWork$Sum"))) (rmA 7 151 L T) vwCl arTy D A [.ref (x + 9)] (RD D (RP D x Xp R0 Q) d L T) (RD D (RP D x Xp R0 out.2.1) d L out.2.2) (some (va_rf out.1)) (L.1 - tN T) (L.2.1 - tZ T) := by
  refine Ct.ofA (lv := [(0, .ref (x + 9))]) (by decide) (Nat.le_of_ble_eq_true rfl) rfl hp.1 hp.2.1 ?_
  intro X hl hX hR hXA _
  exact w_R_sum_0 (Xp := Xp) (out := .inr out) (hp.px hX hXA) hR F Q T hE
theorem ctx_R_sum_0 (l : Launch) (D : Dd) (A : Nat → Prop) (x : Nat) (Xp : Jr) (R0 : Heap → Prop) (d : Nat → Prop) (L : Nat × Nat × Nat × Nat) (Q : Ji) (T : Th) (hp : Pf D A x R0 d) (F : Nat) (e : Ji × Jr × Th) (hE : R_sum_0 F Xp Q T = some (.inl e)) : CtT l yX3_sum (ws_ yX3_sum cX3_sum 3 (some (.object "SleepWork$Sum"))) (rmA 7 151 L T) D A [.ref (x + 9)] (RD D (RP D x Xp R0 Q) d L T) (RD D (RP D x e.2.1 R0 e.1) d L e.2.2) (x + 1) (L.1 - tN T) (L.2.1 - tZ T) := by
  refine CtT.ofA (lv := [(0, .ref (x + 9))]) (by decide) (Nat.le_of_ble_eq_true rfl) rfl hp.1 hp.2.1 ?_
  intro X hl hX hR hXA
  exact w_R_sum_0 (Xp := Xp) (out := .inl e) (hp.px hX hXA) hR F Q T hE
theorem cw_R_sum_0_X3 {X : Ctx} {cc : ByteArray} {D : Dd} {d : Nat → Prop} {L : Nat × Nat × Nat × Nat} {mL fr lo : Nat} {T : Th} (hX : Ax X cc RX3 D d L mL fr lo) (h1 : 7 + 1 ≤ fr) (h2 : 8 + (3 + 11) + 151 ≤ lo) : CallW X.2.2.2.1 X.2.2.2.2.1 X.2.2.2.2.2.2.1 RX3 RX3 253 yX3_sum cX3_sum 3 (some (.object "SleepWork$Sum")) (ws_ yX3_sum cX3_sum 3 (some (.object "SleepWork$Sum"))) (rmA 7 151 L T) (L.1 - tN T) (L.2.1 - tZ T) 0 := cwV 0 (cx_w hX.1) (lw_V q1184 q1186 qs30 q120 q1187) rfl rfl rfl (by decide +kernel) (by rw [hX.2.2.2.1, hX.2.2.2.2.1]; exact ⟨h1, h2⟩)
set_option maxHeartbeats 4000000 in
theorem w_R_unit_1_B87 {X : Ctx} {D : Dd} {x : Nat} {R0 : Heap → Prop} {d : Nat → Prop} {L : Nat × Nat × Nat × Nat} {Xp : Jr} {out : (Ji × Jr × Th) ⊕ (Option Nat × Ji × Th)} (hP : Px X cX3_unit RX3 D x R0 d L 2 8 173) (hR : RtX X (some (.object "SleepWork$Sum")) D L x (fun r => (RD D (RP D x Xp R0 r.2.1) d L r.2.2)) (fun r => (some (va_rf r.1))) (fun e => RD D (RP D x e.2.1 R0 e.1) d L e.2.2) out) (F : Nat) (Q : Ji) (T : Th) (hE : R_unit_1_B87 F Xp Q T = some out) (c z : Nat) : Wk X c z (RD D (RP D x Xp R0 Q) d L T) 87 [(0, .ref (x + 9))] [] := by
  have hX := hP.1
  have hC := hX.1
  have hnL := hX.2.2.1
  have hSt : ∀ {Xp : Jr} {Q : Ji}, Stb (RP D x Xp R0 Q) d := hP.st
  have hDy : ∀ {Xp : Jr} {Q : Ji} {T : Th} (H : Heap), RD D (RP D x Xp R0 Q) d L T H → Dy D T H := fun _ h => h.2.1
  unfold R_unit_1_B87 at hE
  refine k_aload_n (pc := 87) hC dX3_unit_87 rfl 0 rfl ?_
  refine k_bipush (pc := 88) (v := 40) hC dX3_unit_88 (by decide) ?_
  rcases xb_of hE with ⟨e, h1, rfl⟩ | ⟨r12, h1, hE⟩
  · exact p_callVT (pc := 90) (As := [.int 40]) hP hR (ctx_R_isSign X.2.1 D (cxA X) x Xp R0 d L Q T (pxf hP) 40 e h1) (fun H h => p_fault hC.K h) (p_tt hX) (cw_R_isSign_X3 hX (Nat.le_of_ble_eq_true rfl) (Nat.le_of_ble_eq_true rfl)) (p_recv 9 lp_9 cl_X3 hP) rfl rfl (Nat.le_of_ble_eq_true rfl) dX3_unit_90
  refine a_callV (pc := 90) (As := [.int 40]) hX (ct_R_isSign X.2.1 D (cxA X) x Xp R0 d L Q T (pxf hP) 40 r12 h1) (cw_R_isSign_X3 hX (Nat.le_of_ble_eq_true rfl) (Nat.le_of_ble_eq_true rfl)) (p_recv 9 lp_9 cl_X3 hP) rfl rfl (Nat.le_of_ble_eq_true rfl) dX3_unit_90 (fun c z => ?_)
  show Wk X c z (RD D (RP D x Xp R0 r12.2.1) d L r12.2.2) 93 [(0, .ref (x + 9))] [.int r12.1]
  refine k_if_ne (pc := 93) (tgt := 102) hC dX3_unit_93 (by decide) hE (fun hE => ?_) (fun hE => ?_)
  · refine k_aload_n (pc := 96) hC dX3_unit_96 rfl 0 rfl ?_
    refine k_iconst (pc := 97) (v := 1) hC dX3_unit_97 (by decide) ?_
    obtain ⟨r13, h1, hE⟩ := ob_ hE
    refine a_callV (pc := 98) (As := [.int 1]) hX (ct_R_wrong X.2.1 D (cxA X) x Xp R0 d L r12.2.1 r12.2.2 (pxf hP) 1 r13 h1) (cw_R_wrong_X3 hX (Nat.le_of_ble_eq_true rfl) (Nat.le_of_ble_eq_true rfl)) (p_recv 9 lp_9 cl_X3 hP) rfl rfl (Nat.le_of_ble_eq_true rfl) dX3_unit_98 (fun c z => ?_)
    show Wk X c z (RD D (RP D x Xp R0 r13) d L r12.2.2) 101 [(0, .ref (x + 9))] [.ref (x + 1)]
    cases hE
    exact p_athrow (pc := 101) hP hR dX3_unit_101 (fun _ h => h)
  · refine k_aload_n (pc := 102) hC dX3_unit_102 rfl 0 rfl ?_
    refine gP_X3_99 (pc := 103) hP dX3_unit_103 ?_
    refine k_bipush (pc := 106) (v := 6) hC dX3_unit_106 (by decide) ?_
    refine k_icmp_ne (pc := 108) (tgt := 117) hC dX3_unit_108 (by decide) hE (fun hE => ?_) (fun hE => ?_)
    · refine k_aload_n (pc := 111) hC dX3_unit_111 rfl 0 rfl ?_
      refine k_iconst (pc := 112) (v := 2) hC dX3_unit_112 (by decide) ?_
      obtain ⟨r14, h1, hE⟩ := ob_ hE
      refine a_callV (pc := 113) (As := [.int 2]) hX (ct_R_wrong X.2.1 D (cxA X) x Xp R0 d L r12.2.1 r12.2.2 (pxf hP) 2 r14 h1) (cw_R_wrong_X3 hX (Nat.le_of_ble_eq_true rfl) (Nat.le_of_ble_eq_true rfl)) (p_recv 9 lp_9 cl_X3 hP) rfl rfl (Nat.le_of_ble_eq_true rfl) dX3_unit_113 (fun c z => ?_)
      show Wk X c z (RD D (RP D x Xp R0 r14) d L r12.2.2) 116 [(0, .ref (x + 9))] [.ref (x + 1)]
      cases hE
      exact p_athrow (pc := 116) hP hR dX3_unit_116 (fun _ h => h)
    · refine k_aload_n (pc := 117) hC dX3_unit_117 rfl 0 rfl ?_
      refine k_dup (pc := 118) hC dX3_unit_118 rfl ?_
      refine gP_X3_99 (pc := 119) hP dX3_unit_119 ?_
      refine k_iconst (pc := 122) (v := 1) hC dX3_unit_122 (by decide) ?_
      refine k_iadd (pc := 123) hC dX3_unit_123 ?_
      refine pP_X3_99 (pc := 124) hP dX3_unit_124 hE (fun Q15 hE => ?_)
      refine k_aload_n (pc := 127) hC dX3_unit_127 rfl 0 rfl ?_
      rcases xb_of hE with ⟨e, h1, rfl⟩ | ⟨r16, h1, hE⟩
      · exact p_callVT (pc := 128) (As := []) hP hR (ctx_R_pass X.2.1 D (cxA X) x Xp R0 d L Q15 r12.2.2 (pxf hP)  e h1) (fun H h => p_fault hC.K h) (p_tt hX) (cw_R_pass_X3 hX (Nat.le_of_ble_eq_true rfl) (Nat.le_of_ble_eq_true rfl)) (p_recv 9 lp_9 cl_X3 hP) rfl rfl (Nat.le_of_ble_eq_true rfl) dX3_unit_128
      refine a_callV (pc := 128) (As := []) hX (ct_R_pass X.2.1 D (cxA X) x Xp R0 d L Q15 r12.2.2 (pxf hP)  r16 h1) (cw_R_pass_X3 hX (Nat.le_of_ble_eq_true rfl) (Nat.le_of_ble_eq_true rfl)) (p_recv 9 lp_9 cl_X3 hP) rfl rfl (Nat.le_of_ble_eq_true rfl) dX3_unit_128 (fun c z => ?_)
      show Wk X c z (RD D (RP D x Xp R0 r16.1) d L r16.2) 131 [(0, .ref (x + 9))] []
      refine k_aload_n (pc := 131) hC dX3_unit_131 rfl 0 rfl ?_
      rcases xb_of hE with ⟨e, h1, rfl⟩ | ⟨r17, h1, hE⟩
      · exact p_callVT (pc := 132) (As := []) hP hR (ctx_R_sum_0 X.2.1 D (cxA X) x Xp R0 d L r16.1 r16.2 (pxf hP) F e h1) (fun H h => p_fault hC.K h) (p_tt hX) (cw_R_sum_0_X3 hX (Nat.le_of_ble_eq_true rfl) (Nat.le_of_ble_eq_true rfl)) (p_recv 9 lp_9 cl_X3 hP) rfl rfl (Nat.le_of_ble_eq_true rfl) dX3_unit_132
      refine a_callV (pc := 132) (As := []) hX (ct_R_sum_0 X.2.1 D (cxA X) x Xp R0 d L r16.1 r16.2 (pxf hP) F r17 h1) (cw_R_sum_0_X3 hX (Nat.le_of_ble_eq_true rfl) (Nat.le_of_ble_eq_true rfl)) (p_recv 9 lp_9 cl_X3 hP) rfl rfl (Nat.le_of_ble_eq_true rfl) dX3_unit_132 (fun c z => ?_)
      show Wk X c z (RD D (RP D x Xp R0 r17.2.1) d L r17.2.2) 135 [(0, .ref (x + 9))] [va_rf r17.1]
      refine k_astoreR_n (pc := 135) (lv' := [(1, va_rf r17.1), (0, .ref (x + 9))]) hC dX3_unit_135 rfl (by rw [hnL]; decide) rfl ?_
      refine k_aload_n (pc := 136) hC dX3_unit_136 rfl 1 rfl ?_
      refine k_bipush (pc := 137) (v := 41) hC dX3_unit_137 (by decide) ?_
      rcases xb_of hE with ⟨e, h1, rfl⟩ | ⟨r18, h1, hE⟩
      · exact p_callVT (pc := 139) (As := [.int 41]) hP hR (ctx_R_sign X.2.1 D (cxA X) x Xp R0 d L r17.2.1 r17.2.2 (pxf hP) 41 e h1) (fun H h => p_fault hC.K h) (p_tt hX) (cw_R_sign_X3 hX (Nat.le_of_ble_eq_true rfl) (Nat.le_of_ble_eq_true rfl)) (p_recv 9 lp_9 cl_X3 hP) rfl rfl (Nat.le_of_ble_eq_true rfl) dX3_unit_139
      refine a_callV (pc := 139) (As := [.int 41]) hX (ct_R_sign X.2.1 D (cxA X) x Xp R0 d L r17.2.1 r17.2.2 (pxf hP) 41 r18 h1) (cw_R_sign_X3 hX (Nat.le_of_ble_eq_true rfl) (Nat.le_of_ble_eq_true rfl)) (p_recv 9 lp_9 cl_X3 hP) rfl rfl (Nat.le_of_ble_eq_true rfl) dX3_unit_139 (fun c z => ?_)
      show Wk X c z (RD D (RP D x Xp R0 r18.1) d L r18.2) 142 [(1, va_rf r17.1), (0, .ref (x + 9))] []
      refine k_aload_n (pc := 142) hC dX3_unit_142 rfl 1 rfl ?_
      refine k_dup (pc := 143) hC dX3_unit_143 rfl ?_
      refine gP_X3_99 (pc := 144) hP dX3_unit_144 ?_
      refine k_iconst (pc := 147) (v := 1) hC dX3_unit_147 (by decide) ?_
      refine k_isub (pc := 148) hC dX3_unit_148 ?_
      refine pP_X3_99 (pc := 149) hP dX3_unit_149 hE (fun Q19 hE => ?_)
      refine k_aloadR_n (pc := 152) hC dX3_unit_152 rfl 0 rfl ?_
      cases hE
      exact a_aret (pc := 153) (v := va_rf _) (rt := (.object "SleepWork$Sum")) (by first | exact Or.inl ⟨_, rfl⟩ | exact Or.inr ⟨_, rfl⟩) (va_rfv _) hX hR dX3_unit_153 (by rfl) (fun _ h => h)
set_option maxHeartbeats 4000000 in
theorem w_R_unit_1 {X : Ctx} {D : Dd} {x : Nat} {R0 : Heap → Prop} {d : Nat → Prop} {L : Nat × Nat × Nat × Nat} {Xp : Jr} {out : (Ji × Jr × Th) ⊕ (Option Nat × Ji × Th)} (hP : Px X cX3_unit RX3 D x R0 d L 2 8 173) (hR : RtX X (some (.object "SleepWork$Sum")) D L x (fun r => (RD D (RP D x Xp R0 r.2.1) d L r.2.2)) (fun r => (some (va_rf r.1))) (fun e => RD D (RP D x e.2.1 R0 e.1) d L e.2.2) out) (F : Nat) (Q : Ji) (T : Th) (hE : R_unit_1 F Xp Q T = some out) (c z : Nat) : Wk X c z (RD D (RP D x Xp R0 Q) d L T) 0 [(0, .ref (x + 9))] [] := by
  have hX := hP.1
  have hC := hX.1
  have hnL := hX.2.2.1
  have hSt : ∀ {Xp : Jr} {Q : Ji}, Stb (RP D x Xp R0 Q) d := hP.st
  have hDy : ∀ {Xp : Jr} {Q : Ji} {T : Th} (H : Heap), RD D (RP D x Xp R0 Q) d L T H → Dy D T H := fun _ h => h.2.1
  unfold R_unit_1 at hE
  refine k_aload_n (pc := 0) hC dX3_unit_0 rfl 0 rfl ?_
  rcases xb_of hE with ⟨e, h1, rfl⟩ | ⟨r1, h1, hE⟩
  · exact p_callVT (pc := 1) (As := []) hP hR (ctx_R_sort X.2.1 D (cxA X) x Xp R0 d L Q T (pxf hP)  e h1) (fun H h => p_fault hC.K h) (p_tt hX) (cw_R_sort_X3 hX (Nat.le_of_ble_eq_true rfl) (Nat.le_of_ble_eq_true rfl)) (p_recv 9 lp_9 cl_X3 hP) rfl rfl (Nat.le_of_ble_eq_true rfl) dX3_unit_1
  refine a_callV (pc := 1) (As := []) hX (ct_R_sort X.2.1 D (cxA X) x Xp R0 d L Q T (pxf hP)  r1 h1) (cw_R_sort_X3 hX (Nat.le_of_ble_eq_true rfl) (Nat.le_of_ble_eq_true rfl)) (p_recv 9 lp_9 cl_X3 hP) rfl rfl (Nat.le_of_ble_eq_true rfl) dX3_unit_1 (fun c z => ?_)
  show Wk X c z (RD D (RP D x Xp R0 r1.2.1) d L r1.2.2) 4 [(0, .ref (x + 9))] [.int r1.1]
  refine k_iconst (pc := 4) (v := 1) hC dX3_unit_4 (by decide) ?_
  refine k_icmp_ne (pc := 5) (tgt := 33) hC dX3_unit_5 (by decide) hE (fun hE => ?_) (fun hE => ?_)
  · refine k_aload_n (pc := 8) hC dX3_unit_8 rfl 0 rfl ?_
    rcases xb_of hE with ⟨e, h1, rfl⟩ | ⟨r2, h1, hE⟩
    · exact p_callVT (pc := 9) (As := []) hP hR (ctx_R_pass X.2.1 D (cxA X) x Xp R0 d L r1.2.1 r1.2.2 (pxf hP)  e h1) (fun H h => p_fault hC.K h) (p_tt hX) (cw_R_pass_X3 hX (Nat.le_of_ble_eq_true rfl) (Nat.le_of_ble_eq_true rfl)) (p_recv 9 lp_9 cl_X3 hP) rfl rfl (Nat.le_of_ble_eq_true rfl) dX3_unit_9
    refine a_callV (pc := 9) (As := []) hX (ct_R_pass X.2.1 D (cxA X) x Xp R0 d L r1.2.1 r1.2.2 (pxf hP)  r2 h1) (cw_R_pass_X3 hX (Nat.le_of_ble_eq_true rfl) (Nat.le_of_ble_eq_true rfl)) (p_recv 9 lp_9 cl_X3 hP) rfl rfl (Nat.le_of_ble_eq_true rfl) dX3_unit_9 (fun c z => ?_)
    show Wk X c z (RD D (RP D x Xp R0 r2.1) d L r2.2) 12 [(0, .ref (x + 9))] []
    refine a_new (pc := 12) hX hSt cl_X18 in_X18 tyX18 tyX18_ok dv_X18 q1196 q1197 q149 dX3_unit_12 hE (fun T3 eT3 hE c z => ?_)
    refine k_dup (pc := 15) hC dX3_unit_15 rfl ?_
    refine k_aload_n (pc := 16) hC dX3_unit_16 rfl 0 rfl ?_
    refine gP_X3_9 (pc := 17) hP dX3_unit_17 ?_
    refine k_aload_n (pc := 20) hC dX3_unit_20 rfl 0 rfl ?_
    refine gP_X3_31 (pc := 21) hP dX3_unit_21 ?_
    refine k_iconst (pc := 24) (v := 1) hC dX3_unit_24 (by decide) ?_
    refine k_isub (pc := 25) hC dX3_unit_25 ?_
    obtain ⟨r4, h1, hE⟩ := ob_ hE
    refine a_callV (pc := 26) (As := [.int ((r2.1 9 3) - 1)]) hX (ct_T_number X.2.1 D (cxA X) x Xp R0 d L r2.1 T3 (pxf hP) F ((r2.1 9 3) - 1) r4 h1) (cw_T_number_X3 hX (Nat.le_of_ble_eq_true rfl) (Nat.le_of_ble_eq_true rfl)) (p_recv 2 lp_2 cl_X2 hP) rfl rfl (Nat.le_of_ble_eq_true rfl) dX3_unit_26 (fun c z => ?_)
    show Wk X c z (RD D (RP D x Xp R0 r2.1) d L T3) 29 [(0, .ref (x + 9))] [.int r4, .ref (tN r2.2), .ref (tN r2.2)]
    obtain ⟨r5, h1, hE⟩ := ob_ hE
    refine a_callI (pc := 29) (As := [.int r4]) hX (ct_A_Number X.2.1 D (cxA X) (RP D x Xp R0 r2.1) d L T3 hSt hX.2.1 hX.2.2.2.2.2.2.2.2.2 (tN r2.2) r4 r5 h1) (cw_A_Number_X3 hX (Nat.le_of_ble_eq_true rfl) (Nat.le_of_ble_eq_true rfl)) rfl rfl (Nat.le_of_ble_eq_true rfl) dX3_unit_29 (fun c z => ?_)
    show Wk X c z (RD D (RP D x Xp R0 r2.1) d L r5) 32 [(0, .ref (x + 9))] [.ref (tN r2.2)]
    cases hE
    exact a_aret (pc := 32) (v := va_rf _) (rt := (.object "SleepWork$Sum")) (by first | exact Or.inl ⟨_, rfl⟩ | exact Or.inr ⟨_, rfl⟩) (va_rfv _) hX hR dX3_unit_32 (by rfl) (fun _ h => h)
  · refine k_aload_n (pc := 33) hC dX3_unit_33 rfl 0 rfl ?_
    rcases xb_of hE with ⟨e, h1, rfl⟩ | ⟨r6, h1, hE⟩
    · exact p_callVT (pc := 34) (As := []) hP hR (ctx_R_sort X.2.1 D (cxA X) x Xp R0 d L r1.2.1 r1.2.2 (pxf hP)  e h1) (fun H h => p_fault hC.K h) (p_tt hX) (cw_R_sort_X3 hX (Nat.le_of_ble_eq_true rfl) (Nat.le_of_ble_eq_true rfl)) (p_recv 9 lp_9 cl_X3 hP) rfl rfl (Nat.le_of_ble_eq_true rfl) dX3_unit_34
    refine a_callV (pc := 34) (As := []) hX (ct_R_sort X.2.1 D (cxA X) x Xp R0 d L r1.2.1 r1.2.2 (pxf hP)  r6 h1) (cw_R_sort_X3 hX (Nat.le_of_ble_eq_true rfl) (Nat.le_of_ble_eq_true rfl)) (p_recv 9 lp_9 cl_X3 hP) rfl rfl (Nat.le_of_ble_eq_true rfl) dX3_unit_34 (fun c z => ?_)
    show Wk X c z (RD D (RP D x Xp R0 r6.2.1) d L r6.2.2) 37 [(0, .ref (x + 9))] [.int r6.1]
    refine k_iconst (pc := 37) (v := 3) hC dX3_unit_37 (by decide) ?_
    refine k_icmp_ne (pc := 38) (tgt := 87) hC dX3_unit_38 (by decide) hE (fun hE => ?_) (fun hE => ?_)
    · refine k_aload_n (pc := 41) hC dX3_unit_41 rfl 0 rfl ?_
      refine gP_X3_9 (pc := 42) hP dX3_unit_42 ?_
      refine gP_X3_52 (pc := 45) hP dX3_unit_45 ?_
      refine k_aload_n (pc := 48) hC dX3_unit_48 rfl 0 rfl ?_
      refine gP_X3_31 (pc := 49) hP dX3_unit_49 ?_
      refine p_sald (pc := 52) 8 lp_8 hP dX3_unit_52 hE (fun x7 hE => ?_)
      refine k_bipush (pc := 53) (v := 15) hC dX3_unit_53 (by decide) ?_
      refine k_icmp_lt (pc := 55) (tgt := 87) hC dX3_unit_55 (by decide) hE (fun hE => ?_) (fun hE => ?_)
      · exact w_R_unit_1_B87 hP hR F _ _ hE _ _
      · refine k_aload_n (pc := 58) hC dX3_unit_58 rfl 0 rfl ?_
        rcases xb_of hE with ⟨e, h1, rfl⟩ | ⟨r8, h1, hE⟩
        · exact p_callVT (pc := 59) (As := []) hP hR (ctx_R_pass X.2.1 D (cxA X) x Xp R0 d L r6.2.1 r6.2.2 (pxf hP)  e h1) (fun H h => p_fault hC.K h) (p_tt hX) (cw_R_pass_X3 hX (Nat.le_of_ble_eq_true rfl) (Nat.le_of_ble_eq_true rfl)) (p_recv 9 lp_9 cl_X3 hP) rfl rfl (Nat.le_of_ble_eq_true rfl) dX3_unit_59
        refine a_callV (pc := 59) (As := []) hX (ct_R_pass X.2.1 D (cxA X) x Xp R0 d L r6.2.1 r6.2.2 (pxf hP)  r8 h1) (cw_R_pass_X3 hX (Nat.le_of_ble_eq_true rfl) (Nat.le_of_ble_eq_true rfl)) (p_recv 9 lp_9 cl_X3 hP) rfl rfl (Nat.le_of_ble_eq_true rfl) dX3_unit_59 (fun c z => ?_)
        show Wk X c z (RD D (RP D x Xp R0 r8.1) d L r8.2) 62 [(0, .ref (x + 9))] []
        refine a_new (pc := 62) hX hSt cl_X19 in_X19 tyX19 tyX19_ok dv_X19 q1209 q1210 q150 dX3_unit_62 hE (fun T9 eT9 hE c z => ?_)
        refine k_dup (pc := 65) hC dX3_unit_65 rfl ?_
        refine k_aload_n (pc := 66) hC dX3_unit_66 rfl 0 rfl ?_
        refine gP_X3_9 (pc := 67) hP dX3_unit_67 ?_
        refine gP_X3_52 (pc := 70) hP dX3_unit_70 ?_
        refine k_aload_n (pc := 73) hC dX3_unit_73 rfl 0 rfl ?_
        refine gP_X3_31 (pc := 74) hP dX3_unit_74 ?_
        refine k_iconst (pc := 77) (v := 1) hC dX3_unit_77 (by decide) ?_
        refine k_isub (pc := 78) hC dX3_unit_78 ?_
        refine p_sald (pc := 79) 8 lp_8 hP dX3_unit_79 hE (fun x10 hE => ?_)
        refine k_bipush (pc := 80) (v := 15) hC dX3_unit_80 (by decide) ?_
        refine k_isub (pc := 82) hC dX3_unit_82 ?_
        obtain ⟨r11, h1, hE⟩ := ob_ hE
        refine a_callI (pc := 83) (As := [.int (x10 - 15)]) hX (ct_A_Var X.2.1 D (cxA X) (RP D x Xp R0 r8.1) d L T9 hSt hX.2.1 hX.2.2.2.2.2.2.2.2.2 (tN r8.2) (x10 - 15) r11 h1) (cw_A_Var_X3 hX (Nat.le_of_ble_eq_true rfl) (Nat.le_of_ble_eq_true rfl)) rfl rfl (Nat.le_of_ble_eq_true rfl) dX3_unit_83 (fun c z => ?_)
        show Wk X c z (RD D (RP D x Xp R0 r8.1) d L r11) 86 [(0, .ref (x + 9))] [.ref (tN r8.2)]
        cases hE
        exact a_aret (pc := 86) (v := va_rf _) (rt := (.object "SleepWork$Sum")) (by first | exact Or.inl ⟨_, rfl⟩ | exact Or.inr ⟨_, rfl⟩) (va_rfv _) hX hR dX3_unit_86 (by rfl) (fun _ h => h)
    · exact w_R_unit_1_B87 hP hR F _ _ hE _ _
theorem ct_R_unit_1 (l : Launch) (D : Dd) (A : Nat → Prop) (x : Nat) (Xp : Jr) (R0 : Heap → Prop) (d : Nat → Prop) (L : Nat × Nat × Nat × Nat) (Q : Ji) (T : Th) (hp : Pf D A x R0 d) (F : Nat) (out : Option Nat × Ji × Th) (hE : R_unit_1 F Xp Q T = some (.inr out)) : Ct l yX3_unit (ws_ yX3_unit cX3_unit 2 (some (.object "SleepWork$Sum"))) (rmA 8 173 L T) vwCl arTy D A [.ref (x + 9)] (RD D (RP D x Xp R0 Q) d L T) (RD D (RP D x Xp R0 out.2.1) d L out.2.2) (some (va_rf out.1)) (L.1 - tN T) (L.2.1 - tZ T) := by
  refine Ct.ofA (lv := [(0, .ref (x + 9))]) (by decide) (Nat.le_of_ble_eq_true rfl) rfl hp.1 hp.2.1 ?_
  intro X hl hX hR hXA _
  exact w_R_unit_1 (Xp := Xp) (out := .inr out) (hp.px hX hXA) hR F Q T hE
theorem ctx_R_unit_1 (l : Launch) (D : Dd) (A : Nat → Prop) (x : Nat) (Xp : Jr) (R0 : Heap → Prop) (d : Nat → Prop) (L : Nat × Nat × Nat × Nat) (Q : Ji) (T : Th) (hp : Pf D A x R0 d) (F : Nat) (e : Ji × Jr × Th) (hE : R_unit_1 F Xp Q T = some (.inl e)) : CtT l yX3_unit (ws_ yX3_unit cX3_unit 2 (some (.object "SleepWork$Sum"))) (rmA 8 173 L T) D A [.ref (x + 9)] (RD D (RP D x Xp R0 Q) d L T) (RD D (RP D x e.2.1 R0 e.1) d L e.2.2) (x + 1) (L.1 - tN T) (L.2.1 - tZ T) := by
  refine CtT.ofA (lv := [(0, .ref (x + 9))]) (by decide) (Nat.le_of_ble_eq_true rfl) rfl hp.1 hp.2.1 ?_
  intro X hl hX hR hXA
  exact w_R_unit_1 (Xp := Xp) (out := .inl e) (hp.px hX hXA) hR F Q T hE
theorem cw_R_unit_1_X3 {X : Ctx} {cc : ByteArray} {D : Dd} {d : Nat → Prop} {L : Nat × Nat × Nat × Nat} {mL fr lo : Nat} {T : Th} (hX : Ax X cc RX3 D d L mL fr lo) (h1 : 8 + 1 ≤ fr) (h2 : 8 + (2 + 11) + 173 ≤ lo) : CallW X.2.2.2.1 X.2.2.2.2.1 X.2.2.2.2.2.2.1 RX3 RX3 277 yX3_unit cX3_unit 2 (some (.object "SleepWork$Sum")) (ws_ yX3_unit cX3_unit 2 (some (.object "SleepWork$Sum"))) (rmA 8 173 L T) (L.1 - tN T) (L.2.1 - tZ T) 0 := cwV 0 (cx_w hX.1) (lw_V q1192 q1194 qs32 q120 q1195) rfl rfl rfl (by decide +kernel) (by rw [hX.2.2.2.1, hX.2.2.2.2.1]; exact ⟨h1, h2⟩)
set_option maxHeartbeats 4000000 in
theorem w_R_part_1_B23 {X : Ctx} {D : Dd} {x : Nat} {R0 : Heap → Prop} {d : Nat → Prop} {L : Nat × Nat × Nat × Nat} {Xp : Jr} {out : (Ji × Jr × Th) ⊕ (Option Nat × Ji × Th)} (hP : Px X cX3_part RX3 D x R0 d L 3 9 194) (hR : RtX X (some (.object "SleepWork$Sum")) D L x (fun r => (RD D (RP D x Xp R0 r.2.1) d L r.2.2)) (fun r => (some (va_rf r.1))) (fun e => RD D (RP D x e.2.1 R0 e.1) d L e.2.2) out) (F : Nat) (k5 : Option Nat → Ji → Th → Option ((Ji × Jr × Th) ⊕ (Option Nat × Ji × Th))) (hk5 : ∀ (a1 : Option Nat) (Q : Ji) (T : Th) , k5 a1 Q T = some out → ∀ c z, Wk X c z (RD D (RP D x Xp R0 Q) d L T) 5 [(0, .ref (x + 9)), (1, va_rf a1)] []) (a1 : Option Nat) (Q : Ji) (T : Th) (hE : R_part_1_B23 F k5 Xp a1 Q T = some out) (c z : Nat) : Wk X c z (RD D (RP D x Xp R0 Q) d L T) 23 [(0, .ref (x + 9)), (1, va_rf a1)] [] := by
  have hX := hP.1
  have hC := hX.1
  have hnL := hX.2.2.1
  have hSt : ∀ {Xp : Jr} {Q : Ji}, Stb (RP D x Xp R0 Q) d := hP.st
  have hDy : ∀ {Xp : Jr} {Q : Ji} {T : Th} (H : Heap), RD D (RP D x Xp R0 Q) d L T H → Dy D T H := fun _ h => h.2.1
  unfold R_part_1_B23 at hE
  refine k_aload_n (pc := 23) hC dX3_part_23 rfl 0 rfl ?_
  refine gP_X3_9 (pc := 24) hP dX3_part_24 ?_
  refine gP_X3_52 (pc := 27) hP dX3_part_27 ?_
  refine k_aload_n (pc := 30) hC dX3_part_30 rfl 0 rfl ?_
  refine gP_X3_31 (pc := 31) hP dX3_part_31 ?_
  refine p_sald (pc := 34) 8 lp_8 hP dX3_part_34 hE (fun x4 hE => ?_)
  refine k_istore_n (pc := 35) (lv' := [(2, .int x4), (0, .ref (x + 9)), (1, va_rf a1)]) hC dX3_part_35 rfl (by rw [hnL]; decide) (by cases a1 <;> rfl) ?_
  refine k_aload_n (pc := 36) hC dX3_part_36 rfl 1 rfl ?_
  rcases xb_of hE with ⟨e, h1, rfl⟩ | ⟨r5, h1, hE⟩
  · exact p_callVT (pc := 37) (As := []) hP hR (ctx_R_pass X.2.1 D (cxA X) x Xp R0 d L Q T (pxf hP)  e h1) (fun H h => p_fault hC.K h) (p_tt hX) (cw_R_pass_X3 hX (Nat.le_of_ble_eq_true rfl) (Nat.le_of_ble_eq_true rfl)) (p_recv 9 lp_9 cl_X3 hP) rfl rfl (Nat.le_of_ble_eq_true rfl) dX3_part_37
  refine a_callV (pc := 37) (As := []) hX (ct_R_pass X.2.1 D (cxA X) x Xp R0 d L Q T (pxf hP)  r5 h1) (cw_R_pass_X3 hX (Nat.le_of_ble_eq_true rfl) (Nat.le_of_ble_eq_true rfl)) (p_recv 9 lp_9 cl_X3 hP) rfl rfl (Nat.le_of_ble_eq_true rfl) dX3_part_37 (fun c z => ?_)
  show Wk X c z (RD D (RP D x Xp R0 r5.1) d L r5.2) 40 [(2, .int x4), (0, .ref (x + 9)), (1, va_rf a1)] []
  refine a_new (pc := 40) hX hSt cl_X20 in_X20 tyX20 tyX20_ok dv_X20 q1219 q1220 q151 dX3_part_40 hE (fun T6 eT6 hE c z => ?_)
  refine k_dup (pc := 43) hC dX3_part_43 rfl ?_
  refine k_iload_n (pc := 44) hC dX3_part_44 rfl 0 rfl ?_
  refine k_aloadR_n (pc := 45) hC dX3_part_45 rfl 2 rfl ?_
  refine k_aload_n (pc := 46) hC dX3_part_46 rfl 1 rfl ?_
  rcases xb_of hE with ⟨e, h1, rfl⟩ | ⟨r7, h1, hE⟩
  · exact p_callVT (pc := 47) (As := []) hP hR (ctx_R_unit_1 X.2.1 D (cxA X) x Xp R0 d L r5.1 T6 (pxf hP) F e h1) (fun H h => p_fault hC.K h) (p_tt hX) (cw_R_unit_1_X3 hX (Nat.le_of_ble_eq_true rfl) (Nat.le_of_ble_eq_true rfl)) (p_recv 9 lp_9 cl_X3 hP) rfl rfl (by cases a1 <;> exact Nat.le_of_ble_eq_true rfl) dX3_part_47
  refine a_callV (pc := 47) (As := []) hX (ct_R_unit_1 X.2.1 D (cxA X) x Xp R0 d L r5.1 T6 (pxf hP) F r7 h1) (cw_R_unit_1_X3 hX (Nat.le_of_ble_eq_true rfl) (Nat.le_of_ble_eq_true rfl)) (p_recv 9 lp_9 cl_X3 hP) rfl rfl (by cases a1 <;> exact Nat.le_of_ble_eq_true rfl) dX3_part_47 (fun c z => ?_)
  show Wk X c z (RD D (RP D x Xp R0 r7.2.1) d L r7.2.2) 50 [(2, .int x4), (0, .ref (x + 9)), (1, va_rf a1)] [va_rf r7.1, va_rf a1, .int x4, .ref (tN r5.2), .ref (tN r5.2)]
  refine k_nn (G := fun z => Wk X _ _ (RD D (RP D x Xp R0 r7.2.1) d L r7.2.2) 50 [(2, .int x4), (0, .ref (x + 9)), (1, va_rf a1)] [z, va_rf a1, .int x4, .ref (tN r5.2), .ref (tN r5.2)]) hE (fun b8 hE => ?_)
  refine k_nn (G := fun z => Wk X _ _ (RD D (RP D x Xp R0 r7.2.1) d L r7.2.2) 50 [(2, .int x4), (0, .ref (x + 9)), (1, z)] [.ref b8, z, .int x4, .ref (tN r5.2), .ref (tN r5.2)]) hE (fun b9 hE => ?_)
  obtain ⟨r10, h1, hE⟩ := ob_ hE
  refine a_callI (pc := 50) (As := [.int x4, .ref b9, .ref b8]) hX (ct_A_Joined X.2.1 D (cxA X) (RP D x Xp R0 r7.2.1) d L r7.2.2 hSt hX.2.1 hX.2.2.2.2.2.2.2.2.2 (tN r5.2) x4 b9 b8 r10 h1) (cw_A_Joined_X3 hX (Nat.le_of_ble_eq_true rfl) (Nat.le_of_ble_eq_true rfl)) rfl rfl (Nat.le_of_ble_eq_true rfl) dX3_part_50 (fun c z => ?_)
  show Wk X c z (RD D (RP D x Xp R0 r7.2.1) d L r10) 53 [(2, .int x4), (0, .ref (x + 9)), (1, .ref b9)] [.ref (tN r5.2)]
  refine k_astore_n (pc := 53) (lv' := [(1, .ref (tN r5.2)), (2, .int x4), (0, .ref (x + 9))]) hC dX3_part_53 rfl (by rw [hnL]; decide) rfl ?_
  refine k_goto (pc := 54) (tgt := 5) hC dX3_part_54 (by decide) ?_
  refine k_sub [2, 0] rfl ?_
  exact hk5 _ _ _ hE _ _
set_option maxHeartbeats 4000000 in
theorem w_R_part_1_B5 {X : Ctx} {D : Dd} {x : Nat} {R0 : Heap → Prop} {d : Nat → Prop} {L : Nat × Nat × Nat × Nat} {Xp : Jr} {out : (Ji × Jr × Th) ⊕ (Option Nat × Ji × Th)} (hP : Px X cX3_part RX3 D x R0 d L 3 9 194) (hR : RtX X (some (.object "SleepWork$Sum")) D L x (fun r => (RD D (RP D x Xp R0 r.2.1) d L r.2.2)) (fun r => (some (va_rf r.1))) (fun e => RD D (RP D x e.2.1 R0 e.1) d L e.2.2) out) (F : Nat) (k5 : Option Nat → Ji → Th → Option ((Ji × Jr × Th) ⊕ (Option Nat × Ji × Th))) (hk5 : ∀ (a1 : Option Nat) (Q : Ji) (T : Th) , k5 a1 Q T = some out → ∀ c z, Wk X c z (RD D (RP D x Xp R0 Q) d L T) 5 [(0, .ref (x + 9)), (1, va_rf a1)] []) (a1 : Option Nat) (Q : Ji) (T : Th) (hE : R_part_1_B5 F k5 Xp a1 Q T = some out) (c z : Nat) : Wk X c z (RD D (RP D x Xp R0 Q) d L T) 5 [(0, .ref (x + 9)), (1, va_rf a1)] [] := by
  have hX := hP.1
  have hC := hX.1
  have hnL := hX.2.2.1
  have hSt : ∀ {Xp : Jr} {Q : Ji}, Stb (RP D x Xp R0 Q) d := hP.st
  have hDy : ∀ {Xp : Jr} {Q : Ji} {T : Th} (H : Heap), RD D (RP D x Xp R0 Q) d L T H → Dy D T H := fun _ h => h.2.1
  unfold R_part_1_B5 at hE
  refine k_aload_n (pc := 5) hC dX3_part_5 rfl 0 rfl ?_
  refine k_bipush (pc := 6) (v := 42) hC dX3_part_6 (by decide) ?_
  rcases xb_of hE with ⟨e, h1, rfl⟩ | ⟨r2, h1, hE⟩
  · exact p_callVT (pc := 8) (As := [.int 42]) hP hR (ctx_R_isSign X.2.1 D (cxA X) x Xp R0 d L Q T (pxf hP) 42 e h1) (fun H h => p_fault hC.K h) (p_tt hX) (cw_R_isSign_X3 hX (Nat.le_of_ble_eq_true rfl) (Nat.le_of_ble_eq_true rfl)) (p_recv 9 lp_9 cl_X3 hP) rfl rfl (Nat.le_of_ble_eq_true rfl) dX3_part_8
  refine a_callV (pc := 8) (As := [.int 42]) hX (ct_R_isSign X.2.1 D (cxA X) x Xp R0 d L Q T (pxf hP) 42 r2 h1) (cw_R_isSign_X3 hX (Nat.le_of_ble_eq_true rfl) (Nat.le_of_ble_eq_true rfl)) (p_recv 9 lp_9 cl_X3 hP) rfl rfl (Nat.le_of_ble_eq_true rfl) dX3_part_8 (fun c z => ?_)
  show Wk X c z (RD D (RP D x Xp R0 r2.2.1) d L r2.2.2) 11 [(0, .ref (x + 9)), (1, va_rf a1)] [.int r2.1]
  refine k_if_ne (pc := 11) (tgt := 23) hC dX3_part_11 (by decide) hE (fun hE => ?_) (fun hE => ?_)
  · refine k_aload_n (pc := 14) hC dX3_part_14 rfl 0 rfl ?_
    refine k_bipush (pc := 15) (v := 47) hC dX3_part_15 (by decide) ?_
    rcases xb_of hE with ⟨e, h1, rfl⟩ | ⟨r3, h1, hE⟩
    · exact p_callVT (pc := 17) (As := [.int 47]) hP hR (ctx_R_isSign X.2.1 D (cxA X) x Xp R0 d L r2.2.1 r2.2.2 (pxf hP) 47 e h1) (fun H h => p_fault hC.K h) (p_tt hX) (cw_R_isSign_X3 hX (Nat.le_of_ble_eq_true rfl) (Nat.le_of_ble_eq_true rfl)) (p_recv 9 lp_9 cl_X3 hP) rfl rfl (Nat.le_of_ble_eq_true rfl) dX3_part_17
    refine a_callV (pc := 17) (As := [.int 47]) hX (ct_R_isSign X.2.1 D (cxA X) x Xp R0 d L r2.2.1 r2.2.2 (pxf hP) 47 r3 h1) (cw_R_isSign_X3 hX (Nat.le_of_ble_eq_true rfl) (Nat.le_of_ble_eq_true rfl)) (p_recv 9 lp_9 cl_X3 hP) rfl rfl (Nat.le_of_ble_eq_true rfl) dX3_part_17 (fun c z => ?_)
    show Wk X c z (RD D (RP D x Xp R0 r3.2.1) d L r3.2.2) 20 [(0, .ref (x + 9)), (1, va_rf a1)] [.int r3.1]
    refine k_if_eq (pc := 20) (tgt := 57) hC dX3_part_20 (by decide) hE (fun hE => ?_) (fun hE => ?_)
    · refine k_aloadR_n (pc := 57) hC dX3_part_57 rfl 1 rfl ?_
      cases hE
      exact a_aret (pc := 58) (v := va_rf _) (rt := (.object "SleepWork$Sum")) (by first | exact Or.inl ⟨_, rfl⟩ | exact Or.inr ⟨_, rfl⟩) (va_rfv _) hX hR dX3_part_58 (by rfl) (fun _ h => h)
    · exact w_R_part_1_B23 hP hR F k5 hk5 _ _ _ hE _ _
  · exact w_R_part_1_B23 hP hR F k5 hk5 _ _ _ hE _ _
theorem w_R_part_1_L5 {X : Ctx} {D : Dd} {x : Nat} {R0 : Heap → Prop} {d : Nat → Prop} {L : Nat × Nat × Nat × Nat} {Xp : Jr} {out : (Ji × Jr × Th) ⊕ (Option Nat × Ji × Th)} (hP : Px X cX3_part RX3 D x R0 d L 3 9 194) (hR : RtX X (some (.object "SleepWork$Sum")) D L x (fun r => (RD D (RP D x Xp R0 r.2.1) d L r.2.2)) (fun r => (some (va_rf r.1))) (fun e => RD D (RP D x e.2.1 R0 e.1) d L e.2.2) out) (F : Nat) (n : Nat) : ∀ (a1 : Option Nat) (Q : Ji) (T : Th) , R_part_1_L5 F Xp n a1 Q T = some out → ∀ c z, Wk X c z (RD D (RP D x Xp R0 Q) d L T) 5 [(0, .ref (x + 9)), (1, va_rf a1)] [] := by
  induction n with
  | zero => intro a1 Q T h; cases h
  | succ n ih => intro a1 Q T h; exact w_R_part_1_B5 hP hR F (R_part_1_L5 F Xp n) ih a1 Q T h
set_option maxHeartbeats 4000000 in
theorem w_R_part_1 {X : Ctx} {D : Dd} {x : Nat} {R0 : Heap → Prop} {d : Nat → Prop} {L : Nat × Nat × Nat × Nat} {Xp : Jr} {out : (Ji × Jr × Th) ⊕ (Option Nat × Ji × Th)} (hP : Px X cX3_part RX3 D x R0 d L 3 9 194) (hR : RtX X (some (.object "SleepWork$Sum")) D L x (fun r => (RD D (RP D x Xp R0 r.2.1) d L r.2.2)) (fun r => (some (va_rf r.1))) (fun e => RD D (RP D x e.2.1 R0 e.1) d L e.2.2) out) (F : Nat) (Q : Ji) (T : Th) (hE : R_part_1 F Xp Q T = some out) (c z : Nat) : Wk X c z (RD D (RP D x Xp R0 Q) d L T) 0 [(0, .ref (x + 9))] [] := by
  have hX := hP.1
  have hC := hX.1
  have hnL := hX.2.2.1
  have hSt : ∀ {Xp : Jr} {Q : Ji}, Stb (RP D x Xp R0 Q) d := hP.st
  have hDy : ∀ {Xp : Jr} {Q : Ji} {T : Th} (H : Heap), RD D (RP D x Xp R0 Q) d L T H → Dy D T H := fun _ h => h.2.1
  unfold R_part_1 at hE
  refine k_aload_n (pc := 0) hC dX3_part_0 rfl 0 rfl ?_
  rcases xb_of hE with ⟨e, h1, rfl⟩ | ⟨r1, h1, hE⟩
  · exact p_callVT (pc := 1) (As := []) hP hR (ctx_R_unit_1 X.2.1 D (cxA X) x Xp R0 d L Q T (pxf hP) F e h1) (fun H h => p_fault hC.K h) (p_tt hX) (cw_R_unit_1_X3 hX (Nat.le_of_ble_eq_true rfl) (Nat.le_of_ble_eq_true rfl)) (p_recv 9 lp_9 cl_X3 hP) rfl rfl (Nat.le_of_ble_eq_true rfl) dX3_part_1
  refine a_callV (pc := 1) (As := []) hX (ct_R_unit_1 X.2.1 D (cxA X) x Xp R0 d L Q T (pxf hP) F r1 h1) (cw_R_unit_1_X3 hX (Nat.le_of_ble_eq_true rfl) (Nat.le_of_ble_eq_true rfl)) (p_recv 9 lp_9 cl_X3 hP) rfl rfl (Nat.le_of_ble_eq_true rfl) dX3_part_1 (fun c z => ?_)
  show Wk X c z (RD D (RP D x Xp R0 r1.2.1) d L r1.2.2) 4 [(0, .ref (x + 9))] [va_rf r1.1]
  refine k_astoreR_n (pc := 4) (lv' := [(1, va_rf r1.1), (0, .ref (x + 9))]) hC dX3_part_4 rfl (by rw [hnL]; decide) rfl ?_
  refine k_sub [1, 0] rfl ?_
  exact w_R_part_1_L5 hP hR F _ _ _ _ hE _ _
theorem ct_R_part_1 (l : Launch) (D : Dd) (A : Nat → Prop) (x : Nat) (Xp : Jr) (R0 : Heap → Prop) (d : Nat → Prop) (L : Nat × Nat × Nat × Nat) (Q : Ji) (T : Th) (hp : Pf D A x R0 d) (F : Nat) (out : Option Nat × Ji × Th) (hE : R_part_1 F Xp Q T = some (.inr out)) : Ct l yX3_part (ws_ yX3_part cX3_part 3 (some (.object "SleepWork$Sum"))) (rmA 9 194 L T) vwCl arTy D A [.ref (x + 9)] (RD D (RP D x Xp R0 Q) d L T) (RD D (RP D x Xp R0 out.2.1) d L out.2.2) (some (va_rf out.1)) (L.1 - tN T) (L.2.1 - tZ T) := by
  refine Ct.ofA (lv := [(0, .ref (x + 9))]) (by decide) (Nat.le_of_ble_eq_true rfl) rfl hp.1 hp.2.1 ?_
  intro X hl hX hR hXA _
  exact w_R_part_1 (Xp := Xp) (out := .inr out) (hp.px hX hXA) hR F Q T hE
theorem ctx_R_part_1 (l : Launch) (D : Dd) (A : Nat → Prop) (x : Nat) (Xp : Jr) (R0 : Heap → Prop) (d : Nat → Prop) (L : Nat × Nat × Nat × Nat) (Q : Ji) (T : Th) (hp : Pf D A x R0 d) (F : Nat) (e : Ji × Jr × Th) (hE : R_part_1 F Xp Q T = some (.inl e)) : CtT l yX3_part (ws_ yX3_part cX3_part 3 (some (.object "SleepWork$Sum"))) (rmA 9 194 L T) D A [.ref (x + 9)] (RD D (RP D x Xp R0 Q) d L T) (RD D (RP D x e.2.1 R0 e.1) d L e.2.2) (x + 1) (L.1 - tN T) (L.2.1 - tZ T) := by
  refine CtT.ofA (lv := [(0, .ref (x + 9))]) (by decide) (Nat.le_of_ble_eq_true rfl) rfl hp.1 hp.2.1 ?_
  intro X hl hX hR hXA
  exact w_R_part_1 (Xp := Xp) (out := .inl e) (hp.px hX hXA) hR F Q T hE
theorem cw_R_part_1_X3 {X : Ctx} {cc : ByteArray} {D : Dd} {d : Nat → Prop} {L : Nat × Nat × Nat × Nat} {mL fr lo : Nat} {T : Th} (hX : Ax X cc RX3 D d L mL fr lo) (h1 : 9 + 1 ≤ fr) (h2 : 8 + (3 + 11) + 194 ≤ lo) : CallW X.2.2.2.1 X.2.2.2.2.1 X.2.2.2.2.2.2.1 RX3 RX3 269 yX3_part cX3_part 3 (some (.object "SleepWork$Sum")) (ws_ yX3_part cX3_part 3 (some (.object "SleepWork$Sum"))) (rmA 9 194 L T) (L.1 - tN T) (L.2.1 - tZ T) 0 := cwV 0 (cx_w hX.1) (lw_V q1188 q1190 qs31 q120 q1191) rfl rfl rfl (by decide +kernel) (by rw [hX.2.2.2.1, hX.2.2.2.2.1]; exact ⟨h1, h2⟩)
set_option maxHeartbeats 4000000 in
theorem w_R_sum_1_B23 {X : Ctx} {D : Dd} {x : Nat} {R0 : Heap → Prop} {d : Nat → Prop} {L : Nat × Nat × Nat × Nat} {Xp : Jr} {out : (Ji × Jr × Th) ⊕ (Option Nat × Ji × Th)} (hP : Px X cX3_sum RX3 D x R0 d L 3 10 216) (hR : RtX X (some (.object "SleepWork$Sum")) D L x (fun r => (RD D (RP D x Xp R0 r.2.1) d L r.2.2)) (fun r => (some (va_rf r.1))) (fun e => RD D (RP D x e.2.1 R0 e.1) d L e.2.2) out) (F : Nat) (k5 : Option Nat → Ji → Th → Option ((Ji × Jr × Th) ⊕ (Option Nat × Ji × Th))) (hk5 : ∀ (a1 : Option Nat) (Q : Ji) (T : Th) , k5 a1 Q T = some out → ∀ c z, Wk X c z (RD D (RP D x Xp R0 Q) d L T) 5 [(0, .ref (x + 9)), (1, va_rf a1)] []) (a1 : Option Nat) (Q : Ji) (T : Th) (hE : R_sum_1_B23 F k5 Xp a1 Q T = some out) (c z : Nat) : Wk X c z (RD D (RP D x Xp R0 Q) d L T) 23 [(0, .ref (x + 9)), (1, va_rf a1)] [] := by
  have hX := hP.1
  have hC := hX.1
  have hnL := hX.2.2.1
  have hSt : ∀ {Xp : Jr} {Q : Ji}, Stb (RP D x Xp R0 Q) d := hP.st
  have hDy : ∀ {Xp : Jr} {Q : Ji} {T : Th} (H : Heap), RD D (RP D x Xp R0 Q) d L T H → Dy D T H := fun _ h => h.2.1
  unfold R_sum_1_B23 at hE
  refine k_aload_n (pc := 23) hC dX3_sum_23 rfl 0 rfl ?_
  refine gP_X3_9 (pc := 24) hP dX3_sum_24 ?_
  refine gP_X3_52 (pc := 27) hP dX3_sum_27 ?_
  refine k_aload_n (pc := 30) hC dX3_sum_30 rfl 0 rfl ?_
  refine gP_X3_31 (pc := 31) hP dX3_sum_31 ?_
  refine p_sald (pc := 34) 8 lp_8 hP dX3_sum_34 hE (fun x4 hE => ?_)
  refine k_istore_n (pc := 35) (lv' := [(2, .int x4), (0, .ref (x + 9)), (1, va_rf a1)]) hC dX3_sum_35 rfl (by rw [hnL]; decide) (by cases a1 <;> rfl) ?_
  refine k_aload_n (pc := 36) hC dX3_sum_36 rfl 1 rfl ?_
  rcases xb_of hE with ⟨e, h1, rfl⟩ | ⟨r5, h1, hE⟩
  · exact p_callVT (pc := 37) (As := []) hP hR (ctx_R_pass X.2.1 D (cxA X) x Xp R0 d L Q T (pxf hP)  e h1) (fun H h => p_fault hC.K h) (p_tt hX) (cw_R_pass_X3 hX (Nat.le_of_ble_eq_true rfl) (Nat.le_of_ble_eq_true rfl)) (p_recv 9 lp_9 cl_X3 hP) rfl rfl (Nat.le_of_ble_eq_true rfl) dX3_sum_37
  refine a_callV (pc := 37) (As := []) hX (ct_R_pass X.2.1 D (cxA X) x Xp R0 d L Q T (pxf hP)  r5 h1) (cw_R_pass_X3 hX (Nat.le_of_ble_eq_true rfl) (Nat.le_of_ble_eq_true rfl)) (p_recv 9 lp_9 cl_X3 hP) rfl rfl (Nat.le_of_ble_eq_true rfl) dX3_sum_37 (fun c z => ?_)
  show Wk X c z (RD D (RP D x Xp R0 r5.1) d L r5.2) 40 [(2, .int x4), (0, .ref (x + 9)), (1, va_rf a1)] []
  refine a_new (pc := 40) hX hSt cl_X20 in_X20 tyX20 tyX20_ok dv_X20 q1219 q1220 q151 dX3_sum_40 hE (fun T6 eT6 hE c z => ?_)
  refine k_dup (pc := 43) hC dX3_sum_43 rfl ?_
  refine k_iload_n (pc := 44) hC dX3_sum_44 rfl 0 rfl ?_
  refine k_aloadR_n (pc := 45) hC dX3_sum_45 rfl 2 rfl ?_
  refine k_aload_n (pc := 46) hC dX3_sum_46 rfl 1 rfl ?_
  rcases xb_of hE with ⟨e, h1, rfl⟩ | ⟨r7, h1, hE⟩
  · exact p_callVT (pc := 47) (As := []) hP hR (ctx_R_part_1 X.2.1 D (cxA X) x Xp R0 d L r5.1 T6 (pxf hP) F e h1) (fun H h => p_fault hC.K h) (p_tt hX) (cw_R_part_1_X3 hX (Nat.le_of_ble_eq_true rfl) (Nat.le_of_ble_eq_true rfl)) (p_recv 9 lp_9 cl_X3 hP) rfl rfl (by cases a1 <;> exact Nat.le_of_ble_eq_true rfl) dX3_sum_47
  refine a_callV (pc := 47) (As := []) hX (ct_R_part_1 X.2.1 D (cxA X) x Xp R0 d L r5.1 T6 (pxf hP) F r7 h1) (cw_R_part_1_X3 hX (Nat.le_of_ble_eq_true rfl) (Nat.le_of_ble_eq_true rfl)) (p_recv 9 lp_9 cl_X3 hP) rfl rfl (by cases a1 <;> exact Nat.le_of_ble_eq_true rfl) dX3_sum_47 (fun c z => ?_)
  show Wk X c z (RD D (RP D x Xp R0 r7.2.1) d L r7.2.2) 50 [(2, .int x4), (0, .ref (x + 9)), (1, va_rf a1)] [va_rf r7.1, va_rf a1, .int x4, .ref (tN r5.2), .ref (tN r5.2)]
  refine k_nn (G := fun z => Wk X _ _ (RD D (RP D x Xp R0 r7.2.1) d L r7.2.2) 50 [(2, .int x4), (0, .ref (x + 9)), (1, va_rf a1)] [z, va_rf a1, .int x4, .ref (tN r5.2), .ref (tN r5.2)]) hE (fun b8 hE => ?_)
  refine k_nn (G := fun z => Wk X _ _ (RD D (RP D x Xp R0 r7.2.1) d L r7.2.2) 50 [(2, .int x4), (0, .ref (x + 9)), (1, z)] [.ref b8, z, .int x4, .ref (tN r5.2), .ref (tN r5.2)]) hE (fun b9 hE => ?_)
  obtain ⟨r10, h1, hE⟩ := ob_ hE
  refine a_callI (pc := 50) (As := [.int x4, .ref b9, .ref b8]) hX (ct_A_Joined X.2.1 D (cxA X) (RP D x Xp R0 r7.2.1) d L r7.2.2 hSt hX.2.1 hX.2.2.2.2.2.2.2.2.2 (tN r5.2) x4 b9 b8 r10 h1) (cw_A_Joined_X3 hX (Nat.le_of_ble_eq_true rfl) (Nat.le_of_ble_eq_true rfl)) rfl rfl (Nat.le_of_ble_eq_true rfl) dX3_sum_50 (fun c z => ?_)
  show Wk X c z (RD D (RP D x Xp R0 r7.2.1) d L r10) 53 [(2, .int x4), (0, .ref (x + 9)), (1, .ref b9)] [.ref (tN r5.2)]
  refine k_astore_n (pc := 53) (lv' := [(1, .ref (tN r5.2)), (2, .int x4), (0, .ref (x + 9))]) hC dX3_sum_53 rfl (by rw [hnL]; decide) rfl ?_
  refine k_goto (pc := 54) (tgt := 5) hC dX3_sum_54 (by decide) ?_
  refine k_sub [2, 0] rfl ?_
  exact hk5 _ _ _ hE _ _
set_option maxHeartbeats 4000000 in
theorem w_R_sum_1_B5 {X : Ctx} {D : Dd} {x : Nat} {R0 : Heap → Prop} {d : Nat → Prop} {L : Nat × Nat × Nat × Nat} {Xp : Jr} {out : (Ji × Jr × Th) ⊕ (Option Nat × Ji × Th)} (hP : Px X cX3_sum RX3 D x R0 d L 3 10 216) (hR : RtX X (some (.object "SleepWork$Sum")) D L x (fun r => (RD D (RP D x Xp R0 r.2.1) d L r.2.2)) (fun r => (some (va_rf r.1))) (fun e => RD D (RP D x e.2.1 R0 e.1) d L e.2.2) out) (F : Nat) (k5 : Option Nat → Ji → Th → Option ((Ji × Jr × Th) ⊕ (Option Nat × Ji × Th))) (hk5 : ∀ (a1 : Option Nat) (Q : Ji) (T : Th) , k5 a1 Q T = some out → ∀ c z, Wk X c z (RD D (RP D x Xp R0 Q) d L T) 5 [(0, .ref (x + 9)), (1, va_rf a1)] []) (a1 : Option Nat) (Q : Ji) (T : Th) (hE : R_sum_1_B5 F k5 Xp a1 Q T = some out) (c z : Nat) : Wk X c z (RD D (RP D x Xp R0 Q) d L T) 5 [(0, .ref (x + 9)), (1, va_rf a1)] [] := by
  have hX := hP.1
  have hC := hX.1
  have hnL := hX.2.2.1
  have hSt : ∀ {Xp : Jr} {Q : Ji}, Stb (RP D x Xp R0 Q) d := hP.st
  have hDy : ∀ {Xp : Jr} {Q : Ji} {T : Th} (H : Heap), RD D (RP D x Xp R0 Q) d L T H → Dy D T H := fun _ h => h.2.1
  unfold R_sum_1_B5 at hE
  refine k_aload_n (pc := 5) hC dX3_sum_5 rfl 0 rfl ?_
  refine k_bipush (pc := 6) (v := 43) hC dX3_sum_6 (by decide) ?_
  rcases xb_of hE with ⟨e, h1, rfl⟩ | ⟨r2, h1, hE⟩
  · exact p_callVT (pc := 8) (As := [.int 43]) hP hR (ctx_R_isSign X.2.1 D (cxA X) x Xp R0 d L Q T (pxf hP) 43 e h1) (fun H h => p_fault hC.K h) (p_tt hX) (cw_R_isSign_X3 hX (Nat.le_of_ble_eq_true rfl) (Nat.le_of_ble_eq_true rfl)) (p_recv 9 lp_9 cl_X3 hP) rfl rfl (Nat.le_of_ble_eq_true rfl) dX3_sum_8
  refine a_callV (pc := 8) (As := [.int 43]) hX (ct_R_isSign X.2.1 D (cxA X) x Xp R0 d L Q T (pxf hP) 43 r2 h1) (cw_R_isSign_X3 hX (Nat.le_of_ble_eq_true rfl) (Nat.le_of_ble_eq_true rfl)) (p_recv 9 lp_9 cl_X3 hP) rfl rfl (Nat.le_of_ble_eq_true rfl) dX3_sum_8 (fun c z => ?_)
  show Wk X c z (RD D (RP D x Xp R0 r2.2.1) d L r2.2.2) 11 [(0, .ref (x + 9)), (1, va_rf a1)] [.int r2.1]
  refine k_if_ne (pc := 11) (tgt := 23) hC dX3_sum_11 (by decide) hE (fun hE => ?_) (fun hE => ?_)
  · refine k_aload_n (pc := 14) hC dX3_sum_14 rfl 0 rfl ?_
    refine k_bipush (pc := 15) (v := 45) hC dX3_sum_15 (by decide) ?_
    rcases xb_of hE with ⟨e, h1, rfl⟩ | ⟨r3, h1, hE⟩
    · exact p_callVT (pc := 17) (As := [.int 45]) hP hR (ctx_R_isSign X.2.1 D (cxA X) x Xp R0 d L r2.2.1 r2.2.2 (pxf hP) 45 e h1) (fun H h => p_fault hC.K h) (p_tt hX) (cw_R_isSign_X3 hX (Nat.le_of_ble_eq_true rfl) (Nat.le_of_ble_eq_true rfl)) (p_recv 9 lp_9 cl_X3 hP) rfl rfl (Nat.le_of_ble_eq_true rfl) dX3_sum_17
    refine a_callV (pc := 17) (As := [.int 45]) hX (ct_R_isSign X.2.1 D (cxA X) x Xp R0 d L r2.2.1 r2.2.2 (pxf hP) 45 r3 h1) (cw_R_isSign_X3 hX (Nat.le_of_ble_eq_true rfl) (Nat.le_of_ble_eq_true rfl)) (p_recv 9 lp_9 cl_X3 hP) rfl rfl (Nat.le_of_ble_eq_true rfl) dX3_sum_17 (fun c z => ?_)
    show Wk X c z (RD D (RP D x Xp R0 r3.2.1) d L r3.2.2) 20 [(0, .ref (x + 9)), (1, va_rf a1)] [.int r3.1]
    refine k_if_eq (pc := 20) (tgt := 57) hC dX3_sum_20 (by decide) hE (fun hE => ?_) (fun hE => ?_)
    · refine k_aloadR_n (pc := 57) hC dX3_sum_57 rfl 1 rfl ?_
      cases hE
      exact a_aret (pc := 58) (v := va_rf _) (rt := (.object "SleepWork$Sum")) (by first | exact Or.inl ⟨_, rfl⟩ | exact Or.inr ⟨_, rfl⟩) (va_rfv _) hX hR dX3_sum_58 (by rfl) (fun _ h => h)
    · exact w_R_sum_1_B23 hP hR F k5 hk5 _ _ _ hE _ _
  · exact w_R_sum_1_B23 hP hR F k5 hk5 _ _ _ hE _ _
theorem w_R_sum_1_L5 {X : Ctx} {D : Dd} {x : Nat} {R0 : Heap → Prop} {d : Nat → Prop} {L : Nat × Nat × Nat × Nat} {Xp : Jr} {out : (Ji × Jr × Th) ⊕ (Option Nat × Ji × Th)} (hP : Px X cX3_sum RX3 D x R0 d L 3 10 216) (hR : RtX X (some (.object "SleepWork$Sum")) D L x (fun r => (RD D (RP D x Xp R0 r.2.1) d L r.2.2)) (fun r => (some (va_rf r.1))) (fun e => RD D (RP D x e.2.1 R0 e.1) d L e.2.2) out) (F : Nat) (n : Nat) : ∀ (a1 : Option Nat) (Q : Ji) (T : Th) , R_sum_1_L5 F Xp n a1 Q T = some out → ∀ c z, Wk X c z (RD D (RP D x Xp R0 Q) d L T) 5 [(0, .ref (x + 9)), (1, va_rf a1)] [] := by
  induction n with
  | zero => intro a1 Q T h; cases h
  | succ n ih => intro a1 Q T h; exact w_R_sum_1_B5 hP hR F (R_sum_1_L5 F Xp n) ih a1 Q T h
set_option maxHeartbeats 4000000 in
theorem w_R_sum_1 {X : Ctx} {D : Dd} {x : Nat} {R0 : Heap → Prop} {d : Nat → Prop} {L : Nat × Nat × Nat × Nat} {Xp : Jr} {out : (Ji × Jr × Th) ⊕ (Option Nat × Ji × Th)} (hP : Px X cX3_sum RX3 D x R0 d L 3 10 216) (hR : RtX X (some (.object "SleepWork$Sum")) D L x (fun r => (RD D (RP D x Xp R0 r.2.1) d L r.2.2)) (fun r => (some (va_rf r.1))) (fun e => RD D (RP D x e.2.1 R0 e.1) d L e.2.2) out) (F : Nat) (Q : Ji) (T : Th) (hE : R_sum_1 F Xp Q T = some out) (c z : Nat) : Wk X c z (RD D (RP D x Xp R0 Q) d L T) 0 [(0, .ref (x + 9))] [] := by
  have hX := hP.1
  have hC := hX.1
  have hnL := hX.2.2.1
  have hSt : ∀ {Xp : Jr} {Q : Ji}, Stb (RP D x Xp R0 Q) d := hP.st
  have hDy : ∀ {Xp : Jr} {Q : Ji} {T : Th} (H : Heap), RD D (RP D x Xp R0 Q) d L T H → Dy D T H := fun _ h => h.2.1
  unfold R_sum_1 at hE
  refine k_aload_n (pc := 0) hC dX3_sum_0 rfl 0 rfl ?_
  rcases xb_of hE with ⟨e, h1, rfl⟩ | ⟨r1, h1, hE⟩
  · exact p_callVT (pc := 1) (As := []) hP hR (ctx_R_part_1 X.2.1 D (cxA X) x Xp R0 d L Q T (pxf hP) F e h1) (fun H h => p_fault hC.K h) (p_tt hX) (cw_R_part_1_X3 hX (Nat.le_of_ble_eq_true rfl) (Nat.le_of_ble_eq_true rfl)) (p_recv 9 lp_9 cl_X3 hP) rfl rfl (Nat.le_of_ble_eq_true rfl) dX3_sum_1
  refine a_callV (pc := 1) (As := []) hX (ct_R_part_1 X.2.1 D (cxA X) x Xp R0 d L Q T (pxf hP) F r1 h1) (cw_R_part_1_X3 hX (Nat.le_of_ble_eq_true rfl) (Nat.le_of_ble_eq_true rfl)) (p_recv 9 lp_9 cl_X3 hP) rfl rfl (Nat.le_of_ble_eq_true rfl) dX3_sum_1 (fun c z => ?_)
  show Wk X c z (RD D (RP D x Xp R0 r1.2.1) d L r1.2.2) 4 [(0, .ref (x + 9))] [va_rf r1.1]
  refine k_astoreR_n (pc := 4) (lv' := [(1, va_rf r1.1), (0, .ref (x + 9))]) hC dX3_sum_4 rfl (by rw [hnL]; decide) rfl ?_
  refine k_sub [1, 0] rfl ?_
  exact w_R_sum_1_L5 hP hR F _ _ _ _ hE _ _
theorem ct_R_sum_1 (l : Launch) (D : Dd) (A : Nat → Prop) (x : Nat) (Xp : Jr) (R0 : Heap → Prop) (d : Nat → Prop) (L : Nat × Nat × Nat × Nat) (Q : Ji) (T : Th) (hp : Pf D A x R0 d) (F : Nat) (out : Option Nat × Ji × Th) (hE : R_sum_1 F Xp Q T = some (.inr out)) : Ct l yX3_sum (ws_ yX3_sum cX3_sum 3 (some (.object "SleepWork$Sum"))) (rmA 10 216 L T) vwCl arTy D A [.ref (x + 9)] (RD D (RP D x Xp R0 Q) d L T) (RD D (RP D x Xp R0 out.2.1) d L out.2.2) (some (va_rf out.1)) (L.1 - tN T) (L.2.1 - tZ T) := by
  refine Ct.ofA (lv := [(0, .ref (x + 9))]) (by decide) (Nat.le_of_ble_eq_true rfl) rfl hp.1 hp.2.1 ?_
  intro X hl hX hR hXA _
  exact w_R_sum_1 (Xp := Xp) (out := .inr out) (hp.px hX hXA) hR F Q T hE
theorem ctx_R_sum_1 (l : Launch) (D : Dd) (A : Nat → Prop) (x : Nat) (Xp : Jr) (R0 : Heap → Prop) (d : Nat → Prop) (L : Nat × Nat × Nat × Nat) (Q : Ji) (T : Th) (hp : Pf D A x R0 d) (F : Nat) (e : Ji × Jr × Th) (hE : R_sum_1 F Xp Q T = some (.inl e)) : CtT l yX3_sum (ws_ yX3_sum cX3_sum 3 (some (.object "SleepWork$Sum"))) (rmA 10 216 L T) D A [.ref (x + 9)] (RD D (RP D x Xp R0 Q) d L T) (RD D (RP D x e.2.1 R0 e.1) d L e.2.2) (x + 1) (L.1 - tN T) (L.2.1 - tZ T) := by
  refine CtT.ofA (lv := [(0, .ref (x + 9))]) (by decide) (Nat.le_of_ble_eq_true rfl) rfl hp.1 hp.2.1 ?_
  intro X hl hX hR hXA
  exact w_R_sum_1 (Xp := Xp) (out := .inl e) (hp.px hX hXA) hR F Q T hE
theorem cw_R_sum_1_X3 {X : Ctx} {cc : ByteArray} {D : Dd} {d : Nat → Prop} {L : Nat × Nat × Nat × Nat} {mL fr lo : Nat} {T : Th} (hX : Ax X cc RX3 D d L mL fr lo) (h1 : 10 + 1 ≤ fr) (h2 : 8 + (3 + 11) + 216 ≤ lo) : CallW X.2.2.2.1 X.2.2.2.2.1 X.2.2.2.2.2.2.1 RX3 RX3 253 yX3_sum cX3_sum 3 (some (.object "SleepWork$Sum")) (ws_ yX3_sum cX3_sum 3 (some (.object "SleepWork$Sum"))) (rmA 10 216 L T) (L.1 - tN T) (L.2.1 - tZ T) 0 := cwV 0 (cx_w hX.1) (lw_V q1184 q1186 qs30 q120 q1187) rfl rfl rfl (by decide +kernel) (by rw [hX.2.2.2.1, hX.2.2.2.2.1]; exact ⟨h1, h2⟩)
set_option maxHeartbeats 4000000 in
theorem w_R_unit_2_B87 {X : Ctx} {D : Dd} {x : Nat} {R0 : Heap → Prop} {d : Nat → Prop} {L : Nat × Nat × Nat × Nat} {Xp : Jr} {out : (Ji × Jr × Th) ⊕ (Option Nat × Ji × Th)} (hP : Px X cX3_unit RX3 D x R0 d L 2 11 238) (hR : RtX X (some (.object "SleepWork$Sum")) D L x (fun r => (RD D (RP D x Xp R0 r.2.1) d L r.2.2)) (fun r => (some (va_rf r.1))) (fun e => RD D (RP D x e.2.1 R0 e.1) d L e.2.2) out) (F : Nat) (Q : Ji) (T : Th) (hE : R_unit_2_B87 F Xp Q T = some out) (c z : Nat) : Wk X c z (RD D (RP D x Xp R0 Q) d L T) 87 [(0, .ref (x + 9))] [] := by
  have hX := hP.1
  have hC := hX.1
  have hnL := hX.2.2.1
  have hSt : ∀ {Xp : Jr} {Q : Ji}, Stb (RP D x Xp R0 Q) d := hP.st
  have hDy : ∀ {Xp : Jr} {Q : Ji} {T : Th} (H : Heap), RD D (RP D x Xp R0 Q) d L T H → Dy D T H := fun _ h => h.2.1
  unfold R_unit_2_B87 at hE
  refine k_aload_n (pc := 87) hC dX3_unit_87 rfl 0 rfl ?_
  refine k_bipush (pc := 88) (v := 40) hC dX3_unit_88 (by decide) ?_
  rcases xb_of hE with ⟨e, h1, rfl⟩ | ⟨r12, h1, hE⟩
  · exact p_callVT (pc := 90) (As := [.int 40]) hP hR (ctx_R_isSign X.2.1 D (cxA X) x Xp R0 d L Q T (pxf hP) 40 e h1) (fun H h => p_fault hC.K h) (p_tt hX) (cw_R_isSign_X3 hX (Nat.le_of_ble_eq_true rfl) (Nat.le_of_ble_eq_true rfl)) (p_recv 9 lp_9 cl_X3 hP) rfl rfl (Nat.le_of_ble_eq_true rfl) dX3_unit_90
  refine a_callV (pc := 90) (As := [.int 40]) hX (ct_R_isSign X.2.1 D (cxA X) x Xp R0 d L Q T (pxf hP) 40 r12 h1) (cw_R_isSign_X3 hX (Nat.le_of_ble_eq_true rfl) (Nat.le_of_ble_eq_true rfl)) (p_recv 9 lp_9 cl_X3 hP) rfl rfl (Nat.le_of_ble_eq_true rfl) dX3_unit_90 (fun c z => ?_)
  show Wk X c z (RD D (RP D x Xp R0 r12.2.1) d L r12.2.2) 93 [(0, .ref (x + 9))] [.int r12.1]
  refine k_if_ne (pc := 93) (tgt := 102) hC dX3_unit_93 (by decide) hE (fun hE => ?_) (fun hE => ?_)
  · refine k_aload_n (pc := 96) hC dX3_unit_96 rfl 0 rfl ?_
    refine k_iconst (pc := 97) (v := 1) hC dX3_unit_97 (by decide) ?_
    obtain ⟨r13, h1, hE⟩ := ob_ hE
    refine a_callV (pc := 98) (As := [.int 1]) hX (ct_R_wrong X.2.1 D (cxA X) x Xp R0 d L r12.2.1 r12.2.2 (pxf hP) 1 r13 h1) (cw_R_wrong_X3 hX (Nat.le_of_ble_eq_true rfl) (Nat.le_of_ble_eq_true rfl)) (p_recv 9 lp_9 cl_X3 hP) rfl rfl (Nat.le_of_ble_eq_true rfl) dX3_unit_98 (fun c z => ?_)
    show Wk X c z (RD D (RP D x Xp R0 r13) d L r12.2.2) 101 [(0, .ref (x + 9))] [.ref (x + 1)]
    cases hE
    exact p_athrow (pc := 101) hP hR dX3_unit_101 (fun _ h => h)
  · refine k_aload_n (pc := 102) hC dX3_unit_102 rfl 0 rfl ?_
    refine gP_X3_99 (pc := 103) hP dX3_unit_103 ?_
    refine k_bipush (pc := 106) (v := 6) hC dX3_unit_106 (by decide) ?_
    refine k_icmp_ne (pc := 108) (tgt := 117) hC dX3_unit_108 (by decide) hE (fun hE => ?_) (fun hE => ?_)
    · refine k_aload_n (pc := 111) hC dX3_unit_111 rfl 0 rfl ?_
      refine k_iconst (pc := 112) (v := 2) hC dX3_unit_112 (by decide) ?_
      obtain ⟨r14, h1, hE⟩ := ob_ hE
      refine a_callV (pc := 113) (As := [.int 2]) hX (ct_R_wrong X.2.1 D (cxA X) x Xp R0 d L r12.2.1 r12.2.2 (pxf hP) 2 r14 h1) (cw_R_wrong_X3 hX (Nat.le_of_ble_eq_true rfl) (Nat.le_of_ble_eq_true rfl)) (p_recv 9 lp_9 cl_X3 hP) rfl rfl (Nat.le_of_ble_eq_true rfl) dX3_unit_113 (fun c z => ?_)
      show Wk X c z (RD D (RP D x Xp R0 r14) d L r12.2.2) 116 [(0, .ref (x + 9))] [.ref (x + 1)]
      cases hE
      exact p_athrow (pc := 116) hP hR dX3_unit_116 (fun _ h => h)
    · refine k_aload_n (pc := 117) hC dX3_unit_117 rfl 0 rfl ?_
      refine k_dup (pc := 118) hC dX3_unit_118 rfl ?_
      refine gP_X3_99 (pc := 119) hP dX3_unit_119 ?_
      refine k_iconst (pc := 122) (v := 1) hC dX3_unit_122 (by decide) ?_
      refine k_iadd (pc := 123) hC dX3_unit_123 ?_
      refine pP_X3_99 (pc := 124) hP dX3_unit_124 hE (fun Q15 hE => ?_)
      refine k_aload_n (pc := 127) hC dX3_unit_127 rfl 0 rfl ?_
      rcases xb_of hE with ⟨e, h1, rfl⟩ | ⟨r16, h1, hE⟩
      · exact p_callVT (pc := 128) (As := []) hP hR (ctx_R_pass X.2.1 D (cxA X) x Xp R0 d L Q15 r12.2.2 (pxf hP)  e h1) (fun H h => p_fault hC.K h) (p_tt hX) (cw_R_pass_X3 hX (Nat.le_of_ble_eq_true rfl) (Nat.le_of_ble_eq_true rfl)) (p_recv 9 lp_9 cl_X3 hP) rfl rfl (Nat.le_of_ble_eq_true rfl) dX3_unit_128
      refine a_callV (pc := 128) (As := []) hX (ct_R_pass X.2.1 D (cxA X) x Xp R0 d L Q15 r12.2.2 (pxf hP)  r16 h1) (cw_R_pass_X3 hX (Nat.le_of_ble_eq_true rfl) (Nat.le_of_ble_eq_true rfl)) (p_recv 9 lp_9 cl_X3 hP) rfl rfl (Nat.le_of_ble_eq_true rfl) dX3_unit_128 (fun c z => ?_)
      show Wk X c z (RD D (RP D x Xp R0 r16.1) d L r16.2) 131 [(0, .ref (x + 9))] []
      refine k_aload_n (pc := 131) hC dX3_unit_131 rfl 0 rfl ?_
      rcases xb_of hE with ⟨e, h1, rfl⟩ | ⟨r17, h1, hE⟩
      · exact p_callVT (pc := 132) (As := []) hP hR (ctx_R_sum_1 X.2.1 D (cxA X) x Xp R0 d L r16.1 r16.2 (pxf hP) F e h1) (fun H h => p_fault hC.K h) (p_tt hX) (cw_R_sum_1_X3 hX (Nat.le_of_ble_eq_true rfl) (Nat.le_of_ble_eq_true rfl)) (p_recv 9 lp_9 cl_X3 hP) rfl rfl (Nat.le_of_ble_eq_true rfl) dX3_unit_132
      refine a_callV (pc := 132) (As := []) hX (ct_R_sum_1 X.2.1 D (cxA X) x Xp R0 d L r16.1 r16.2 (pxf hP) F r17 h1) (cw_R_sum_1_X3 hX (Nat.le_of_ble_eq_true rfl) (Nat.le_of_ble_eq_true rfl)) (p_recv 9 lp_9 cl_X3 hP) rfl rfl (Nat.le_of_ble_eq_true rfl) dX3_unit_132 (fun c z => ?_)
      show Wk X c z (RD D (RP D x Xp R0 r17.2.1) d L r17.2.2) 135 [(0, .ref (x + 9))] [va_rf r17.1]
      refine k_astoreR_n (pc := 135) (lv' := [(1, va_rf r17.1), (0, .ref (x + 9))]) hC dX3_unit_135 rfl (by rw [hnL]; decide) rfl ?_
      refine k_aload_n (pc := 136) hC dX3_unit_136 rfl 1 rfl ?_
      refine k_bipush (pc := 137) (v := 41) hC dX3_unit_137 (by decide) ?_
      rcases xb_of hE with ⟨e, h1, rfl⟩ | ⟨r18, h1, hE⟩
      · exact p_callVT (pc := 139) (As := [.int 41]) hP hR (ctx_R_sign X.2.1 D (cxA X) x Xp R0 d L r17.2.1 r17.2.2 (pxf hP) 41 e h1) (fun H h => p_fault hC.K h) (p_tt hX) (cw_R_sign_X3 hX (Nat.le_of_ble_eq_true rfl) (Nat.le_of_ble_eq_true rfl)) (p_recv 9 lp_9 cl_X3 hP) rfl rfl (Nat.le_of_ble_eq_true rfl) dX3_unit_139
      refine a_callV (pc := 139) (As := [.int 41]) hX (ct_R_sign X.2.1 D (cxA X) x Xp R0 d L r17.2.1 r17.2.2 (pxf hP) 41 r18 h1) (cw_R_sign_X3 hX (Nat.le_of_ble_eq_true rfl) (Nat.le_of_ble_eq_true rfl)) (p_recv 9 lp_9 cl_X3 hP) rfl rfl (Nat.le_of_ble_eq_true rfl) dX3_unit_139 (fun c z => ?_)
      show Wk X c z (RD D (RP D x Xp R0 r18.1) d L r18.2) 142 [(1, va_rf r17.1), (0, .ref (x + 9))] []
      refine k_aload_n (pc := 142) hC dX3_unit_142 rfl 1 rfl ?_
      refine k_dup (pc := 143) hC dX3_unit_143 rfl ?_
      refine gP_X3_99 (pc := 144) hP dX3_unit_144 ?_
      refine k_iconst (pc := 147) (v := 1) hC dX3_unit_147 (by decide) ?_
      refine k_isub (pc := 148) hC dX3_unit_148 ?_
      refine pP_X3_99 (pc := 149) hP dX3_unit_149 hE (fun Q19 hE => ?_)
      refine k_aloadR_n (pc := 152) hC dX3_unit_152 rfl 0 rfl ?_
      cases hE
      exact a_aret (pc := 153) (v := va_rf _) (rt := (.object "SleepWork$Sum")) (by first | exact Or.inl ⟨_, rfl⟩ | exact Or.inr ⟨_, rfl⟩) (va_rfv _) hX hR dX3_unit_153 (by rfl) (fun _ h => h)
set_option maxHeartbeats 4000000 in
theorem w_R_unit_2 {X : Ctx} {D : Dd} {x : Nat} {R0 : Heap → Prop} {d : Nat → Prop} {L : Nat × Nat × Nat × Nat} {Xp : Jr} {out : (Ji × Jr × Th) ⊕ (Option Nat × Ji × Th)} (hP : Px X cX3_unit RX3 D x R0 d L 2 11 238) (hR : RtX X (some (.object "SleepWork$Sum")) D L x (fun r => (RD D (RP D x Xp R0 r.2.1) d L r.2.2)) (fun r => (some (va_rf r.1))) (fun e => RD D (RP D x e.2.1 R0 e.1) d L e.2.2) out) (F : Nat) (Q : Ji) (T : Th) (hE : R_unit_2 F Xp Q T = some out) (c z : Nat) : Wk X c z (RD D (RP D x Xp R0 Q) d L T) 0 [(0, .ref (x + 9))] [] := by
  have hX := hP.1
  have hC := hX.1
  have hnL := hX.2.2.1
  have hSt : ∀ {Xp : Jr} {Q : Ji}, Stb (RP D x Xp R0 Q) d := hP.st
  have hDy : ∀ {Xp : Jr} {Q : Ji} {T : Th} (H : Heap), RD D (RP D x Xp R0 Q) d L T H → Dy D T H := fun _ h => h.2.1
  unfold R_unit_2 at hE
  refine k_aload_n (pc := 0) hC dX3_unit_0 rfl 0 rfl ?_
  rcases xb_of hE with ⟨e, h1, rfl⟩ | ⟨r1, h1, hE⟩
  · exact p_callVT (pc := 1) (As := []) hP hR (ctx_R_sort X.2.1 D (cxA X) x Xp R0 d L Q T (pxf hP)  e h1) (fun H h => p_fault hC.K h) (p_tt hX) (cw_R_sort_X3 hX (Nat.le_of_ble_eq_true rfl) (Nat.le_of_ble_eq_true rfl)) (p_recv 9 lp_9 cl_X3 hP) rfl rfl (Nat.le_of_ble_eq_true rfl) dX3_unit_1
  refine a_callV (pc := 1) (As := []) hX (ct_R_sort X.2.1 D (cxA X) x Xp R0 d L Q T (pxf hP)  r1 h1) (cw_R_sort_X3 hX (Nat.le_of_ble_eq_true rfl) (Nat.le_of_ble_eq_true rfl)) (p_recv 9 lp_9 cl_X3 hP) rfl rfl (Nat.le_of_ble_eq_true rfl) dX3_unit_1 (fun c z => ?_)
  show Wk X c z (RD D (RP D x Xp R0 r1.2.1) d L r1.2.2) 4 [(0, .ref (x + 9))] [.int r1.1]
  refine k_iconst (pc := 4) (v := 1) hC dX3_unit_4 (by decide) ?_
  refine k_icmp_ne (pc := 5) (tgt := 33) hC dX3_unit_5 (by decide) hE (fun hE => ?_) (fun hE => ?_)
  · refine k_aload_n (pc := 8) hC dX3_unit_8 rfl 0 rfl ?_
    rcases xb_of hE with ⟨e, h1, rfl⟩ | ⟨r2, h1, hE⟩
    · exact p_callVT (pc := 9) (As := []) hP hR (ctx_R_pass X.2.1 D (cxA X) x Xp R0 d L r1.2.1 r1.2.2 (pxf hP)  e h1) (fun H h => p_fault hC.K h) (p_tt hX) (cw_R_pass_X3 hX (Nat.le_of_ble_eq_true rfl) (Nat.le_of_ble_eq_true rfl)) (p_recv 9 lp_9 cl_X3 hP) rfl rfl (Nat.le_of_ble_eq_true rfl) dX3_unit_9
    refine a_callV (pc := 9) (As := []) hX (ct_R_pass X.2.1 D (cxA X) x Xp R0 d L r1.2.1 r1.2.2 (pxf hP)  r2 h1) (cw_R_pass_X3 hX (Nat.le_of_ble_eq_true rfl) (Nat.le_of_ble_eq_true rfl)) (p_recv 9 lp_9 cl_X3 hP) rfl rfl (Nat.le_of_ble_eq_true rfl) dX3_unit_9 (fun c z => ?_)
    show Wk X c z (RD D (RP D x Xp R0 r2.1) d L r2.2) 12 [(0, .ref (x + 9))] []
    refine a_new (pc := 12) hX hSt cl_X18 in_X18 tyX18 tyX18_ok dv_X18 q1196 q1197 q149 dX3_unit_12 hE (fun T3 eT3 hE c z => ?_)
    refine k_dup (pc := 15) hC dX3_unit_15 rfl ?_
    refine k_aload_n (pc := 16) hC dX3_unit_16 rfl 0 rfl ?_
    refine gP_X3_9 (pc := 17) hP dX3_unit_17 ?_
    refine k_aload_n (pc := 20) hC dX3_unit_20 rfl 0 rfl ?_
    refine gP_X3_31 (pc := 21) hP dX3_unit_21 ?_
    refine k_iconst (pc := 24) (v := 1) hC dX3_unit_24 (by decide) ?_
    refine k_isub (pc := 25) hC dX3_unit_25 ?_
    obtain ⟨r4, h1, hE⟩ := ob_ hE
    refine a_callV (pc := 26) (As := [.int ((r2.1 9 3) - 1)]) hX (ct_T_number X.2.1 D (cxA X) x Xp R0 d L r2.1 T3 (pxf hP) F ((r2.1 9 3) - 1) r4 h1) (cw_T_number_X3 hX (Nat.le_of_ble_eq_true rfl) (Nat.le_of_ble_eq_true rfl)) (p_recv 2 lp_2 cl_X2 hP) rfl rfl (Nat.le_of_ble_eq_true rfl) dX3_unit_26 (fun c z => ?_)
    show Wk X c z (RD D (RP D x Xp R0 r2.1) d L T3) 29 [(0, .ref (x + 9))] [.int r4, .ref (tN r2.2), .ref (tN r2.2)]
    obtain ⟨r5, h1, hE⟩ := ob_ hE
    refine a_callI (pc := 29) (As := [.int r4]) hX (ct_A_Number X.2.1 D (cxA X) (RP D x Xp R0 r2.1) d L T3 hSt hX.2.1 hX.2.2.2.2.2.2.2.2.2 (tN r2.2) r4 r5 h1) (cw_A_Number_X3 hX (Nat.le_of_ble_eq_true rfl) (Nat.le_of_ble_eq_true rfl)) rfl rfl (Nat.le_of_ble_eq_true rfl) dX3_unit_29 (fun c z => ?_)
    show Wk X c z (RD D (RP D x Xp R0 r2.1) d L r5) 32 [(0, .ref (x + 9))] [.ref (tN r2.2)]
    cases hE
    exact a_aret (pc := 32) (v := va_rf _) (rt := (.object "SleepWork$Sum")) (by first | exact Or.inl ⟨_, rfl⟩ | exact Or.inr ⟨_, rfl⟩) (va_rfv _) hX hR dX3_unit_32 (by rfl) (fun _ h => h)
  · refine k_aload_n (pc := 33) hC dX3_unit_33 rfl 0 rfl ?_
    rcases xb_of hE with ⟨e, h1, rfl⟩ | ⟨r6, h1, hE⟩
    · exact p_callVT (pc := 34) (As := []) hP hR (ctx_R_sort X.2.1 D (cxA X) x Xp R0 d L r1.2.1 r1.2.2 (pxf hP)  e h1) (fun H h => p_fault hC.K h) (p_tt hX) (cw_R_sort_X3 hX (Nat.le_of_ble_eq_true rfl) (Nat.le_of_ble_eq_true rfl)) (p_recv 9 lp_9 cl_X3 hP) rfl rfl (Nat.le_of_ble_eq_true rfl) dX3_unit_34
    refine a_callV (pc := 34) (As := []) hX (ct_R_sort X.2.1 D (cxA X) x Xp R0 d L r1.2.1 r1.2.2 (pxf hP)  r6 h1) (cw_R_sort_X3 hX (Nat.le_of_ble_eq_true rfl) (Nat.le_of_ble_eq_true rfl)) (p_recv 9 lp_9 cl_X3 hP) rfl rfl (Nat.le_of_ble_eq_true rfl) dX3_unit_34 (fun c z => ?_)
    show Wk X c z (RD D (RP D x Xp R0 r6.2.1) d L r6.2.2) 37 [(0, .ref (x + 9))] [.int r6.1]
    refine k_iconst (pc := 37) (v := 3) hC dX3_unit_37 (by decide) ?_
    refine k_icmp_ne (pc := 38) (tgt := 87) hC dX3_unit_38 (by decide) hE (fun hE => ?_) (fun hE => ?_)
    · refine k_aload_n (pc := 41) hC dX3_unit_41 rfl 0 rfl ?_
      refine gP_X3_9 (pc := 42) hP dX3_unit_42 ?_
      refine gP_X3_52 (pc := 45) hP dX3_unit_45 ?_
      refine k_aload_n (pc := 48) hC dX3_unit_48 rfl 0 rfl ?_
      refine gP_X3_31 (pc := 49) hP dX3_unit_49 ?_
      refine p_sald (pc := 52) 8 lp_8 hP dX3_unit_52 hE (fun x7 hE => ?_)
      refine k_bipush (pc := 53) (v := 15) hC dX3_unit_53 (by decide) ?_
      refine k_icmp_lt (pc := 55) (tgt := 87) hC dX3_unit_55 (by decide) hE (fun hE => ?_) (fun hE => ?_)
      · exact w_R_unit_2_B87 hP hR F _ _ hE _ _
      · refine k_aload_n (pc := 58) hC dX3_unit_58 rfl 0 rfl ?_
        rcases xb_of hE with ⟨e, h1, rfl⟩ | ⟨r8, h1, hE⟩
        · exact p_callVT (pc := 59) (As := []) hP hR (ctx_R_pass X.2.1 D (cxA X) x Xp R0 d L r6.2.1 r6.2.2 (pxf hP)  e h1) (fun H h => p_fault hC.K h) (p_tt hX) (cw_R_pass_X3 hX (Nat.le_of_ble_eq_true rfl) (Nat.le_of_ble_eq_true rfl)) (p_recv 9 lp_9 cl_X3 hP) rfl rfl (Nat.le_of_ble_eq_true rfl) dX3_unit_59
        refine a_callV (pc := 59) (As := []) hX (ct_R_pass X.2.1 D (cxA X) x Xp R0 d L r6.2.1 r6.2.2 (pxf hP)  r8 h1) (cw_R_pass_X3 hX (Nat.le_of_ble_eq_true rfl) (Nat.le_of_ble_eq_true rfl)) (p_recv 9 lp_9 cl_X3 hP) rfl rfl (Nat.le_of_ble_eq_true rfl) dX3_unit_59 (fun c z => ?_)
        show Wk X c z (RD D (RP D x Xp R0 r8.1) d L r8.2) 62 [(0, .ref (x + 9))] []
        refine a_new (pc := 62) hX hSt cl_X19 in_X19 tyX19 tyX19_ok dv_X19 q1209 q1210 q150 dX3_unit_62 hE (fun T9 eT9 hE c z => ?_)
        refine k_dup (pc := 65) hC dX3_unit_65 rfl ?_
        refine k_aload_n (pc := 66) hC dX3_unit_66 rfl 0 rfl ?_
        refine gP_X3_9 (pc := 67) hP dX3_unit_67 ?_
        refine gP_X3_52 (pc := 70) hP dX3_unit_70 ?_
        refine k_aload_n (pc := 73) hC dX3_unit_73 rfl 0 rfl ?_
        refine gP_X3_31 (pc := 74) hP dX3_unit_74 ?_
        refine k_iconst (pc := 77) (v := 1) hC dX3_unit_77 (by decide) ?_
        refine k_isub (pc := 78) hC dX3_unit_78 ?_
        refine p_sald (pc := 79) 8 lp_8 hP dX3_unit_79 hE (fun x10 hE => ?_)
        refine k_bipush (pc := 80) (v := 15) hC dX3_unit_80 (by decide) ?_
        refine k_isub (pc := 82) hC dX3_unit_82 ?_
        obtain ⟨r11, h1, hE⟩ := ob_ hE
        refine a_callI (pc := 83) (As := [.int (x10 - 15)]) hX (ct_A_Var X.2.1 D (cxA X) (RP D x Xp R0 r8.1) d L T9 hSt hX.2.1 hX.2.2.2.2.2.2.2.2.2 (tN r8.2) (x10 - 15) r11 h1) (cw_A_Var_X3 hX (Nat.le_of_ble_eq_true rfl) (Nat.le_of_ble_eq_true rfl)) rfl rfl (Nat.le_of_ble_eq_true rfl) dX3_unit_83 (fun c z => ?_)
        show Wk X c z (RD D (RP D x Xp R0 r8.1) d L r11) 86 [(0, .ref (x + 9))] [.ref (tN r8.2)]
        cases hE
        exact a_aret (pc := 86) (v := va_rf _) (rt := (.object "SleepWork$Sum")) (by first | exact Or.inl ⟨_, rfl⟩ | exact Or.inr ⟨_, rfl⟩) (va_rfv _) hX hR dX3_unit_86 (by rfl) (fun _ h => h)
    · exact w_R_unit_2_B87 hP hR F _ _ hE _ _
theorem ct_R_unit_2 (l : Launch) (D : Dd) (A : Nat → Prop) (x : Nat) (Xp : Jr) (R0 : Heap → Prop) (d : Nat → Prop) (L : Nat × Nat × Nat × Nat) (Q : Ji) (T : Th) (hp : Pf D A x R0 d) (F : Nat) (out : Option Nat × Ji × Th) (hE : R_unit_2 F Xp Q T = some (.inr out)) : Ct l yX3_unit (ws_ yX3_unit cX3_unit 2 (some (.object "SleepWork$Sum"))) (rmA 11 238 L T) vwCl arTy D A [.ref (x + 9)] (RD D (RP D x Xp R0 Q) d L T) (RD D (RP D x Xp R0 out.2.1) d L out.2.2) (some (va_rf out.1)) (L.1 - tN T) (L.2.1 - tZ T) := by
  refine Ct.ofA (lv := [(0, .ref (x + 9))]) (by decide) (Nat.le_of_ble_eq_true rfl) rfl hp.1 hp.2.1 ?_
  intro X hl hX hR hXA _
  exact w_R_unit_2 (Xp := Xp) (out := .inr out) (hp.px hX hXA) hR F Q T hE
theorem ctx_R_unit_2 (l : Launch) (D : Dd) (A : Nat → Prop) (x : Nat) (Xp : Jr) (R0 : Heap → Prop) (d : Nat → Prop) (L : Nat × Nat × Nat × Nat) (Q : Ji) (T : Th) (hp : Pf D A x R0 d) (F : Nat) (e : Ji × Jr × Th) (hE : R_unit_2 F Xp Q T = some (.inl e)) : CtT l yX3_unit (ws_ yX3_unit cX3_unit 2 (some (.object "SleepWork$Sum"))) (rmA 11 238 L T) D A [.ref (x + 9)] (RD D (RP D x Xp R0 Q) d L T) (RD D (RP D x e.2.1 R0 e.1) d L e.2.2) (x + 1) (L.1 - tN T) (L.2.1 - tZ T) := by
  refine CtT.ofA (lv := [(0, .ref (x + 9))]) (by decide) (Nat.le_of_ble_eq_true rfl) rfl hp.1 hp.2.1 ?_
  intro X hl hX hR hXA
  exact w_R_unit_2 (Xp := Xp) (out := .inl e) (hp.px hX hXA) hR F Q T hE
theorem cw_R_unit_2_X3 {X : Ctx} {cc : ByteArray} {D : Dd} {d : Nat → Prop} {L : Nat × Nat × Nat × Nat} {mL fr lo : Nat} {T : Th} (hX : Ax X cc RX3 D d L mL fr lo) (h1 : 11 + 1 ≤ fr) (h2 : 8 + (2 + 11) + 238 ≤ lo) : CallW X.2.2.2.1 X.2.2.2.2.1 X.2.2.2.2.2.2.1 RX3 RX3 277 yX3_unit cX3_unit 2 (some (.object "SleepWork$Sum")) (ws_ yX3_unit cX3_unit 2 (some (.object "SleepWork$Sum"))) (rmA 11 238 L T) (L.1 - tN T) (L.2.1 - tZ T) 0 := cwV 0 (cx_w hX.1) (lw_V q1192 q1194 qs32 q120 q1195) rfl rfl rfl (by decide +kernel) (by rw [hX.2.2.2.1, hX.2.2.2.2.1]; exact ⟨h1, h2⟩)
set_option maxHeartbeats 4000000 in
theorem w_R_part_2_B23 {X : Ctx} {D : Dd} {x : Nat} {R0 : Heap → Prop} {d : Nat → Prop} {L : Nat × Nat × Nat × Nat} {Xp : Jr} {out : (Ji × Jr × Th) ⊕ (Option Nat × Ji × Th)} (hP : Px X cX3_part RX3 D x R0 d L 3 12 259) (hR : RtX X (some (.object "SleepWork$Sum")) D L x (fun r => (RD D (RP D x Xp R0 r.2.1) d L r.2.2)) (fun r => (some (va_rf r.1))) (fun e => RD D (RP D x e.2.1 R0 e.1) d L e.2.2) out) (F : Nat) (k5 : Option Nat → Ji → Th → Option ((Ji × Jr × Th) ⊕ (Option Nat × Ji × Th))) (hk5 : ∀ (a1 : Option Nat) (Q : Ji) (T : Th) , k5 a1 Q T = some out → ∀ c z, Wk X c z (RD D (RP D x Xp R0 Q) d L T) 5 [(0, .ref (x + 9)), (1, va_rf a1)] []) (a1 : Option Nat) (Q : Ji) (T : Th) (hE : R_part_2_B23 F k5 Xp a1 Q T = some out) (c z : Nat) : Wk X c z (RD D (RP D x Xp R0 Q) d L T) 23 [(0, .ref (x + 9)), (1, va_rf a1)] [] := by
  have hX := hP.1
  have hC := hX.1
  have hnL := hX.2.2.1
  have hSt : ∀ {Xp : Jr} {Q : Ji}, Stb (RP D x Xp R0 Q) d := hP.st
  have hDy : ∀ {Xp : Jr} {Q : Ji} {T : Th} (H : Heap), RD D (RP D x Xp R0 Q) d L T H → Dy D T H := fun _ h => h.2.1
  unfold R_part_2_B23 at hE
  refine k_aload_n (pc := 23) hC dX3_part_23 rfl 0 rfl ?_
  refine gP_X3_9 (pc := 24) hP dX3_part_24 ?_
  refine gP_X3_52 (pc := 27) hP dX3_part_27 ?_
  refine k_aload_n (pc := 30) hC dX3_part_30 rfl 0 rfl ?_
  refine gP_X3_31 (pc := 31) hP dX3_part_31 ?_
  refine p_sald (pc := 34) 8 lp_8 hP dX3_part_34 hE (fun x4 hE => ?_)
  refine k_istore_n (pc := 35) (lv' := [(2, .int x4), (0, .ref (x + 9)), (1, va_rf a1)]) hC dX3_part_35 rfl (by rw [hnL]; decide) (by cases a1 <;> rfl) ?_
  refine k_aload_n (pc := 36) hC dX3_part_36 rfl 1 rfl ?_
  rcases xb_of hE with ⟨e, h1, rfl⟩ | ⟨r5, h1, hE⟩
  · exact p_callVT (pc := 37) (As := []) hP hR (ctx_R_pass X.2.1 D (cxA X) x Xp R0 d L Q T (pxf hP)  e h1) (fun H h => p_fault hC.K h) (p_tt hX) (cw_R_pass_X3 hX (Nat.le_of_ble_eq_true rfl) (Nat.le_of_ble_eq_true rfl)) (p_recv 9 lp_9 cl_X3 hP) rfl rfl (Nat.le_of_ble_eq_true rfl) dX3_part_37
  refine a_callV (pc := 37) (As := []) hX (ct_R_pass X.2.1 D (cxA X) x Xp R0 d L Q T (pxf hP)  r5 h1) (cw_R_pass_X3 hX (Nat.le_of_ble_eq_true rfl) (Nat.le_of_ble_eq_true rfl)) (p_recv 9 lp_9 cl_X3 hP) rfl rfl (Nat.le_of_ble_eq_true rfl) dX3_part_37 (fun c z => ?_)
  show Wk X c z (RD D (RP D x Xp R0 r5.1) d L r5.2) 40 [(2, .int x4), (0, .ref (x + 9)), (1, va_rf a1)] []
  refine a_new (pc := 40) hX hSt cl_X20 in_X20 tyX20 tyX20_ok dv_X20 q1219 q1220 q151 dX3_part_40 hE (fun T6 eT6 hE c z => ?_)
  refine k_dup (pc := 43) hC dX3_part_43 rfl ?_
  refine k_iload_n (pc := 44) hC dX3_part_44 rfl 0 rfl ?_
  refine k_aloadR_n (pc := 45) hC dX3_part_45 rfl 2 rfl ?_
  refine k_aload_n (pc := 46) hC dX3_part_46 rfl 1 rfl ?_
  rcases xb_of hE with ⟨e, h1, rfl⟩ | ⟨r7, h1, hE⟩
  · exact p_callVT (pc := 47) (As := []) hP hR (ctx_R_unit_2 X.2.1 D (cxA X) x Xp R0 d L r5.1 T6 (pxf hP) F e h1) (fun H h => p_fault hC.K h) (p_tt hX) (cw_R_unit_2_X3 hX (Nat.le_of_ble_eq_true rfl) (Nat.le_of_ble_eq_true rfl)) (p_recv 9 lp_9 cl_X3 hP) rfl rfl (by cases a1 <;> exact Nat.le_of_ble_eq_true rfl) dX3_part_47
  refine a_callV (pc := 47) (As := []) hX (ct_R_unit_2 X.2.1 D (cxA X) x Xp R0 d L r5.1 T6 (pxf hP) F r7 h1) (cw_R_unit_2_X3 hX (Nat.le_of_ble_eq_true rfl) (Nat.le_of_ble_eq_true rfl)) (p_recv 9 lp_9 cl_X3 hP) rfl rfl (by cases a1 <;> exact Nat.le_of_ble_eq_true rfl) dX3_part_47 (fun c z => ?_)
  show Wk X c z (RD D (RP D x Xp R0 r7.2.1) d L r7.2.2) 50 [(2, .int x4), (0, .ref (x + 9)), (1, va_rf a1)] [va_rf r7.1, va_rf a1, .int x4, .ref (tN r5.2), .ref (tN r5.2)]
  refine k_nn (G := fun z => Wk X _ _ (RD D (RP D x Xp R0 r7.2.1) d L r7.2.2) 50 [(2, .int x4), (0, .ref (x + 9)), (1, va_rf a1)] [z, va_rf a1, .int x4, .ref (tN r5.2), .ref (tN r5.2)]) hE (fun b8 hE => ?_)
  refine k_nn (G := fun z => Wk X _ _ (RD D (RP D x Xp R0 r7.2.1) d L r7.2.2) 50 [(2, .int x4), (0, .ref (x + 9)), (1, z)] [.ref b8, z, .int x4, .ref (tN r5.2), .ref (tN r5.2)]) hE (fun b9 hE => ?_)
  obtain ⟨r10, h1, hE⟩ := ob_ hE
  refine a_callI (pc := 50) (As := [.int x4, .ref b9, .ref b8]) hX (ct_A_Joined X.2.1 D (cxA X) (RP D x Xp R0 r7.2.1) d L r7.2.2 hSt hX.2.1 hX.2.2.2.2.2.2.2.2.2 (tN r5.2) x4 b9 b8 r10 h1) (cw_A_Joined_X3 hX (Nat.le_of_ble_eq_true rfl) (Nat.le_of_ble_eq_true rfl)) rfl rfl (Nat.le_of_ble_eq_true rfl) dX3_part_50 (fun c z => ?_)
  show Wk X c z (RD D (RP D x Xp R0 r7.2.1) d L r10) 53 [(2, .int x4), (0, .ref (x + 9)), (1, .ref b9)] [.ref (tN r5.2)]
  refine k_astore_n (pc := 53) (lv' := [(1, .ref (tN r5.2)), (2, .int x4), (0, .ref (x + 9))]) hC dX3_part_53 rfl (by rw [hnL]; decide) rfl ?_
  refine k_goto (pc := 54) (tgt := 5) hC dX3_part_54 (by decide) ?_
  refine k_sub [2, 0] rfl ?_
  exact hk5 _ _ _ hE _ _
set_option maxHeartbeats 4000000 in
theorem w_R_part_2_B5 {X : Ctx} {D : Dd} {x : Nat} {R0 : Heap → Prop} {d : Nat → Prop} {L : Nat × Nat × Nat × Nat} {Xp : Jr} {out : (Ji × Jr × Th) ⊕ (Option Nat × Ji × Th)} (hP : Px X cX3_part RX3 D x R0 d L 3 12 259) (hR : RtX X (some (.object "SleepWork$Sum")) D L x (fun r => (RD D (RP D x Xp R0 r.2.1) d L r.2.2)) (fun r => (some (va_rf r.1))) (fun e => RD D (RP D x e.2.1 R0 e.1) d L e.2.2) out) (F : Nat) (k5 : Option Nat → Ji → Th → Option ((Ji × Jr × Th) ⊕ (Option Nat × Ji × Th))) (hk5 : ∀ (a1 : Option Nat) (Q : Ji) (T : Th) , k5 a1 Q T = some out → ∀ c z, Wk X c z (RD D (RP D x Xp R0 Q) d L T) 5 [(0, .ref (x + 9)), (1, va_rf a1)] []) (a1 : Option Nat) (Q : Ji) (T : Th) (hE : R_part_2_B5 F k5 Xp a1 Q T = some out) (c z : Nat) : Wk X c z (RD D (RP D x Xp R0 Q) d L T) 5 [(0, .ref (x + 9)), (1, va_rf a1)] [] := by
  have hX := hP.1
  have hC := hX.1
  have hnL := hX.2.2.1
  have hSt : ∀ {Xp : Jr} {Q : Ji}, Stb (RP D x Xp R0 Q) d := hP.st
  have hDy : ∀ {Xp : Jr} {Q : Ji} {T : Th} (H : Heap), RD D (RP D x Xp R0 Q) d L T H → Dy D T H := fun _ h => h.2.1
  unfold R_part_2_B5 at hE
  refine k_aload_n (pc := 5) hC dX3_part_5 rfl 0 rfl ?_
  refine k_bipush (pc := 6) (v := 42) hC dX3_part_6 (by decide) ?_
  rcases xb_of hE with ⟨e, h1, rfl⟩ | ⟨r2, h1, hE⟩
  · exact p_callVT (pc := 8) (As := [.int 42]) hP hR (ctx_R_isSign X.2.1 D (cxA X) x Xp R0 d L Q T (pxf hP) 42 e h1) (fun H h => p_fault hC.K h) (p_tt hX) (cw_R_isSign_X3 hX (Nat.le_of_ble_eq_true rfl) (Nat.le_of_ble_eq_true rfl)) (p_recv 9 lp_9 cl_X3 hP) rfl rfl (Nat.le_of_ble_eq_true rfl) dX3_part_8
  refine a_callV (pc := 8) (As := [.int 42]) hX (ct_R_isSign X.2.1 D (cxA X) x Xp R0 d L Q T (pxf hP) 42 r2 h1) (cw_R_isSign_X3 hX (Nat.le_of_ble_eq_true rfl) (Nat.le_of_ble_eq_true rfl)) (p_recv 9 lp_9 cl_X3 hP) rfl rfl (Nat.le_of_ble_eq_true rfl) dX3_part_8 (fun c z => ?_)
  show Wk X c z (RD D (RP D x Xp R0 r2.2.1) d L r2.2.2) 11 [(0, .ref (x + 9)), (1, va_rf a1)] [.int r2.1]
  refine k_if_ne (pc := 11) (tgt := 23) hC dX3_part_11 (by decide) hE (fun hE => ?_) (fun hE => ?_)
  · refine k_aload_n (pc := 14) hC dX3_part_14 rfl 0 rfl ?_
    refine k_bipush (pc := 15) (v := 47) hC dX3_part_15 (by decide) ?_
    rcases xb_of hE with ⟨e, h1, rfl⟩ | ⟨r3, h1, hE⟩
    · exact p_callVT (pc := 17) (As := [.int 47]) hP hR (ctx_R_isSign X.2.1 D (cxA X) x Xp R0 d L r2.2.1 r2.2.2 (pxf hP) 47 e h1) (fun H h => p_fault hC.K h) (p_tt hX) (cw_R_isSign_X3 hX (Nat.le_of_ble_eq_true rfl) (Nat.le_of_ble_eq_true rfl)) (p_recv 9 lp_9 cl_X3 hP) rfl rfl (Nat.le_of_ble_eq_true rfl) dX3_part_17
    refine a_callV (pc := 17) (As := [.int 47]) hX (ct_R_isSign X.2.1 D (cxA X) x Xp R0 d L r2.2.1 r2.2.2 (pxf hP) 47 r3 h1) (cw_R_isSign_X3 hX (Nat.le_of_ble_eq_true rfl) (Nat.le_of_ble_eq_true rfl)) (p_recv 9 lp_9 cl_X3 hP) rfl rfl (Nat.le_of_ble_eq_true rfl) dX3_part_17 (fun c z => ?_)
    show Wk X c z (RD D (RP D x Xp R0 r3.2.1) d L r3.2.2) 20 [(0, .ref (x + 9)), (1, va_rf a1)] [.int r3.1]
    refine k_if_eq (pc := 20) (tgt := 57) hC dX3_part_20 (by decide) hE (fun hE => ?_) (fun hE => ?_)
    · refine k_aloadR_n (pc := 57) hC dX3_part_57 rfl 1 rfl ?_
      cases hE
      exact a_aret (pc := 58) (v := va_rf _) (rt := (.object "SleepWork$Sum")) (by first | exact Or.inl ⟨_, rfl⟩ | exact Or.inr ⟨_, rfl⟩) (va_rfv _) hX hR dX3_part_58 (by rfl) (fun _ h => h)
    · exact w_R_part_2_B23 hP hR F k5 hk5 _ _ _ hE _ _
  · exact w_R_part_2_B23 hP hR F k5 hk5 _ _ _ hE _ _
theorem w_R_part_2_L5 {X : Ctx} {D : Dd} {x : Nat} {R0 : Heap → Prop} {d : Nat → Prop} {L : Nat × Nat × Nat × Nat} {Xp : Jr} {out : (Ji × Jr × Th) ⊕ (Option Nat × Ji × Th)} (hP : Px X cX3_part RX3 D x R0 d L 3 12 259) (hR : RtX X (some (.object "SleepWork$Sum")) D L x (fun r => (RD D (RP D x Xp R0 r.2.1) d L r.2.2)) (fun r => (some (va_rf r.1))) (fun e => RD D (RP D x e.2.1 R0 e.1) d L e.2.2) out) (F : Nat) (n : Nat) : ∀ (a1 : Option Nat) (Q : Ji) (T : Th) , R_part_2_L5 F Xp n a1 Q T = some out → ∀ c z, Wk X c z (RD D (RP D x Xp R0 Q) d L T) 5 [(0, .ref (x + 9)), (1, va_rf a1)] [] := by
  induction n with
  | zero => intro a1 Q T h; cases h
  | succ n ih => intro a1 Q T h; exact w_R_part_2_B5 hP hR F (R_part_2_L5 F Xp n) ih a1 Q T h
set_option maxHeartbeats 4000000 in
theorem w_R_part_2 {X : Ctx} {D : Dd} {x : Nat} {R0 : Heap → Prop} {d : Nat → Prop} {L : Nat × Nat × Nat × Nat} {Xp : Jr} {out : (Ji × Jr × Th) ⊕ (Option Nat × Ji × Th)} (hP : Px X cX3_part RX3 D x R0 d L 3 12 259) (hR : RtX X (some (.object "SleepWork$Sum")) D L x (fun r => (RD D (RP D x Xp R0 r.2.1) d L r.2.2)) (fun r => (some (va_rf r.1))) (fun e => RD D (RP D x e.2.1 R0 e.1) d L e.2.2) out) (F : Nat) (Q : Ji) (T : Th) (hE : R_part_2 F Xp Q T = some out) (c z : Nat) : Wk X c z (RD D (RP D x Xp R0 Q) d L T) 0 [(0, .ref (x + 9))] [] := by
  have hX := hP.1
  have hC := hX.1
  have hnL := hX.2.2.1
  have hSt : ∀ {Xp : Jr} {Q : Ji}, Stb (RP D x Xp R0 Q) d := hP.st
  have hDy : ∀ {Xp : Jr} {Q : Ji} {T : Th} (H : Heap), RD D (RP D x Xp R0 Q) d L T H → Dy D T H := fun _ h => h.2.1
  unfold R_part_2 at hE
  refine k_aload_n (pc := 0) hC dX3_part_0 rfl 0 rfl ?_
  rcases xb_of hE with ⟨e, h1, rfl⟩ | ⟨r1, h1, hE⟩
  · exact p_callVT (pc := 1) (As := []) hP hR (ctx_R_unit_2 X.2.1 D (cxA X) x Xp R0 d L Q T (pxf hP) F e h1) (fun H h => p_fault hC.K h) (p_tt hX) (cw_R_unit_2_X3 hX (Nat.le_of_ble_eq_true rfl) (Nat.le_of_ble_eq_true rfl)) (p_recv 9 lp_9 cl_X3 hP) rfl rfl (Nat.le_of_ble_eq_true rfl) dX3_part_1
  refine a_callV (pc := 1) (As := []) hX (ct_R_unit_2 X.2.1 D (cxA X) x Xp R0 d L Q T (pxf hP) F r1 h1) (cw_R_unit_2_X3 hX (Nat.le_of_ble_eq_true rfl) (Nat.le_of_ble_eq_true rfl)) (p_recv 9 lp_9 cl_X3 hP) rfl rfl (Nat.le_of_ble_eq_true rfl) dX3_part_1 (fun c z => ?_)
  show Wk X c z (RD D (RP D x Xp R0 r1.2.1) d L r1.2.2) 4 [(0, .ref (x + 9))] [va_rf r1.1]
  refine k_astoreR_n (pc := 4) (lv' := [(1, va_rf r1.1), (0, .ref (x + 9))]) hC dX3_part_4 rfl (by rw [hnL]; decide) rfl ?_
  refine k_sub [1, 0] rfl ?_
  exact w_R_part_2_L5 hP hR F _ _ _ _ hE _ _
theorem ct_R_part_2 (l : Launch) (D : Dd) (A : Nat → Prop) (x : Nat) (Xp : Jr) (R0 : Heap → Prop) (d : Nat → Prop) (L : Nat × Nat × Nat × Nat) (Q : Ji) (T : Th) (hp : Pf D A x R0 d) (F : Nat) (out : Option Nat × Ji × Th) (hE : R_part_2 F Xp Q T = some (.inr out)) : Ct l yX3_part (ws_ yX3_part cX3_part 3 (some (.object "SleepWork$Sum"))) (rmA 12 259 L T) vwCl arTy D A [.ref (x + 9)] (RD D (RP D x Xp R0 Q) d L T) (RD D (RP D x Xp R0 out.2.1) d L out.2.2) (some (va_rf out.1)) (L.1 - tN T) (L.2.1 - tZ T) := by
  refine Ct.ofA (lv := [(0, .ref (x + 9))]) (by decide) (Nat.le_of_ble_eq_true rfl) rfl hp.1 hp.2.1 ?_
  intro X hl hX hR hXA _
  exact w_R_part_2 (Xp := Xp) (out := .inr out) (hp.px hX hXA) hR F Q T hE
theorem ctx_R_part_2 (l : Launch) (D : Dd) (A : Nat → Prop) (x : Nat) (Xp : Jr) (R0 : Heap → Prop) (d : Nat → Prop) (L : Nat × Nat × Nat × Nat) (Q : Ji) (T : Th) (hp : Pf D A x R0 d) (F : Nat) (e : Ji × Jr × Th) (hE : R_part_2 F Xp Q T = some (.inl e)) : CtT l yX3_part (ws_ yX3_part cX3_part 3 (some (.object "SleepWork$Sum"))) (rmA 12 259 L T) D A [.ref (x + 9)] (RD D (RP D x Xp R0 Q) d L T) (RD D (RP D x e.2.1 R0 e.1) d L e.2.2) (x + 1) (L.1 - tN T) (L.2.1 - tZ T) := by
  refine CtT.ofA (lv := [(0, .ref (x + 9))]) (by decide) (Nat.le_of_ble_eq_true rfl) rfl hp.1 hp.2.1 ?_
  intro X hl hX hR hXA
  exact w_R_part_2 (Xp := Xp) (out := .inl e) (hp.px hX hXA) hR F Q T hE
theorem cw_R_part_2_X3 {X : Ctx} {cc : ByteArray} {D : Dd} {d : Nat → Prop} {L : Nat × Nat × Nat × Nat} {mL fr lo : Nat} {T : Th} (hX : Ax X cc RX3 D d L mL fr lo) (h1 : 12 + 1 ≤ fr) (h2 : 8 + (3 + 11) + 259 ≤ lo) : CallW X.2.2.2.1 X.2.2.2.2.1 X.2.2.2.2.2.2.1 RX3 RX3 269 yX3_part cX3_part 3 (some (.object "SleepWork$Sum")) (ws_ yX3_part cX3_part 3 (some (.object "SleepWork$Sum"))) (rmA 12 259 L T) (L.1 - tN T) (L.2.1 - tZ T) 0 := cwV 0 (cx_w hX.1) (lw_V q1188 q1190 qs31 q120 q1191) rfl rfl rfl (by decide +kernel) (by rw [hX.2.2.2.1, hX.2.2.2.2.1]; exact ⟨h1, h2⟩)
set_option maxHeartbeats 4000000 in
theorem w_R_sum_2_B23 {X : Ctx} {D : Dd} {x : Nat} {R0 : Heap → Prop} {d : Nat → Prop} {L : Nat × Nat × Nat × Nat} {Xp : Jr} {out : (Ji × Jr × Th) ⊕ (Option Nat × Ji × Th)} (hP : Px X cX3_sum RX3 D x R0 d L 3 13 281) (hR : RtX X (some (.object "SleepWork$Sum")) D L x (fun r => (RD D (RP D x Xp R0 r.2.1) d L r.2.2)) (fun r => (some (va_rf r.1))) (fun e => RD D (RP D x e.2.1 R0 e.1) d L e.2.2) out) (F : Nat) (k5 : Option Nat → Ji → Th → Option ((Ji × Jr × Th) ⊕ (Option Nat × Ji × Th))) (hk5 : ∀ (a1 : Option Nat) (Q : Ji) (T : Th) , k5 a1 Q T = some out → ∀ c z, Wk X c z (RD D (RP D x Xp R0 Q) d L T) 5 [(0, .ref (x + 9)), (1, va_rf a1)] []) (a1 : Option Nat) (Q : Ji) (T : Th) (hE : R_sum_2_B23 F k5 Xp a1 Q T = some out) (c z : Nat) : Wk X c z (RD D (RP D x Xp R0 Q) d L T) 23 [(0, .ref (x + 9)), (1, va_rf a1)] [] := by
  have hX := hP.1
  have hC := hX.1
  have hnL := hX.2.2.1
  have hSt : ∀ {Xp : Jr} {Q : Ji}, Stb (RP D x Xp R0 Q) d := hP.st
  have hDy : ∀ {Xp : Jr} {Q : Ji} {T : Th} (H : Heap), RD D (RP D x Xp R0 Q) d L T H → Dy D T H := fun _ h => h.2.1
  unfold R_sum_2_B23 at hE
  refine k_aload_n (pc := 23) hC dX3_sum_23 rfl 0 rfl ?_
  refine gP_X3_9 (pc := 24) hP dX3_sum_24 ?_
  refine gP_X3_52 (pc := 27) hP dX3_sum_27 ?_
  refine k_aload_n (pc := 30) hC dX3_sum_30 rfl 0 rfl ?_
  refine gP_X3_31 (pc := 31) hP dX3_sum_31 ?_
  refine p_sald (pc := 34) 8 lp_8 hP dX3_sum_34 hE (fun x4 hE => ?_)
  refine k_istore_n (pc := 35) (lv' := [(2, .int x4), (0, .ref (x + 9)), (1, va_rf a1)]) hC dX3_sum_35 rfl (by rw [hnL]; decide) (by cases a1 <;> rfl) ?_
  refine k_aload_n (pc := 36) hC dX3_sum_36 rfl 1 rfl ?_
  rcases xb_of hE with ⟨e, h1, rfl⟩ | ⟨r5, h1, hE⟩
  · exact p_callVT (pc := 37) (As := []) hP hR (ctx_R_pass X.2.1 D (cxA X) x Xp R0 d L Q T (pxf hP)  e h1) (fun H h => p_fault hC.K h) (p_tt hX) (cw_R_pass_X3 hX (Nat.le_of_ble_eq_true rfl) (Nat.le_of_ble_eq_true rfl)) (p_recv 9 lp_9 cl_X3 hP) rfl rfl (Nat.le_of_ble_eq_true rfl) dX3_sum_37
  refine a_callV (pc := 37) (As := []) hX (ct_R_pass X.2.1 D (cxA X) x Xp R0 d L Q T (pxf hP)  r5 h1) (cw_R_pass_X3 hX (Nat.le_of_ble_eq_true rfl) (Nat.le_of_ble_eq_true rfl)) (p_recv 9 lp_9 cl_X3 hP) rfl rfl (Nat.le_of_ble_eq_true rfl) dX3_sum_37 (fun c z => ?_)
  show Wk X c z (RD D (RP D x Xp R0 r5.1) d L r5.2) 40 [(2, .int x4), (0, .ref (x + 9)), (1, va_rf a1)] []
  refine a_new (pc := 40) hX hSt cl_X20 in_X20 tyX20 tyX20_ok dv_X20 q1219 q1220 q151 dX3_sum_40 hE (fun T6 eT6 hE c z => ?_)
  refine k_dup (pc := 43) hC dX3_sum_43 rfl ?_
  refine k_iload_n (pc := 44) hC dX3_sum_44 rfl 0 rfl ?_
  refine k_aloadR_n (pc := 45) hC dX3_sum_45 rfl 2 rfl ?_
  refine k_aload_n (pc := 46) hC dX3_sum_46 rfl 1 rfl ?_
  rcases xb_of hE with ⟨e, h1, rfl⟩ | ⟨r7, h1, hE⟩
  · exact p_callVT (pc := 47) (As := []) hP hR (ctx_R_part_2 X.2.1 D (cxA X) x Xp R0 d L r5.1 T6 (pxf hP) F e h1) (fun H h => p_fault hC.K h) (p_tt hX) (cw_R_part_2_X3 hX (Nat.le_of_ble_eq_true rfl) (Nat.le_of_ble_eq_true rfl)) (p_recv 9 lp_9 cl_X3 hP) rfl rfl (by cases a1 <;> exact Nat.le_of_ble_eq_true rfl) dX3_sum_47
  refine a_callV (pc := 47) (As := []) hX (ct_R_part_2 X.2.1 D (cxA X) x Xp R0 d L r5.1 T6 (pxf hP) F r7 h1) (cw_R_part_2_X3 hX (Nat.le_of_ble_eq_true rfl) (Nat.le_of_ble_eq_true rfl)) (p_recv 9 lp_9 cl_X3 hP) rfl rfl (by cases a1 <;> exact Nat.le_of_ble_eq_true rfl) dX3_sum_47 (fun c z => ?_)
  show Wk X c z (RD D (RP D x Xp R0 r7.2.1) d L r7.2.2) 50 [(2, .int x4), (0, .ref (x + 9)), (1, va_rf a1)] [va_rf r7.1, va_rf a1, .int x4, .ref (tN r5.2), .ref (tN r5.2)]
  refine k_nn (G := fun z => Wk X _ _ (RD D (RP D x Xp R0 r7.2.1) d L r7.2.2) 50 [(2, .int x4), (0, .ref (x + 9)), (1, va_rf a1)] [z, va_rf a1, .int x4, .ref (tN r5.2), .ref (tN r5.2)]) hE (fun b8 hE => ?_)
  refine k_nn (G := fun z => Wk X _ _ (RD D (RP D x Xp R0 r7.2.1) d L r7.2.2) 50 [(2, .int x4), (0, .ref (x + 9)), (1, z)] [.ref b8, z, .int x4, .ref (tN r5.2), .ref (tN r5.2)]) hE (fun b9 hE => ?_)
  obtain ⟨r10, h1, hE⟩ := ob_ hE
  refine a_callI (pc := 50) (As := [.int x4, .ref b9, .ref b8]) hX (ct_A_Joined X.2.1 D (cxA X) (RP D x Xp R0 r7.2.1) d L r7.2.2 hSt hX.2.1 hX.2.2.2.2.2.2.2.2.2 (tN r5.2) x4 b9 b8 r10 h1) (cw_A_Joined_X3 hX (Nat.le_of_ble_eq_true rfl) (Nat.le_of_ble_eq_true rfl)) rfl rfl (Nat.le_of_ble_eq_true rfl) dX3_sum_50 (fun c z => ?_)
  show Wk X c z (RD D (RP D x Xp R0 r7.2.1) d L r10) 53 [(2, .int x4), (0, .ref (x + 9)), (1, .ref b9)] [.ref (tN r5.2)]
  refine k_astore_n (pc := 53) (lv' := [(1, .ref (tN r5.2)), (2, .int x4), (0, .ref (x + 9))]) hC dX3_sum_53 rfl (by rw [hnL]; decide) rfl ?_
  refine k_goto (pc := 54) (tgt := 5) hC dX3_sum_54 (by decide) ?_
  refine k_sub [2, 0] rfl ?_
  exact hk5 _ _ _ hE _ _
set_option maxHeartbeats 4000000 in
theorem w_R_sum_2_B5 {X : Ctx} {D : Dd} {x : Nat} {R0 : Heap → Prop} {d : Nat → Prop} {L : Nat × Nat × Nat × Nat} {Xp : Jr} {out : (Ji × Jr × Th) ⊕ (Option Nat × Ji × Th)} (hP : Px X cX3_sum RX3 D x R0 d L 3 13 281) (hR : RtX X (some (.object "SleepWork$Sum")) D L x (fun r => (RD D (RP D x Xp R0 r.2.1) d L r.2.2)) (fun r => (some (va_rf r.1))) (fun e => RD D (RP D x e.2.1 R0 e.1) d L e.2.2) out) (F : Nat) (k5 : Option Nat → Ji → Th → Option ((Ji × Jr × Th) ⊕ (Option Nat × Ji × Th))) (hk5 : ∀ (a1 : Option Nat) (Q : Ji) (T : Th) , k5 a1 Q T = some out → ∀ c z, Wk X c z (RD D (RP D x Xp R0 Q) d L T) 5 [(0, .ref (x + 9)), (1, va_rf a1)] []) (a1 : Option Nat) (Q : Ji) (T : Th) (hE : R_sum_2_B5 F k5 Xp a1 Q T = some out) (c z : Nat) : Wk X c z (RD D (RP D x Xp R0 Q) d L T) 5 [(0, .ref (x + 9)), (1, va_rf a1)] [] := by
  have hX := hP.1
  have hC := hX.1
  have hnL := hX.2.2.1
  have hSt : ∀ {Xp : Jr} {Q : Ji}, Stb (RP D x Xp R0 Q) d := hP.st
  have hDy : ∀ {Xp : Jr} {Q : Ji} {T : Th} (H : Heap), RD D (RP D x Xp R0 Q) d L T H → Dy D T H := fun _ h => h.2.1
  unfold R_sum_2_B5 at hE
  refine k_aload_n (pc := 5) hC dX3_sum_5 rfl 0 rfl ?_
  refine k_bipush (pc := 6) (v := 43) hC dX3_sum_6 (by decide) ?_
  rcases xb_of hE with ⟨e, h1, rfl⟩ | ⟨r2, h1, hE⟩
  · exact p_callVT (pc := 8) (As := [.int 43]) hP hR (ctx_R_isSign X.2.1 D (cxA X) x Xp R0 d L Q T (pxf hP) 43 e h1) (fun H h => p_fault hC.K h) (p_tt hX) (cw_R_isSign_X3 hX (Nat.le_of_ble_eq_true rfl) (Nat.le_of_ble_eq_true rfl)) (p_recv 9 lp_9 cl_X3 hP) rfl rfl (Nat.le_of_ble_eq_true rfl) dX3_sum_8
  refine a_callV (pc := 8) (As := [.int 43]) hX (ct_R_isSign X.2.1 D (cxA X) x Xp R0 d L Q T (pxf hP) 43 r2 h1) (cw_R_isSign_X3 hX (Nat.le_of_ble_eq_true rfl) (Nat.le_of_ble_eq_true rfl)) (p_recv 9 lp_9 cl_X3 hP) rfl rfl (Nat.le_of_ble_eq_true rfl) dX3_sum_8 (fun c z => ?_)
  show Wk X c z (RD D (RP D x Xp R0 r2.2.1) d L r2.2.2) 11 [(0, .ref (x + 9)), (1, va_rf a1)] [.int r2.1]
  refine k_if_ne (pc := 11) (tgt := 23) hC dX3_sum_11 (by decide) hE (fun hE => ?_) (fun hE => ?_)
  · refine k_aload_n (pc := 14) hC dX3_sum_14 rfl 0 rfl ?_
    refine k_bipush (pc := 15) (v := 45) hC dX3_sum_15 (by decide) ?_
    rcases xb_of hE with ⟨e, h1, rfl⟩ | ⟨r3, h1, hE⟩
    · exact p_callVT (pc := 17) (As := [.int 45]) hP hR (ctx_R_isSign X.2.1 D (cxA X) x Xp R0 d L r2.2.1 r2.2.2 (pxf hP) 45 e h1) (fun H h => p_fault hC.K h) (p_tt hX) (cw_R_isSign_X3 hX (Nat.le_of_ble_eq_true rfl) (Nat.le_of_ble_eq_true rfl)) (p_recv 9 lp_9 cl_X3 hP) rfl rfl (Nat.le_of_ble_eq_true rfl) dX3_sum_17
    refine a_callV (pc := 17) (As := [.int 45]) hX (ct_R_isSign X.2.1 D (cxA X) x Xp R0 d L r2.2.1 r2.2.2 (pxf hP) 45 r3 h1) (cw_R_isSign_X3 hX (Nat.le_of_ble_eq_true rfl) (Nat.le_of_ble_eq_true rfl)) (p_recv 9 lp_9 cl_X3 hP) rfl rfl (Nat.le_of_ble_eq_true rfl) dX3_sum_17 (fun c z => ?_)
    show Wk X c z (RD D (RP D x Xp R0 r3.2.1) d L r3.2.2) 20 [(0, .ref (x + 9)), (1, va_rf a1)] [.int r3.1]
    refine k_if_eq (pc := 20) (tgt := 57) hC dX3_sum_20 (by decide) hE (fun hE => ?_) (fun hE => ?_)
    · refine k_aloadR_n (pc := 57) hC dX3_sum_57 rfl 1 rfl ?_
      cases hE
      exact a_aret (pc := 58) (v := va_rf _) (rt := (.object "SleepWork$Sum")) (by first | exact Or.inl ⟨_, rfl⟩ | exact Or.inr ⟨_, rfl⟩) (va_rfv _) hX hR dX3_sum_58 (by rfl) (fun _ h => h)
    · exact w_R_sum_2_B23 hP hR F k5 hk5 _ _ _ hE _ _
  · exact w_R_sum_2_B23 hP hR F k5 hk5 _ _ _ hE _ _
theorem w_R_sum_2_L5 {X : Ctx} {D : Dd} {x : Nat} {R0 : Heap → Prop} {d : Nat → Prop} {L : Nat × Nat × Nat × Nat} {Xp : Jr} {out : (Ji × Jr × Th) ⊕ (Option Nat × Ji × Th)} (hP : Px X cX3_sum RX3 D x R0 d L 3 13 281) (hR : RtX X (some (.object "SleepWork$Sum")) D L x (fun r => (RD D (RP D x Xp R0 r.2.1) d L r.2.2)) (fun r => (some (va_rf r.1))) (fun e => RD D (RP D x e.2.1 R0 e.1) d L e.2.2) out) (F : Nat) (n : Nat) : ∀ (a1 : Option Nat) (Q : Ji) (T : Th) , R_sum_2_L5 F Xp n a1 Q T = some out → ∀ c z, Wk X c z (RD D (RP D x Xp R0 Q) d L T) 5 [(0, .ref (x + 9)), (1, va_rf a1)] [] := by
  induction n with
  | zero => intro a1 Q T h; cases h
  | succ n ih => intro a1 Q T h; exact w_R_sum_2_B5 hP hR F (R_sum_2_L5 F Xp n) ih a1 Q T h
set_option maxHeartbeats 4000000 in
theorem w_R_sum_2 {X : Ctx} {D : Dd} {x : Nat} {R0 : Heap → Prop} {d : Nat → Prop} {L : Nat × Nat × Nat × Nat} {Xp : Jr} {out : (Ji × Jr × Th) ⊕ (Option Nat × Ji × Th)} (hP : Px X cX3_sum RX3 D x R0 d L 3 13 281) (hR : RtX X (some (.object "SleepWork$Sum")) D L x (fun r => (RD D (RP D x Xp R0 r.2.1) d L r.2.2)) (fun r => (some (va_rf r.1))) (fun e => RD D (RP D x e.2.1 R0 e.1) d L e.2.2) out) (F : Nat) (Q : Ji) (T : Th) (hE : R_sum_2 F Xp Q T = some out) (c z : Nat) : Wk X c z (RD D (RP D x Xp R0 Q) d L T) 0 [(0, .ref (x + 9))] [] := by
  have hX := hP.1
  have hC := hX.1
  have hnL := hX.2.2.1
  have hSt : ∀ {Xp : Jr} {Q : Ji}, Stb (RP D x Xp R0 Q) d := hP.st
  have hDy : ∀ {Xp : Jr} {Q : Ji} {T : Th} (H : Heap), RD D (RP D x Xp R0 Q) d L T H → Dy D T H := fun _ h => h.2.1
  unfold R_sum_2 at hE
  refine k_aload_n (pc := 0) hC dX3_sum_0 rfl 0 rfl ?_
  rcases xb_of hE with ⟨e, h1, rfl⟩ | ⟨r1, h1, hE⟩
  · exact p_callVT (pc := 1) (As := []) hP hR (ctx_R_part_2 X.2.1 D (cxA X) x Xp R0 d L Q T (pxf hP) F e h1) (fun H h => p_fault hC.K h) (p_tt hX) (cw_R_part_2_X3 hX (Nat.le_of_ble_eq_true rfl) (Nat.le_of_ble_eq_true rfl)) (p_recv 9 lp_9 cl_X3 hP) rfl rfl (Nat.le_of_ble_eq_true rfl) dX3_sum_1
  refine a_callV (pc := 1) (As := []) hX (ct_R_part_2 X.2.1 D (cxA X) x Xp R0 d L Q T (pxf hP) F r1 h1) (cw_R_part_2_X3 hX (Nat.le_of_ble_eq_true rfl) (Nat.le_of_ble_eq_true rfl)) (p_recv 9 lp_9 cl_X3 hP) rfl rfl (Nat.le_of_ble_eq_true rfl) dX3_sum_1 (fun c z => ?_)
  show Wk X c z (RD D (RP D x Xp R0 r1.2.1) d L r1.2.2) 4 [(0, .ref (x + 9))] [va_rf r1.1]
  refine k_astoreR_n (pc := 4) (lv' := [(1, va_rf r1.1), (0, .ref (x + 9))]) hC dX3_sum_4 rfl (by rw [hnL]; decide) rfl ?_
  refine k_sub [1, 0] rfl ?_
  exact w_R_sum_2_L5 hP hR F _ _ _ _ hE _ _
theorem ct_R_sum_2 (l : Launch) (D : Dd) (A : Nat → Prop) (x : Nat) (Xp : Jr) (R0 : Heap → Prop) (d : Nat → Prop) (L : Nat × Nat × Nat × Nat) (Q : Ji) (T : Th) (hp : Pf D A x R0 d) (F : Nat) (out : Option Nat × Ji × Th) (hE : R_sum_2 F Xp Q T = some (.inr out)) : Ct l yX3_sum (ws_ yX3_sum cX3_sum 3 (some (.object "SleepWork$Sum"))) (rmA 13 281 L T) vwCl arTy D A [.ref (x + 9)] (RD D (RP D x Xp R0 Q) d L T) (RD D (RP D x Xp R0 out.2.1) d L out.2.2) (some (va_rf out.1)) (L.1 - tN T) (L.2.1 - tZ T) := by
  refine Ct.ofA (lv := [(0, .ref (x + 9))]) (by decide) (Nat.le_of_ble_eq_true rfl) rfl hp.1 hp.2.1 ?_
  intro X hl hX hR hXA _
  exact w_R_sum_2 (Xp := Xp) (out := .inr out) (hp.px hX hXA) hR F Q T hE
theorem ctx_R_sum_2 (l : Launch) (D : Dd) (A : Nat → Prop) (x : Nat) (Xp : Jr) (R0 : Heap → Prop) (d : Nat → Prop) (L : Nat × Nat × Nat × Nat) (Q : Ji) (T : Th) (hp : Pf D A x R0 d) (F : Nat) (e : Ji × Jr × Th) (hE : R_sum_2 F Xp Q T = some (.inl e)) : CtT l yX3_sum (ws_ yX3_sum cX3_sum 3 (some (.object "SleepWork$Sum"))) (rmA 13 281 L T) D A [.ref (x + 9)] (RD D (RP D x Xp R0 Q) d L T) (RD D (RP D x e.2.1 R0 e.1) d L e.2.2) (x + 1) (L.1 - tN T) (L.2.1 - tZ T) := by
  refine CtT.ofA (lv := [(0, .ref (x + 9))]) (by decide) (Nat.le_of_ble_eq_true rfl) rfl hp.1 hp.2.1 ?_
  intro X hl hX hR hXA
  exact w_R_sum_2 (Xp := Xp) (out := .inl e) (hp.px hX hXA) hR F Q T hE
theorem cw_R_sum_2_X3 {X : Ctx} {cc : ByteArray} {D : Dd} {d : Nat → Prop} {L : Nat × Nat × Nat × Nat} {mL fr lo : Nat} {T : Th} (hX : Ax X cc RX3 D d L mL fr lo) (h1 : 13 + 1 ≤ fr) (h2 : 8 + (3 + 11) + 281 ≤ lo) : CallW X.2.2.2.1 X.2.2.2.2.1 X.2.2.2.2.2.2.1 RX3 RX3 253 yX3_sum cX3_sum 3 (some (.object "SleepWork$Sum")) (ws_ yX3_sum cX3_sum 3 (some (.object "SleepWork$Sum"))) (rmA 13 281 L T) (L.1 - tN T) (L.2.1 - tZ T) 0 := cwV 0 (cx_w hX.1) (lw_V q1184 q1186 qs30 q120 q1187) rfl rfl rfl (by decide +kernel) (by rw [hX.2.2.2.1, hX.2.2.2.2.1]; exact ⟨h1, h2⟩)
set_option maxHeartbeats 4000000 in
theorem w_R_unit_3_B87 {X : Ctx} {D : Dd} {x : Nat} {R0 : Heap → Prop} {d : Nat → Prop} {L : Nat × Nat × Nat × Nat} {Xp : Jr} {out : (Ji × Jr × Th) ⊕ (Option Nat × Ji × Th)} (hP : Px X cX3_unit RX3 D x R0 d L 2 14 303) (hR : RtX X (some (.object "SleepWork$Sum")) D L x (fun r => (RD D (RP D x Xp R0 r.2.1) d L r.2.2)) (fun r => (some (va_rf r.1))) (fun e => RD D (RP D x e.2.1 R0 e.1) d L e.2.2) out) (F : Nat) (Q : Ji) (T : Th) (hE : R_unit_3_B87 F Xp Q T = some out) (c z : Nat) : Wk X c z (RD D (RP D x Xp R0 Q) d L T) 87 [(0, .ref (x + 9))] [] := by
  have hX := hP.1
  have hC := hX.1
  have hnL := hX.2.2.1
  have hSt : ∀ {Xp : Jr} {Q : Ji}, Stb (RP D x Xp R0 Q) d := hP.st
  have hDy : ∀ {Xp : Jr} {Q : Ji} {T : Th} (H : Heap), RD D (RP D x Xp R0 Q) d L T H → Dy D T H := fun _ h => h.2.1
  unfold R_unit_3_B87 at hE
  refine k_aload_n (pc := 87) hC dX3_unit_87 rfl 0 rfl ?_
  refine k_bipush (pc := 88) (v := 40) hC dX3_unit_88 (by decide) ?_
  rcases xb_of hE with ⟨e, h1, rfl⟩ | ⟨r12, h1, hE⟩
  · exact p_callVT (pc := 90) (As := [.int 40]) hP hR (ctx_R_isSign X.2.1 D (cxA X) x Xp R0 d L Q T (pxf hP) 40 e h1) (fun H h => p_fault hC.K h) (p_tt hX) (cw_R_isSign_X3 hX (Nat.le_of_ble_eq_true rfl) (Nat.le_of_ble_eq_true rfl)) (p_recv 9 lp_9 cl_X3 hP) rfl rfl (Nat.le_of_ble_eq_true rfl) dX3_unit_90
  refine a_callV (pc := 90) (As := [.int 40]) hX (ct_R_isSign X.2.1 D (cxA X) x Xp R0 d L Q T (pxf hP) 40 r12 h1) (cw_R_isSign_X3 hX (Nat.le_of_ble_eq_true rfl) (Nat.le_of_ble_eq_true rfl)) (p_recv 9 lp_9 cl_X3 hP) rfl rfl (Nat.le_of_ble_eq_true rfl) dX3_unit_90 (fun c z => ?_)
  show Wk X c z (RD D (RP D x Xp R0 r12.2.1) d L r12.2.2) 93 [(0, .ref (x + 9))] [.int r12.1]
  refine k_if_ne (pc := 93) (tgt := 102) hC dX3_unit_93 (by decide) hE (fun hE => ?_) (fun hE => ?_)
  · refine k_aload_n (pc := 96) hC dX3_unit_96 rfl 0 rfl ?_
    refine k_iconst (pc := 97) (v := 1) hC dX3_unit_97 (by decide) ?_
    obtain ⟨r13, h1, hE⟩ := ob_ hE
    refine a_callV (pc := 98) (As := [.int 1]) hX (ct_R_wrong X.2.1 D (cxA X) x Xp R0 d L r12.2.1 r12.2.2 (pxf hP) 1 r13 h1) (cw_R_wrong_X3 hX (Nat.le_of_ble_eq_true rfl) (Nat.le_of_ble_eq_true rfl)) (p_recv 9 lp_9 cl_X3 hP) rfl rfl (Nat.le_of_ble_eq_true rfl) dX3_unit_98 (fun c z => ?_)
    show Wk X c z (RD D (RP D x Xp R0 r13) d L r12.2.2) 101 [(0, .ref (x + 9))] [.ref (x + 1)]
    cases hE
    exact p_athrow (pc := 101) hP hR dX3_unit_101 (fun _ h => h)
  · refine k_aload_n (pc := 102) hC dX3_unit_102 rfl 0 rfl ?_
    refine gP_X3_99 (pc := 103) hP dX3_unit_103 ?_
    refine k_bipush (pc := 106) (v := 6) hC dX3_unit_106 (by decide) ?_
    refine k_icmp_ne (pc := 108) (tgt := 117) hC dX3_unit_108 (by decide) hE (fun hE => ?_) (fun hE => ?_)
    · refine k_aload_n (pc := 111) hC dX3_unit_111 rfl 0 rfl ?_
      refine k_iconst (pc := 112) (v := 2) hC dX3_unit_112 (by decide) ?_
      obtain ⟨r14, h1, hE⟩ := ob_ hE
      refine a_callV (pc := 113) (As := [.int 2]) hX (ct_R_wrong X.2.1 D (cxA X) x Xp R0 d L r12.2.1 r12.2.2 (pxf hP) 2 r14 h1) (cw_R_wrong_X3 hX (Nat.le_of_ble_eq_true rfl) (Nat.le_of_ble_eq_true rfl)) (p_recv 9 lp_9 cl_X3 hP) rfl rfl (Nat.le_of_ble_eq_true rfl) dX3_unit_113 (fun c z => ?_)
      show Wk X c z (RD D (RP D x Xp R0 r14) d L r12.2.2) 116 [(0, .ref (x + 9))] [.ref (x + 1)]
      cases hE
      exact p_athrow (pc := 116) hP hR dX3_unit_116 (fun _ h => h)
    · refine k_aload_n (pc := 117) hC dX3_unit_117 rfl 0 rfl ?_
      refine k_dup (pc := 118) hC dX3_unit_118 rfl ?_
      refine gP_X3_99 (pc := 119) hP dX3_unit_119 ?_
      refine k_iconst (pc := 122) (v := 1) hC dX3_unit_122 (by decide) ?_
      refine k_iadd (pc := 123) hC dX3_unit_123 ?_
      refine pP_X3_99 (pc := 124) hP dX3_unit_124 hE (fun Q15 hE => ?_)
      refine k_aload_n (pc := 127) hC dX3_unit_127 rfl 0 rfl ?_
      rcases xb_of hE with ⟨e, h1, rfl⟩ | ⟨r16, h1, hE⟩
      · exact p_callVT (pc := 128) (As := []) hP hR (ctx_R_pass X.2.1 D (cxA X) x Xp R0 d L Q15 r12.2.2 (pxf hP)  e h1) (fun H h => p_fault hC.K h) (p_tt hX) (cw_R_pass_X3 hX (Nat.le_of_ble_eq_true rfl) (Nat.le_of_ble_eq_true rfl)) (p_recv 9 lp_9 cl_X3 hP) rfl rfl (Nat.le_of_ble_eq_true rfl) dX3_unit_128
      refine a_callV (pc := 128) (As := []) hX (ct_R_pass X.2.1 D (cxA X) x Xp R0 d L Q15 r12.2.2 (pxf hP)  r16 h1) (cw_R_pass_X3 hX (Nat.le_of_ble_eq_true rfl) (Nat.le_of_ble_eq_true rfl)) (p_recv 9 lp_9 cl_X3 hP) rfl rfl (Nat.le_of_ble_eq_true rfl) dX3_unit_128 (fun c z => ?_)
      show Wk X c z (RD D (RP D x Xp R0 r16.1) d L r16.2) 131 [(0, .ref (x + 9))] []
      refine k_aload_n (pc := 131) hC dX3_unit_131 rfl 0 rfl ?_
      rcases xb_of hE with ⟨e, h1, rfl⟩ | ⟨r17, h1, hE⟩
      · exact p_callVT (pc := 132) (As := []) hP hR (ctx_R_sum_2 X.2.1 D (cxA X) x Xp R0 d L r16.1 r16.2 (pxf hP) F e h1) (fun H h => p_fault hC.K h) (p_tt hX) (cw_R_sum_2_X3 hX (Nat.le_of_ble_eq_true rfl) (Nat.le_of_ble_eq_true rfl)) (p_recv 9 lp_9 cl_X3 hP) rfl rfl (Nat.le_of_ble_eq_true rfl) dX3_unit_132
      refine a_callV (pc := 132) (As := []) hX (ct_R_sum_2 X.2.1 D (cxA X) x Xp R0 d L r16.1 r16.2 (pxf hP) F r17 h1) (cw_R_sum_2_X3 hX (Nat.le_of_ble_eq_true rfl) (Nat.le_of_ble_eq_true rfl)) (p_recv 9 lp_9 cl_X3 hP) rfl rfl (Nat.le_of_ble_eq_true rfl) dX3_unit_132 (fun c z => ?_)
      show Wk X c z (RD D (RP D x Xp R0 r17.2.1) d L r17.2.2) 135 [(0, .ref (x + 9))] [va_rf r17.1]
      refine k_astoreR_n (pc := 135) (lv' := [(1, va_rf r17.1), (0, .ref (x + 9))]) hC dX3_unit_135 rfl (by rw [hnL]; decide) rfl ?_
      refine k_aload_n (pc := 136) hC dX3_unit_136 rfl 1 rfl ?_
      refine k_bipush (pc := 137) (v := 41) hC dX3_unit_137 (by decide) ?_
      rcases xb_of hE with ⟨e, h1, rfl⟩ | ⟨r18, h1, hE⟩
      · exact p_callVT (pc := 139) (As := [.int 41]) hP hR (ctx_R_sign X.2.1 D (cxA X) x Xp R0 d L r17.2.1 r17.2.2 (pxf hP) 41 e h1) (fun H h => p_fault hC.K h) (p_tt hX) (cw_R_sign_X3 hX (Nat.le_of_ble_eq_true rfl) (Nat.le_of_ble_eq_true rfl)) (p_recv 9 lp_9 cl_X3 hP) rfl rfl (Nat.le_of_ble_eq_true rfl) dX3_unit_139
      refine a_callV (pc := 139) (As := [.int 41]) hX (ct_R_sign X.2.1 D (cxA X) x Xp R0 d L r17.2.1 r17.2.2 (pxf hP) 41 r18 h1) (cw_R_sign_X3 hX (Nat.le_of_ble_eq_true rfl) (Nat.le_of_ble_eq_true rfl)) (p_recv 9 lp_9 cl_X3 hP) rfl rfl (Nat.le_of_ble_eq_true rfl) dX3_unit_139 (fun c z => ?_)
      show Wk X c z (RD D (RP D x Xp R0 r18.1) d L r18.2) 142 [(1, va_rf r17.1), (0, .ref (x + 9))] []
      refine k_aload_n (pc := 142) hC dX3_unit_142 rfl 1 rfl ?_
      refine k_dup (pc := 143) hC dX3_unit_143 rfl ?_
      refine gP_X3_99 (pc := 144) hP dX3_unit_144 ?_
      refine k_iconst (pc := 147) (v := 1) hC dX3_unit_147 (by decide) ?_
      refine k_isub (pc := 148) hC dX3_unit_148 ?_
      refine pP_X3_99 (pc := 149) hP dX3_unit_149 hE (fun Q19 hE => ?_)
      refine k_aloadR_n (pc := 152) hC dX3_unit_152 rfl 0 rfl ?_
      cases hE
      exact a_aret (pc := 153) (v := va_rf _) (rt := (.object "SleepWork$Sum")) (by first | exact Or.inl ⟨_, rfl⟩ | exact Or.inr ⟨_, rfl⟩) (va_rfv _) hX hR dX3_unit_153 (by rfl) (fun _ h => h)
set_option maxHeartbeats 4000000 in
theorem w_R_unit_3 {X : Ctx} {D : Dd} {x : Nat} {R0 : Heap → Prop} {d : Nat → Prop} {L : Nat × Nat × Nat × Nat} {Xp : Jr} {out : (Ji × Jr × Th) ⊕ (Option Nat × Ji × Th)} (hP : Px X cX3_unit RX3 D x R0 d L 2 14 303) (hR : RtX X (some (.object "SleepWork$Sum")) D L x (fun r => (RD D (RP D x Xp R0 r.2.1) d L r.2.2)) (fun r => (some (va_rf r.1))) (fun e => RD D (RP D x e.2.1 R0 e.1) d L e.2.2) out) (F : Nat) (Q : Ji) (T : Th) (hE : R_unit_3 F Xp Q T = some out) (c z : Nat) : Wk X c z (RD D (RP D x Xp R0 Q) d L T) 0 [(0, .ref (x + 9))] [] := by
  have hX := hP.1
  have hC := hX.1
  have hnL := hX.2.2.1
  have hSt : ∀ {Xp : Jr} {Q : Ji}, Stb (RP D x Xp R0 Q) d := hP.st
  have hDy : ∀ {Xp : Jr} {Q : Ji} {T : Th} (H : Heap), RD D (RP D x Xp R0 Q) d L T H → Dy D T H := fun _ h => h.2.1
  unfold R_unit_3 at hE
  refine k_aload_n (pc := 0) hC dX3_unit_0 rfl 0 rfl ?_
  rcases xb_of hE with ⟨e, h1, rfl⟩ | ⟨r1, h1, hE⟩
  · exact p_callVT (pc := 1) (As := []) hP hR (ctx_R_sort X.2.1 D (cxA X) x Xp R0 d L Q T (pxf hP)  e h1) (fun H h => p_fault hC.K h) (p_tt hX) (cw_R_sort_X3 hX (Nat.le_of_ble_eq_true rfl) (Nat.le_of_ble_eq_true rfl)) (p_recv 9 lp_9 cl_X3 hP) rfl rfl (Nat.le_of_ble_eq_true rfl) dX3_unit_1
  refine a_callV (pc := 1) (As := []) hX (ct_R_sort X.2.1 D (cxA X) x Xp R0 d L Q T (pxf hP)  r1 h1) (cw_R_sort_X3 hX (Nat.le_of_ble_eq_true rfl) (Nat.le_of_ble_eq_true rfl)) (p_recv 9 lp_9 cl_X3 hP) rfl rfl (Nat.le_of_ble_eq_true rfl) dX3_unit_1 (fun c z => ?_)
  show Wk X c z (RD D (RP D x Xp R0 r1.2.1) d L r1.2.2) 4 [(0, .ref (x + 9))] [.int r1.1]
  refine k_iconst (pc := 4) (v := 1) hC dX3_unit_4 (by decide) ?_
  refine k_icmp_ne (pc := 5) (tgt := 33) hC dX3_unit_5 (by decide) hE (fun hE => ?_) (fun hE => ?_)
  · refine k_aload_n (pc := 8) hC dX3_unit_8 rfl 0 rfl ?_
    rcases xb_of hE with ⟨e, h1, rfl⟩ | ⟨r2, h1, hE⟩
    · exact p_callVT (pc := 9) (As := []) hP hR (ctx_R_pass X.2.1 D (cxA X) x Xp R0 d L r1.2.1 r1.2.2 (pxf hP)  e h1) (fun H h => p_fault hC.K h) (p_tt hX) (cw_R_pass_X3 hX (Nat.le_of_ble_eq_true rfl) (Nat.le_of_ble_eq_true rfl)) (p_recv 9 lp_9 cl_X3 hP) rfl rfl (Nat.le_of_ble_eq_true rfl) dX3_unit_9
    refine a_callV (pc := 9) (As := []) hX (ct_R_pass X.2.1 D (cxA X) x Xp R0 d L r1.2.1 r1.2.2 (pxf hP)  r2 h1) (cw_R_pass_X3 hX (Nat.le_of_ble_eq_true rfl) (Nat.le_of_ble_eq_true rfl)) (p_recv 9 lp_9 cl_X3 hP) rfl rfl (Nat.le_of_ble_eq_true rfl) dX3_unit_9 (fun c z => ?_)
    show Wk X c z (RD D (RP D x Xp R0 r2.1) d L r2.2) 12 [(0, .ref (x + 9))] []
    refine a_new (pc := 12) hX hSt cl_X18 in_X18 tyX18 tyX18_ok dv_X18 q1196 q1197 q149 dX3_unit_12 hE (fun T3 eT3 hE c z => ?_)
    refine k_dup (pc := 15) hC dX3_unit_15 rfl ?_
    refine k_aload_n (pc := 16) hC dX3_unit_16 rfl 0 rfl ?_
    refine gP_X3_9 (pc := 17) hP dX3_unit_17 ?_
    refine k_aload_n (pc := 20) hC dX3_unit_20 rfl 0 rfl ?_
    refine gP_X3_31 (pc := 21) hP dX3_unit_21 ?_
    refine k_iconst (pc := 24) (v := 1) hC dX3_unit_24 (by decide) ?_
    refine k_isub (pc := 25) hC dX3_unit_25 ?_
    obtain ⟨r4, h1, hE⟩ := ob_ hE
    refine a_callV (pc := 26) (As := [.int ((r2.1 9 3) - 1)]) hX (ct_T_number X.2.1 D (cxA X) x Xp R0 d L r2.1 T3 (pxf hP) F ((r2.1 9 3) - 1) r4 h1) (cw_T_number_X3 hX (Nat.le_of_ble_eq_true rfl) (Nat.le_of_ble_eq_true rfl)) (p_recv 2 lp_2 cl_X2 hP) rfl rfl (Nat.le_of_ble_eq_true rfl) dX3_unit_26 (fun c z => ?_)
    show Wk X c z (RD D (RP D x Xp R0 r2.1) d L T3) 29 [(0, .ref (x + 9))] [.int r4, .ref (tN r2.2), .ref (tN r2.2)]
    obtain ⟨r5, h1, hE⟩ := ob_ hE
    refine a_callI (pc := 29) (As := [.int r4]) hX (ct_A_Number X.2.1 D (cxA X) (RP D x Xp R0 r2.1) d L T3 hSt hX.2.1 hX.2.2.2.2.2.2.2.2.2 (tN r2.2) r4 r5 h1) (cw_A_Number_X3 hX (Nat.le_of_ble_eq_true rfl) (Nat.le_of_ble_eq_true rfl)) rfl rfl (Nat.le_of_ble_eq_true rfl) dX3_unit_29 (fun c z => ?_)
    show Wk X c z (RD D (RP D x Xp R0 r2.1) d L r5) 32 [(0, .ref (x + 9))] [.ref (tN r2.2)]
    cases hE
    exact a_aret (pc := 32) (v := va_rf _) (rt := (.object "SleepWork$Sum")) (by first | exact Or.inl ⟨_, rfl⟩ | exact Or.inr ⟨_, rfl⟩) (va_rfv _) hX hR dX3_unit_32 (by rfl) (fun _ h => h)
  · refine k_aload_n (pc := 33) hC dX3_unit_33 rfl 0 rfl ?_
    rcases xb_of hE with ⟨e, h1, rfl⟩ | ⟨r6, h1, hE⟩
    · exact p_callVT (pc := 34) (As := []) hP hR (ctx_R_sort X.2.1 D (cxA X) x Xp R0 d L r1.2.1 r1.2.2 (pxf hP)  e h1) (fun H h => p_fault hC.K h) (p_tt hX) (cw_R_sort_X3 hX (Nat.le_of_ble_eq_true rfl) (Nat.le_of_ble_eq_true rfl)) (p_recv 9 lp_9 cl_X3 hP) rfl rfl (Nat.le_of_ble_eq_true rfl) dX3_unit_34
    refine a_callV (pc := 34) (As := []) hX (ct_R_sort X.2.1 D (cxA X) x Xp R0 d L r1.2.1 r1.2.2 (pxf hP)  r6 h1) (cw_R_sort_X3 hX (Nat.le_of_ble_eq_true rfl) (Nat.le_of_ble_eq_true rfl)) (p_recv 9 lp_9 cl_X3 hP) rfl rfl (Nat.le_of_ble_eq_true rfl) dX3_unit_34 (fun c z => ?_)
    show Wk X c z (RD D (RP D x Xp R0 r6.2.1) d L r6.2.2) 37 [(0, .ref (x + 9))] [.int r6.1]
    refine k_iconst (pc := 37) (v := 3) hC dX3_unit_37 (by decide) ?_
    refine k_icmp_ne (pc := 38) (tgt := 87) hC dX3_unit_38 (by decide) hE (fun hE => ?_) (fun hE => ?_)
    · refine k_aload_n (pc := 41) hC dX3_unit_41 rfl 0 rfl ?_
      refine gP_X3_9 (pc := 42) hP dX3_unit_42 ?_
      refine gP_X3_52 (pc := 45) hP dX3_unit_45 ?_
      refine k_aload_n (pc := 48) hC dX3_unit_48 rfl 0 rfl ?_
      refine gP_X3_31 (pc := 49) hP dX3_unit_49 ?_
      refine p_sald (pc := 52) 8 lp_8 hP dX3_unit_52 hE (fun x7 hE => ?_)
      refine k_bipush (pc := 53) (v := 15) hC dX3_unit_53 (by decide) ?_
      refine k_icmp_lt (pc := 55) (tgt := 87) hC dX3_unit_55 (by decide) hE (fun hE => ?_) (fun hE => ?_)
      · exact w_R_unit_3_B87 hP hR F _ _ hE _ _
      · refine k_aload_n (pc := 58) hC dX3_unit_58 rfl 0 rfl ?_
        rcases xb_of hE with ⟨e, h1, rfl⟩ | ⟨r8, h1, hE⟩
        · exact p_callVT (pc := 59) (As := []) hP hR (ctx_R_pass X.2.1 D (cxA X) x Xp R0 d L r6.2.1 r6.2.2 (pxf hP)  e h1) (fun H h => p_fault hC.K h) (p_tt hX) (cw_R_pass_X3 hX (Nat.le_of_ble_eq_true rfl) (Nat.le_of_ble_eq_true rfl)) (p_recv 9 lp_9 cl_X3 hP) rfl rfl (Nat.le_of_ble_eq_true rfl) dX3_unit_59
        refine a_callV (pc := 59) (As := []) hX (ct_R_pass X.2.1 D (cxA X) x Xp R0 d L r6.2.1 r6.2.2 (pxf hP)  r8 h1) (cw_R_pass_X3 hX (Nat.le_of_ble_eq_true rfl) (Nat.le_of_ble_eq_true rfl)) (p_recv 9 lp_9 cl_X3 hP) rfl rfl (Nat.le_of_ble_eq_true rfl) dX3_unit_59 (fun c z => ?_)
        show Wk X c z (RD D (RP D x Xp R0 r8.1) d L r8.2) 62 [(0, .ref (x + 9))] []
        refine a_new (pc := 62) hX hSt cl_X19 in_X19 tyX19 tyX19_ok dv_X19 q1209 q1210 q150 dX3_unit_62 hE (fun T9 eT9 hE c z => ?_)
        refine k_dup (pc := 65) hC dX3_unit_65 rfl ?_
        refine k_aload_n (pc := 66) hC dX3_unit_66 rfl 0 rfl ?_
        refine gP_X3_9 (pc := 67) hP dX3_unit_67 ?_
        refine gP_X3_52 (pc := 70) hP dX3_unit_70 ?_
        refine k_aload_n (pc := 73) hC dX3_unit_73 rfl 0 rfl ?_
        refine gP_X3_31 (pc := 74) hP dX3_unit_74 ?_
        refine k_iconst (pc := 77) (v := 1) hC dX3_unit_77 (by decide) ?_
        refine k_isub (pc := 78) hC dX3_unit_78 ?_
        refine p_sald (pc := 79) 8 lp_8 hP dX3_unit_79 hE (fun x10 hE => ?_)
        refine k_bipush (pc := 80) (v := 15) hC dX3_unit_80 (by decide) ?_
        refine k_isub (pc := 82) hC dX3_unit_82 ?_
        obtain ⟨r11, h1, hE⟩ := ob_ hE
        refine a_callI (pc := 83) (As := [.int (x10 - 15)]) hX (ct_A_Var X.2.1 D (cxA X) (RP D x Xp R0 r8.1) d L T9 hSt hX.2.1 hX.2.2.2.2.2.2.2.2.2 (tN r8.2) (x10 - 15) r11 h1) (cw_A_Var_X3 hX (Nat.le_of_ble_eq_true rfl) (Nat.le_of_ble_eq_true rfl)) rfl rfl (Nat.le_of_ble_eq_true rfl) dX3_unit_83 (fun c z => ?_)
        show Wk X c z (RD D (RP D x Xp R0 r8.1) d L r11) 86 [(0, .ref (x + 9))] [.ref (tN r8.2)]
        cases hE
        exact a_aret (pc := 86) (v := va_rf _) (rt := (.object "SleepWork$Sum")) (by first | exact Or.inl ⟨_, rfl⟩ | exact Or.inr ⟨_, rfl⟩) (va_rfv _) hX hR dX3_unit_86 (by rfl) (fun _ h => h)
    · exact w_R_unit_3_B87 hP hR F _ _ hE _ _
theorem ct_R_unit_3 (l : Launch) (D : Dd) (A : Nat → Prop) (x : Nat) (Xp : Jr) (R0 : Heap → Prop) (d : Nat → Prop) (L : Nat × Nat × Nat × Nat) (Q : Ji) (T : Th) (hp : Pf D A x R0 d) (F : Nat) (out : Option Nat × Ji × Th) (hE : R_unit_3 F Xp Q T = some (.inr out)) : Ct l yX3_unit (ws_ yX3_unit cX3_unit 2 (some (.object "SleepWork$Sum"))) (rmA 14 303 L T) vwCl arTy D A [.ref (x + 9)] (RD D (RP D x Xp R0 Q) d L T) (RD D (RP D x Xp R0 out.2.1) d L out.2.2) (some (va_rf out.1)) (L.1 - tN T) (L.2.1 - tZ T) := by
  refine Ct.ofA (lv := [(0, .ref (x + 9))]) (by decide) (Nat.le_of_ble_eq_true rfl) rfl hp.1 hp.2.1 ?_
  intro X hl hX hR hXA _
  exact w_R_unit_3 (Xp := Xp) (out := .inr out) (hp.px hX hXA) hR F Q T hE
theorem ctx_R_unit_3 (l : Launch) (D : Dd) (A : Nat → Prop) (x : Nat) (Xp : Jr) (R0 : Heap → Prop) (d : Nat → Prop) (L : Nat × Nat × Nat × Nat) (Q : Ji) (T : Th) (hp : Pf D A x R0 d) (F : Nat) (e : Ji × Jr × Th) (hE : R_unit_3 F Xp Q T = some (.inl e)) : CtT l yX3_unit (ws_ yX3_unit cX3_unit 2 (some (.object "SleepWork$Sum"))) (rmA 14 303 L T) D A [.ref (x + 9)] (RD D (RP D x Xp R0 Q) d L T) (RD D (RP D x e.2.1 R0 e.1) d L e.2.2) (x + 1) (L.1 - tN T) (L.2.1 - tZ T) := by
  refine CtT.ofA (lv := [(0, .ref (x + 9))]) (by decide) (Nat.le_of_ble_eq_true rfl) rfl hp.1 hp.2.1 ?_
  intro X hl hX hR hXA
  exact w_R_unit_3 (Xp := Xp) (out := .inl e) (hp.px hX hXA) hR F Q T hE
theorem cw_R_unit_3_X3 {X : Ctx} {cc : ByteArray} {D : Dd} {d : Nat → Prop} {L : Nat × Nat × Nat × Nat} {mL fr lo : Nat} {T : Th} (hX : Ax X cc RX3 D d L mL fr lo) (h1 : 14 + 1 ≤ fr) (h2 : 8 + (2 + 11) + 303 ≤ lo) : CallW X.2.2.2.1 X.2.2.2.2.1 X.2.2.2.2.2.2.1 RX3 RX3 277 yX3_unit cX3_unit 2 (some (.object "SleepWork$Sum")) (ws_ yX3_unit cX3_unit 2 (some (.object "SleepWork$Sum"))) (rmA 14 303 L T) (L.1 - tN T) (L.2.1 - tZ T) 0 := cwV 0 (cx_w hX.1) (lw_V q1192 q1194 qs32 q120 q1195) rfl rfl rfl (by decide +kernel) (by rw [hX.2.2.2.1, hX.2.2.2.2.1]; exact ⟨h1, h2⟩)
set_option maxHeartbeats 4000000 in
theorem w_R_part_3_B23 {X : Ctx} {D : Dd} {x : Nat} {R0 : Heap → Prop} {d : Nat → Prop} {L : Nat × Nat × Nat × Nat} {Xp : Jr} {out : (Ji × Jr × Th) ⊕ (Option Nat × Ji × Th)} (hP : Px X cX3_part RX3 D x R0 d L 3 15 324) (hR : RtX X (some (.object "SleepWork$Sum")) D L x (fun r => (RD D (RP D x Xp R0 r.2.1) d L r.2.2)) (fun r => (some (va_rf r.1))) (fun e => RD D (RP D x e.2.1 R0 e.1) d L e.2.2) out) (F : Nat) (k5 : Option Nat → Ji → Th → Option ((Ji × Jr × Th) ⊕ (Option Nat × Ji × Th))) (hk5 : ∀ (a1 : Option Nat) (Q : Ji) (T : Th) , k5 a1 Q T = some out → ∀ c z, Wk X c z (RD D (RP D x Xp R0 Q) d L T) 5 [(0, .ref (x + 9)), (1, va_rf a1)] []) (a1 : Option Nat) (Q : Ji) (T : Th) (hE : R_part_3_B23 F k5 Xp a1 Q T = some out) (c z : Nat) : Wk X c z (RD D (RP D x Xp R0 Q) d L T) 23 [(0, .ref (x + 9)), (1, va_rf a1)] [] := by
  have hX := hP.1
  have hC := hX.1
  have hnL := hX.2.2.1
  have hSt : ∀ {Xp : Jr} {Q : Ji}, Stb (RP D x Xp R0 Q) d := hP.st
  have hDy : ∀ {Xp : Jr} {Q : Ji} {T : Th} (H : Heap), RD D (RP D x Xp R0 Q) d L T H → Dy D T H := fun _ h => h.2.1
  unfold R_part_3_B23 at hE
  refine k_aload_n (pc := 23) hC dX3_part_23 rfl 0 rfl ?_
  refine gP_X3_9 (pc := 24) hP dX3_part_24 ?_
  refine gP_X3_52 (pc := 27) hP dX3_part_27 ?_
  refine k_aload_n (pc := 30) hC dX3_part_30 rfl 0 rfl ?_
  refine gP_X3_31 (pc := 31) hP dX3_part_31 ?_
  refine p_sald (pc := 34) 8 lp_8 hP dX3_part_34 hE (fun x4 hE => ?_)
  refine k_istore_n (pc := 35) (lv' := [(2, .int x4), (0, .ref (x + 9)), (1, va_rf a1)]) hC dX3_part_35 rfl (by rw [hnL]; decide) (by cases a1 <;> rfl) ?_
  refine k_aload_n (pc := 36) hC dX3_part_36 rfl 1 rfl ?_
  rcases xb_of hE with ⟨e, h1, rfl⟩ | ⟨r5, h1, hE⟩
  · exact p_callVT (pc := 37) (As := []) hP hR (ctx_R_pass X.2.1 D (cxA X) x Xp R0 d L Q T (pxf hP)  e h1) (fun H h => p_fault hC.K h) (p_tt hX) (cw_R_pass_X3 hX (Nat.le_of_ble_eq_true rfl) (Nat.le_of_ble_eq_true rfl)) (p_recv 9 lp_9 cl_X3 hP) rfl rfl (Nat.le_of_ble_eq_true rfl) dX3_part_37
  refine a_callV (pc := 37) (As := []) hX (ct_R_pass X.2.1 D (cxA X) x Xp R0 d L Q T (pxf hP)  r5 h1) (cw_R_pass_X3 hX (Nat.le_of_ble_eq_true rfl) (Nat.le_of_ble_eq_true rfl)) (p_recv 9 lp_9 cl_X3 hP) rfl rfl (Nat.le_of_ble_eq_true rfl) dX3_part_37 (fun c z => ?_)
  show Wk X c z (RD D (RP D x Xp R0 r5.1) d L r5.2) 40 [(2, .int x4), (0, .ref (x + 9)), (1, va_rf a1)] []
  refine a_new (pc := 40) hX hSt cl_X20 in_X20 tyX20 tyX20_ok dv_X20 q1219 q1220 q151 dX3_part_40 hE (fun T6 eT6 hE c z => ?_)
  refine k_dup (pc := 43) hC dX3_part_43 rfl ?_
  refine k_iload_n (pc := 44) hC dX3_part_44 rfl 0 rfl ?_
  refine k_aloadR_n (pc := 45) hC dX3_part_45 rfl 2 rfl ?_
  refine k_aload_n (pc := 46) hC dX3_part_46 rfl 1 rfl ?_
  rcases xb_of hE with ⟨e, h1, rfl⟩ | ⟨r7, h1, hE⟩
  · exact p_callVT (pc := 47) (As := []) hP hR (ctx_R_unit_3 X.2.1 D (cxA X) x Xp R0 d L r5.1 T6 (pxf hP) F e h1) (fun H h => p_fault hC.K h) (p_tt hX) (cw_R_unit_3_X3 hX (Nat.le_of_ble_eq_true rfl) (Nat.le_of_ble_eq_true rfl)) (p_recv 9 lp_9 cl_X3 hP) rfl rfl (by cases a1 <;> exact Nat.le_of_ble_eq_true rfl) dX3_part_47
  refine a_callV (pc := 47) (As := []) hX (ct_R_unit_3 X.2.1 D (cxA X) x Xp R0 d L r5.1 T6 (pxf hP) F r7 h1) (cw_R_unit_3_X3 hX (Nat.le_of_ble_eq_true rfl) (Nat.le_of_ble_eq_true rfl)) (p_recv 9 lp_9 cl_X3 hP) rfl rfl (by cases a1 <;> exact Nat.le_of_ble_eq_true rfl) dX3_part_47 (fun c z => ?_)
  show Wk X c z (RD D (RP D x Xp R0 r7.2.1) d L r7.2.2) 50 [(2, .int x4), (0, .ref (x + 9)), (1, va_rf a1)] [va_rf r7.1, va_rf a1, .int x4, .ref (tN r5.2), .ref (tN r5.2)]
  refine k_nn (G := fun z => Wk X _ _ (RD D (RP D x Xp R0 r7.2.1) d L r7.2.2) 50 [(2, .int x4), (0, .ref (x + 9)), (1, va_rf a1)] [z, va_rf a1, .int x4, .ref (tN r5.2), .ref (tN r5.2)]) hE (fun b8 hE => ?_)
  refine k_nn (G := fun z => Wk X _ _ (RD D (RP D x Xp R0 r7.2.1) d L r7.2.2) 50 [(2, .int x4), (0, .ref (x + 9)), (1, z)] [.ref b8, z, .int x4, .ref (tN r5.2), .ref (tN r5.2)]) hE (fun b9 hE => ?_)
  obtain ⟨r10, h1, hE⟩ := ob_ hE
  refine a_callI (pc := 50) (As := [.int x4, .ref b9, .ref b8]) hX (ct_A_Joined X.2.1 D (cxA X) (RP D x Xp R0 r7.2.1) d L r7.2.2 hSt hX.2.1 hX.2.2.2.2.2.2.2.2.2 (tN r5.2) x4 b9 b8 r10 h1) (cw_A_Joined_X3 hX (Nat.le_of_ble_eq_true rfl) (Nat.le_of_ble_eq_true rfl)) rfl rfl (Nat.le_of_ble_eq_true rfl) dX3_part_50 (fun c z => ?_)
  show Wk X c z (RD D (RP D x Xp R0 r7.2.1) d L r10) 53 [(2, .int x4), (0, .ref (x + 9)), (1, .ref b9)] [.ref (tN r5.2)]
  refine k_astore_n (pc := 53) (lv' := [(1, .ref (tN r5.2)), (2, .int x4), (0, .ref (x + 9))]) hC dX3_part_53 rfl (by rw [hnL]; decide) rfl ?_
  refine k_goto (pc := 54) (tgt := 5) hC dX3_part_54 (by decide) ?_
  refine k_sub [2, 0] rfl ?_
  exact hk5 _ _ _ hE _ _
set_option maxHeartbeats 4000000 in
theorem w_R_part_3_B5 {X : Ctx} {D : Dd} {x : Nat} {R0 : Heap → Prop} {d : Nat → Prop} {L : Nat × Nat × Nat × Nat} {Xp : Jr} {out : (Ji × Jr × Th) ⊕ (Option Nat × Ji × Th)} (hP : Px X cX3_part RX3 D x R0 d L 3 15 324) (hR : RtX X (some (.object "SleepWork$Sum")) D L x (fun r => (RD D (RP D x Xp R0 r.2.1) d L r.2.2)) (fun r => (some (va_rf r.1))) (fun e => RD D (RP D x e.2.1 R0 e.1) d L e.2.2) out) (F : Nat) (k5 : Option Nat → Ji → Th → Option ((Ji × Jr × Th) ⊕ (Option Nat × Ji × Th))) (hk5 : ∀ (a1 : Option Nat) (Q : Ji) (T : Th) , k5 a1 Q T = some out → ∀ c z, Wk X c z (RD D (RP D x Xp R0 Q) d L T) 5 [(0, .ref (x + 9)), (1, va_rf a1)] []) (a1 : Option Nat) (Q : Ji) (T : Th) (hE : R_part_3_B5 F k5 Xp a1 Q T = some out) (c z : Nat) : Wk X c z (RD D (RP D x Xp R0 Q) d L T) 5 [(0, .ref (x + 9)), (1, va_rf a1)] [] := by
  have hX := hP.1
  have hC := hX.1
  have hnL := hX.2.2.1
  have hSt : ∀ {Xp : Jr} {Q : Ji}, Stb (RP D x Xp R0 Q) d := hP.st
  have hDy : ∀ {Xp : Jr} {Q : Ji} {T : Th} (H : Heap), RD D (RP D x Xp R0 Q) d L T H → Dy D T H := fun _ h => h.2.1
  unfold R_part_3_B5 at hE
  refine k_aload_n (pc := 5) hC dX3_part_5 rfl 0 rfl ?_
  refine k_bipush (pc := 6) (v := 42) hC dX3_part_6 (by decide) ?_
  rcases xb_of hE with ⟨e, h1, rfl⟩ | ⟨r2, h1, hE⟩
  · exact p_callVT (pc := 8) (As := [.int 42]) hP hR (ctx_R_isSign X.2.1 D (cxA X) x Xp R0 d L Q T (pxf hP) 42 e h1) (fun H h => p_fault hC.K h) (p_tt hX) (cw_R_isSign_X3 hX (Nat.le_of_ble_eq_true rfl) (Nat.le_of_ble_eq_true rfl)) (p_recv 9 lp_9 cl_X3 hP) rfl rfl (Nat.le_of_ble_eq_true rfl) dX3_part_8
  refine a_callV (pc := 8) (As := [.int 42]) hX (ct_R_isSign X.2.1 D (cxA X) x Xp R0 d L Q T (pxf hP) 42 r2 h1) (cw_R_isSign_X3 hX (Nat.le_of_ble_eq_true rfl) (Nat.le_of_ble_eq_true rfl)) (p_recv 9 lp_9 cl_X3 hP) rfl rfl (Nat.le_of_ble_eq_true rfl) dX3_part_8 (fun c z => ?_)
  show Wk X c z (RD D (RP D x Xp R0 r2.2.1) d L r2.2.2) 11 [(0, .ref (x + 9)), (1, va_rf a1)] [.int r2.1]
  refine k_if_ne (pc := 11) (tgt := 23) hC dX3_part_11 (by decide) hE (fun hE => ?_) (fun hE => ?_)
  · refine k_aload_n (pc := 14) hC dX3_part_14 rfl 0 rfl ?_
    refine k_bipush (pc := 15) (v := 47) hC dX3_part_15 (by decide) ?_
    rcases xb_of hE with ⟨e, h1, rfl⟩ | ⟨r3, h1, hE⟩
    · exact p_callVT (pc := 17) (As := [.int 47]) hP hR (ctx_R_isSign X.2.1 D (cxA X) x Xp R0 d L r2.2.1 r2.2.2 (pxf hP) 47 e h1) (fun H h => p_fault hC.K h) (p_tt hX) (cw_R_isSign_X3 hX (Nat.le_of_ble_eq_true rfl) (Nat.le_of_ble_eq_true rfl)) (p_recv 9 lp_9 cl_X3 hP) rfl rfl (Nat.le_of_ble_eq_true rfl) dX3_part_17
    refine a_callV (pc := 17) (As := [.int 47]) hX (ct_R_isSign X.2.1 D (cxA X) x Xp R0 d L r2.2.1 r2.2.2 (pxf hP) 47 r3 h1) (cw_R_isSign_X3 hX (Nat.le_of_ble_eq_true rfl) (Nat.le_of_ble_eq_true rfl)) (p_recv 9 lp_9 cl_X3 hP) rfl rfl (Nat.le_of_ble_eq_true rfl) dX3_part_17 (fun c z => ?_)
    show Wk X c z (RD D (RP D x Xp R0 r3.2.1) d L r3.2.2) 20 [(0, .ref (x + 9)), (1, va_rf a1)] [.int r3.1]
    refine k_if_eq (pc := 20) (tgt := 57) hC dX3_part_20 (by decide) hE (fun hE => ?_) (fun hE => ?_)
    · refine k_aloadR_n (pc := 57) hC dX3_part_57 rfl 1 rfl ?_
      cases hE
      exact a_aret (pc := 58) (v := va_rf _) (rt := (.object "SleepWork$Sum")) (by first | exact Or.inl ⟨_, rfl⟩ | exact Or.inr ⟨_, rfl⟩) (va_rfv _) hX hR dX3_part_58 (by rfl) (fun _ h => h)
    · exact w_R_part_3_B23 hP hR F k5 hk5 _ _ _ hE _ _
  · exact w_R_part_3_B23 hP hR F k5 hk5 _ _ _ hE _ _
theorem w_R_part_3_L5 {X : Ctx} {D : Dd} {x : Nat} {R0 : Heap → Prop} {d : Nat → Prop} {L : Nat × Nat × Nat × Nat} {Xp : Jr} {out : (Ji × Jr × Th) ⊕ (Option Nat × Ji × Th)} (hP : Px X cX3_part RX3 D x R0 d L 3 15 324) (hR : RtX X (some (.object "SleepWork$Sum")) D L x (fun r => (RD D (RP D x Xp R0 r.2.1) d L r.2.2)) (fun r => (some (va_rf r.1))) (fun e => RD D (RP D x e.2.1 R0 e.1) d L e.2.2) out) (F : Nat) (n : Nat) : ∀ (a1 : Option Nat) (Q : Ji) (T : Th) , R_part_3_L5 F Xp n a1 Q T = some out → ∀ c z, Wk X c z (RD D (RP D x Xp R0 Q) d L T) 5 [(0, .ref (x + 9)), (1, va_rf a1)] [] := by
  induction n with
  | zero => intro a1 Q T h; cases h
  | succ n ih => intro a1 Q T h; exact w_R_part_3_B5 hP hR F (R_part_3_L5 F Xp n) ih a1 Q T h
set_option maxHeartbeats 4000000 in
theorem w_R_part_3 {X : Ctx} {D : Dd} {x : Nat} {R0 : Heap → Prop} {d : Nat → Prop} {L : Nat × Nat × Nat × Nat} {Xp : Jr} {out : (Ji × Jr × Th) ⊕ (Option Nat × Ji × Th)} (hP : Px X cX3_part RX3 D x R0 d L 3 15 324) (hR : RtX X (some (.object "SleepWork$Sum")) D L x (fun r => (RD D (RP D x Xp R0 r.2.1) d L r.2.2)) (fun r => (some (va_rf r.1))) (fun e => RD D (RP D x e.2.1 R0 e.1) d L e.2.2) out) (F : Nat) (Q : Ji) (T : Th) (hE : R_part_3 F Xp Q T = some out) (c z : Nat) : Wk X c z (RD D (RP D x Xp R0 Q) d L T) 0 [(0, .ref (x + 9))] [] := by
  have hX := hP.1
  have hC := hX.1
  have hnL := hX.2.2.1
  have hSt : ∀ {Xp : Jr} {Q : Ji}, Stb (RP D x Xp R0 Q) d := hP.st
  have hDy : ∀ {Xp : Jr} {Q : Ji} {T : Th} (H : Heap), RD D (RP D x Xp R0 Q) d L T H → Dy D T H := fun _ h => h.2.1
  unfold R_part_3 at hE
  refine k_aload_n (pc := 0) hC dX3_part_0 rfl 0 rfl ?_
  rcases xb_of hE with ⟨e, h1, rfl⟩ | ⟨r1, h1, hE⟩
  · exact p_callVT (pc := 1) (As := []) hP hR (ctx_R_unit_3 X.2.1 D (cxA X) x Xp R0 d L Q T (pxf hP) F e h1) (fun H h => p_fault hC.K h) (p_tt hX) (cw_R_unit_3_X3 hX (Nat.le_of_ble_eq_true rfl) (Nat.le_of_ble_eq_true rfl)) (p_recv 9 lp_9 cl_X3 hP) rfl rfl (Nat.le_of_ble_eq_true rfl) dX3_part_1
  refine a_callV (pc := 1) (As := []) hX (ct_R_unit_3 X.2.1 D (cxA X) x Xp R0 d L Q T (pxf hP) F r1 h1) (cw_R_unit_3_X3 hX (Nat.le_of_ble_eq_true rfl) (Nat.le_of_ble_eq_true rfl)) (p_recv 9 lp_9 cl_X3 hP) rfl rfl (Nat.le_of_ble_eq_true rfl) dX3_part_1 (fun c z => ?_)
  show Wk X c z (RD D (RP D x Xp R0 r1.2.1) d L r1.2.2) 4 [(0, .ref (x + 9))] [va_rf r1.1]
  refine k_astoreR_n (pc := 4) (lv' := [(1, va_rf r1.1), (0, .ref (x + 9))]) hC dX3_part_4 rfl (by rw [hnL]; decide) rfl ?_
  refine k_sub [1, 0] rfl ?_
  exact w_R_part_3_L5 hP hR F _ _ _ _ hE _ _
theorem ct_R_part_3 (l : Launch) (D : Dd) (A : Nat → Prop) (x : Nat) (Xp : Jr) (R0 : Heap → Prop) (d : Nat → Prop) (L : Nat × Nat × Nat × Nat) (Q : Ji) (T : Th) (hp : Pf D A x R0 d) (F : Nat) (out : Option Nat × Ji × Th) (hE : R_part_3 F Xp Q T = some (.inr out)) : Ct l yX3_part (ws_ yX3_part cX3_part 3 (some (.object "SleepWork$Sum"))) (rmA 15 324 L T) vwCl arTy D A [.ref (x + 9)] (RD D (RP D x Xp R0 Q) d L T) (RD D (RP D x Xp R0 out.2.1) d L out.2.2) (some (va_rf out.1)) (L.1 - tN T) (L.2.1 - tZ T) := by
  refine Ct.ofA (lv := [(0, .ref (x + 9))]) (by decide) (Nat.le_of_ble_eq_true rfl) rfl hp.1 hp.2.1 ?_
  intro X hl hX hR hXA _
  exact w_R_part_3 (Xp := Xp) (out := .inr out) (hp.px hX hXA) hR F Q T hE
theorem ctx_R_part_3 (l : Launch) (D : Dd) (A : Nat → Prop) (x : Nat) (Xp : Jr) (R0 : Heap → Prop) (d : Nat → Prop) (L : Nat × Nat × Nat × Nat) (Q : Ji) (T : Th) (hp : Pf D A x R0 d) (F : Nat) (e : Ji × Jr × Th) (hE : R_part_3 F Xp Q T = some (.inl e)) : CtT l yX3_part (ws_ yX3_part cX3_part 3 (some (.object "SleepWork$Sum"))) (rmA 15 324 L T) D A [.ref (x + 9)] (RD D (RP D x Xp R0 Q) d L T) (RD D (RP D x e.2.1 R0 e.1) d L e.2.2) (x + 1) (L.1 - tN T) (L.2.1 - tZ T) := by
  refine CtT.ofA (lv := [(0, .ref (x + 9))]) (by decide) (Nat.le_of_ble_eq_true rfl) rfl hp.1 hp.2.1 ?_
  intro X hl hX hR hXA
  exact w_R_part_3 (Xp := Xp) (out := .inl e) (hp.px hX hXA) hR F Q T hE
theorem cw_R_part_3_X3 {X : Ctx} {cc : ByteArray} {D : Dd} {d : Nat → Prop} {L : Nat × Nat × Nat × Nat} {mL fr lo : Nat} {T : Th} (hX : Ax X cc RX3 D d L mL fr lo) (h1 : 15 + 1 ≤ fr) (h2 : 8 + (3 + 11) + 324 ≤ lo) : CallW X.2.2.2.1 X.2.2.2.2.1 X.2.2.2.2.2.2.1 RX3 RX3 269 yX3_part cX3_part 3 (some (.object "SleepWork$Sum")) (ws_ yX3_part cX3_part 3 (some (.object "SleepWork$Sum"))) (rmA 15 324 L T) (L.1 - tN T) (L.2.1 - tZ T) 0 := cwV 0 (cx_w hX.1) (lw_V q1188 q1190 qs31 q120 q1191) rfl rfl rfl (by decide +kernel) (by rw [hX.2.2.2.1, hX.2.2.2.2.1]; exact ⟨h1, h2⟩)
set_option maxHeartbeats 4000000 in
theorem w_R_sum_3_B23 {X : Ctx} {D : Dd} {x : Nat} {R0 : Heap → Prop} {d : Nat → Prop} {L : Nat × Nat × Nat × Nat} {Xp : Jr} {out : (Ji × Jr × Th) ⊕ (Option Nat × Ji × Th)} (hP : Px X cX3_sum RX3 D x R0 d L 3 16 346) (hR : RtX X (some (.object "SleepWork$Sum")) D L x (fun r => (RD D (RP D x Xp R0 r.2.1) d L r.2.2)) (fun r => (some (va_rf r.1))) (fun e => RD D (RP D x e.2.1 R0 e.1) d L e.2.2) out) (F : Nat) (k5 : Option Nat → Ji → Th → Option ((Ji × Jr × Th) ⊕ (Option Nat × Ji × Th))) (hk5 : ∀ (a1 : Option Nat) (Q : Ji) (T : Th) , k5 a1 Q T = some out → ∀ c z, Wk X c z (RD D (RP D x Xp R0 Q) d L T) 5 [(0, .ref (x + 9)), (1, va_rf a1)] []) (a1 : Option Nat) (Q : Ji) (T : Th) (hE : R_sum_3_B23 F k5 Xp a1 Q T = some out) (c z : Nat) : Wk X c z (RD D (RP D x Xp R0 Q) d L T) 23 [(0, .ref (x + 9)), (1, va_rf a1)] [] := by
  have hX := hP.1
  have hC := hX.1
  have hnL := hX.2.2.1
  have hSt : ∀ {Xp : Jr} {Q : Ji}, Stb (RP D x Xp R0 Q) d := hP.st
  have hDy : ∀ {Xp : Jr} {Q : Ji} {T : Th} (H : Heap), RD D (RP D x Xp R0 Q) d L T H → Dy D T H := fun _ h => h.2.1
  unfold R_sum_3_B23 at hE
  refine k_aload_n (pc := 23) hC dX3_sum_23 rfl 0 rfl ?_
  refine gP_X3_9 (pc := 24) hP dX3_sum_24 ?_
  refine gP_X3_52 (pc := 27) hP dX3_sum_27 ?_
  refine k_aload_n (pc := 30) hC dX3_sum_30 rfl 0 rfl ?_
  refine gP_X3_31 (pc := 31) hP dX3_sum_31 ?_
  refine p_sald (pc := 34) 8 lp_8 hP dX3_sum_34 hE (fun x4 hE => ?_)
  refine k_istore_n (pc := 35) (lv' := [(2, .int x4), (0, .ref (x + 9)), (1, va_rf a1)]) hC dX3_sum_35 rfl (by rw [hnL]; decide) (by cases a1 <;> rfl) ?_
  refine k_aload_n (pc := 36) hC dX3_sum_36 rfl 1 rfl ?_
  rcases xb_of hE with ⟨e, h1, rfl⟩ | ⟨r5, h1, hE⟩
  · exact p_callVT (pc := 37) (As := []) hP hR (ctx_R_pass X.2.1 D (cxA X) x Xp R0 d L Q T (pxf hP)  e h1) (fun H h => p_fault hC.K h) (p_tt hX) (cw_R_pass_X3 hX (Nat.le_of_ble_eq_true rfl) (Nat.le_of_ble_eq_true rfl)) (p_recv 9 lp_9 cl_X3 hP) rfl rfl (Nat.le_of_ble_eq_true rfl) dX3_sum_37
  refine a_callV (pc := 37) (As := []) hX (ct_R_pass X.2.1 D (cxA X) x Xp R0 d L Q T (pxf hP)  r5 h1) (cw_R_pass_X3 hX (Nat.le_of_ble_eq_true rfl) (Nat.le_of_ble_eq_true rfl)) (p_recv 9 lp_9 cl_X3 hP) rfl rfl (Nat.le_of_ble_eq_true rfl) dX3_sum_37 (fun c z => ?_)
  show Wk X c z (RD D (RP D x Xp R0 r5.1) d L r5.2) 40 [(2, .int x4), (0, .ref (x + 9)), (1, va_rf a1)] []
  refine a_new (pc := 40) hX hSt cl_X20 in_X20 tyX20 tyX20_ok dv_X20 q1219 q1220 q151 dX3_sum_40 hE (fun T6 eT6 hE c z => ?_)
  refine k_dup (pc := 43) hC dX3_sum_43 rfl ?_
  refine k_iload_n (pc := 44) hC dX3_sum_44 rfl 0 rfl ?_
  refine k_aloadR_n (pc := 45) hC dX3_sum_45 rfl 2 rfl ?_
  refine k_aload_n (pc := 46) hC dX3_sum_46 rfl 1 rfl ?_
  rcases xb_of hE with ⟨e, h1, rfl⟩ | ⟨r7, h1, hE⟩
  · exact p_callVT (pc := 47) (As := []) hP hR (ctx_R_part_3 X.2.1 D (cxA X) x Xp R0 d L r5.1 T6 (pxf hP) F e h1) (fun H h => p_fault hC.K h) (p_tt hX) (cw_R_part_3_X3 hX (Nat.le_of_ble_eq_true rfl) (Nat.le_of_ble_eq_true rfl)) (p_recv 9 lp_9 cl_X3 hP) rfl rfl (by cases a1 <;> exact Nat.le_of_ble_eq_true rfl) dX3_sum_47
  refine a_callV (pc := 47) (As := []) hX (ct_R_part_3 X.2.1 D (cxA X) x Xp R0 d L r5.1 T6 (pxf hP) F r7 h1) (cw_R_part_3_X3 hX (Nat.le_of_ble_eq_true rfl) (Nat.le_of_ble_eq_true rfl)) (p_recv 9 lp_9 cl_X3 hP) rfl rfl (by cases a1 <;> exact Nat.le_of_ble_eq_true rfl) dX3_sum_47 (fun c z => ?_)
  show Wk X c z (RD D (RP D x Xp R0 r7.2.1) d L r7.2.2) 50 [(2, .int x4), (0, .ref (x + 9)), (1, va_rf a1)] [va_rf r7.1, va_rf a1, .int x4, .ref (tN r5.2), .ref (tN r5.2)]
  refine k_nn (G := fun z => Wk X _ _ (RD D (RP D x Xp R0 r7.2.1) d L r7.2.2) 50 [(2, .int x4), (0, .ref (x + 9)), (1, va_rf a1)] [z, va_rf a1, .int x4, .ref (tN r5.2), .ref (tN r5.2)]) hE (fun b8 hE => ?_)
  refine k_nn (G := fun z => Wk X _ _ (RD D (RP D x Xp R0 r7.2.1) d L r7.2.2) 50 [(2, .int x4), (0, .ref (x + 9)), (1, z)] [.ref b8, z, .int x4, .ref (tN r5.2), .ref (tN r5.2)]) hE (fun b9 hE => ?_)
  obtain ⟨r10, h1, hE⟩ := ob_ hE
  refine a_callI (pc := 50) (As := [.int x4, .ref b9, .ref b8]) hX (ct_A_Joined X.2.1 D (cxA X) (RP D x Xp R0 r7.2.1) d L r7.2.2 hSt hX.2.1 hX.2.2.2.2.2.2.2.2.2 (tN r5.2) x4 b9 b8 r10 h1) (cw_A_Joined_X3 hX (Nat.le_of_ble_eq_true rfl) (Nat.le_of_ble_eq_true rfl)) rfl rfl (Nat.le_of_ble_eq_true rfl) dX3_sum_50 (fun c z => ?_)
  show Wk X c z (RD D (RP D x Xp R0 r7.2.1) d L r10) 53 [(2, .int x4), (0, .ref (x + 9)), (1, .ref b9)] [.ref (tN r5.2)]
  refine k_astore_n (pc := 53) (lv' := [(1, .ref (tN r5.2)), (2, .int x4), (0, .ref (x + 9))]) hC dX3_sum_53 rfl (by rw [hnL]; decide) rfl ?_
  refine k_goto (pc := 54) (tgt := 5) hC dX3_sum_54 (by decide) ?_
  refine k_sub [2, 0] rfl ?_
  exact hk5 _ _ _ hE _ _
set_option maxHeartbeats 4000000 in
theorem w_R_sum_3_B5 {X : Ctx} {D : Dd} {x : Nat} {R0 : Heap → Prop} {d : Nat → Prop} {L : Nat × Nat × Nat × Nat} {Xp : Jr} {out : (Ji × Jr × Th) ⊕ (Option Nat × Ji × Th)} (hP : Px X cX3_sum RX3 D x R0 d L 3 16 346) (hR : RtX X (some (.object "SleepWork$Sum")) D L x (fun r => (RD D (RP D x Xp R0 r.2.1) d L r.2.2)) (fun r => (some (va_rf r.1))) (fun e => RD D (RP D x e.2.1 R0 e.1) d L e.2.2) out) (F : Nat) (k5 : Option Nat → Ji → Th → Option ((Ji × Jr × Th) ⊕ (Option Nat × Ji × Th))) (hk5 : ∀ (a1 : Option Nat) (Q : Ji) (T : Th) , k5 a1 Q T = some out → ∀ c z, Wk X c z (RD D (RP D x Xp R0 Q) d L T) 5 [(0, .ref (x + 9)), (1, va_rf a1)] []) (a1 : Option Nat) (Q : Ji) (T : Th) (hE : R_sum_3_B5 F k5 Xp a1 Q T = some out) (c z : Nat) : Wk X c z (RD D (RP D x Xp R0 Q) d L T) 5 [(0, .ref (x + 9)), (1, va_rf a1)] [] := by
  have hX := hP.1
  have hC := hX.1
  have hnL := hX.2.2.1
  have hSt : ∀ {Xp : Jr} {Q : Ji}, Stb (RP D x Xp R0 Q) d := hP.st
  have hDy : ∀ {Xp : Jr} {Q : Ji} {T : Th} (H : Heap), RD D (RP D x Xp R0 Q) d L T H → Dy D T H := fun _ h => h.2.1
  unfold R_sum_3_B5 at hE
  refine k_aload_n (pc := 5) hC dX3_sum_5 rfl 0 rfl ?_
  refine k_bipush (pc := 6) (v := 43) hC dX3_sum_6 (by decide) ?_
  rcases xb_of hE with ⟨e, h1, rfl⟩ | ⟨r2, h1, hE⟩
  · exact p_callVT (pc := 8) (As := [.int 43]) hP hR (ctx_R_isSign X.2.1 D (cxA X) x Xp R0 d L Q T (pxf hP) 43 e h1) (fun H h => p_fault hC.K h) (p_tt hX) (cw_R_isSign_X3 hX (Nat.le_of_ble_eq_true rfl) (Nat.le_of_ble_eq_true rfl)) (p_recv 9 lp_9 cl_X3 hP) rfl rfl (Nat.le_of_ble_eq_true rfl) dX3_sum_8
  refine a_callV (pc := 8) (As := [.int 43]) hX (ct_R_isSign X.2.1 D (cxA X) x Xp R0 d L Q T (pxf hP) 43 r2 h1) (cw_R_isSign_X3 hX (Nat.le_of_ble_eq_true rfl) (Nat.le_of_ble_eq_true rfl)) (p_recv 9 lp_9 cl_X3 hP) rfl rfl (Nat.le_of_ble_eq_true rfl) dX3_sum_8 (fun c z => ?_)
  show Wk X c z (RD D (RP D x Xp R0 r2.2.1) d L r2.2.2) 11 [(0, .ref (x + 9)), (1, va_rf a1)] [.int r2.1]
  refine k_if_ne (pc := 11) (tgt := 23) hC dX3_sum_11 (by decide) hE (fun hE => ?_) (fun hE => ?_)
  · refine k_aload_n (pc := 14) hC dX3_sum_14 rfl 0 rfl ?_
    refine k_bipush (pc := 15) (v := 45) hC dX3_sum_15 (by decide) ?_
    rcases xb_of hE with ⟨e, h1, rfl⟩ | ⟨r3, h1, hE⟩
    · exact p_callVT (pc := 17) (As := [.int 45]) hP hR (ctx_R_isSign X.2.1 D (cxA X) x Xp R0 d L r2.2.1 r2.2.2 (pxf hP) 45 e h1) (fun H h => p_fault hC.K h) (p_tt hX) (cw_R_isSign_X3 hX (Nat.le_of_ble_eq_true rfl) (Nat.le_of_ble_eq_true rfl)) (p_recv 9 lp_9 cl_X3 hP) rfl rfl (Nat.le_of_ble_eq_true rfl) dX3_sum_17
    refine a_callV (pc := 17) (As := [.int 45]) hX (ct_R_isSign X.2.1 D (cxA X) x Xp R0 d L r2.2.1 r2.2.2 (pxf hP) 45 r3 h1) (cw_R_isSign_X3 hX (Nat.le_of_ble_eq_true rfl) (Nat.le_of_ble_eq_true rfl)) (p_recv 9 lp_9 cl_X3 hP) rfl rfl (Nat.le_of_ble_eq_true rfl) dX3_sum_17 (fun c z => ?_)
    show Wk X c z (RD D (RP D x Xp R0 r3.2.1) d L r3.2.2) 20 [(0, .ref (x + 9)), (1, va_rf a1)] [.int r3.1]
    refine k_if_eq (pc := 20) (tgt := 57) hC dX3_sum_20 (by decide) hE (fun hE => ?_) (fun hE => ?_)
    · refine k_aloadR_n (pc := 57) hC dX3_sum_57 rfl 1 rfl ?_
      cases hE
      exact a_aret (pc := 58) (v := va_rf _) (rt := (.object "SleepWork$Sum")) (by first | exact Or.inl ⟨_, rfl⟩ | exact Or.inr ⟨_, rfl⟩) (va_rfv _) hX hR dX3_sum_58 (by rfl) (fun _ h => h)
    · exact w_R_sum_3_B23 hP hR F k5 hk5 _ _ _ hE _ _
  · exact w_R_sum_3_B23 hP hR F k5 hk5 _ _ _ hE _ _
theorem w_R_sum_3_L5 {X : Ctx} {D : Dd} {x : Nat} {R0 : Heap → Prop} {d : Nat → Prop} {L : Nat × Nat × Nat × Nat} {Xp : Jr} {out : (Ji × Jr × Th) ⊕ (Option Nat × Ji × Th)} (hP : Px X cX3_sum RX3 D x R0 d L 3 16 346) (hR : RtX X (some (.object "SleepWork$Sum")) D L x (fun r => (RD D (RP D x Xp R0 r.2.1) d L r.2.2)) (fun r => (some (va_rf r.1))) (fun e => RD D (RP D x e.2.1 R0 e.1) d L e.2.2) out) (F : Nat) (n : Nat) : ∀ (a1 : Option Nat) (Q : Ji) (T : Th) , R_sum_3_L5 F Xp n a1 Q T = some out → ∀ c z, Wk X c z (RD D (RP D x Xp R0 Q) d L T) 5 [(0, .ref (x + 9)), (1, va_rf a1)] [] := by
  induction n with
  | zero => intro a1 Q T h; cases h
  | succ n ih => intro a1 Q T h; exact w_R_sum_3_B5 hP hR F (R_sum_3_L5 F Xp n) ih a1 Q T h
set_option maxHeartbeats 4000000 in
theorem w_R_sum_3 {X : Ctx} {D : Dd} {x : Nat} {R0 : Heap → Prop} {d : Nat → Prop} {L : Nat × Nat × Nat × Nat} {Xp : Jr} {out : (Ji × Jr × Th) ⊕ (Option Nat × Ji × Th)} (hP : Px X cX3_sum RX3 D x R0 d L 3 16 346) (hR : RtX X (some (.object "SleepWork$Sum")) D L x (fun r => (RD D (RP D x Xp R0 r.2.1) d L r.2.2)) (fun r => (some (va_rf r.1))) (fun e => RD D (RP D x e.2.1 R0 e.1) d L e.2.2) out) (F : Nat) (Q : Ji) (T : Th) (hE : R_sum_3 F Xp Q T = some out) (c z : Nat) : Wk X c z (RD D (RP D x Xp R0 Q) d L T) 0 [(0, .ref (x + 9))] [] := by
  have hX := hP.1
  have hC := hX.1
  have hnL := hX.2.2.1
  have hSt : ∀ {Xp : Jr} {Q : Ji}, Stb (RP D x Xp R0 Q) d := hP.st
  have hDy : ∀ {Xp : Jr} {Q : Ji} {T : Th} (H : Heap), RD D (RP D x Xp R0 Q) d L T H → Dy D T H := fun _ h => h.2.1
  unfold R_sum_3 at hE
  refine k_aload_n (pc := 0) hC dX3_sum_0 rfl 0 rfl ?_
  rcases xb_of hE with ⟨e, h1, rfl⟩ | ⟨r1, h1, hE⟩
  · exact p_callVT (pc := 1) (As := []) hP hR (ctx_R_part_3 X.2.1 D (cxA X) x Xp R0 d L Q T (pxf hP) F e h1) (fun H h => p_fault hC.K h) (p_tt hX) (cw_R_part_3_X3 hX (Nat.le_of_ble_eq_true rfl) (Nat.le_of_ble_eq_true rfl)) (p_recv 9 lp_9 cl_X3 hP) rfl rfl (Nat.le_of_ble_eq_true rfl) dX3_sum_1
  refine a_callV (pc := 1) (As := []) hX (ct_R_part_3 X.2.1 D (cxA X) x Xp R0 d L Q T (pxf hP) F r1 h1) (cw_R_part_3_X3 hX (Nat.le_of_ble_eq_true rfl) (Nat.le_of_ble_eq_true rfl)) (p_recv 9 lp_9 cl_X3 hP) rfl rfl (Nat.le_of_ble_eq_true rfl) dX3_sum_1 (fun c z => ?_)
  show Wk X c z (RD D (RP D x Xp R0 r1.2.1) d L r1.2.2) 4 [(0, .ref (x + 9))] [va_rf r1.1]
  refine k_astoreR_n (pc := 4) (lv' := [(1, va_rf r1.1), (0, .ref (x + 9))]) hC dX3_sum_4 rfl (by rw [hnL]; decide) rfl ?_
  refine k_sub [1, 0] rfl ?_
  exact w_R_sum_3_L5 hP hR F _ _ _ _ hE _ _
theorem ct_R_sum_3 (l : Launch) (D : Dd) (A : Nat → Prop) (x : Nat) (Xp : Jr) (R0 : Heap → Prop) (d : Nat → Prop) (L : Nat × Nat × Nat × Nat) (Q : Ji) (T : Th) (hp : Pf D A x R0 d) (F : Nat) (out : Option Nat × Ji × Th) (hE : R_sum_3 F Xp Q T = some (.inr out)) : Ct l yX3_sum (ws_ yX3_sum cX3_sum 3 (some (.object "SleepWork$Sum"))) (rmA 16 346 L T) vwCl arTy D A [.ref (x + 9)] (RD D (RP D x Xp R0 Q) d L T) (RD D (RP D x Xp R0 out.2.1) d L out.2.2) (some (va_rf out.1)) (L.1 - tN T) (L.2.1 - tZ T) := by
  refine Ct.ofA (lv := [(0, .ref (x + 9))]) (by decide) (Nat.le_of_ble_eq_true rfl) rfl hp.1 hp.2.1 ?_
  intro X hl hX hR hXA _
  exact w_R_sum_3 (Xp := Xp) (out := .inr out) (hp.px hX hXA) hR F Q T hE
theorem ctx_R_sum_3 (l : Launch) (D : Dd) (A : Nat → Prop) (x : Nat) (Xp : Jr) (R0 : Heap → Prop) (d : Nat → Prop) (L : Nat × Nat × Nat × Nat) (Q : Ji) (T : Th) (hp : Pf D A x R0 d) (F : Nat) (e : Ji × Jr × Th) (hE : R_sum_3 F Xp Q T = some (.inl e)) : CtT l yX3_sum (ws_ yX3_sum cX3_sum 3 (some (.object "SleepWork$Sum"))) (rmA 16 346 L T) D A [.ref (x + 9)] (RD D (RP D x Xp R0 Q) d L T) (RD D (RP D x e.2.1 R0 e.1) d L e.2.2) (x + 1) (L.1 - tN T) (L.2.1 - tZ T) := by
  refine CtT.ofA (lv := [(0, .ref (x + 9))]) (by decide) (Nat.le_of_ble_eq_true rfl) rfl hp.1 hp.2.1 ?_
  intro X hl hX hR hXA
  exact w_R_sum_3 (Xp := Xp) (out := .inl e) (hp.px hX hXA) hR F Q T hE
theorem cw_R_sum_3_X3 {X : Ctx} {cc : ByteArray} {D : Dd} {d : Nat → Prop} {L : Nat × Nat × Nat × Nat} {mL fr lo : Nat} {T : Th} (hX : Ax X cc RX3 D d L mL fr lo) (h1 : 16 + 1 ≤ fr) (h2 : 8 + (3 + 11) + 346 ≤ lo) : CallW X.2.2.2.1 X.2.2.2.2.1 X.2.2.2.2.2.2.1 RX3 RX3 253 yX3_sum cX3_sum 3 (some (.object "SleepWork$Sum")) (ws_ yX3_sum cX3_sum 3 (some (.object "SleepWork$Sum"))) (rmA 16 346 L T) (L.1 - tN T) (L.2.1 - tZ T) 0 := cwV 0 (cx_w hX.1) (lw_V q1184 q1186 qs30 q120 q1187) rfl rfl rfl (by decide +kernel) (by rw [hX.2.2.2.1, hX.2.2.2.2.1]; exact ⟨h1, h2⟩)
set_option maxHeartbeats 4000000 in
theorem w_R_unit_4_B87 {X : Ctx} {D : Dd} {x : Nat} {R0 : Heap → Prop} {d : Nat → Prop} {L : Nat × Nat × Nat × Nat} {Xp : Jr} {out : (Ji × Jr × Th) ⊕ (Option Nat × Ji × Th)} (hP : Px X cX3_unit RX3 D x R0 d L 2 17 368) (hR : RtX X (some (.object "SleepWork$Sum")) D L x (fun r => (RD D (RP D x Xp R0 r.2.1) d L r.2.2)) (fun r => (some (va_rf r.1))) (fun e => RD D (RP D x e.2.1 R0 e.1) d L e.2.2) out) (F : Nat) (Q : Ji) (T : Th) (hE : R_unit_4_B87 F Xp Q T = some out) (c z : Nat) : Wk X c z (RD D (RP D x Xp R0 Q) d L T) 87 [(0, .ref (x + 9))] [] := by
  have hX := hP.1
  have hC := hX.1
  have hnL := hX.2.2.1
  have hSt : ∀ {Xp : Jr} {Q : Ji}, Stb (RP D x Xp R0 Q) d := hP.st
  have hDy : ∀ {Xp : Jr} {Q : Ji} {T : Th} (H : Heap), RD D (RP D x Xp R0 Q) d L T H → Dy D T H := fun _ h => h.2.1
  unfold R_unit_4_B87 at hE
  refine k_aload_n (pc := 87) hC dX3_unit_87 rfl 0 rfl ?_
  refine k_bipush (pc := 88) (v := 40) hC dX3_unit_88 (by decide) ?_
  rcases xb_of hE with ⟨e, h1, rfl⟩ | ⟨r12, h1, hE⟩
  · exact p_callVT (pc := 90) (As := [.int 40]) hP hR (ctx_R_isSign X.2.1 D (cxA X) x Xp R0 d L Q T (pxf hP) 40 e h1) (fun H h => p_fault hC.K h) (p_tt hX) (cw_R_isSign_X3 hX (Nat.le_of_ble_eq_true rfl) (Nat.le_of_ble_eq_true rfl)) (p_recv 9 lp_9 cl_X3 hP) rfl rfl (Nat.le_of_ble_eq_true rfl) dX3_unit_90
  refine a_callV (pc := 90) (As := [.int 40]) hX (ct_R_isSign X.2.1 D (cxA X) x Xp R0 d L Q T (pxf hP) 40 r12 h1) (cw_R_isSign_X3 hX (Nat.le_of_ble_eq_true rfl) (Nat.le_of_ble_eq_true rfl)) (p_recv 9 lp_9 cl_X3 hP) rfl rfl (Nat.le_of_ble_eq_true rfl) dX3_unit_90 (fun c z => ?_)
  show Wk X c z (RD D (RP D x Xp R0 r12.2.1) d L r12.2.2) 93 [(0, .ref (x + 9))] [.int r12.1]
  refine k_if_ne (pc := 93) (tgt := 102) hC dX3_unit_93 (by decide) hE (fun hE => ?_) (fun hE => ?_)
  · refine k_aload_n (pc := 96) hC dX3_unit_96 rfl 0 rfl ?_
    refine k_iconst (pc := 97) (v := 1) hC dX3_unit_97 (by decide) ?_
    obtain ⟨r13, h1, hE⟩ := ob_ hE
    refine a_callV (pc := 98) (As := [.int 1]) hX (ct_R_wrong X.2.1 D (cxA X) x Xp R0 d L r12.2.1 r12.2.2 (pxf hP) 1 r13 h1) (cw_R_wrong_X3 hX (Nat.le_of_ble_eq_true rfl) (Nat.le_of_ble_eq_true rfl)) (p_recv 9 lp_9 cl_X3 hP) rfl rfl (Nat.le_of_ble_eq_true rfl) dX3_unit_98 (fun c z => ?_)
    show Wk X c z (RD D (RP D x Xp R0 r13) d L r12.2.2) 101 [(0, .ref (x + 9))] [.ref (x + 1)]
    cases hE
    exact p_athrow (pc := 101) hP hR dX3_unit_101 (fun _ h => h)
  · refine k_aload_n (pc := 102) hC dX3_unit_102 rfl 0 rfl ?_
    refine gP_X3_99 (pc := 103) hP dX3_unit_103 ?_
    refine k_bipush (pc := 106) (v := 6) hC dX3_unit_106 (by decide) ?_
    refine k_icmp_ne (pc := 108) (tgt := 117) hC dX3_unit_108 (by decide) hE (fun hE => ?_) (fun hE => ?_)
    · refine k_aload_n (pc := 111) hC dX3_unit_111 rfl 0 rfl ?_
      refine k_iconst (pc := 112) (v := 2) hC dX3_unit_112 (by decide) ?_
      obtain ⟨r14, h1, hE⟩ := ob_ hE
      refine a_callV (pc := 113) (As := [.int 2]) hX (ct_R_wrong X.2.1 D (cxA X) x Xp R0 d L r12.2.1 r12.2.2 (pxf hP) 2 r14 h1) (cw_R_wrong_X3 hX (Nat.le_of_ble_eq_true rfl) (Nat.le_of_ble_eq_true rfl)) (p_recv 9 lp_9 cl_X3 hP) rfl rfl (Nat.le_of_ble_eq_true rfl) dX3_unit_113 (fun c z => ?_)
      show Wk X c z (RD D (RP D x Xp R0 r14) d L r12.2.2) 116 [(0, .ref (x + 9))] [.ref (x + 1)]
      cases hE
      exact p_athrow (pc := 116) hP hR dX3_unit_116 (fun _ h => h)
    · refine k_aload_n (pc := 117) hC dX3_unit_117 rfl 0 rfl ?_
      refine k_dup (pc := 118) hC dX3_unit_118 rfl ?_
      refine gP_X3_99 (pc := 119) hP dX3_unit_119 ?_
      refine k_iconst (pc := 122) (v := 1) hC dX3_unit_122 (by decide) ?_
      refine k_iadd (pc := 123) hC dX3_unit_123 ?_
      refine pP_X3_99 (pc := 124) hP dX3_unit_124 hE (fun Q15 hE => ?_)
      refine k_aload_n (pc := 127) hC dX3_unit_127 rfl 0 rfl ?_
      rcases xb_of hE with ⟨e, h1, rfl⟩ | ⟨r16, h1, hE⟩
      · exact p_callVT (pc := 128) (As := []) hP hR (ctx_R_pass X.2.1 D (cxA X) x Xp R0 d L Q15 r12.2.2 (pxf hP)  e h1) (fun H h => p_fault hC.K h) (p_tt hX) (cw_R_pass_X3 hX (Nat.le_of_ble_eq_true rfl) (Nat.le_of_ble_eq_true rfl)) (p_recv 9 lp_9 cl_X3 hP) rfl rfl (Nat.le_of_ble_eq_true rfl) dX3_unit_128
      refine a_callV (pc := 128) (As := []) hX (ct_R_pass X.2.1 D (cxA X) x Xp R0 d L Q15 r12.2.2 (pxf hP)  r16 h1) (cw_R_pass_X3 hX (Nat.le_of_ble_eq_true rfl) (Nat.le_of_ble_eq_true rfl)) (p_recv 9 lp_9 cl_X3 hP) rfl rfl (Nat.le_of_ble_eq_true rfl) dX3_unit_128 (fun c z => ?_)
      show Wk X c z (RD D (RP D x Xp R0 r16.1) d L r16.2) 131 [(0, .ref (x + 9))] []
      refine k_aload_n (pc := 131) hC dX3_unit_131 rfl 0 rfl ?_
      rcases xb_of hE with ⟨e, h1, rfl⟩ | ⟨r17, h1, hE⟩
      · exact p_callVT (pc := 132) (As := []) hP hR (ctx_R_sum_3 X.2.1 D (cxA X) x Xp R0 d L r16.1 r16.2 (pxf hP) F e h1) (fun H h => p_fault hC.K h) (p_tt hX) (cw_R_sum_3_X3 hX (Nat.le_of_ble_eq_true rfl) (Nat.le_of_ble_eq_true rfl)) (p_recv 9 lp_9 cl_X3 hP) rfl rfl (Nat.le_of_ble_eq_true rfl) dX3_unit_132
      refine a_callV (pc := 132) (As := []) hX (ct_R_sum_3 X.2.1 D (cxA X) x Xp R0 d L r16.1 r16.2 (pxf hP) F r17 h1) (cw_R_sum_3_X3 hX (Nat.le_of_ble_eq_true rfl) (Nat.le_of_ble_eq_true rfl)) (p_recv 9 lp_9 cl_X3 hP) rfl rfl (Nat.le_of_ble_eq_true rfl) dX3_unit_132 (fun c z => ?_)
      show Wk X c z (RD D (RP D x Xp R0 r17.2.1) d L r17.2.2) 135 [(0, .ref (x + 9))] [va_rf r17.1]
      refine k_astoreR_n (pc := 135) (lv' := [(1, va_rf r17.1), (0, .ref (x + 9))]) hC dX3_unit_135 rfl (by rw [hnL]; decide) rfl ?_
      refine k_aload_n (pc := 136) hC dX3_unit_136 rfl 1 rfl ?_
      refine k_bipush (pc := 137) (v := 41) hC dX3_unit_137 (by decide) ?_
      rcases xb_of hE with ⟨e, h1, rfl⟩ | ⟨r18, h1, hE⟩
      · exact p_callVT (pc := 139) (As := [.int 41]) hP hR (ctx_R_sign X.2.1 D (cxA X) x Xp R0 d L r17.2.1 r17.2.2 (pxf hP) 41 e h1) (fun H h => p_fault hC.K h) (p_tt hX) (cw_R_sign_X3 hX (Nat.le_of_ble_eq_true rfl) (Nat.le_of_ble_eq_true rfl)) (p_recv 9 lp_9 cl_X3 hP) rfl rfl (Nat.le_of_ble_eq_true rfl) dX3_unit_139
      refine a_callV (pc := 139) (As := [.int 41]) hX (ct_R_sign X.2.1 D (cxA X) x Xp R0 d L r17.2.1 r17.2.2 (pxf hP) 41 r18 h1) (cw_R_sign_X3 hX (Nat.le_of_ble_eq_true rfl) (Nat.le_of_ble_eq_true rfl)) (p_recv 9 lp_9 cl_X3 hP) rfl rfl (Nat.le_of_ble_eq_true rfl) dX3_unit_139 (fun c z => ?_)
      show Wk X c z (RD D (RP D x Xp R0 r18.1) d L r18.2) 142 [(1, va_rf r17.1), (0, .ref (x + 9))] []
      refine k_aload_n (pc := 142) hC dX3_unit_142 rfl 1 rfl ?_
      refine k_dup (pc := 143) hC dX3_unit_143 rfl ?_
      refine gP_X3_99 (pc := 144) hP dX3_unit_144 ?_
      refine k_iconst (pc := 147) (v := 1) hC dX3_unit_147 (by decide) ?_
      refine k_isub (pc := 148) hC dX3_unit_148 ?_
      refine pP_X3_99 (pc := 149) hP dX3_unit_149 hE (fun Q19 hE => ?_)
      refine k_aloadR_n (pc := 152) hC dX3_unit_152 rfl 0 rfl ?_
      cases hE
      exact a_aret (pc := 153) (v := va_rf _) (rt := (.object "SleepWork$Sum")) (by first | exact Or.inl ⟨_, rfl⟩ | exact Or.inr ⟨_, rfl⟩) (va_rfv _) hX hR dX3_unit_153 (by rfl) (fun _ h => h)
set_option maxHeartbeats 4000000 in
theorem w_R_unit_4 {X : Ctx} {D : Dd} {x : Nat} {R0 : Heap → Prop} {d : Nat → Prop} {L : Nat × Nat × Nat × Nat} {Xp : Jr} {out : (Ji × Jr × Th) ⊕ (Option Nat × Ji × Th)} (hP : Px X cX3_unit RX3 D x R0 d L 2 17 368) (hR : RtX X (some (.object "SleepWork$Sum")) D L x (fun r => (RD D (RP D x Xp R0 r.2.1) d L r.2.2)) (fun r => (some (va_rf r.1))) (fun e => RD D (RP D x e.2.1 R0 e.1) d L e.2.2) out) (F : Nat) (Q : Ji) (T : Th) (hE : R_unit_4 F Xp Q T = some out) (c z : Nat) : Wk X c z (RD D (RP D x Xp R0 Q) d L T) 0 [(0, .ref (x + 9))] [] := by
  have hX := hP.1
  have hC := hX.1
  have hnL := hX.2.2.1
  have hSt : ∀ {Xp : Jr} {Q : Ji}, Stb (RP D x Xp R0 Q) d := hP.st
  have hDy : ∀ {Xp : Jr} {Q : Ji} {T : Th} (H : Heap), RD D (RP D x Xp R0 Q) d L T H → Dy D T H := fun _ h => h.2.1
  unfold R_unit_4 at hE
  refine k_aload_n (pc := 0) hC dX3_unit_0 rfl 0 rfl ?_
  rcases xb_of hE with ⟨e, h1, rfl⟩ | ⟨r1, h1, hE⟩
  · exact p_callVT (pc := 1) (As := []) hP hR (ctx_R_sort X.2.1 D (cxA X) x Xp R0 d L Q T (pxf hP)  e h1) (fun H h => p_fault hC.K h) (p_tt hX) (cw_R_sort_X3 hX (Nat.le_of_ble_eq_true rfl) (Nat.le_of_ble_eq_true rfl)) (p_recv 9 lp_9 cl_X3 hP) rfl rfl (Nat.le_of_ble_eq_true rfl) dX3_unit_1
  refine a_callV (pc := 1) (As := []) hX (ct_R_sort X.2.1 D (cxA X) x Xp R0 d L Q T (pxf hP)  r1 h1) (cw_R_sort_X3 hX (Nat.le_of_ble_eq_true rfl) (Nat.le_of_ble_eq_true rfl)) (p_recv 9 lp_9 cl_X3 hP) rfl rfl (Nat.le_of_ble_eq_true rfl) dX3_unit_1 (fun c z => ?_)
  show Wk X c z (RD D (RP D x Xp R0 r1.2.1) d L r1.2.2) 4 [(0, .ref (x + 9))] [.int r1.1]
  refine k_iconst (pc := 4) (v := 1) hC dX3_unit_4 (by decide) ?_
  refine k_icmp_ne (pc := 5) (tgt := 33) hC dX3_unit_5 (by decide) hE (fun hE => ?_) (fun hE => ?_)
  · refine k_aload_n (pc := 8) hC dX3_unit_8 rfl 0 rfl ?_
    rcases xb_of hE with ⟨e, h1, rfl⟩ | ⟨r2, h1, hE⟩
    · exact p_callVT (pc := 9) (As := []) hP hR (ctx_R_pass X.2.1 D (cxA X) x Xp R0 d L r1.2.1 r1.2.2 (pxf hP)  e h1) (fun H h => p_fault hC.K h) (p_tt hX) (cw_R_pass_X3 hX (Nat.le_of_ble_eq_true rfl) (Nat.le_of_ble_eq_true rfl)) (p_recv 9 lp_9 cl_X3 hP) rfl rfl (Nat.le_of_ble_eq_true rfl) dX3_unit_9
    refine a_callV (pc := 9) (As := []) hX (ct_R_pass X.2.1 D (cxA X) x Xp R0 d L r1.2.1 r1.2.2 (pxf hP)  r2 h1) (cw_R_pass_X3 hX (Nat.le_of_ble_eq_true rfl) (Nat.le_of_ble_eq_true rfl)) (p_recv 9 lp_9 cl_X3 hP) rfl rfl (Nat.le_of_ble_eq_true rfl) dX3_unit_9 (fun c z => ?_)
    show Wk X c z (RD D (RP D x Xp R0 r2.1) d L r2.2) 12 [(0, .ref (x + 9))] []
    refine a_new (pc := 12) hX hSt cl_X18 in_X18 tyX18 tyX18_ok dv_X18 q1196 q1197 q149 dX3_unit_12 hE (fun T3 eT3 hE c z => ?_)
    refine k_dup (pc := 15) hC dX3_unit_15 rfl ?_
    refine k_aload_n (pc := 16) hC dX3_unit_16 rfl 0 rfl ?_
    refine gP_X3_9 (pc := 17) hP dX3_unit_17 ?_
    refine k_aload_n (pc := 20) hC dX3_unit_20 rfl 0 rfl ?_
    refine gP_X3_31 (pc := 21) hP dX3_unit_21 ?_
    refine k_iconst (pc := 24) (v := 1) hC dX3_unit_24 (by decide) ?_
    refine k_isub (pc := 25) hC dX3_unit_25 ?_
    obtain ⟨r4, h1, hE⟩ := ob_ hE
    refine a_callV (pc := 26) (As := [.int ((r2.1 9 3) - 1)]) hX (ct_T_number X.2.1 D (cxA X) x Xp R0 d L r2.1 T3 (pxf hP) F ((r2.1 9 3) - 1) r4 h1) (cw_T_number_X3 hX (Nat.le_of_ble_eq_true rfl) (Nat.le_of_ble_eq_true rfl)) (p_recv 2 lp_2 cl_X2 hP) rfl rfl (Nat.le_of_ble_eq_true rfl) dX3_unit_26 (fun c z => ?_)
    show Wk X c z (RD D (RP D x Xp R0 r2.1) d L T3) 29 [(0, .ref (x + 9))] [.int r4, .ref (tN r2.2), .ref (tN r2.2)]
    obtain ⟨r5, h1, hE⟩ := ob_ hE
    refine a_callI (pc := 29) (As := [.int r4]) hX (ct_A_Number X.2.1 D (cxA X) (RP D x Xp R0 r2.1) d L T3 hSt hX.2.1 hX.2.2.2.2.2.2.2.2.2 (tN r2.2) r4 r5 h1) (cw_A_Number_X3 hX (Nat.le_of_ble_eq_true rfl) (Nat.le_of_ble_eq_true rfl)) rfl rfl (Nat.le_of_ble_eq_true rfl) dX3_unit_29 (fun c z => ?_)
    show Wk X c z (RD D (RP D x Xp R0 r2.1) d L r5) 32 [(0, .ref (x + 9))] [.ref (tN r2.2)]
    cases hE
    exact a_aret (pc := 32) (v := va_rf _) (rt := (.object "SleepWork$Sum")) (by first | exact Or.inl ⟨_, rfl⟩ | exact Or.inr ⟨_, rfl⟩) (va_rfv _) hX hR dX3_unit_32 (by rfl) (fun _ h => h)
  · refine k_aload_n (pc := 33) hC dX3_unit_33 rfl 0 rfl ?_
    rcases xb_of hE with ⟨e, h1, rfl⟩ | ⟨r6, h1, hE⟩
    · exact p_callVT (pc := 34) (As := []) hP hR (ctx_R_sort X.2.1 D (cxA X) x Xp R0 d L r1.2.1 r1.2.2 (pxf hP)  e h1) (fun H h => p_fault hC.K h) (p_tt hX) (cw_R_sort_X3 hX (Nat.le_of_ble_eq_true rfl) (Nat.le_of_ble_eq_true rfl)) (p_recv 9 lp_9 cl_X3 hP) rfl rfl (Nat.le_of_ble_eq_true rfl) dX3_unit_34
    refine a_callV (pc := 34) (As := []) hX (ct_R_sort X.2.1 D (cxA X) x Xp R0 d L r1.2.1 r1.2.2 (pxf hP)  r6 h1) (cw_R_sort_X3 hX (Nat.le_of_ble_eq_true rfl) (Nat.le_of_ble_eq_true rfl)) (p_recv 9 lp_9 cl_X3 hP) rfl rfl (Nat.le_of_ble_eq_true rfl) dX3_unit_34 (fun c z => ?_)
    show Wk X c z (RD D (RP D x Xp R0 r6.2.1) d L r6.2.2) 37 [(0, .ref (x + 9))] [.int r6.1]
    refine k_iconst (pc := 37) (v := 3) hC dX3_unit_37 (by decide) ?_
    refine k_icmp_ne (pc := 38) (tgt := 87) hC dX3_unit_38 (by decide) hE (fun hE => ?_) (fun hE => ?_)
    · refine k_aload_n (pc := 41) hC dX3_unit_41 rfl 0 rfl ?_
      refine gP_X3_9 (pc := 42) hP dX3_unit_42 ?_
      refine gP_X3_52 (pc := 45) hP dX3_unit_45 ?_
      refine k_aload_n (pc := 48) hC dX3_unit_48 rfl 0 rfl ?_
      refine gP_X3_31 (pc := 49) hP dX3_unit_49 ?_
      refine p_sald (pc := 52) 8 lp_8 hP dX3_unit_52 hE (fun x7 hE => ?_)
      refine k_bipush (pc := 53) (v := 15) hC dX3_unit_53 (by decide) ?_
      refine k_icmp_lt (pc := 55) (tgt := 87) hC dX3_unit_55 (by decide) hE (fun hE => ?_) (fun hE => ?_)
      · exact w_R_unit_4_B87 hP hR F _ _ hE _ _
      · refine k_aload_n (pc := 58) hC dX3_unit_58 rfl 0 rfl ?_
        rcases xb_of hE with ⟨e, h1, rfl⟩ | ⟨r8, h1, hE⟩
        · exact p_callVT (pc := 59) (As := []) hP hR (ctx_R_pass X.2.1 D (cxA X) x Xp R0 d L r6.2.1 r6.2.2 (pxf hP)  e h1) (fun H h => p_fault hC.K h) (p_tt hX) (cw_R_pass_X3 hX (Nat.le_of_ble_eq_true rfl) (Nat.le_of_ble_eq_true rfl)) (p_recv 9 lp_9 cl_X3 hP) rfl rfl (Nat.le_of_ble_eq_true rfl) dX3_unit_59
        refine a_callV (pc := 59) (As := []) hX (ct_R_pass X.2.1 D (cxA X) x Xp R0 d L r6.2.1 r6.2.2 (pxf hP)  r8 h1) (cw_R_pass_X3 hX (Nat.le_of_ble_eq_true rfl) (Nat.le_of_ble_eq_true rfl)) (p_recv 9 lp_9 cl_X3 hP) rfl rfl (Nat.le_of_ble_eq_true rfl) dX3_unit_59 (fun c z => ?_)
        show Wk X c z (RD D (RP D x Xp R0 r8.1) d L r8.2) 62 [(0, .ref (x + 9))] []
        refine a_new (pc := 62) hX hSt cl_X19 in_X19 tyX19 tyX19_ok dv_X19 q1209 q1210 q150 dX3_unit_62 hE (fun T9 eT9 hE c z => ?_)
        refine k_dup (pc := 65) hC dX3_unit_65 rfl ?_
        refine k_aload_n (pc := 66) hC dX3_unit_66 rfl 0 rfl ?_
        refine gP_X3_9 (pc := 67) hP dX3_unit_67 ?_
        refine gP_X3_52 (pc := 70) hP dX3_unit_70 ?_
        refine k_aload_n (pc := 73) hC dX3_unit_73 rfl 0 rfl ?_
        refine gP_X3_31 (pc := 74) hP dX3_unit_74 ?_
        refine k_iconst (pc := 77) (v := 1) hC dX3_unit_77 (by decide) ?_
        refine k_isub (pc := 78) hC dX3_unit_78 ?_
        refine p_sald (pc := 79) 8 lp_8 hP dX3_unit_79 hE (fun x10 hE => ?_)
        refine k_bipush (pc := 80) (v := 15) hC dX3_unit_80 (by decide) ?_
        refine k_isub (pc := 82) hC dX3_unit_82 ?_
        obtain ⟨r11, h1, hE⟩ := ob_ hE
        refine a_callI (pc := 83) (As := [.int (x10 - 15)]) hX (ct_A_Var X.2.1 D (cxA X) (RP D x Xp R0 r8.1) d L T9 hSt hX.2.1 hX.2.2.2.2.2.2.2.2.2 (tN r8.2) (x10 - 15) r11 h1) (cw_A_Var_X3 hX (Nat.le_of_ble_eq_true rfl) (Nat.le_of_ble_eq_true rfl)) rfl rfl (Nat.le_of_ble_eq_true rfl) dX3_unit_83 (fun c z => ?_)
        show Wk X c z (RD D (RP D x Xp R0 r8.1) d L r11) 86 [(0, .ref (x + 9))] [.ref (tN r8.2)]
        cases hE
        exact a_aret (pc := 86) (v := va_rf _) (rt := (.object "SleepWork$Sum")) (by first | exact Or.inl ⟨_, rfl⟩ | exact Or.inr ⟨_, rfl⟩) (va_rfv _) hX hR dX3_unit_86 (by rfl) (fun _ h => h)
    · exact w_R_unit_4_B87 hP hR F _ _ hE _ _
theorem ct_R_unit_4 (l : Launch) (D : Dd) (A : Nat → Prop) (x : Nat) (Xp : Jr) (R0 : Heap → Prop) (d : Nat → Prop) (L : Nat × Nat × Nat × Nat) (Q : Ji) (T : Th) (hp : Pf D A x R0 d) (F : Nat) (out : Option Nat × Ji × Th) (hE : R_unit_4 F Xp Q T = some (.inr out)) : Ct l yX3_unit (ws_ yX3_unit cX3_unit 2 (some (.object "SleepWork$Sum"))) (rmA 17 368 L T) vwCl arTy D A [.ref (x + 9)] (RD D (RP D x Xp R0 Q) d L T) (RD D (RP D x Xp R0 out.2.1) d L out.2.2) (some (va_rf out.1)) (L.1 - tN T) (L.2.1 - tZ T) := by
  refine Ct.ofA (lv := [(0, .ref (x + 9))]) (by decide) (Nat.le_of_ble_eq_true rfl) rfl hp.1 hp.2.1 ?_
  intro X hl hX hR hXA _
  exact w_R_unit_4 (Xp := Xp) (out := .inr out) (hp.px hX hXA) hR F Q T hE
theorem ctx_R_unit_4 (l : Launch) (D : Dd) (A : Nat → Prop) (x : Nat) (Xp : Jr) (R0 : Heap → Prop) (d : Nat → Prop) (L : Nat × Nat × Nat × Nat) (Q : Ji) (T : Th) (hp : Pf D A x R0 d) (F : Nat) (e : Ji × Jr × Th) (hE : R_unit_4 F Xp Q T = some (.inl e)) : CtT l yX3_unit (ws_ yX3_unit cX3_unit 2 (some (.object "SleepWork$Sum"))) (rmA 17 368 L T) D A [.ref (x + 9)] (RD D (RP D x Xp R0 Q) d L T) (RD D (RP D x e.2.1 R0 e.1) d L e.2.2) (x + 1) (L.1 - tN T) (L.2.1 - tZ T) := by
  refine CtT.ofA (lv := [(0, .ref (x + 9))]) (by decide) (Nat.le_of_ble_eq_true rfl) rfl hp.1 hp.2.1 ?_
  intro X hl hX hR hXA
  exact w_R_unit_4 (Xp := Xp) (out := .inl e) (hp.px hX hXA) hR F Q T hE
theorem cw_R_unit_4_X3 {X : Ctx} {cc : ByteArray} {D : Dd} {d : Nat → Prop} {L : Nat × Nat × Nat × Nat} {mL fr lo : Nat} {T : Th} (hX : Ax X cc RX3 D d L mL fr lo) (h1 : 17 + 1 ≤ fr) (h2 : 8 + (2 + 11) + 368 ≤ lo) : CallW X.2.2.2.1 X.2.2.2.2.1 X.2.2.2.2.2.2.1 RX3 RX3 277 yX3_unit cX3_unit 2 (some (.object "SleepWork$Sum")) (ws_ yX3_unit cX3_unit 2 (some (.object "SleepWork$Sum"))) (rmA 17 368 L T) (L.1 - tN T) (L.2.1 - tZ T) 0 := cwV 0 (cx_w hX.1) (lw_V q1192 q1194 qs32 q120 q1195) rfl rfl rfl (by decide +kernel) (by rw [hX.2.2.2.1, hX.2.2.2.2.1]; exact ⟨h1, h2⟩)
set_option maxHeartbeats 4000000 in
theorem w_R_part_4_B23 {X : Ctx} {D : Dd} {x : Nat} {R0 : Heap → Prop} {d : Nat → Prop} {L : Nat × Nat × Nat × Nat} {Xp : Jr} {out : (Ji × Jr × Th) ⊕ (Option Nat × Ji × Th)} (hP : Px X cX3_part RX3 D x R0 d L 3 18 389) (hR : RtX X (some (.object "SleepWork$Sum")) D L x (fun r => (RD D (RP D x Xp R0 r.2.1) d L r.2.2)) (fun r => (some (va_rf r.1))) (fun e => RD D (RP D x e.2.1 R0 e.1) d L e.2.2) out) (F : Nat) (k5 : Option Nat → Ji → Th → Option ((Ji × Jr × Th) ⊕ (Option Nat × Ji × Th))) (hk5 : ∀ (a1 : Option Nat) (Q : Ji) (T : Th) , k5 a1 Q T = some out → ∀ c z, Wk X c z (RD D (RP D x Xp R0 Q) d L T) 5 [(0, .ref (x + 9)), (1, va_rf a1)] []) (a1 : Option Nat) (Q : Ji) (T : Th) (hE : R_part_4_B23 F k5 Xp a1 Q T = some out) (c z : Nat) : Wk X c z (RD D (RP D x Xp R0 Q) d L T) 23 [(0, .ref (x + 9)), (1, va_rf a1)] [] := by
  have hX := hP.1
  have hC := hX.1
  have hnL := hX.2.2.1
  have hSt : ∀ {Xp : Jr} {Q : Ji}, Stb (RP D x Xp R0 Q) d := hP.st
  have hDy : ∀ {Xp : Jr} {Q : Ji} {T : Th} (H : Heap), RD D (RP D x Xp R0 Q) d L T H → Dy D T H := fun _ h => h.2.1
  unfold R_part_4_B23 at hE
  refine k_aload_n (pc := 23) hC dX3_part_23 rfl 0 rfl ?_
  refine gP_X3_9 (pc := 24) hP dX3_part_24 ?_
  refine gP_X3_52 (pc := 27) hP dX3_part_27 ?_
  refine k_aload_n (pc := 30) hC dX3_part_30 rfl 0 rfl ?_
  refine gP_X3_31 (pc := 31) hP dX3_part_31 ?_
  refine p_sald (pc := 34) 8 lp_8 hP dX3_part_34 hE (fun x4 hE => ?_)
  refine k_istore_n (pc := 35) (lv' := [(2, .int x4), (0, .ref (x + 9)), (1, va_rf a1)]) hC dX3_part_35 rfl (by rw [hnL]; decide) (by cases a1 <;> rfl) ?_
  refine k_aload_n (pc := 36) hC dX3_part_36 rfl 1 rfl ?_
  rcases xb_of hE with ⟨e, h1, rfl⟩ | ⟨r5, h1, hE⟩
  · exact p_callVT (pc := 37) (As := []) hP hR (ctx_R_pass X.2.1 D (cxA X) x Xp R0 d L Q T (pxf hP)  e h1) (fun H h => p_fault hC.K h) (p_tt hX) (cw_R_pass_X3 hX (Nat.le_of_ble_eq_true rfl) (Nat.le_of_ble_eq_true rfl)) (p_recv 9 lp_9 cl_X3 hP) rfl rfl (Nat.le_of_ble_eq_true rfl) dX3_part_37
  refine a_callV (pc := 37) (As := []) hX (ct_R_pass X.2.1 D (cxA X) x Xp R0 d L Q T (pxf hP)  r5 h1) (cw_R_pass_X3 hX (Nat.le_of_ble_eq_true rfl) (Nat.le_of_ble_eq_true rfl)) (p_recv 9 lp_9 cl_X3 hP) rfl rfl (Nat.le_of_ble_eq_true rfl) dX3_part_37 (fun c z => ?_)
  show Wk X c z (RD D (RP D x Xp R0 r5.1) d L r5.2) 40 [(2, .int x4), (0, .ref (x + 9)), (1, va_rf a1)] []
  refine a_new (pc := 40) hX hSt cl_X20 in_X20 tyX20 tyX20_ok dv_X20 q1219 q1220 q151 dX3_part_40 hE (fun T6 eT6 hE c z => ?_)
  refine k_dup (pc := 43) hC dX3_part_43 rfl ?_
  refine k_iload_n (pc := 44) hC dX3_part_44 rfl 0 rfl ?_
  refine k_aloadR_n (pc := 45) hC dX3_part_45 rfl 2 rfl ?_
  refine k_aload_n (pc := 46) hC dX3_part_46 rfl 1 rfl ?_
  rcases xb_of hE with ⟨e, h1, rfl⟩ | ⟨r7, h1, hE⟩
  · exact p_callVT (pc := 47) (As := []) hP hR (ctx_R_unit_4 X.2.1 D (cxA X) x Xp R0 d L r5.1 T6 (pxf hP) F e h1) (fun H h => p_fault hC.K h) (p_tt hX) (cw_R_unit_4_X3 hX (Nat.le_of_ble_eq_true rfl) (Nat.le_of_ble_eq_true rfl)) (p_recv 9 lp_9 cl_X3 hP) rfl rfl (by cases a1 <;> exact Nat.le_of_ble_eq_true rfl) dX3_part_47
  refine a_callV (pc := 47) (As := []) hX (ct_R_unit_4 X.2.1 D (cxA X) x Xp R0 d L r5.1 T6 (pxf hP) F r7 h1) (cw_R_unit_4_X3 hX (Nat.le_of_ble_eq_true rfl) (Nat.le_of_ble_eq_true rfl)) (p_recv 9 lp_9 cl_X3 hP) rfl rfl (by cases a1 <;> exact Nat.le_of_ble_eq_true rfl) dX3_part_47 (fun c z => ?_)
  show Wk X c z (RD D (RP D x Xp R0 r7.2.1) d L r7.2.2) 50 [(2, .int x4), (0, .ref (x + 9)), (1, va_rf a1)] [va_rf r7.1, va_rf a1, .int x4, .ref (tN r5.2), .ref (tN r5.2)]
  refine k_nn (G := fun z => Wk X _ _ (RD D (RP D x Xp R0 r7.2.1) d L r7.2.2) 50 [(2, .int x4), (0, .ref (x + 9)), (1, va_rf a1)] [z, va_rf a1, .int x4, .ref (tN r5.2), .ref (tN r5.2)]) hE (fun b8 hE => ?_)
  refine k_nn (G := fun z => Wk X _ _ (RD D (RP D x Xp R0 r7.2.1) d L r7.2.2) 50 [(2, .int x4), (0, .ref (x + 9)), (1, z)] [.ref b8, z, .int x4, .ref (tN r5.2), .ref (tN r5.2)]) hE (fun b9 hE => ?_)
  obtain ⟨r10, h1, hE⟩ := ob_ hE
  refine a_callI (pc := 50) (As := [.int x4, .ref b9, .ref b8]) hX (ct_A_Joined X.2.1 D (cxA X) (RP D x Xp R0 r7.2.1) d L r7.2.2 hSt hX.2.1 hX.2.2.2.2.2.2.2.2.2 (tN r5.2) x4 b9 b8 r10 h1) (cw_A_Joined_X3 hX (Nat.le_of_ble_eq_true rfl) (Nat.le_of_ble_eq_true rfl)) rfl rfl (Nat.le_of_ble_eq_true rfl) dX3_part_50 (fun c z => ?_)
  show Wk X c z (RD D (RP D x Xp R0 r7.2.1) d L r10) 53 [(2, .int x4), (0, .ref (x + 9)), (1, .ref b9)] [.ref (tN r5.2)]
  refine k_astore_n (pc := 53) (lv' := [(1, .ref (tN r5.2)), (2, .int x4), (0, .ref (x + 9))]) hC dX3_part_53 rfl (by rw [hnL]; decide) rfl ?_
  refine k_goto (pc := 54) (tgt := 5) hC dX3_part_54 (by decide) ?_
  refine k_sub [2, 0] rfl ?_
  exact hk5 _ _ _ hE _ _
set_option maxHeartbeats 4000000 in
theorem w_R_part_4_B5 {X : Ctx} {D : Dd} {x : Nat} {R0 : Heap → Prop} {d : Nat → Prop} {L : Nat × Nat × Nat × Nat} {Xp : Jr} {out : (Ji × Jr × Th) ⊕ (Option Nat × Ji × Th)} (hP : Px X cX3_part RX3 D x R0 d L 3 18 389) (hR : RtX X (some (.object "SleepWork$Sum")) D L x (fun r => (RD D (RP D x Xp R0 r.2.1) d L r.2.2)) (fun r => (some (va_rf r.1))) (fun e => RD D (RP D x e.2.1 R0 e.1) d L e.2.2) out) (F : Nat) (k5 : Option Nat → Ji → Th → Option ((Ji × Jr × Th) ⊕ (Option Nat × Ji × Th))) (hk5 : ∀ (a1 : Option Nat) (Q : Ji) (T : Th) , k5 a1 Q T = some out → ∀ c z, Wk X c z (RD D (RP D x Xp R0 Q) d L T) 5 [(0, .ref (x + 9)), (1, va_rf a1)] []) (a1 : Option Nat) (Q : Ji) (T : Th) (hE : R_part_4_B5 F k5 Xp a1 Q T = some out) (c z : Nat) : Wk X c z (RD D (RP D x Xp R0 Q) d L T) 5 [(0, .ref (x + 9)), (1, va_rf a1)] [] := by
  have hX := hP.1
  have hC := hX.1
  have hnL := hX.2.2.1
  have hSt : ∀ {Xp : Jr} {Q : Ji}, Stb (RP D x Xp R0 Q) d := hP.st
  have hDy : ∀ {Xp : Jr} {Q : Ji} {T : Th} (H : Heap), RD D (RP D x Xp R0 Q) d L T H → Dy D T H := fun _ h => h.2.1
  unfold R_part_4_B5 at hE
  refine k_aload_n (pc := 5) hC dX3_part_5 rfl 0 rfl ?_
  refine k_bipush (pc := 6) (v := 42) hC dX3_part_6 (by decide) ?_
  rcases xb_of hE with ⟨e, h1, rfl⟩ | ⟨r2, h1, hE⟩
  · exact p_callVT (pc := 8) (As := [.int 42]) hP hR (ctx_R_isSign X.2.1 D (cxA X) x Xp R0 d L Q T (pxf hP) 42 e h1) (fun H h => p_fault hC.K h) (p_tt hX) (cw_R_isSign_X3 hX (Nat.le_of_ble_eq_true rfl) (Nat.le_of_ble_eq_true rfl)) (p_recv 9 lp_9 cl_X3 hP) rfl rfl (Nat.le_of_ble_eq_true rfl) dX3_part_8
  refine a_callV (pc := 8) (As := [.int 42]) hX (ct_R_isSign X.2.1 D (cxA X) x Xp R0 d L Q T (pxf hP) 42 r2 h1) (cw_R_isSign_X3 hX (Nat.le_of_ble_eq_true rfl) (Nat.le_of_ble_eq_true rfl)) (p_recv 9 lp_9 cl_X3 hP) rfl rfl (Nat.le_of_ble_eq_true rfl) dX3_part_8 (fun c z => ?_)
  show Wk X c z (RD D (RP D x Xp R0 r2.2.1) d L r2.2.2) 11 [(0, .ref (x + 9)), (1, va_rf a1)] [.int r2.1]
  refine k_if_ne (pc := 11) (tgt := 23) hC dX3_part_11 (by decide) hE (fun hE => ?_) (fun hE => ?_)
  · refine k_aload_n (pc := 14) hC dX3_part_14 rfl 0 rfl ?_
    refine k_bipush (pc := 15) (v := 47) hC dX3_part_15 (by decide) ?_
    rcases xb_of hE with ⟨e, h1, rfl⟩ | ⟨r3, h1, hE⟩
    · exact p_callVT (pc := 17) (As := [.int 47]) hP hR (ctx_R_isSign X.2.1 D (cxA X) x Xp R0 d L r2.2.1 r2.2.2 (pxf hP) 47 e h1) (fun H h => p_fault hC.K h) (p_tt hX) (cw_R_isSign_X3 hX (Nat.le_of_ble_eq_true rfl) (Nat.le_of_ble_eq_true rfl)) (p_recv 9 lp_9 cl_X3 hP) rfl rfl (Nat.le_of_ble_eq_true rfl) dX3_part_17
    refine a_callV (pc := 17) (As := [.int 47]) hX (ct_R_isSign X.2.1 D (cxA X) x Xp R0 d L r2.2.1 r2.2.2 (pxf hP) 47 r3 h1) (cw_R_isSign_X3 hX (Nat.le_of_ble_eq_true rfl) (Nat.le_of_ble_eq_true rfl)) (p_recv 9 lp_9 cl_X3 hP) rfl rfl (Nat.le_of_ble_eq_true rfl) dX3_part_17 (fun c z => ?_)
    show Wk X c z (RD D (RP D x Xp R0 r3.2.1) d L r3.2.2) 20 [(0, .ref (x + 9)), (1, va_rf a1)] [.int r3.1]
    refine k_if_eq (pc := 20) (tgt := 57) hC dX3_part_20 (by decide) hE (fun hE => ?_) (fun hE => ?_)
    · refine k_aloadR_n (pc := 57) hC dX3_part_57 rfl 1 rfl ?_
      cases hE
      exact a_aret (pc := 58) (v := va_rf _) (rt := (.object "SleepWork$Sum")) (by first | exact Or.inl ⟨_, rfl⟩ | exact Or.inr ⟨_, rfl⟩) (va_rfv _) hX hR dX3_part_58 (by rfl) (fun _ h => h)
    · exact w_R_part_4_B23 hP hR F k5 hk5 _ _ _ hE _ _
  · exact w_R_part_4_B23 hP hR F k5 hk5 _ _ _ hE _ _
theorem w_R_part_4_L5 {X : Ctx} {D : Dd} {x : Nat} {R0 : Heap → Prop} {d : Nat → Prop} {L : Nat × Nat × Nat × Nat} {Xp : Jr} {out : (Ji × Jr × Th) ⊕ (Option Nat × Ji × Th)} (hP : Px X cX3_part RX3 D x R0 d L 3 18 389) (hR : RtX X (some (.object "SleepWork$Sum")) D L x (fun r => (RD D (RP D x Xp R0 r.2.1) d L r.2.2)) (fun r => (some (va_rf r.1))) (fun e => RD D (RP D x e.2.1 R0 e.1) d L e.2.2) out) (F : Nat) (n : Nat) : ∀ (a1 : Option Nat) (Q : Ji) (T : Th) , R_part_4_L5 F Xp n a1 Q T = some out → ∀ c z, Wk X c z (RD D (RP D x Xp R0 Q) d L T) 5 [(0, .ref (x + 9)), (1, va_rf a1)] [] := by
  induction n with
  | zero => intro a1 Q T h; cases h
  | succ n ih => intro a1 Q T h; exact w_R_part_4_B5 hP hR F (R_part_4_L5 F Xp n) ih a1 Q T h
set_option maxHeartbeats 4000000 in
theorem w_R_part_4 {X : Ctx} {D : Dd} {x : Nat} {R0 : Heap → Prop} {d : Nat → Prop} {L : Nat × Nat × Nat × Nat} {Xp : Jr} {out : (Ji × Jr × Th) ⊕ (Option Nat × Ji × Th)} (hP : Px X cX3_part RX3 D x R0 d L 3 18 389) (hR : RtX X (some (.object "SleepWork$Sum")) D L x (fun r => (RD D (RP D x Xp R0 r.2.1) d L r.2.2)) (fun r => (some (va_rf r.1))) (fun e => RD D (RP D x e.2.1 R0 e.1) d L e.2.2) out) (F : Nat) (Q : Ji) (T : Th) (hE : R_part_4 F Xp Q T = some out) (c z : Nat) : Wk X c z (RD D (RP D x Xp R0 Q) d L T) 0 [(0, .ref (x + 9))] [] := by
  have hX := hP.1
  have hC := hX.1
  have hnL := hX.2.2.1
  have hSt : ∀ {Xp : Jr} {Q : Ji}, Stb (RP D x Xp R0 Q) d := hP.st
  have hDy : ∀ {Xp : Jr} {Q : Ji} {T : Th} (H : Heap), RD D (RP D x Xp R0 Q) d L T H → Dy D T H := fun _ h => h.2.1
  unfold R_part_4 at hE
  refine k_aload_n (pc := 0) hC dX3_part_0 rfl 0 rfl ?_
  rcases xb_of hE with ⟨e, h1, rfl⟩ | ⟨r1, h1, hE⟩
  · exact p_callVT (pc := 1) (As := []) hP hR (ctx_R_unit_4 X.2.1 D (cxA X) x Xp R0 d L Q T (pxf hP) F e h1) (fun H h => p_fault hC.K h) (p_tt hX) (cw_R_unit_4_X3 hX (Nat.le_of_ble_eq_true rfl) (Nat.le_of_ble_eq_true rfl)) (p_recv 9 lp_9 cl_X3 hP) rfl rfl (Nat.le_of_ble_eq_true rfl) dX3_part_1
  refine a_callV (pc := 1) (As := []) hX (ct_R_unit_4 X.2.1 D (cxA X) x Xp R0 d L Q T (pxf hP) F r1 h1) (cw_R_unit_4_X3 hX (Nat.le_of_ble_eq_true rfl) (Nat.le_of_ble_eq_true rfl)) (p_recv 9 lp_9 cl_X3 hP) rfl rfl (Nat.le_of_ble_eq_true rfl) dX3_part_1 (fun c z => ?_)
  show Wk X c z (RD D (RP D x Xp R0 r1.2.1) d L r1.2.2) 4 [(0, .ref (x + 9))] [va_rf r1.1]
  refine k_astoreR_n (pc := 4) (lv' := [(1, va_rf r1.1), (0, .ref (x + 9))]) hC dX3_part_4 rfl (by rw [hnL]; decide) rfl ?_
  refine k_sub [1, 0] rfl ?_
  exact w_R_part_4_L5 hP hR F _ _ _ _ hE _ _
theorem ct_R_part_4 (l : Launch) (D : Dd) (A : Nat → Prop) (x : Nat) (Xp : Jr) (R0 : Heap → Prop) (d : Nat → Prop) (L : Nat × Nat × Nat × Nat) (Q : Ji) (T : Th) (hp : Pf D A x R0 d) (F : Nat) (out : Option Nat × Ji × Th) (hE : R_part_4 F Xp Q T = some (.inr out)) : Ct l yX3_part (ws_ yX3_part cX3_part 3 (some (.object "SleepWork$Sum"))) (rmA 18 389 L T) vwCl arTy D A [.ref (x + 9)] (RD D (RP D x Xp R0 Q) d L T) (RD D (RP D x Xp R0 out.2.1) d L out.2.2) (some (va_rf out.1)) (L.1 - tN T) (L.2.1 - tZ T) := by
  refine Ct.ofA (lv := [(0, .ref (x + 9))]) (by decide) (Nat.le_of_ble_eq_true rfl) rfl hp.1 hp.2.1 ?_
  intro X hl hX hR hXA _
  exact w_R_part_4 (Xp := Xp) (out := .inr out) (hp.px hX hXA) hR F Q T hE
theorem ctx_R_part_4 (l : Launch) (D : Dd) (A : Nat → Prop) (x : Nat) (Xp : Jr) (R0 : Heap → Prop) (d : Nat → Prop) (L : Nat × Nat × Nat × Nat) (Q : Ji) (T : Th) (hp : Pf D A x R0 d) (F : Nat) (e : Ji × Jr × Th) (hE : R_part_4 F Xp Q T = some (.inl e)) : CtT l yX3_part (ws_ yX3_part cX3_part 3 (some (.object "SleepWork$Sum"))) (rmA 18 389 L T) D A [.ref (x + 9)] (RD D (RP D x Xp R0 Q) d L T) (RD D (RP D x e.2.1 R0 e.1) d L e.2.2) (x + 1) (L.1 - tN T) (L.2.1 - tZ T) := by
  refine CtT.ofA (lv := [(0, .ref (x + 9))]) (by decide) (Nat.le_of_ble_eq_true rfl) rfl hp.1 hp.2.1 ?_
  intro X hl hX hR hXA
  exact w_R_part_4 (Xp := Xp) (out := .inl e) (hp.px hX hXA) hR F Q T hE
theorem cw_R_part_4_X3 {X : Ctx} {cc : ByteArray} {D : Dd} {d : Nat → Prop} {L : Nat × Nat × Nat × Nat} {mL fr lo : Nat} {T : Th} (hX : Ax X cc RX3 D d L mL fr lo) (h1 : 18 + 1 ≤ fr) (h2 : 8 + (3 + 11) + 389 ≤ lo) : CallW X.2.2.2.1 X.2.2.2.2.1 X.2.2.2.2.2.2.1 RX3 RX3 269 yX3_part cX3_part 3 (some (.object "SleepWork$Sum")) (ws_ yX3_part cX3_part 3 (some (.object "SleepWork$Sum"))) (rmA 18 389 L T) (L.1 - tN T) (L.2.1 - tZ T) 0 := cwV 0 (cx_w hX.1) (lw_V q1188 q1190 qs31 q120 q1191) rfl rfl rfl (by decide +kernel) (by rw [hX.2.2.2.1, hX.2.2.2.2.1]; exact ⟨h1, h2⟩)
set_option maxHeartbeats 4000000 in
theorem w_R_sum_4_B23 {X : Ctx} {D : Dd} {x : Nat} {R0 : Heap → Prop} {d : Nat → Prop} {L : Nat × Nat × Nat × Nat} {Xp : Jr} {out : (Ji × Jr × Th) ⊕ (Option Nat × Ji × Th)} (hP : Px X cX3_sum RX3 D x R0 d L 3 19 411) (hR : RtX X (some (.object "SleepWork$Sum")) D L x (fun r => (RD D (RP D x Xp R0 r.2.1) d L r.2.2)) (fun r => (some (va_rf r.1))) (fun e => RD D (RP D x e.2.1 R0 e.1) d L e.2.2) out) (F : Nat) (k5 : Option Nat → Ji → Th → Option ((Ji × Jr × Th) ⊕ (Option Nat × Ji × Th))) (hk5 : ∀ (a1 : Option Nat) (Q : Ji) (T : Th) , k5 a1 Q T = some out → ∀ c z, Wk X c z (RD D (RP D x Xp R0 Q) d L T) 5 [(0, .ref (x + 9)), (1, va_rf a1)] []) (a1 : Option Nat) (Q : Ji) (T : Th) (hE : R_sum_4_B23 F k5 Xp a1 Q T = some out) (c z : Nat) : Wk X c z (RD D (RP D x Xp R0 Q) d L T) 23 [(0, .ref (x + 9)), (1, va_rf a1)] [] := by
  have hX := hP.1
  have hC := hX.1
  have hnL := hX.2.2.1
  have hSt : ∀ {Xp : Jr} {Q : Ji}, Stb (RP D x Xp R0 Q) d := hP.st
  have hDy : ∀ {Xp : Jr} {Q : Ji} {T : Th} (H : Heap), RD D (RP D x Xp R0 Q) d L T H → Dy D T H := fun _ h => h.2.1
  unfold R_sum_4_B23 at hE
  refine k_aload_n (pc := 23) hC dX3_sum_23 rfl 0 rfl ?_
  refine gP_X3_9 (pc := 24) hP dX3_sum_24 ?_
  refine gP_X3_52 (pc := 27) hP dX3_sum_27 ?_
  refine k_aload_n (pc := 30) hC dX3_sum_30 rfl 0 rfl ?_
  refine gP_X3_31 (pc := 31) hP dX3_sum_31 ?_
  refine p_sald (pc := 34) 8 lp_8 hP dX3_sum_34 hE (fun x4 hE => ?_)
  refine k_istore_n (pc := 35) (lv' := [(2, .int x4), (0, .ref (x + 9)), (1, va_rf a1)]) hC dX3_sum_35 rfl (by rw [hnL]; decide) (by cases a1 <;> rfl) ?_
  refine k_aload_n (pc := 36) hC dX3_sum_36 rfl 1 rfl ?_
  rcases xb_of hE with ⟨e, h1, rfl⟩ | ⟨r5, h1, hE⟩
  · exact p_callVT (pc := 37) (As := []) hP hR (ctx_R_pass X.2.1 D (cxA X) x Xp R0 d L Q T (pxf hP)  e h1) (fun H h => p_fault hC.K h) (p_tt hX) (cw_R_pass_X3 hX (Nat.le_of_ble_eq_true rfl) (Nat.le_of_ble_eq_true rfl)) (p_recv 9 lp_9 cl_X3 hP) rfl rfl (Nat.le_of_ble_eq_true rfl) dX3_sum_37
  refine a_callV (pc := 37) (As := []) hX (ct_R_pass X.2.1 D (cxA X) x Xp R0 d L Q T (pxf hP)  r5 h1) (cw_R_pass_X3 hX (Nat.le_of_ble_eq_true rfl) (Nat.le_of_ble_eq_true rfl)) (p_recv 9 lp_9 cl_X3 hP) rfl rfl (Nat.le_of_ble_eq_true rfl) dX3_sum_37 (fun c z => ?_)
  show Wk X c z (RD D (RP D x Xp R0 r5.1) d L r5.2) 40 [(2, .int x4), (0, .ref (x + 9)), (1, va_rf a1)] []
  refine a_new (pc := 40) hX hSt cl_X20 in_X20 tyX20 tyX20_ok dv_X20 q1219 q1220 q151 dX3_sum_40 hE (fun T6 eT6 hE c z => ?_)
  refine k_dup (pc := 43) hC dX3_sum_43 rfl ?_
  refine k_iload_n (pc := 44) hC dX3_sum_44 rfl 0 rfl ?_
  refine k_aloadR_n (pc := 45) hC dX3_sum_45 rfl 2 rfl ?_
  refine k_aload_n (pc := 46) hC dX3_sum_46 rfl 1 rfl ?_
  rcases xb_of hE with ⟨e, h1, rfl⟩ | ⟨r7, h1, hE⟩
  · exact p_callVT (pc := 47) (As := []) hP hR (ctx_R_part_4 X.2.1 D (cxA X) x Xp R0 d L r5.1 T6 (pxf hP) F e h1) (fun H h => p_fault hC.K h) (p_tt hX) (cw_R_part_4_X3 hX (Nat.le_of_ble_eq_true rfl) (Nat.le_of_ble_eq_true rfl)) (p_recv 9 lp_9 cl_X3 hP) rfl rfl (by cases a1 <;> exact Nat.le_of_ble_eq_true rfl) dX3_sum_47
  refine a_callV (pc := 47) (As := []) hX (ct_R_part_4 X.2.1 D (cxA X) x Xp R0 d L r5.1 T6 (pxf hP) F r7 h1) (cw_R_part_4_X3 hX (Nat.le_of_ble_eq_true rfl) (Nat.le_of_ble_eq_true rfl)) (p_recv 9 lp_9 cl_X3 hP) rfl rfl (by cases a1 <;> exact Nat.le_of_ble_eq_true rfl) dX3_sum_47 (fun c z => ?_)
  show Wk X c z (RD D (RP D x Xp R0 r7.2.1) d L r7.2.2) 50 [(2, .int x4), (0, .ref (x + 9)), (1, va_rf a1)] [va_rf r7.1, va_rf a1, .int x4, .ref (tN r5.2), .ref (tN r5.2)]
  refine k_nn (G := fun z => Wk X _ _ (RD D (RP D x Xp R0 r7.2.1) d L r7.2.2) 50 [(2, .int x4), (0, .ref (x + 9)), (1, va_rf a1)] [z, va_rf a1, .int x4, .ref (tN r5.2), .ref (tN r5.2)]) hE (fun b8 hE => ?_)
  refine k_nn (G := fun z => Wk X _ _ (RD D (RP D x Xp R0 r7.2.1) d L r7.2.2) 50 [(2, .int x4), (0, .ref (x + 9)), (1, z)] [.ref b8, z, .int x4, .ref (tN r5.2), .ref (tN r5.2)]) hE (fun b9 hE => ?_)
  obtain ⟨r10, h1, hE⟩ := ob_ hE
  refine a_callI (pc := 50) (As := [.int x4, .ref b9, .ref b8]) hX (ct_A_Joined X.2.1 D (cxA X) (RP D x Xp R0 r7.2.1) d L r7.2.2 hSt hX.2.1 hX.2.2.2.2.2.2.2.2.2 (tN r5.2) x4 b9 b8 r10 h1) (cw_A_Joined_X3 hX (Nat.le_of_ble_eq_true rfl) (Nat.le_of_ble_eq_true rfl)) rfl rfl (Nat.le_of_ble_eq_true rfl) dX3_sum_50 (fun c z => ?_)
  show Wk X c z (RD D (RP D x Xp R0 r7.2.1) d L r10) 53 [(2, .int x4), (0, .ref (x + 9)), (1, .ref b9)] [.ref (tN r5.2)]
  refine k_astore_n (pc := 53) (lv' := [(1, .ref (tN r5.2)), (2, .int x4), (0, .ref (x + 9))]) hC dX3_sum_53 rfl (by rw [hnL]; decide) rfl ?_
  refine k_goto (pc := 54) (tgt := 5) hC dX3_sum_54 (by decide) ?_
  refine k_sub [2, 0] rfl ?_
  exact hk5 _ _ _ hE _ _
set_option maxHeartbeats 4000000 in
theorem w_R_sum_4_B5 {X : Ctx} {D : Dd} {x : Nat} {R0 : Heap → Prop} {d : Nat → Prop} {L : Nat × Nat × Nat × Nat} {Xp : Jr} {out : (Ji × Jr × Th) ⊕ (Option Nat × Ji × Th)} (hP : Px X cX3_sum RX3 D x R0 d L 3 19 411) (hR : RtX X (some (.object "SleepWork$Sum")) D L x (fun r => (RD D (RP D x Xp R0 r.2.1) d L r.2.2)) (fun r => (some (va_rf r.1))) (fun e => RD D (RP D x e.2.1 R0 e.1) d L e.2.2) out) (F : Nat) (k5 : Option Nat → Ji → Th → Option ((Ji × Jr × Th) ⊕ (Option Nat × Ji × Th))) (hk5 : ∀ (a1 : Option Nat) (Q : Ji) (T : Th) , k5 a1 Q T = some out → ∀ c z, Wk X c z (RD D (RP D x Xp R0 Q) d L T) 5 [(0, .ref (x + 9)), (1, va_rf a1)] []) (a1 : Option Nat) (Q : Ji) (T : Th) (hE : R_sum_4_B5 F k5 Xp a1 Q T = some out) (c z : Nat) : Wk X c z (RD D (RP D x Xp R0 Q) d L T) 5 [(0, .ref (x + 9)), (1, va_rf a1)] [] := by
  have hX := hP.1
  have hC := hX.1
  have hnL := hX.2.2.1
  have hSt : ∀ {Xp : Jr} {Q : Ji}, Stb (RP D x Xp R0 Q) d := hP.st
  have hDy : ∀ {Xp : Jr} {Q : Ji} {T : Th} (H : Heap), RD D (RP D x Xp R0 Q) d L T H → Dy D T H := fun _ h => h.2.1
  unfold R_sum_4_B5 at hE
  refine k_aload_n (pc := 5) hC dX3_sum_5 rfl 0 rfl ?_
  refine k_bipush (pc := 6) (v := 43) hC dX3_sum_6 (by decide) ?_
  rcases xb_of hE with ⟨e, h1, rfl⟩ | ⟨r2, h1, hE⟩
  · exact p_callVT (pc := 8) (As := [.int 43]) hP hR (ctx_R_isSign X.2.1 D (cxA X) x Xp R0 d L Q T (pxf hP) 43 e h1) (fun H h => p_fault hC.K h) (p_tt hX) (cw_R_isSign_X3 hX (Nat.le_of_ble_eq_true rfl) (Nat.le_of_ble_eq_true rfl)) (p_recv 9 lp_9 cl_X3 hP) rfl rfl (Nat.le_of_ble_eq_true rfl) dX3_sum_8
  refine a_callV (pc := 8) (As := [.int 43]) hX (ct_R_isSign X.2.1 D (cxA X) x Xp R0 d L Q T (pxf hP) 43 r2 h1) (cw_R_isSign_X3 hX (Nat.le_of_ble_eq_true rfl) (Nat.le_of_ble_eq_true rfl)) (p_recv 9 lp_9 cl_X3 hP) rfl rfl (Nat.le_of_ble_eq_true rfl) dX3_sum_8 (fun c z => ?_)
  show Wk X c z (RD D (RP D x Xp R0 r2.2.1) d L r2.2.2) 11 [(0, .ref (x + 9)), (1, va_rf a1)] [.int r2.1]
  refine k_if_ne (pc := 11) (tgt := 23) hC dX3_sum_11 (by decide) hE (fun hE => ?_) (fun hE => ?_)
  · refine k_aload_n (pc := 14) hC dX3_sum_14 rfl 0 rfl ?_
    refine k_bipush (pc := 15) (v := 45) hC dX3_sum_15 (by decide) ?_
    rcases xb_of hE with ⟨e, h1, rfl⟩ | ⟨r3, h1, hE⟩
    · exact p_callVT (pc := 17) (As := [.int 45]) hP hR (ctx_R_isSign X.2.1 D (cxA X) x Xp R0 d L r2.2.1 r2.2.2 (pxf hP) 45 e h1) (fun H h => p_fault hC.K h) (p_tt hX) (cw_R_isSign_X3 hX (Nat.le_of_ble_eq_true rfl) (Nat.le_of_ble_eq_true rfl)) (p_recv 9 lp_9 cl_X3 hP) rfl rfl (Nat.le_of_ble_eq_true rfl) dX3_sum_17
    refine a_callV (pc := 17) (As := [.int 45]) hX (ct_R_isSign X.2.1 D (cxA X) x Xp R0 d L r2.2.1 r2.2.2 (pxf hP) 45 r3 h1) (cw_R_isSign_X3 hX (Nat.le_of_ble_eq_true rfl) (Nat.le_of_ble_eq_true rfl)) (p_recv 9 lp_9 cl_X3 hP) rfl rfl (Nat.le_of_ble_eq_true rfl) dX3_sum_17 (fun c z => ?_)
    show Wk X c z (RD D (RP D x Xp R0 r3.2.1) d L r3.2.2) 20 [(0, .ref (x + 9)), (1, va_rf a1)] [.int r3.1]
    refine k_if_eq (pc := 20) (tgt := 57) hC dX3_sum_20 (by decide) hE (fun hE => ?_) (fun hE => ?_)
    · refine k_aloadR_n (pc := 57) hC dX3_sum_57 rfl 1 rfl ?_
      cases hE
      exact a_aret (pc := 58) (v := va_rf _) (rt := (.object "SleepWork$Sum")) (by first | exact Or.inl ⟨_, rfl⟩ | exact Or.inr ⟨_, rfl⟩) (va_rfv _) hX hR dX3_sum_58 (by rfl) (fun _ h => h)
    · exact w_R_sum_4_B23 hP hR F k5 hk5 _ _ _ hE _ _
  · exact w_R_sum_4_B23 hP hR F k5 hk5 _ _ _ hE _ _
theorem w_R_sum_4_L5 {X : Ctx} {D : Dd} {x : Nat} {R0 : Heap → Prop} {d : Nat → Prop} {L : Nat × Nat × Nat × Nat} {Xp : Jr} {out : (Ji × Jr × Th) ⊕ (Option Nat × Ji × Th)} (hP : Px X cX3_sum RX3 D x R0 d L 3 19 411) (hR : RtX X (some (.object "SleepWork$Sum")) D L x (fun r => (RD D (RP D x Xp R0 r.2.1) d L r.2.2)) (fun r => (some (va_rf r.1))) (fun e => RD D (RP D x e.2.1 R0 e.1) d L e.2.2) out) (F : Nat) (n : Nat) : ∀ (a1 : Option Nat) (Q : Ji) (T : Th) , R_sum_4_L5 F Xp n a1 Q T = some out → ∀ c z, Wk X c z (RD D (RP D x Xp R0 Q) d L T) 5 [(0, .ref (x + 9)), (1, va_rf a1)] [] := by
  induction n with
  | zero => intro a1 Q T h; cases h
  | succ n ih => intro a1 Q T h; exact w_R_sum_4_B5 hP hR F (R_sum_4_L5 F Xp n) ih a1 Q T h
set_option maxHeartbeats 4000000 in
theorem w_R_sum_4 {X : Ctx} {D : Dd} {x : Nat} {R0 : Heap → Prop} {d : Nat → Prop} {L : Nat × Nat × Nat × Nat} {Xp : Jr} {out : (Ji × Jr × Th) ⊕ (Option Nat × Ji × Th)} (hP : Px X cX3_sum RX3 D x R0 d L 3 19 411) (hR : RtX X (some (.object "SleepWork$Sum")) D L x (fun r => (RD D (RP D x Xp R0 r.2.1) d L r.2.2)) (fun r => (some (va_rf r.1))) (fun e => RD D (RP D x e.2.1 R0 e.1) d L e.2.2) out) (F : Nat) (Q : Ji) (T : Th) (hE : R_sum_4 F Xp Q T = some out) (c z : Nat) : Wk X c z (RD D (RP D x Xp R0 Q) d L T) 0 [(0, .ref (x + 9))] [] := by
  have hX := hP.1
  have hC := hX.1
  have hnL := hX.2.2.1
  have hSt : ∀ {Xp : Jr} {Q : Ji}, Stb (RP D x Xp R0 Q) d := hP.st
  have hDy : ∀ {Xp : Jr} {Q : Ji} {T : Th} (H : Heap), RD D (RP D x Xp R0 Q) d L T H → Dy D T H := fun _ h => h.2.1
  unfold R_sum_4 at hE
  refine k_aload_n (pc := 0) hC dX3_sum_0 rfl 0 rfl ?_
  rcases xb_of hE with ⟨e, h1, rfl⟩ | ⟨r1, h1, hE⟩
  · exact p_callVT (pc := 1) (As := []) hP hR (ctx_R_part_4 X.2.1 D (cxA X) x Xp R0 d L Q T (pxf hP) F e h1) (fun H h => p_fault hC.K h) (p_tt hX) (cw_R_part_4_X3 hX (Nat.le_of_ble_eq_true rfl) (Nat.le_of_ble_eq_true rfl)) (p_recv 9 lp_9 cl_X3 hP) rfl rfl (Nat.le_of_ble_eq_true rfl) dX3_sum_1
  refine a_callV (pc := 1) (As := []) hX (ct_R_part_4 X.2.1 D (cxA X) x Xp R0 d L Q T (pxf hP) F r1 h1) (cw_R_part_4_X3 hX (Nat.le_of_ble_eq_true rfl) (Nat.le_of_ble_eq_true rfl)) (p_recv 9 lp_9 cl_X3 hP) rfl rfl (Nat.le_of_ble_eq_true rfl) dX3_sum_1 (fun c z => ?_)
  show Wk X c z (RD D (RP D x Xp R0 r1.2.1) d L r1.2.2) 4 [(0, .ref (x + 9))] [va_rf r1.1]
  refine k_astoreR_n (pc := 4) (lv' := [(1, va_rf r1.1), (0, .ref (x + 9))]) hC dX3_sum_4 rfl (by rw [hnL]; decide) rfl ?_
  refine k_sub [1, 0] rfl ?_
  exact w_R_sum_4_L5 hP hR F _ _ _ _ hE _ _
theorem ct_R_sum_4 (l : Launch) (D : Dd) (A : Nat → Prop) (x : Nat) (Xp : Jr) (R0 : Heap → Prop) (d : Nat → Prop) (L : Nat × Nat × Nat × Nat) (Q : Ji) (T : Th) (hp : Pf D A x R0 d) (F : Nat) (out : Option Nat × Ji × Th) (hE : R_sum_4 F Xp Q T = some (.inr out)) : Ct l yX3_sum (ws_ yX3_sum cX3_sum 3 (some (.object "SleepWork$Sum"))) (rmA 19 411 L T) vwCl arTy D A [.ref (x + 9)] (RD D (RP D x Xp R0 Q) d L T) (RD D (RP D x Xp R0 out.2.1) d L out.2.2) (some (va_rf out.1)) (L.1 - tN T) (L.2.1 - tZ T) := by
  refine Ct.ofA (lv := [(0, .ref (x + 9))]) (by decide) (Nat.le_of_ble_eq_true rfl) rfl hp.1 hp.2.1 ?_
  intro X hl hX hR hXA _
  exact w_R_sum_4 (Xp := Xp) (out := .inr out) (hp.px hX hXA) hR F Q T hE
theorem ctx_R_sum_4 (l : Launch) (D : Dd) (A : Nat → Prop) (x : Nat) (Xp : Jr) (R0 : Heap → Prop) (d : Nat → Prop) (L : Nat × Nat × Nat × Nat) (Q : Ji) (T : Th) (hp : Pf D A x R0 d) (F : Nat) (e : Ji × Jr × Th) (hE : R_sum_4 F Xp Q T = some (.inl e)) : CtT l yX3_sum (ws_ yX3_sum cX3_sum 3 (some (.object "SleepWork$Sum"))) (rmA 19 411 L T) D A [.ref (x + 9)] (RD D (RP D x Xp R0 Q) d L T) (RD D (RP D x e.2.1 R0 e.1) d L e.2.2) (x + 1) (L.1 - tN T) (L.2.1 - tZ T) := by
  refine CtT.ofA (lv := [(0, .ref (x + 9))]) (by decide) (Nat.le_of_ble_eq_true rfl) rfl hp.1 hp.2.1 ?_
  intro X hl hX hR hXA
  exact w_R_sum_4 (Xp := Xp) (out := .inl e) (hp.px hX hXA) hR F Q T hE
theorem cw_R_sum_4_X3 {X : Ctx} {cc : ByteArray} {D : Dd} {d : Nat → Prop} {L : Nat × Nat × Nat × Nat} {mL fr lo : Nat} {T : Th} (hX : Ax X cc RX3 D d L mL fr lo) (h1 : 19 + 1 ≤ fr) (h2 : 8 + (3 + 11) + 411 ≤ lo) : CallW X.2.2.2.1 X.2.2.2.2.1 X.2.2.2.2.2.2.1 RX3 RX3 253 yX3_sum cX3_sum 3 (some (.object "SleepWork$Sum")) (ws_ yX3_sum cX3_sum 3 (some (.object "SleepWork$Sum"))) (rmA 19 411 L T) (L.1 - tN T) (L.2.1 - tZ T) 0 := cwV 0 (cx_w hX.1) (lw_V q1184 q1186 qs30 q120 q1187) rfl rfl rfl (by decide +kernel) (by rw [hX.2.2.2.1, hX.2.2.2.2.1]; exact ⟨h1, h2⟩)
set_option maxHeartbeats 4000000 in
theorem w_R_unit_5_B87 {X : Ctx} {D : Dd} {x : Nat} {R0 : Heap → Prop} {d : Nat → Prop} {L : Nat × Nat × Nat × Nat} {Xp : Jr} {out : (Ji × Jr × Th) ⊕ (Option Nat × Ji × Th)} (hP : Px X cX3_unit RX3 D x R0 d L 2 20 433) (hR : RtX X (some (.object "SleepWork$Sum")) D L x (fun r => (RD D (RP D x Xp R0 r.2.1) d L r.2.2)) (fun r => (some (va_rf r.1))) (fun e => RD D (RP D x e.2.1 R0 e.1) d L e.2.2) out) (F : Nat) (Q : Ji) (T : Th) (hE : R_unit_5_B87 F Xp Q T = some out) (c z : Nat) : Wk X c z (RD D (RP D x Xp R0 Q) d L T) 87 [(0, .ref (x + 9))] [] := by
  have hX := hP.1
  have hC := hX.1
  have hnL := hX.2.2.1
  have hSt : ∀ {Xp : Jr} {Q : Ji}, Stb (RP D x Xp R0 Q) d := hP.st
  have hDy : ∀ {Xp : Jr} {Q : Ji} {T : Th} (H : Heap), RD D (RP D x Xp R0 Q) d L T H → Dy D T H := fun _ h => h.2.1
  unfold R_unit_5_B87 at hE
  refine k_aload_n (pc := 87) hC dX3_unit_87 rfl 0 rfl ?_
  refine k_bipush (pc := 88) (v := 40) hC dX3_unit_88 (by decide) ?_
  rcases xb_of hE with ⟨e, h1, rfl⟩ | ⟨r12, h1, hE⟩
  · exact p_callVT (pc := 90) (As := [.int 40]) hP hR (ctx_R_isSign X.2.1 D (cxA X) x Xp R0 d L Q T (pxf hP) 40 e h1) (fun H h => p_fault hC.K h) (p_tt hX) (cw_R_isSign_X3 hX (Nat.le_of_ble_eq_true rfl) (Nat.le_of_ble_eq_true rfl)) (p_recv 9 lp_9 cl_X3 hP) rfl rfl (Nat.le_of_ble_eq_true rfl) dX3_unit_90
  refine a_callV (pc := 90) (As := [.int 40]) hX (ct_R_isSign X.2.1 D (cxA X) x Xp R0 d L Q T (pxf hP) 40 r12 h1) (cw_R_isSign_X3 hX (Nat.le_of_ble_eq_true rfl) (Nat.le_of_ble_eq_true rfl)) (p_recv 9 lp_9 cl_X3 hP) rfl rfl (Nat.le_of_ble_eq_true rfl) dX3_unit_90 (fun c z => ?_)
  show Wk X c z (RD D (RP D x Xp R0 r12.2.1) d L r12.2.2) 93 [(0, .ref (x + 9))] [.int r12.1]
  refine k_if_ne (pc := 93) (tgt := 102) hC dX3_unit_93 (by decide) hE (fun hE => ?_) (fun hE => ?_)
  · refine k_aload_n (pc := 96) hC dX3_unit_96 rfl 0 rfl ?_
    refine k_iconst (pc := 97) (v := 1) hC dX3_unit_97 (by decide) ?_
    obtain ⟨r13, h1, hE⟩ := ob_ hE
    refine a_callV (pc := 98) (As := [.int 1]) hX (ct_R_wrong X.2.1 D (cxA X) x Xp R0 d L r12.2.1 r12.2.2 (pxf hP) 1 r13 h1) (cw_R_wrong_X3 hX (Nat.le_of_ble_eq_true rfl) (Nat.le_of_ble_eq_true rfl)) (p_recv 9 lp_9 cl_X3 hP) rfl rfl (Nat.le_of_ble_eq_true rfl) dX3_unit_98 (fun c z => ?_)
    show Wk X c z (RD D (RP D x Xp R0 r13) d L r12.2.2) 101 [(0, .ref (x + 9))] [.ref (x + 1)]
    cases hE
    exact p_athrow (pc := 101) hP hR dX3_unit_101 (fun _ h => h)
  · refine k_aload_n (pc := 102) hC dX3_unit_102 rfl 0 rfl ?_
    refine gP_X3_99 (pc := 103) hP dX3_unit_103 ?_
    refine k_bipush (pc := 106) (v := 6) hC dX3_unit_106 (by decide) ?_
    refine k_icmp_ne (pc := 108) (tgt := 117) hC dX3_unit_108 (by decide) hE (fun hE => ?_) (fun hE => ?_)
    · refine k_aload_n (pc := 111) hC dX3_unit_111 rfl 0 rfl ?_
      refine k_iconst (pc := 112) (v := 2) hC dX3_unit_112 (by decide) ?_
      obtain ⟨r14, h1, hE⟩ := ob_ hE
      refine a_callV (pc := 113) (As := [.int 2]) hX (ct_R_wrong X.2.1 D (cxA X) x Xp R0 d L r12.2.1 r12.2.2 (pxf hP) 2 r14 h1) (cw_R_wrong_X3 hX (Nat.le_of_ble_eq_true rfl) (Nat.le_of_ble_eq_true rfl)) (p_recv 9 lp_9 cl_X3 hP) rfl rfl (Nat.le_of_ble_eq_true rfl) dX3_unit_113 (fun c z => ?_)
      show Wk X c z (RD D (RP D x Xp R0 r14) d L r12.2.2) 116 [(0, .ref (x + 9))] [.ref (x + 1)]
      cases hE
      exact p_athrow (pc := 116) hP hR dX3_unit_116 (fun _ h => h)
    · refine k_aload_n (pc := 117) hC dX3_unit_117 rfl 0 rfl ?_
      refine k_dup (pc := 118) hC dX3_unit_118 rfl ?_
      refine gP_X3_99 (pc := 119) hP dX3_unit_119 ?_
      refine k_iconst (pc := 122) (v := 1) hC dX3_unit_122 (by decide) ?_
      refine k_iadd (pc := 123) hC dX3_unit_123 ?_
      refine pP_X3_99 (pc := 124) hP dX3_unit_124 hE (fun Q15 hE => ?_)
      refine k_aload_n (pc := 127) hC dX3_unit_127 rfl 0 rfl ?_
      rcases xb_of hE with ⟨e, h1, rfl⟩ | ⟨r16, h1, hE⟩
      · exact p_callVT (pc := 128) (As := []) hP hR (ctx_R_pass X.2.1 D (cxA X) x Xp R0 d L Q15 r12.2.2 (pxf hP)  e h1) (fun H h => p_fault hC.K h) (p_tt hX) (cw_R_pass_X3 hX (Nat.le_of_ble_eq_true rfl) (Nat.le_of_ble_eq_true rfl)) (p_recv 9 lp_9 cl_X3 hP) rfl rfl (Nat.le_of_ble_eq_true rfl) dX3_unit_128
      refine a_callV (pc := 128) (As := []) hX (ct_R_pass X.2.1 D (cxA X) x Xp R0 d L Q15 r12.2.2 (pxf hP)  r16 h1) (cw_R_pass_X3 hX (Nat.le_of_ble_eq_true rfl) (Nat.le_of_ble_eq_true rfl)) (p_recv 9 lp_9 cl_X3 hP) rfl rfl (Nat.le_of_ble_eq_true rfl) dX3_unit_128 (fun c z => ?_)
      show Wk X c z (RD D (RP D x Xp R0 r16.1) d L r16.2) 131 [(0, .ref (x + 9))] []
      refine k_aload_n (pc := 131) hC dX3_unit_131 rfl 0 rfl ?_
      rcases xb_of hE with ⟨e, h1, rfl⟩ | ⟨r17, h1, hE⟩
      · exact p_callVT (pc := 132) (As := []) hP hR (ctx_R_sum_4 X.2.1 D (cxA X) x Xp R0 d L r16.1 r16.2 (pxf hP) F e h1) (fun H h => p_fault hC.K h) (p_tt hX) (cw_R_sum_4_X3 hX (Nat.le_of_ble_eq_true rfl) (Nat.le_of_ble_eq_true rfl)) (p_recv 9 lp_9 cl_X3 hP) rfl rfl (Nat.le_of_ble_eq_true rfl) dX3_unit_132
      refine a_callV (pc := 132) (As := []) hX (ct_R_sum_4 X.2.1 D (cxA X) x Xp R0 d L r16.1 r16.2 (pxf hP) F r17 h1) (cw_R_sum_4_X3 hX (Nat.le_of_ble_eq_true rfl) (Nat.le_of_ble_eq_true rfl)) (p_recv 9 lp_9 cl_X3 hP) rfl rfl (Nat.le_of_ble_eq_true rfl) dX3_unit_132 (fun c z => ?_)
      show Wk X c z (RD D (RP D x Xp R0 r17.2.1) d L r17.2.2) 135 [(0, .ref (x + 9))] [va_rf r17.1]
      refine k_astoreR_n (pc := 135) (lv' := [(1, va_rf r17.1), (0, .ref (x + 9))]) hC dX3_unit_135 rfl (by rw [hnL]; decide) rfl ?_
      refine k_aload_n (pc := 136) hC dX3_unit_136 rfl 1 rfl ?_
      refine k_bipush (pc := 137) (v := 41) hC dX3_unit_137 (by decide) ?_
      rcases xb_of hE with ⟨e, h1, rfl⟩ | ⟨r18, h1, hE⟩
      · exact p_callVT (pc := 139) (As := [.int 41]) hP hR (ctx_R_sign X.2.1 D (cxA X) x Xp R0 d L r17.2.1 r17.2.2 (pxf hP) 41 e h1) (fun H h => p_fault hC.K h) (p_tt hX) (cw_R_sign_X3 hX (Nat.le_of_ble_eq_true rfl) (Nat.le_of_ble_eq_true rfl)) (p_recv 9 lp_9 cl_X3 hP) rfl rfl (Nat.le_of_ble_eq_true rfl) dX3_unit_139
      refine a_callV (pc := 139) (As := [.int 41]) hX (ct_R_sign X.2.1 D (cxA X) x Xp R0 d L r17.2.1 r17.2.2 (pxf hP) 41 r18 h1) (cw_R_sign_X3 hX (Nat.le_of_ble_eq_true rfl) (Nat.le_of_ble_eq_true rfl)) (p_recv 9 lp_9 cl_X3 hP) rfl rfl (Nat.le_of_ble_eq_true rfl) dX3_unit_139 (fun c z => ?_)
      show Wk X c z (RD D (RP D x Xp R0 r18.1) d L r18.2) 142 [(1, va_rf r17.1), (0, .ref (x + 9))] []
      refine k_aload_n (pc := 142) hC dX3_unit_142 rfl 1 rfl ?_
      refine k_dup (pc := 143) hC dX3_unit_143 rfl ?_
      refine gP_X3_99 (pc := 144) hP dX3_unit_144 ?_
      refine k_iconst (pc := 147) (v := 1) hC dX3_unit_147 (by decide) ?_
      refine k_isub (pc := 148) hC dX3_unit_148 ?_
      refine pP_X3_99 (pc := 149) hP dX3_unit_149 hE (fun Q19 hE => ?_)
      refine k_aloadR_n (pc := 152) hC dX3_unit_152 rfl 0 rfl ?_
      cases hE
      exact a_aret (pc := 153) (v := va_rf _) (rt := (.object "SleepWork$Sum")) (by first | exact Or.inl ⟨_, rfl⟩ | exact Or.inr ⟨_, rfl⟩) (va_rfv _) hX hR dX3_unit_153 (by rfl) (fun _ h => h)
set_option maxHeartbeats 4000000 in
theorem w_R_unit_5 {X : Ctx} {D : Dd} {x : Nat} {R0 : Heap → Prop} {d : Nat → Prop} {L : Nat × Nat × Nat × Nat} {Xp : Jr} {out : (Ji × Jr × Th) ⊕ (Option Nat × Ji × Th)} (hP : Px X cX3_unit RX3 D x R0 d L 2 20 433) (hR : RtX X (some (.object "SleepWork$Sum")) D L x (fun r => (RD D (RP D x Xp R0 r.2.1) d L r.2.2)) (fun r => (some (va_rf r.1))) (fun e => RD D (RP D x e.2.1 R0 e.1) d L e.2.2) out) (F : Nat) (Q : Ji) (T : Th) (hE : R_unit_5 F Xp Q T = some out) (c z : Nat) : Wk X c z (RD D (RP D x Xp R0 Q) d L T) 0 [(0, .ref (x + 9))] [] := by
  have hX := hP.1
  have hC := hX.1
  have hnL := hX.2.2.1
  have hSt : ∀ {Xp : Jr} {Q : Ji}, Stb (RP D x Xp R0 Q) d := hP.st
  have hDy : ∀ {Xp : Jr} {Q : Ji} {T : Th} (H : Heap), RD D (RP D x Xp R0 Q) d L T H → Dy D T H := fun _ h => h.2.1
  unfold R_unit_5 at hE
  refine k_aload_n (pc := 0) hC dX3_unit_0 rfl 0 rfl ?_
  rcases xb_of hE with ⟨e, h1, rfl⟩ | ⟨r1, h1, hE⟩
  · exact p_callVT (pc := 1) (As := []) hP hR (ctx_R_sort X.2.1 D (cxA X) x Xp R0 d L Q T (pxf hP)  e h1) (fun H h => p_fault hC.K h) (p_tt hX) (cw_R_sort_X3 hX (Nat.le_of_ble_eq_true rfl) (Nat.le_of_ble_eq_true rfl)) (p_recv 9 lp_9 cl_X3 hP) rfl rfl (Nat.le_of_ble_eq_true rfl) dX3_unit_1
  refine a_callV (pc := 1) (As := []) hX (ct_R_sort X.2.1 D (cxA X) x Xp R0 d L Q T (pxf hP)  r1 h1) (cw_R_sort_X3 hX (Nat.le_of_ble_eq_true rfl) (Nat.le_of_ble_eq_true rfl)) (p_recv 9 lp_9 cl_X3 hP) rfl rfl (Nat.le_of_ble_eq_true rfl) dX3_unit_1 (fun c z => ?_)
  show Wk X c z (RD D (RP D x Xp R0 r1.2.1) d L r1.2.2) 4 [(0, .ref (x + 9))] [.int r1.1]
  refine k_iconst (pc := 4) (v := 1) hC dX3_unit_4 (by decide) ?_
  refine k_icmp_ne (pc := 5) (tgt := 33) hC dX3_unit_5 (by decide) hE (fun hE => ?_) (fun hE => ?_)
  · refine k_aload_n (pc := 8) hC dX3_unit_8 rfl 0 rfl ?_
    rcases xb_of hE with ⟨e, h1, rfl⟩ | ⟨r2, h1, hE⟩
    · exact p_callVT (pc := 9) (As := []) hP hR (ctx_R_pass X.2.1 D (cxA X) x Xp R0 d L r1.2.1 r1.2.2 (pxf hP)  e h1) (fun H h => p_fault hC.K h) (p_tt hX) (cw_R_pass_X3 hX (Nat.le_of_ble_eq_true rfl) (Nat.le_of_ble_eq_true rfl)) (p_recv 9 lp_9 cl_X3 hP) rfl rfl (Nat.le_of_ble_eq_true rfl) dX3_unit_9
    refine a_callV (pc := 9) (As := []) hX (ct_R_pass X.2.1 D (cxA X) x Xp R0 d L r1.2.1 r1.2.2 (pxf hP)  r2 h1) (cw_R_pass_X3 hX (Nat.le_of_ble_eq_true rfl) (Nat.le_of_ble_eq_true rfl)) (p_recv 9 lp_9 cl_X3 hP) rfl rfl (Nat.le_of_ble_eq_true rfl) dX3_unit_9 (fun c z => ?_)
    show Wk X c z (RD D (RP D x Xp R0 r2.1) d L r2.2) 12 [(0, .ref (x + 9))] []
    refine a_new (pc := 12) hX hSt cl_X18 in_X18 tyX18 tyX18_ok dv_X18 q1196 q1197 q149 dX3_unit_12 hE (fun T3 eT3 hE c z => ?_)
    refine k_dup (pc := 15) hC dX3_unit_15 rfl ?_
    refine k_aload_n (pc := 16) hC dX3_unit_16 rfl 0 rfl ?_
    refine gP_X3_9 (pc := 17) hP dX3_unit_17 ?_
    refine k_aload_n (pc := 20) hC dX3_unit_20 rfl 0 rfl ?_
    refine gP_X3_31 (pc := 21) hP dX3_unit_21 ?_
    refine k_iconst (pc := 24) (v := 1) hC dX3_unit_24 (by decide) ?_
    refine k_isub (pc := 25) hC dX3_unit_25 ?_
    obtain ⟨r4, h1, hE⟩ := ob_ hE
    refine a_callV (pc := 26) (As := [.int ((r2.1 9 3) - 1)]) hX (ct_T_number X.2.1 D (cxA X) x Xp R0 d L r2.1 T3 (pxf hP) F ((r2.1 9 3) - 1) r4 h1) (cw_T_number_X3 hX (Nat.le_of_ble_eq_true rfl) (Nat.le_of_ble_eq_true rfl)) (p_recv 2 lp_2 cl_X2 hP) rfl rfl (Nat.le_of_ble_eq_true rfl) dX3_unit_26 (fun c z => ?_)
    show Wk X c z (RD D (RP D x Xp R0 r2.1) d L T3) 29 [(0, .ref (x + 9))] [.int r4, .ref (tN r2.2), .ref (tN r2.2)]
    obtain ⟨r5, h1, hE⟩ := ob_ hE
    refine a_callI (pc := 29) (As := [.int r4]) hX (ct_A_Number X.2.1 D (cxA X) (RP D x Xp R0 r2.1) d L T3 hSt hX.2.1 hX.2.2.2.2.2.2.2.2.2 (tN r2.2) r4 r5 h1) (cw_A_Number_X3 hX (Nat.le_of_ble_eq_true rfl) (Nat.le_of_ble_eq_true rfl)) rfl rfl (Nat.le_of_ble_eq_true rfl) dX3_unit_29 (fun c z => ?_)
    show Wk X c z (RD D (RP D x Xp R0 r2.1) d L r5) 32 [(0, .ref (x + 9))] [.ref (tN r2.2)]
    cases hE
    exact a_aret (pc := 32) (v := va_rf _) (rt := (.object "SleepWork$Sum")) (by first | exact Or.inl ⟨_, rfl⟩ | exact Or.inr ⟨_, rfl⟩) (va_rfv _) hX hR dX3_unit_32 (by rfl) (fun _ h => h)
  · refine k_aload_n (pc := 33) hC dX3_unit_33 rfl 0 rfl ?_
    rcases xb_of hE with ⟨e, h1, rfl⟩ | ⟨r6, h1, hE⟩
    · exact p_callVT (pc := 34) (As := []) hP hR (ctx_R_sort X.2.1 D (cxA X) x Xp R0 d L r1.2.1 r1.2.2 (pxf hP)  e h1) (fun H h => p_fault hC.K h) (p_tt hX) (cw_R_sort_X3 hX (Nat.le_of_ble_eq_true rfl) (Nat.le_of_ble_eq_true rfl)) (p_recv 9 lp_9 cl_X3 hP) rfl rfl (Nat.le_of_ble_eq_true rfl) dX3_unit_34
    refine a_callV (pc := 34) (As := []) hX (ct_R_sort X.2.1 D (cxA X) x Xp R0 d L r1.2.1 r1.2.2 (pxf hP)  r6 h1) (cw_R_sort_X3 hX (Nat.le_of_ble_eq_true rfl) (Nat.le_of_ble_eq_true rfl)) (p_recv 9 lp_9 cl_X3 hP) rfl rfl (Nat.le_of_ble_eq_true rfl) dX3_unit_34 (fun c z => ?_)
    show Wk X c z (RD D (RP D x Xp R0 r6.2.1) d L r6.2.2) 37 [(0, .ref (x + 9))] [.int r6.1]
    refine k_iconst (pc := 37) (v := 3) hC dX3_unit_37 (by decide) ?_
    refine k_icmp_ne (pc := 38) (tgt := 87) hC dX3_unit_38 (by decide) hE (fun hE => ?_) (fun hE => ?_)
    · refine k_aload_n (pc := 41) hC dX3_unit_41 rfl 0 rfl ?_
      refine gP_X3_9 (pc := 42) hP dX3_unit_42 ?_
      refine gP_X3_52 (pc := 45) hP dX3_unit_45 ?_
      refine k_aload_n (pc := 48) hC dX3_unit_48 rfl 0 rfl ?_
      refine gP_X3_31 (pc := 49) hP dX3_unit_49 ?_
      refine p_sald (pc := 52) 8 lp_8 hP dX3_unit_52 hE (fun x7 hE => ?_)
      refine k_bipush (pc := 53) (v := 15) hC dX3_unit_53 (by decide) ?_
      refine k_icmp_lt (pc := 55) (tgt := 87) hC dX3_unit_55 (by decide) hE (fun hE => ?_) (fun hE => ?_)
      · exact w_R_unit_5_B87 hP hR F _ _ hE _ _
      · refine k_aload_n (pc := 58) hC dX3_unit_58 rfl 0 rfl ?_
        rcases xb_of hE with ⟨e, h1, rfl⟩ | ⟨r8, h1, hE⟩
        · exact p_callVT (pc := 59) (As := []) hP hR (ctx_R_pass X.2.1 D (cxA X) x Xp R0 d L r6.2.1 r6.2.2 (pxf hP)  e h1) (fun H h => p_fault hC.K h) (p_tt hX) (cw_R_pass_X3 hX (Nat.le_of_ble_eq_true rfl) (Nat.le_of_ble_eq_true rfl)) (p_recv 9 lp_9 cl_X3 hP) rfl rfl (Nat.le_of_ble_eq_true rfl) dX3_unit_59
        refine a_callV (pc := 59) (As := []) hX (ct_R_pass X.2.1 D (cxA X) x Xp R0 d L r6.2.1 r6.2.2 (pxf hP)  r8 h1) (cw_R_pass_X3 hX (Nat.le_of_ble_eq_true rfl) (Nat.le_of_ble_eq_true rfl)) (p_recv 9 lp_9 cl_X3 hP) rfl rfl (Nat.le_of_ble_eq_true rfl) dX3_unit_59 (fun c z => ?_)
        show Wk X c z (RD D (RP D x Xp R0 r8.1) d L r8.2) 62 [(0, .ref (x + 9))] []
        refine a_new (pc := 62) hX hSt cl_X19 in_X19 tyX19 tyX19_ok dv_X19 q1209 q1210 q150 dX3_unit_62 hE (fun T9 eT9 hE c z => ?_)
        refine k_dup (pc := 65) hC dX3_unit_65 rfl ?_
        refine k_aload_n (pc := 66) hC dX3_unit_66 rfl 0 rfl ?_
        refine gP_X3_9 (pc := 67) hP dX3_unit_67 ?_
        refine gP_X3_52 (pc := 70) hP dX3_unit_70 ?_
        refine k_aload_n (pc := 73) hC dX3_unit_73 rfl 0 rfl ?_
        refine gP_X3_31 (pc := 74) hP dX3_unit_74 ?_
        refine k_iconst (pc := 77) (v := 1) hC dX3_unit_77 (by decide) ?_
        refine k_isub (pc := 78) hC dX3_unit_78 ?_
        refine p_sald (pc := 79) 8 lp_8 hP dX3_unit_79 hE (fun x10 hE => ?_)
        refine k_bipush (pc := 80) (v := 15) hC dX3_unit_80 (by decide) ?_
        refine k_isub (pc := 82) hC dX3_unit_82 ?_
        obtain ⟨r11, h1, hE⟩ := ob_ hE
        refine a_callI (pc := 83) (As := [.int (x10 - 15)]) hX (ct_A_Var X.2.1 D (cxA X) (RP D x Xp R0 r8.1) d L T9 hSt hX.2.1 hX.2.2.2.2.2.2.2.2.2 (tN r8.2) (x10 - 15) r11 h1) (cw_A_Var_X3 hX (Nat.le_of_ble_eq_true rfl) (Nat.le_of_ble_eq_true rfl)) rfl rfl (Nat.le_of_ble_eq_true rfl) dX3_unit_83 (fun c z => ?_)
        show Wk X c z (RD D (RP D x Xp R0 r8.1) d L r11) 86 [(0, .ref (x + 9))] [.ref (tN r8.2)]
        cases hE
        exact a_aret (pc := 86) (v := va_rf _) (rt := (.object "SleepWork$Sum")) (by first | exact Or.inl ⟨_, rfl⟩ | exact Or.inr ⟨_, rfl⟩) (va_rfv _) hX hR dX3_unit_86 (by rfl) (fun _ h => h)
    · exact w_R_unit_5_B87 hP hR F _ _ hE _ _
theorem ct_R_unit_5 (l : Launch) (D : Dd) (A : Nat → Prop) (x : Nat) (Xp : Jr) (R0 : Heap → Prop) (d : Nat → Prop) (L : Nat × Nat × Nat × Nat) (Q : Ji) (T : Th) (hp : Pf D A x R0 d) (F : Nat) (out : Option Nat × Ji × Th) (hE : R_unit_5 F Xp Q T = some (.inr out)) : Ct l yX3_unit (ws_ yX3_unit cX3_unit 2 (some (.object "SleepWork$Sum"))) (rmA 20 433 L T) vwCl arTy D A [.ref (x + 9)] (RD D (RP D x Xp R0 Q) d L T) (RD D (RP D x Xp R0 out.2.1) d L out.2.2) (some (va_rf out.1)) (L.1 - tN T) (L.2.1 - tZ T) := by
  refine Ct.ofA (lv := [(0, .ref (x + 9))]) (by decide) (Nat.le_of_ble_eq_true rfl) rfl hp.1 hp.2.1 ?_
  intro X hl hX hR hXA _
  exact w_R_unit_5 (Xp := Xp) (out := .inr out) (hp.px hX hXA) hR F Q T hE
theorem ctx_R_unit_5 (l : Launch) (D : Dd) (A : Nat → Prop) (x : Nat) (Xp : Jr) (R0 : Heap → Prop) (d : Nat → Prop) (L : Nat × Nat × Nat × Nat) (Q : Ji) (T : Th) (hp : Pf D A x R0 d) (F : Nat) (e : Ji × Jr × Th) (hE : R_unit_5 F Xp Q T = some (.inl e)) : CtT l yX3_unit (ws_ yX3_unit cX3_unit 2 (some (.object "SleepWork$Sum"))) (rmA 20 433 L T) D A [.ref (x + 9)] (RD D (RP D x Xp R0 Q) d L T) (RD D (RP D x e.2.1 R0 e.1) d L e.2.2) (x + 1) (L.1 - tN T) (L.2.1 - tZ T) := by
  refine CtT.ofA (lv := [(0, .ref (x + 9))]) (by decide) (Nat.le_of_ble_eq_true rfl) rfl hp.1 hp.2.1 ?_
  intro X hl hX hR hXA
  exact w_R_unit_5 (Xp := Xp) (out := .inl e) (hp.px hX hXA) hR F Q T hE
theorem cw_R_unit_5_X3 {X : Ctx} {cc : ByteArray} {D : Dd} {d : Nat → Prop} {L : Nat × Nat × Nat × Nat} {mL fr lo : Nat} {T : Th} (hX : Ax X cc RX3 D d L mL fr lo) (h1 : 20 + 1 ≤ fr) (h2 : 8 + (2 + 11) + 433 ≤ lo) : CallW X.2.2.2.1 X.2.2.2.2.1 X.2.2.2.2.2.2.1 RX3 RX3 277 yX3_unit cX3_unit 2 (some (.object "SleepWork$Sum")) (ws_ yX3_unit cX3_unit 2 (some (.object "SleepWork$Sum"))) (rmA 20 433 L T) (L.1 - tN T) (L.2.1 - tZ T) 0 := cwV 0 (cx_w hX.1) (lw_V q1192 q1194 qs32 q120 q1195) rfl rfl rfl (by decide +kernel) (by rw [hX.2.2.2.1, hX.2.2.2.2.1]; exact ⟨h1, h2⟩)
set_option maxHeartbeats 4000000 in
theorem w_R_part_5_B23 {X : Ctx} {D : Dd} {x : Nat} {R0 : Heap → Prop} {d : Nat → Prop} {L : Nat × Nat × Nat × Nat} {Xp : Jr} {out : (Ji × Jr × Th) ⊕ (Option Nat × Ji × Th)} (hP : Px X cX3_part RX3 D x R0 d L 3 21 454) (hR : RtX X (some (.object "SleepWork$Sum")) D L x (fun r => (RD D (RP D x Xp R0 r.2.1) d L r.2.2)) (fun r => (some (va_rf r.1))) (fun e => RD D (RP D x e.2.1 R0 e.1) d L e.2.2) out) (F : Nat) (k5 : Option Nat → Ji → Th → Option ((Ji × Jr × Th) ⊕ (Option Nat × Ji × Th))) (hk5 : ∀ (a1 : Option Nat) (Q : Ji) (T : Th) , k5 a1 Q T = some out → ∀ c z, Wk X c z (RD D (RP D x Xp R0 Q) d L T) 5 [(0, .ref (x + 9)), (1, va_rf a1)] []) (a1 : Option Nat) (Q : Ji) (T : Th) (hE : R_part_5_B23 F k5 Xp a1 Q T = some out) (c z : Nat) : Wk X c z (RD D (RP D x Xp R0 Q) d L T) 23 [(0, .ref (x + 9)), (1, va_rf a1)] [] := by
  have hX := hP.1
  have hC := hX.1
  have hnL := hX.2.2.1
  have hSt : ∀ {Xp : Jr} {Q : Ji}, Stb (RP D x Xp R0 Q) d := hP.st
  have hDy : ∀ {Xp : Jr} {Q : Ji} {T : Th} (H : Heap), RD D (RP D x Xp R0 Q) d L T H → Dy D T H := fun _ h => h.2.1
  unfold R_part_5_B23 at hE
  refine k_aload_n (pc := 23) hC dX3_part_23 rfl 0 rfl ?_
  refine gP_X3_9 (pc := 24) hP dX3_part_24 ?_
  refine gP_X3_52 (pc := 27) hP dX3_part_27 ?_
  refine k_aload_n (pc := 30) hC dX3_part_30 rfl 0 rfl ?_
  refine gP_X3_31 (pc := 31) hP dX3_part_31 ?_
  refine p_sald (pc := 34) 8 lp_8 hP dX3_part_34 hE (fun x4 hE => ?_)
  refine k_istore_n (pc := 35) (lv' := [(2, .int x4), (0, .ref (x + 9)), (1, va_rf a1)]) hC dX3_part_35 rfl (by rw [hnL]; decide) (by cases a1 <;> rfl) ?_
  refine k_aload_n (pc := 36) hC dX3_part_36 rfl 1 rfl ?_
  rcases xb_of hE with ⟨e, h1, rfl⟩ | ⟨r5, h1, hE⟩
  · exact p_callVT (pc := 37) (As := []) hP hR (ctx_R_pass X.2.1 D (cxA X) x Xp R0 d L Q T (pxf hP)  e h1) (fun H h => p_fault hC.K h) (p_tt hX) (cw_R_pass_X3 hX (Nat.le_of_ble_eq_true rfl) (Nat.le_of_ble_eq_true rfl)) (p_recv 9 lp_9 cl_X3 hP) rfl rfl (Nat.le_of_ble_eq_true rfl) dX3_part_37
  refine a_callV (pc := 37) (As := []) hX (ct_R_pass X.2.1 D (cxA X) x Xp R0 d L Q T (pxf hP)  r5 h1) (cw_R_pass_X3 hX (Nat.le_of_ble_eq_true rfl) (Nat.le_of_ble_eq_true rfl)) (p_recv 9 lp_9 cl_X3 hP) rfl rfl (Nat.le_of_ble_eq_true rfl) dX3_part_37 (fun c z => ?_)
  show Wk X c z (RD D (RP D x Xp R0 r5.1) d L r5.2) 40 [(2, .int x4), (0, .ref (x + 9)), (1, va_rf a1)] []
  refine a_new (pc := 40) hX hSt cl_X20 in_X20 tyX20 tyX20_ok dv_X20 q1219 q1220 q151 dX3_part_40 hE (fun T6 eT6 hE c z => ?_)
  refine k_dup (pc := 43) hC dX3_part_43 rfl ?_
  refine k_iload_n (pc := 44) hC dX3_part_44 rfl 0 rfl ?_
  refine k_aloadR_n (pc := 45) hC dX3_part_45 rfl 2 rfl ?_
  refine k_aload_n (pc := 46) hC dX3_part_46 rfl 1 rfl ?_
  rcases xb_of hE with ⟨e, h1, rfl⟩ | ⟨r7, h1, hE⟩
  · exact p_callVT (pc := 47) (As := []) hP hR (ctx_R_unit_5 X.2.1 D (cxA X) x Xp R0 d L r5.1 T6 (pxf hP) F e h1) (fun H h => p_fault hC.K h) (p_tt hX) (cw_R_unit_5_X3 hX (Nat.le_of_ble_eq_true rfl) (Nat.le_of_ble_eq_true rfl)) (p_recv 9 lp_9 cl_X3 hP) rfl rfl (by cases a1 <;> exact Nat.le_of_ble_eq_true rfl) dX3_part_47
  refine a_callV (pc := 47) (As := []) hX (ct_R_unit_5 X.2.1 D (cxA X) x Xp R0 d L r5.1 T6 (pxf hP) F r7 h1) (cw_R_unit_5_X3 hX (Nat.le_of_ble_eq_true rfl) (Nat.le_of_ble_eq_true rfl)) (p_recv 9 lp_9 cl_X3 hP) rfl rfl (by cases a1 <;> exact Nat.le_of_ble_eq_true rfl) dX3_part_47 (fun c z => ?_)
  show Wk X c z (RD D (RP D x Xp R0 r7.2.1) d L r7.2.2) 50 [(2, .int x4), (0, .ref (x + 9)), (1, va_rf a1)] [va_rf r7.1, va_rf a1, .int x4, .ref (tN r5.2), .ref (tN r5.2)]
  refine k_nn (G := fun z => Wk X _ _ (RD D (RP D x Xp R0 r7.2.1) d L r7.2.2) 50 [(2, .int x4), (0, .ref (x + 9)), (1, va_rf a1)] [z, va_rf a1, .int x4, .ref (tN r5.2), .ref (tN r5.2)]) hE (fun b8 hE => ?_)
  refine k_nn (G := fun z => Wk X _ _ (RD D (RP D x Xp R0 r7.2.1) d L r7.2.2) 50 [(2, .int x4), (0, .ref (x + 9)), (1, z)] [.ref b8, z, .int x4, .ref (tN r5.2), .ref (tN r5.2)]) hE (fun b9 hE => ?_)
  obtain ⟨r10, h1, hE⟩ := ob_ hE
  refine a_callI (pc := 50) (As := [.int x4, .ref b9, .ref b8]) hX (ct_A_Joined X.2.1 D (cxA X) (RP D x Xp R0 r7.2.1) d L r7.2.2 hSt hX.2.1 hX.2.2.2.2.2.2.2.2.2 (tN r5.2) x4 b9 b8 r10 h1) (cw_A_Joined_X3 hX (Nat.le_of_ble_eq_true rfl) (Nat.le_of_ble_eq_true rfl)) rfl rfl (Nat.le_of_ble_eq_true rfl) dX3_part_50 (fun c z => ?_)
  show Wk X c z (RD D (RP D x Xp R0 r7.2.1) d L r10) 53 [(2, .int x4), (0, .ref (x + 9)), (1, .ref b9)] [.ref (tN r5.2)]
  refine k_astore_n (pc := 53) (lv' := [(1, .ref (tN r5.2)), (2, .int x4), (0, .ref (x + 9))]) hC dX3_part_53 rfl (by rw [hnL]; decide) rfl ?_
  refine k_goto (pc := 54) (tgt := 5) hC dX3_part_54 (by decide) ?_
  refine k_sub [2, 0] rfl ?_
  exact hk5 _ _ _ hE _ _
set_option maxHeartbeats 4000000 in
theorem w_R_part_5_B5 {X : Ctx} {D : Dd} {x : Nat} {R0 : Heap → Prop} {d : Nat → Prop} {L : Nat × Nat × Nat × Nat} {Xp : Jr} {out : (Ji × Jr × Th) ⊕ (Option Nat × Ji × Th)} (hP : Px X cX3_part RX3 D x R0 d L 3 21 454) (hR : RtX X (some (.object "SleepWork$Sum")) D L x (fun r => (RD D (RP D x Xp R0 r.2.1) d L r.2.2)) (fun r => (some (va_rf r.1))) (fun e => RD D (RP D x e.2.1 R0 e.1) d L e.2.2) out) (F : Nat) (k5 : Option Nat → Ji → Th → Option ((Ji × Jr × Th) ⊕ (Option Nat × Ji × Th))) (hk5 : ∀ (a1 : Option Nat) (Q : Ji) (T : Th) , k5 a1 Q T = some out → ∀ c z, Wk X c z (RD D (RP D x Xp R0 Q) d L T) 5 [(0, .ref (x + 9)), (1, va_rf a1)] []) (a1 : Option Nat) (Q : Ji) (T : Th) (hE : R_part_5_B5 F k5 Xp a1 Q T = some out) (c z : Nat) : Wk X c z (RD D (RP D x Xp R0 Q) d L T) 5 [(0, .ref (x + 9)), (1, va_rf a1)] [] := by
  have hX := hP.1
  have hC := hX.1
  have hnL := hX.2.2.1
  have hSt : ∀ {Xp : Jr} {Q : Ji}, Stb (RP D x Xp R0 Q) d := hP.st
  have hDy : ∀ {Xp : Jr} {Q : Ji} {T : Th} (H : Heap), RD D (RP D x Xp R0 Q) d L T H → Dy D T H := fun _ h => h.2.1
  unfold R_part_5_B5 at hE
  refine k_aload_n (pc := 5) hC dX3_part_5 rfl 0 rfl ?_
  refine k_bipush (pc := 6) (v := 42) hC dX3_part_6 (by decide) ?_
  rcases xb_of hE with ⟨e, h1, rfl⟩ | ⟨r2, h1, hE⟩
  · exact p_callVT (pc := 8) (As := [.int 42]) hP hR (ctx_R_isSign X.2.1 D (cxA X) x Xp R0 d L Q T (pxf hP) 42 e h1) (fun H h => p_fault hC.K h) (p_tt hX) (cw_R_isSign_X3 hX (Nat.le_of_ble_eq_true rfl) (Nat.le_of_ble_eq_true rfl)) (p_recv 9 lp_9 cl_X3 hP) rfl rfl (Nat.le_of_ble_eq_true rfl) dX3_part_8
  refine a_callV (pc := 8) (As := [.int 42]) hX (ct_R_isSign X.2.1 D (cxA X) x Xp R0 d L Q T (pxf hP) 42 r2 h1) (cw_R_isSign_X3 hX (Nat.le_of_ble_eq_true rfl) (Nat.le_of_ble_eq_true rfl)) (p_recv 9 lp_9 cl_X3 hP) rfl rfl (Nat.le_of_ble_eq_true rfl) dX3_part_8 (fun c z => ?_)
  show Wk X c z (RD D (RP D x Xp R0 r2.2.1) d L r2.2.2) 11 [(0, .ref (x + 9)), (1, va_rf a1)] [.int r2.1]
  refine k_if_ne (pc := 11) (tgt := 23) hC dX3_part_11 (by decide) hE (fun hE => ?_) (fun hE => ?_)
  · refine k_aload_n (pc := 14) hC dX3_part_14 rfl 0 rfl ?_
    refine k_bipush (pc := 15) (v := 47) hC dX3_part_15 (by decide) ?_
    rcases xb_of hE with ⟨e, h1, rfl⟩ | ⟨r3, h1, hE⟩
    · exact p_callVT (pc := 17) (As := [.int 47]) hP hR (ctx_R_isSign X.2.1 D (cxA X) x Xp R0 d L r2.2.1 r2.2.2 (pxf hP) 47 e h1) (fun H h => p_fault hC.K h) (p_tt hX) (cw_R_isSign_X3 hX (Nat.le_of_ble_eq_true rfl) (Nat.le_of_ble_eq_true rfl)) (p_recv 9 lp_9 cl_X3 hP) rfl rfl (Nat.le_of_ble_eq_true rfl) dX3_part_17
    refine a_callV (pc := 17) (As := [.int 47]) hX (ct_R_isSign X.2.1 D (cxA X) x Xp R0 d L r2.2.1 r2.2.2 (pxf hP) 47 r3 h1) (cw_R_isSign_X3 hX (Nat.le_of_ble_eq_true rfl) (Nat.le_of_ble_eq_true rfl)) (p_recv 9 lp_9 cl_X3 hP) rfl rfl (Nat.le_of_ble_eq_true rfl) dX3_part_17 (fun c z => ?_)
    show Wk X c z (RD D (RP D x Xp R0 r3.2.1) d L r3.2.2) 20 [(0, .ref (x + 9)), (1, va_rf a1)] [.int r3.1]
    refine k_if_eq (pc := 20) (tgt := 57) hC dX3_part_20 (by decide) hE (fun hE => ?_) (fun hE => ?_)
    · refine k_aloadR_n (pc := 57) hC dX3_part_57 rfl 1 rfl ?_
      cases hE
      exact a_aret (pc := 58) (v := va_rf _) (rt := (.object "SleepWork$Sum")) (by first | exact Or.inl ⟨_, rfl⟩ | exact Or.inr ⟨_, rfl⟩) (va_rfv _) hX hR dX3_part_58 (by rfl) (fun _ h => h)
    · exact w_R_part_5_B23 hP hR F k5 hk5 _ _ _ hE _ _
  · exact w_R_part_5_B23 hP hR F k5 hk5 _ _ _ hE _ _
theorem w_R_part_5_L5 {X : Ctx} {D : Dd} {x : Nat} {R0 : Heap → Prop} {d : Nat → Prop} {L : Nat × Nat × Nat × Nat} {Xp : Jr} {out : (Ji × Jr × Th) ⊕ (Option Nat × Ji × Th)} (hP : Px X cX3_part RX3 D x R0 d L 3 21 454) (hR : RtX X (some (.object "SleepWork$Sum")) D L x (fun r => (RD D (RP D x Xp R0 r.2.1) d L r.2.2)) (fun r => (some (va_rf r.1))) (fun e => RD D (RP D x e.2.1 R0 e.1) d L e.2.2) out) (F : Nat) (n : Nat) : ∀ (a1 : Option Nat) (Q : Ji) (T : Th) , R_part_5_L5 F Xp n a1 Q T = some out → ∀ c z, Wk X c z (RD D (RP D x Xp R0 Q) d L T) 5 [(0, .ref (x + 9)), (1, va_rf a1)] [] := by
  induction n with
  | zero => intro a1 Q T h; cases h
  | succ n ih => intro a1 Q T h; exact w_R_part_5_B5 hP hR F (R_part_5_L5 F Xp n) ih a1 Q T h
set_option maxHeartbeats 4000000 in
theorem w_R_part_5 {X : Ctx} {D : Dd} {x : Nat} {R0 : Heap → Prop} {d : Nat → Prop} {L : Nat × Nat × Nat × Nat} {Xp : Jr} {out : (Ji × Jr × Th) ⊕ (Option Nat × Ji × Th)} (hP : Px X cX3_part RX3 D x R0 d L 3 21 454) (hR : RtX X (some (.object "SleepWork$Sum")) D L x (fun r => (RD D (RP D x Xp R0 r.2.1) d L r.2.2)) (fun r => (some (va_rf r.1))) (fun e => RD D (RP D x e.2.1 R0 e.1) d L e.2.2) out) (F : Nat) (Q : Ji) (T : Th) (hE : R_part_5 F Xp Q T = some out) (c z : Nat) : Wk X c z (RD D (RP D x Xp R0 Q) d L T) 0 [(0, .ref (x + 9))] [] := by
  have hX := hP.1
  have hC := hX.1
  have hnL := hX.2.2.1
  have hSt : ∀ {Xp : Jr} {Q : Ji}, Stb (RP D x Xp R0 Q) d := hP.st
  have hDy : ∀ {Xp : Jr} {Q : Ji} {T : Th} (H : Heap), RD D (RP D x Xp R0 Q) d L T H → Dy D T H := fun _ h => h.2.1
  unfold R_part_5 at hE
  refine k_aload_n (pc := 0) hC dX3_part_0 rfl 0 rfl ?_
  rcases xb_of hE with ⟨e, h1, rfl⟩ | ⟨r1, h1, hE⟩
  · exact p_callVT (pc := 1) (As := []) hP hR (ctx_R_unit_5 X.2.1 D (cxA X) x Xp R0 d L Q T (pxf hP) F e h1) (fun H h => p_fault hC.K h) (p_tt hX) (cw_R_unit_5_X3 hX (Nat.le_of_ble_eq_true rfl) (Nat.le_of_ble_eq_true rfl)) (p_recv 9 lp_9 cl_X3 hP) rfl rfl (Nat.le_of_ble_eq_true rfl) dX3_part_1
  refine a_callV (pc := 1) (As := []) hX (ct_R_unit_5 X.2.1 D (cxA X) x Xp R0 d L Q T (pxf hP) F r1 h1) (cw_R_unit_5_X3 hX (Nat.le_of_ble_eq_true rfl) (Nat.le_of_ble_eq_true rfl)) (p_recv 9 lp_9 cl_X3 hP) rfl rfl (Nat.le_of_ble_eq_true rfl) dX3_part_1 (fun c z => ?_)
  show Wk X c z (RD D (RP D x Xp R0 r1.2.1) d L r1.2.2) 4 [(0, .ref (x + 9))] [va_rf r1.1]
  refine k_astoreR_n (pc := 4) (lv' := [(1, va_rf r1.1), (0, .ref (x + 9))]) hC dX3_part_4 rfl (by rw [hnL]; decide) rfl ?_
  refine k_sub [1, 0] rfl ?_
  exact w_R_part_5_L5 hP hR F _ _ _ _ hE _ _
theorem ct_R_part_5 (l : Launch) (D : Dd) (A : Nat → Prop) (x : Nat) (Xp : Jr) (R0 : Heap → Prop) (d : Nat → Prop) (L : Nat × Nat × Nat × Nat) (Q : Ji) (T : Th) (hp : Pf D A x R0 d) (F : Nat) (out : Option Nat × Ji × Th) (hE : R_part_5 F Xp Q T = some (.inr out)) : Ct l yX3_part (ws_ yX3_part cX3_part 3 (some (.object "SleepWork$Sum"))) (rmA 21 454 L T) vwCl arTy D A [.ref (x + 9)] (RD D (RP D x Xp R0 Q) d L T) (RD D (RP D x Xp R0 out.2.1) d L out.2.2) (some (va_rf out.1)) (L.1 - tN T) (L.2.1 - tZ T) := by
  refine Ct.ofA (lv := [(0, .ref (x + 9))]) (by decide) (Nat.le_of_ble_eq_true rfl) rfl hp.1 hp.2.1 ?_
  intro X hl hX hR hXA _
  exact w_R_part_5 (Xp := Xp) (out := .inr out) (hp.px hX hXA) hR F Q T hE
theorem ctx_R_part_5 (l : Launch) (D : Dd) (A : Nat → Prop) (x : Nat) (Xp : Jr) (R0 : Heap → Prop) (d : Nat → Prop) (L : Nat × Nat × Nat × Nat) (Q : Ji) (T : Th) (hp : Pf D A x R0 d) (F : Nat) (e : Ji × Jr × Th) (hE : R_part_5 F Xp Q T = some (.inl e)) : CtT l yX3_part (ws_ yX3_part cX3_part 3 (some (.object "SleepWork$Sum"))) (rmA 21 454 L T) D A [.ref (x + 9)] (RD D (RP D x Xp R0 Q) d L T) (RD D (RP D x e.2.1 R0 e.1) d L e.2.2) (x + 1) (L.1 - tN T) (L.2.1 - tZ T) := by
  refine CtT.ofA (lv := [(0, .ref (x + 9))]) (by decide) (Nat.le_of_ble_eq_true rfl) rfl hp.1 hp.2.1 ?_
  intro X hl hX hR hXA
  exact w_R_part_5 (Xp := Xp) (out := .inl e) (hp.px hX hXA) hR F Q T hE
theorem cw_R_part_5_X3 {X : Ctx} {cc : ByteArray} {D : Dd} {d : Nat → Prop} {L : Nat × Nat × Nat × Nat} {mL fr lo : Nat} {T : Th} (hX : Ax X cc RX3 D d L mL fr lo) (h1 : 21 + 1 ≤ fr) (h2 : 8 + (3 + 11) + 454 ≤ lo) : CallW X.2.2.2.1 X.2.2.2.2.1 X.2.2.2.2.2.2.1 RX3 RX3 269 yX3_part cX3_part 3 (some (.object "SleepWork$Sum")) (ws_ yX3_part cX3_part 3 (some (.object "SleepWork$Sum"))) (rmA 21 454 L T) (L.1 - tN T) (L.2.1 - tZ T) 0 := cwV 0 (cx_w hX.1) (lw_V q1188 q1190 qs31 q120 q1191) rfl rfl rfl (by decide +kernel) (by rw [hX.2.2.2.1, hX.2.2.2.2.1]; exact ⟨h1, h2⟩)
set_option maxHeartbeats 4000000 in
theorem w_R_sum_5_B23 {X : Ctx} {D : Dd} {x : Nat} {R0 : Heap → Prop} {d : Nat → Prop} {L : Nat × Nat × Nat × Nat} {Xp : Jr} {out : (Ji × Jr × Th) ⊕ (Option Nat × Ji × Th)} (hP : Px X cX3_sum RX3 D x R0 d L 3 22 476) (hR : RtX X (some (.object "SleepWork$Sum")) D L x (fun r => (RD D (RP D x Xp R0 r.2.1) d L r.2.2)) (fun r => (some (va_rf r.1))) (fun e => RD D (RP D x e.2.1 R0 e.1) d L e.2.2) out) (F : Nat) (k5 : Option Nat → Ji → Th → Option ((Ji × Jr × Th) ⊕ (Option Nat × Ji × Th))) (hk5 : ∀ (a1 : Option Nat) (Q : Ji) (T : Th) , k5 a1 Q T = some out → ∀ c z, Wk X c z (RD D (RP D x Xp R0 Q) d L T) 5 [(0, .ref (x + 9)), (1, va_rf a1)] []) (a1 : Option Nat) (Q : Ji) (T : Th) (hE : R_sum_5_B23 F k5 Xp a1 Q T = some out) (c z : Nat) : Wk X c z (RD D (RP D x Xp R0 Q) d L T) 23 [(0, .ref (x + 9)), (1, va_rf a1)] [] := by
  have hX := hP.1
  have hC := hX.1
  have hnL := hX.2.2.1
  have hSt : ∀ {Xp : Jr} {Q : Ji}, Stb (RP D x Xp R0 Q) d := hP.st
  have hDy : ∀ {Xp : Jr} {Q : Ji} {T : Th} (H : Heap), RD D (RP D x Xp R0 Q) d L T H → Dy D T H := fun _ h => h.2.1
  unfold R_sum_5_B23 at hE
  refine k_aload_n (pc := 23) hC dX3_sum_23 rfl 0 rfl ?_
  refine gP_X3_9 (pc := 24) hP dX3_sum_24 ?_
  refine gP_X3_52 (pc := 27) hP dX3_sum_27 ?_
  refine k_aload_n (pc := 30) hC dX3_sum_30 rfl 0 rfl ?_
  refine gP_X3_31 (pc := 31) hP dX3_sum_31 ?_
  refine p_sald (pc := 34) 8 lp_8 hP dX3_sum_34 hE (fun x4 hE => ?_)
  refine k_istore_n (pc := 35) (lv' := [(2, .int x4), (0, .ref (x + 9)), (1, va_rf a1)]) hC dX3_sum_35 rfl (by rw [hnL]; decide) (by cases a1 <;> rfl) ?_
  refine k_aload_n (pc := 36) hC dX3_sum_36 rfl 1 rfl ?_
  rcases xb_of hE with ⟨e, h1, rfl⟩ | ⟨r5, h1, hE⟩
  · exact p_callVT (pc := 37) (As := []) hP hR (ctx_R_pass X.2.1 D (cxA X) x Xp R0 d L Q T (pxf hP)  e h1) (fun H h => p_fault hC.K h) (p_tt hX) (cw_R_pass_X3 hX (Nat.le_of_ble_eq_true rfl) (Nat.le_of_ble_eq_true rfl)) (p_recv 9 lp_9 cl_X3 hP) rfl rfl (Nat.le_of_ble_eq_true rfl) dX3_sum_37
  refine a_callV (pc := 37) (As := []) hX (ct_R_pass X.2.1 D (cxA X) x Xp R0 d L Q T (pxf hP)  r5 h1) (cw_R_pass_X3 hX (Nat.le_of_ble_eq_true rfl) (Nat.le_of_ble_eq_true rfl)) (p_recv 9 lp_9 cl_X3 hP) rfl rfl (Nat.le_of_ble_eq_true rfl) dX3_sum_37 (fun c z => ?_)
  show Wk X c z (RD D (RP D x Xp R0 r5.1) d L r5.2) 40 [(2, .int x4), (0, .ref (x + 9)), (1, va_rf a1)] []
  refine a_new (pc := 40) hX hSt cl_X20 in_X20 tyX20 tyX20_ok dv_X20 q1219 q1220 q151 dX3_sum_40 hE (fun T6 eT6 hE c z => ?_)
  refine k_dup (pc := 43) hC dX3_sum_43 rfl ?_
  refine k_iload_n (pc := 44) hC dX3_sum_44 rfl 0 rfl ?_
  refine k_aloadR_n (pc := 45) hC dX3_sum_45 rfl 2 rfl ?_
  refine k_aload_n (pc := 46) hC dX3_sum_46 rfl 1 rfl ?_
  rcases xb_of hE with ⟨e, h1, rfl⟩ | ⟨r7, h1, hE⟩
  · exact p_callVT (pc := 47) (As := []) hP hR (ctx_R_part_5 X.2.1 D (cxA X) x Xp R0 d L r5.1 T6 (pxf hP) F e h1) (fun H h => p_fault hC.K h) (p_tt hX) (cw_R_part_5_X3 hX (Nat.le_of_ble_eq_true rfl) (Nat.le_of_ble_eq_true rfl)) (p_recv 9 lp_9 cl_X3 hP) rfl rfl (by cases a1 <;> exact Nat.le_of_ble_eq_true rfl) dX3_sum_47
  refine a_callV (pc := 47) (As := []) hX (ct_R_part_5 X.2.1 D (cxA X) x Xp R0 d L r5.1 T6 (pxf hP) F r7 h1) (cw_R_part_5_X3 hX (Nat.le_of_ble_eq_true rfl) (Nat.le_of_ble_eq_true rfl)) (p_recv 9 lp_9 cl_X3 hP) rfl rfl (by cases a1 <;> exact Nat.le_of_ble_eq_true rfl) dX3_sum_47 (fun c z => ?_)
  show Wk X c z (RD D (RP D x Xp R0 r7.2.1) d L r7.2.2) 50 [(2, .int x4), (0, .ref (x + 9)), (1, va_rf a1)] [va_rf r7.1, va_rf a1, .int x4, .ref (tN r5.2), .ref (tN r5.2)]
  refine k_nn (G := fun z => Wk X _ _ (RD D (RP D x Xp R0 r7.2.1) d L r7.2.2) 50 [(2, .int x4), (0, .ref (x + 9)), (1, va_rf a1)] [z, va_rf a1, .int x4, .ref (tN r5.2), .ref (tN r5.2)]) hE (fun b8 hE => ?_)
  refine k_nn (G := fun z => Wk X _ _ (RD D (RP D x Xp R0 r7.2.1) d L r7.2.2) 50 [(2, .int x4), (0, .ref (x + 9)), (1, z)] [.ref b8, z, .int x4, .ref (tN r5.2), .ref (tN r5.2)]) hE (fun b9 hE => ?_)
  obtain ⟨r10, h1, hE⟩ := ob_ hE
  refine a_callI (pc := 50) (As := [.int x4, .ref b9, .ref b8]) hX (ct_A_Joined X.2.1 D (cxA X) (RP D x Xp R0 r7.2.1) d L r7.2.2 hSt hX.2.1 hX.2.2.2.2.2.2.2.2.2 (tN r5.2) x4 b9 b8 r10 h1) (cw_A_Joined_X3 hX (Nat.le_of_ble_eq_true rfl) (Nat.le_of_ble_eq_true rfl)) rfl rfl (Nat.le_of_ble_eq_true rfl) dX3_sum_50 (fun c z => ?_)
  show Wk X c z (RD D (RP D x Xp R0 r7.2.1) d L r10) 53 [(2, .int x4), (0, .ref (x + 9)), (1, .ref b9)] [.ref (tN r5.2)]
  refine k_astore_n (pc := 53) (lv' := [(1, .ref (tN r5.2)), (2, .int x4), (0, .ref (x + 9))]) hC dX3_sum_53 rfl (by rw [hnL]; decide) rfl ?_
  refine k_goto (pc := 54) (tgt := 5) hC dX3_sum_54 (by decide) ?_
  refine k_sub [2, 0] rfl ?_
  exact hk5 _ _ _ hE _ _
set_option maxHeartbeats 4000000 in
theorem w_R_sum_5_B5 {X : Ctx} {D : Dd} {x : Nat} {R0 : Heap → Prop} {d : Nat → Prop} {L : Nat × Nat × Nat × Nat} {Xp : Jr} {out : (Ji × Jr × Th) ⊕ (Option Nat × Ji × Th)} (hP : Px X cX3_sum RX3 D x R0 d L 3 22 476) (hR : RtX X (some (.object "SleepWork$Sum")) D L x (fun r => (RD D (RP D x Xp R0 r.2.1) d L r.2.2)) (fun r => (some (va_rf r.1))) (fun e => RD D (RP D x e.2.1 R0 e.1) d L e.2.2) out) (F : Nat) (k5 : Option Nat → Ji → Th → Option ((Ji × Jr × Th) ⊕ (Option Nat × Ji × Th))) (hk5 : ∀ (a1 : Option Nat) (Q : Ji) (T : Th) , k5 a1 Q T = some out → ∀ c z, Wk X c z (RD D (RP D x Xp R0 Q) d L T) 5 [(0, .ref (x + 9)), (1, va_rf a1)] []) (a1 : Option Nat) (Q : Ji) (T : Th) (hE : R_sum_5_B5 F k5 Xp a1 Q T = some out) (c z : Nat) : Wk X c z (RD D (RP D x Xp R0 Q) d L T) 5 [(0, .ref (x + 9)), (1, va_rf a1)] [] := by
  have hX := hP.1
  have hC := hX.1
  have hnL := hX.2.2.1
  have hSt : ∀ {Xp : Jr} {Q : Ji}, Stb (RP D x Xp R0 Q) d := hP.st
  have hDy : ∀ {Xp : Jr} {Q : Ji} {T : Th} (H : Heap), RD D (RP D x Xp R0 Q) d L T H → Dy D T H := fun _ h => h.2.1
  unfold R_sum_5_B5 at hE
  refine k_aload_n (pc := 5) hC dX3_sum_5 rfl 0 rfl ?_
  refine k_bipush (pc := 6) (v := 43) hC dX3_sum_6 (by decide) ?_
  rcases xb_of hE with ⟨e, h1, rfl⟩ | ⟨r2, h1, hE⟩
  · exact p_callVT (pc := 8) (As := [.int 43]) hP hR (ctx_R_isSign X.2.1 D (cxA X) x Xp R0 d L Q T (pxf hP) 43 e h1) (fun H h => p_fault hC.K h) (p_tt hX) (cw_R_isSign_X3 hX (Nat.le_of_ble_eq_true rfl) (Nat.le_of_ble_eq_true rfl)) (p_recv 9 lp_9 cl_X3 hP) rfl rfl (Nat.le_of_ble_eq_true rfl) dX3_sum_8
  refine a_callV (pc := 8) (As := [.int 43]) hX (ct_R_isSign X.2.1 D (cxA X) x Xp R0 d L Q T (pxf hP) 43 r2 h1) (cw_R_isSign_X3 hX (Nat.le_of_ble_eq_true rfl) (Nat.le_of_ble_eq_true rfl)) (p_recv 9 lp_9 cl_X3 hP) rfl rfl (Nat.le_of_ble_eq_true rfl) dX3_sum_8 (fun c z => ?_)
  show Wk X c z (RD D (RP D x Xp R0 r2.2.1) d L r2.2.2) 11 [(0, .ref (x + 9)), (1, va_rf a1)] [.int r2.1]
  refine k_if_ne (pc := 11) (tgt := 23) hC dX3_sum_11 (by decide) hE (fun hE => ?_) (fun hE => ?_)
  · refine k_aload_n (pc := 14) hC dX3_sum_14 rfl 0 rfl ?_
    refine k_bipush (pc := 15) (v := 45) hC dX3_sum_15 (by decide) ?_
    rcases xb_of hE with ⟨e, h1, rfl⟩ | ⟨r3, h1, hE⟩
    · exact p_callVT (pc := 17) (As := [.int 45]) hP hR (ctx_R_isSign X.2.1 D (cxA X) x Xp R0 d L r2.2.1 r2.2.2 (pxf hP) 45 e h1) (fun H h => p_fault hC.K h) (p_tt hX) (cw_R_isSign_X3 hX (Nat.le_of_ble_eq_true rfl) (Nat.le_of_ble_eq_true rfl)) (p_recv 9 lp_9 cl_X3 hP) rfl rfl (Nat.le_of_ble_eq_true rfl) dX3_sum_17
    refine a_callV (pc := 17) (As := [.int 45]) hX (ct_R_isSign X.2.1 D (cxA X) x Xp R0 d L r2.2.1 r2.2.2 (pxf hP) 45 r3 h1) (cw_R_isSign_X3 hX (Nat.le_of_ble_eq_true rfl) (Nat.le_of_ble_eq_true rfl)) (p_recv 9 lp_9 cl_X3 hP) rfl rfl (Nat.le_of_ble_eq_true rfl) dX3_sum_17 (fun c z => ?_)
    show Wk X c z (RD D (RP D x Xp R0 r3.2.1) d L r3.2.2) 20 [(0, .ref (x + 9)), (1, va_rf a1)] [.int r3.1]
    refine k_if_eq (pc := 20) (tgt := 57) hC dX3_sum_20 (by decide) hE (fun hE => ?_) (fun hE => ?_)
    · refine k_aloadR_n (pc := 57) hC dX3_sum_57 rfl 1 rfl ?_
      cases hE
      exact a_aret (pc := 58) (v := va_rf _) (rt := (.object "SleepWork$Sum")) (by first | exact Or.inl ⟨_, rfl⟩ | exact Or.inr ⟨_, rfl⟩) (va_rfv _) hX hR dX3_sum_58 (by rfl) (fun _ h => h)
    · exact w_R_sum_5_B23 hP hR F k5 hk5 _ _ _ hE _ _
  · exact w_R_sum_5_B23 hP hR F k5 hk5 _ _ _ hE _ _
theorem w_R_sum_5_L5 {X : Ctx} {D : Dd} {x : Nat} {R0 : Heap → Prop} {d : Nat → Prop} {L : Nat × Nat × Nat × Nat} {Xp : Jr} {out : (Ji × Jr × Th) ⊕ (Option Nat × Ji × Th)} (hP : Px X cX3_sum RX3 D x R0 d L 3 22 476) (hR : RtX X (some (.object "SleepWork$Sum")) D L x (fun r => (RD D (RP D x Xp R0 r.2.1) d L r.2.2)) (fun r => (some (va_rf r.1))) (fun e => RD D (RP D x e.2.1 R0 e.1) d L e.2.2) out) (F : Nat) (n : Nat) : ∀ (a1 : Option Nat) (Q : Ji) (T : Th) , R_sum_5_L5 F Xp n a1 Q T = some out → ∀ c z, Wk X c z (RD D (RP D x Xp R0 Q) d L T) 5 [(0, .ref (x + 9)), (1, va_rf a1)] [] := by
  induction n with
  | zero => intro a1 Q T h; cases h
  | succ n ih => intro a1 Q T h; exact w_R_sum_5_B5 hP hR F (R_sum_5_L5 F Xp n) ih a1 Q T h
set_option maxHeartbeats 4000000 in
theorem w_R_sum_5 {X : Ctx} {D : Dd} {x : Nat} {R0 : Heap → Prop} {d : Nat → Prop} {L : Nat × Nat × Nat × Nat} {Xp : Jr} {out : (Ji × Jr × Th) ⊕ (Option Nat × Ji × Th)} (hP : Px X cX3_sum RX3 D x R0 d L 3 22 476) (hR : RtX X (some (.object "SleepWork$Sum")) D L x (fun r => (RD D (RP D x Xp R0 r.2.1) d L r.2.2)) (fun r => (some (va_rf r.1))) (fun e => RD D (RP D x e.2.1 R0 e.1) d L e.2.2) out) (F : Nat) (Q : Ji) (T : Th) (hE : R_sum_5 F Xp Q T = some out) (c z : Nat) : Wk X c z (RD D (RP D x Xp R0 Q) d L T) 0 [(0, .ref (x + 9))] [] := by
  have hX := hP.1
  have hC := hX.1
  have hnL := hX.2.2.1
  have hSt : ∀ {Xp : Jr} {Q : Ji}, Stb (RP D x Xp R0 Q) d := hP.st
  have hDy : ∀ {Xp : Jr} {Q : Ji} {T : Th} (H : Heap), RD D (RP D x Xp R0 Q) d L T H → Dy D T H := fun _ h => h.2.1
  unfold R_sum_5 at hE
  refine k_aload_n (pc := 0) hC dX3_sum_0 rfl 0 rfl ?_
  rcases xb_of hE with ⟨e, h1, rfl⟩ | ⟨r1, h1, hE⟩
  · exact p_callVT (pc := 1) (As := []) hP hR (ctx_R_part_5 X.2.1 D (cxA X) x Xp R0 d L Q T (pxf hP) F e h1) (fun H h => p_fault hC.K h) (p_tt hX) (cw_R_part_5_X3 hX (Nat.le_of_ble_eq_true rfl) (Nat.le_of_ble_eq_true rfl)) (p_recv 9 lp_9 cl_X3 hP) rfl rfl (Nat.le_of_ble_eq_true rfl) dX3_sum_1
  refine a_callV (pc := 1) (As := []) hX (ct_R_part_5 X.2.1 D (cxA X) x Xp R0 d L Q T (pxf hP) F r1 h1) (cw_R_part_5_X3 hX (Nat.le_of_ble_eq_true rfl) (Nat.le_of_ble_eq_true rfl)) (p_recv 9 lp_9 cl_X3 hP) rfl rfl (Nat.le_of_ble_eq_true rfl) dX3_sum_1 (fun c z => ?_)
  show Wk X c z (RD D (RP D x Xp R0 r1.2.1) d L r1.2.2) 4 [(0, .ref (x + 9))] [va_rf r1.1]
  refine k_astoreR_n (pc := 4) (lv' := [(1, va_rf r1.1), (0, .ref (x + 9))]) hC dX3_sum_4 rfl (by rw [hnL]; decide) rfl ?_
  refine k_sub [1, 0] rfl ?_
  exact w_R_sum_5_L5 hP hR F _ _ _ _ hE _ _
theorem ct_R_sum_5 (l : Launch) (D : Dd) (A : Nat → Prop) (x : Nat) (Xp : Jr) (R0 : Heap → Prop) (d : Nat → Prop) (L : Nat × Nat × Nat × Nat) (Q : Ji) (T : Th) (hp : Pf D A x R0 d) (F : Nat) (out : Option Nat × Ji × Th) (hE : R_sum_5 F Xp Q T = some (.inr out)) : Ct l yX3_sum (ws_ yX3_sum cX3_sum 3 (some (.object "SleepWork$Sum"))) (rmA 22 476 L T) vwCl arTy D A [.ref (x + 9)] (RD D (RP D x Xp R0 Q) d L T) (RD D (RP D x Xp R0 out.2.1) d L out.2.2) (some (va_rf out.1)) (L.1 - tN T) (L.2.1 - tZ T) := by
  refine Ct.ofA (lv := [(0, .ref (x + 9))]) (by decide) (Nat.le_of_ble_eq_true rfl) rfl hp.1 hp.2.1 ?_
  intro X hl hX hR hXA _
  exact w_R_sum_5 (Xp := Xp) (out := .inr out) (hp.px hX hXA) hR F Q T hE
theorem ctx_R_sum_5 (l : Launch) (D : Dd) (A : Nat → Prop) (x : Nat) (Xp : Jr) (R0 : Heap → Prop) (d : Nat → Prop) (L : Nat × Nat × Nat × Nat) (Q : Ji) (T : Th) (hp : Pf D A x R0 d) (F : Nat) (e : Ji × Jr × Th) (hE : R_sum_5 F Xp Q T = some (.inl e)) : CtT l yX3_sum (ws_ yX3_sum cX3_sum 3 (some (.object "SleepWork$Sum"))) (rmA 22 476 L T) D A [.ref (x + 9)] (RD D (RP D x Xp R0 Q) d L T) (RD D (RP D x e.2.1 R0 e.1) d L e.2.2) (x + 1) (L.1 - tN T) (L.2.1 - tZ T) := by
  refine CtT.ofA (lv := [(0, .ref (x + 9))]) (by decide) (Nat.le_of_ble_eq_true rfl) rfl hp.1 hp.2.1 ?_
  intro X hl hX hR hXA
  exact w_R_sum_5 (Xp := Xp) (out := .inl e) (hp.px hX hXA) hR F Q T hE
theorem cw_R_sum_5_X3 {X : Ctx} {cc : ByteArray} {D : Dd} {d : Nat → Prop} {L : Nat × Nat × Nat × Nat} {mL fr lo : Nat} {T : Th} (hX : Ax X cc RX3 D d L mL fr lo) (h1 : 22 + 1 ≤ fr) (h2 : 8 + (3 + 11) + 476 ≤ lo) : CallW X.2.2.2.1 X.2.2.2.2.1 X.2.2.2.2.2.2.1 RX3 RX3 253 yX3_sum cX3_sum 3 (some (.object "SleepWork$Sum")) (ws_ yX3_sum cX3_sum 3 (some (.object "SleepWork$Sum"))) (rmA 22 476 L T) (L.1 - tN T) (L.2.1 - tZ T) 0 := cwV 0 (cx_w hX.1) (lw_V q1184 q1186 qs30 q120 q1187) rfl rfl rfl (by decide +kernel) (by rw [hX.2.2.2.1, hX.2.2.2.2.1]; exact ⟨h1, h2⟩)
set_option maxHeartbeats 4000000 in
theorem w_R_unit_6_B87 {X : Ctx} {D : Dd} {x : Nat} {R0 : Heap → Prop} {d : Nat → Prop} {L : Nat × Nat × Nat × Nat} {Xp : Jr} {out : (Ji × Jr × Th) ⊕ (Option Nat × Ji × Th)} (hP : Px X cX3_unit RX3 D x R0 d L 2 23 498) (hR : RtX X (some (.object "SleepWork$Sum")) D L x (fun r => (RD D (RP D x Xp R0 r.2.1) d L r.2.2)) (fun r => (some (va_rf r.1))) (fun e => RD D (RP D x e.2.1 R0 e.1) d L e.2.2) out) (F : Nat) (Q : Ji) (T : Th) (hE : R_unit_6_B87 F Xp Q T = some out) (c z : Nat) : Wk X c z (RD D (RP D x Xp R0 Q) d L T) 87 [(0, .ref (x + 9))] [] := by
  have hX := hP.1
  have hC := hX.1
  have hnL := hX.2.2.1
  have hSt : ∀ {Xp : Jr} {Q : Ji}, Stb (RP D x Xp R0 Q) d := hP.st
  have hDy : ∀ {Xp : Jr} {Q : Ji} {T : Th} (H : Heap), RD D (RP D x Xp R0 Q) d L T H → Dy D T H := fun _ h => h.2.1
  unfold R_unit_6_B87 at hE
  refine k_aload_n (pc := 87) hC dX3_unit_87 rfl 0 rfl ?_
  refine k_bipush (pc := 88) (v := 40) hC dX3_unit_88 (by decide) ?_
  rcases xb_of hE with ⟨e, h1, rfl⟩ | ⟨r12, h1, hE⟩
  · exact p_callVT (pc := 90) (As := [.int 40]) hP hR (ctx_R_isSign X.2.1 D (cxA X) x Xp R0 d L Q T (pxf hP) 40 e h1) (fun H h => p_fault hC.K h) (p_tt hX) (cw_R_isSign_X3 hX (Nat.le_of_ble_eq_true rfl) (Nat.le_of_ble_eq_true rfl)) (p_recv 9 lp_9 cl_X3 hP) rfl rfl (Nat.le_of_ble_eq_true rfl) dX3_unit_90
  refine a_callV (pc := 90) (As := [.int 40]) hX (ct_R_isSign X.2.1 D (cxA X) x Xp R0 d L Q T (pxf hP) 40 r12 h1) (cw_R_isSign_X3 hX (Nat.le_of_ble_eq_true rfl) (Nat.le_of_ble_eq_true rfl)) (p_recv 9 lp_9 cl_X3 hP) rfl rfl (Nat.le_of_ble_eq_true rfl) dX3_unit_90 (fun c z => ?_)
  show Wk X c z (RD D (RP D x Xp R0 r12.2.1) d L r12.2.2) 93 [(0, .ref (x + 9))] [.int r12.1]
  refine k_if_ne (pc := 93) (tgt := 102) hC dX3_unit_93 (by decide) hE (fun hE => ?_) (fun hE => ?_)
  · refine k_aload_n (pc := 96) hC dX3_unit_96 rfl 0 rfl ?_
    refine k_iconst (pc := 97) (v := 1) hC dX3_unit_97 (by decide) ?_
    obtain ⟨r13, h1, hE⟩ := ob_ hE
    refine a_callV (pc := 98) (As := [.int 1]) hX (ct_R_wrong X.2.1 D (cxA X) x Xp R0 d L r12.2.1 r12.2.2 (pxf hP) 1 r13 h1) (cw_R_wrong_X3 hX (Nat.le_of_ble_eq_true rfl) (Nat.le_of_ble_eq_true rfl)) (p_recv 9 lp_9 cl_X3 hP) rfl rfl (Nat.le_of_ble_eq_true rfl) dX3_unit_98 (fun c z => ?_)
    show Wk X c z (RD D (RP D x Xp R0 r13) d L r12.2.2) 101 [(0, .ref (x + 9))] [.ref (x + 1)]
    cases hE
    exact p_athrow (pc := 101) hP hR dX3_unit_101 (fun _ h => h)
  · refine k_aload_n (pc := 102) hC dX3_unit_102 rfl 0 rfl ?_
    refine gP_X3_99 (pc := 103) hP dX3_unit_103 ?_
    refine k_bipush (pc := 106) (v := 6) hC dX3_unit_106 (by decide) ?_
    refine k_icmp_ne (pc := 108) (tgt := 117) hC dX3_unit_108 (by decide) hE (fun hE => ?_) (fun hE => ?_)
    · refine k_aload_n (pc := 111) hC dX3_unit_111 rfl 0 rfl ?_
      refine k_iconst (pc := 112) (v := 2) hC dX3_unit_112 (by decide) ?_
      obtain ⟨r14, h1, hE⟩ := ob_ hE
      refine a_callV (pc := 113) (As := [.int 2]) hX (ct_R_wrong X.2.1 D (cxA X) x Xp R0 d L r12.2.1 r12.2.2 (pxf hP) 2 r14 h1) (cw_R_wrong_X3 hX (Nat.le_of_ble_eq_true rfl) (Nat.le_of_ble_eq_true rfl)) (p_recv 9 lp_9 cl_X3 hP) rfl rfl (Nat.le_of_ble_eq_true rfl) dX3_unit_113 (fun c z => ?_)
      show Wk X c z (RD D (RP D x Xp R0 r14) d L r12.2.2) 116 [(0, .ref (x + 9))] [.ref (x + 1)]
      cases hE
      exact p_athrow (pc := 116) hP hR dX3_unit_116 (fun _ h => h)
    · refine k_aload_n (pc := 117) hC dX3_unit_117 rfl 0 rfl ?_
      refine k_dup (pc := 118) hC dX3_unit_118 rfl ?_
      refine gP_X3_99 (pc := 119) hP dX3_unit_119 ?_
      refine k_iconst (pc := 122) (v := 1) hC dX3_unit_122 (by decide) ?_
      refine k_iadd (pc := 123) hC dX3_unit_123 ?_
      refine pP_X3_99 (pc := 124) hP dX3_unit_124 hE (fun Q15 hE => ?_)
      refine k_aload_n (pc := 127) hC dX3_unit_127 rfl 0 rfl ?_
      rcases xb_of hE with ⟨e, h1, rfl⟩ | ⟨r16, h1, hE⟩
      · exact p_callVT (pc := 128) (As := []) hP hR (ctx_R_pass X.2.1 D (cxA X) x Xp R0 d L Q15 r12.2.2 (pxf hP)  e h1) (fun H h => p_fault hC.K h) (p_tt hX) (cw_R_pass_X3 hX (Nat.le_of_ble_eq_true rfl) (Nat.le_of_ble_eq_true rfl)) (p_recv 9 lp_9 cl_X3 hP) rfl rfl (Nat.le_of_ble_eq_true rfl) dX3_unit_128
      refine a_callV (pc := 128) (As := []) hX (ct_R_pass X.2.1 D (cxA X) x Xp R0 d L Q15 r12.2.2 (pxf hP)  r16 h1) (cw_R_pass_X3 hX (Nat.le_of_ble_eq_true rfl) (Nat.le_of_ble_eq_true rfl)) (p_recv 9 lp_9 cl_X3 hP) rfl rfl (Nat.le_of_ble_eq_true rfl) dX3_unit_128 (fun c z => ?_)
      show Wk X c z (RD D (RP D x Xp R0 r16.1) d L r16.2) 131 [(0, .ref (x + 9))] []
      refine k_aload_n (pc := 131) hC dX3_unit_131 rfl 0 rfl ?_
      rcases xb_of hE with ⟨e, h1, rfl⟩ | ⟨r17, h1, hE⟩
      · exact p_callVT (pc := 132) (As := []) hP hR (ctx_R_sum_5 X.2.1 D (cxA X) x Xp R0 d L r16.1 r16.2 (pxf hP) F e h1) (fun H h => p_fault hC.K h) (p_tt hX) (cw_R_sum_5_X3 hX (Nat.le_of_ble_eq_true rfl) (Nat.le_of_ble_eq_true rfl)) (p_recv 9 lp_9 cl_X3 hP) rfl rfl (Nat.le_of_ble_eq_true rfl) dX3_unit_132
      refine a_callV (pc := 132) (As := []) hX (ct_R_sum_5 X.2.1 D (cxA X) x Xp R0 d L r16.1 r16.2 (pxf hP) F r17 h1) (cw_R_sum_5_X3 hX (Nat.le_of_ble_eq_true rfl) (Nat.le_of_ble_eq_true rfl)) (p_recv 9 lp_9 cl_X3 hP) rfl rfl (Nat.le_of_ble_eq_true rfl) dX3_unit_132 (fun c z => ?_)
      show Wk X c z (RD D (RP D x Xp R0 r17.2.1) d L r17.2.2) 135 [(0, .ref (x + 9))] [va_rf r17.1]
      refine k_astoreR_n (pc := 135) (lv' := [(1, va_rf r17.1), (0, .ref (x + 9))]) hC dX3_unit_135 rfl (by rw [hnL]; decide) rfl ?_
      refine k_aload_n (pc := 136) hC dX3_unit_136 rfl 1 rfl ?_
      refine k_bipush (pc := 137) (v := 41) hC dX3_unit_137 (by decide) ?_
      rcases xb_of hE with ⟨e, h1, rfl⟩ | ⟨r18, h1, hE⟩
      · exact p_callVT (pc := 139) (As := [.int 41]) hP hR (ctx_R_sign X.2.1 D (cxA X) x Xp R0 d L r17.2.1 r17.2.2 (pxf hP) 41 e h1) (fun H h => p_fault hC.K h) (p_tt hX) (cw_R_sign_X3 hX (Nat.le_of_ble_eq_true rfl) (Nat.le_of_ble_eq_true rfl)) (p_recv 9 lp_9 cl_X3 hP) rfl rfl (Nat.le_of_ble_eq_true rfl) dX3_unit_139
      refine a_callV (pc := 139) (As := [.int 41]) hX (ct_R_sign X.2.1 D (cxA X) x Xp R0 d L r17.2.1 r17.2.2 (pxf hP) 41 r18 h1) (cw_R_sign_X3 hX (Nat.le_of_ble_eq_true rfl) (Nat.le_of_ble_eq_true rfl)) (p_recv 9 lp_9 cl_X3 hP) rfl rfl (Nat.le_of_ble_eq_true rfl) dX3_unit_139 (fun c z => ?_)
      show Wk X c z (RD D (RP D x Xp R0 r18.1) d L r18.2) 142 [(1, va_rf r17.1), (0, .ref (x + 9))] []
      refine k_aload_n (pc := 142) hC dX3_unit_142 rfl 1 rfl ?_
      refine k_dup (pc := 143) hC dX3_unit_143 rfl ?_
      refine gP_X3_99 (pc := 144) hP dX3_unit_144 ?_
      refine k_iconst (pc := 147) (v := 1) hC dX3_unit_147 (by decide) ?_
      refine k_isub (pc := 148) hC dX3_unit_148 ?_
      refine pP_X3_99 (pc := 149) hP dX3_unit_149 hE (fun Q19 hE => ?_)
      refine k_aloadR_n (pc := 152) hC dX3_unit_152 rfl 0 rfl ?_
      cases hE
      exact a_aret (pc := 153) (v := va_rf _) (rt := (.object "SleepWork$Sum")) (by first | exact Or.inl ⟨_, rfl⟩ | exact Or.inr ⟨_, rfl⟩) (va_rfv _) hX hR dX3_unit_153 (by rfl) (fun _ h => h)
set_option maxHeartbeats 4000000 in
theorem w_R_unit_6 {X : Ctx} {D : Dd} {x : Nat} {R0 : Heap → Prop} {d : Nat → Prop} {L : Nat × Nat × Nat × Nat} {Xp : Jr} {out : (Ji × Jr × Th) ⊕ (Option Nat × Ji × Th)} (hP : Px X cX3_unit RX3 D x R0 d L 2 23 498) (hR : RtX X (some (.object "SleepWork$Sum")) D L x (fun r => (RD D (RP D x Xp R0 r.2.1) d L r.2.2)) (fun r => (some (va_rf r.1))) (fun e => RD D (RP D x e.2.1 R0 e.1) d L e.2.2) out) (F : Nat) (Q : Ji) (T : Th) (hE : R_unit_6 F Xp Q T = some out) (c z : Nat) : Wk X c z (RD D (RP D x Xp R0 Q) d L T) 0 [(0, .ref (x + 9))] [] := by
  have hX := hP.1
  have hC := hX.1
  have hnL := hX.2.2.1
  have hSt : ∀ {Xp : Jr} {Q : Ji}, Stb (RP D x Xp R0 Q) d := hP.st
  have hDy : ∀ {Xp : Jr} {Q : Ji} {T : Th} (H : Heap), RD D (RP D x Xp R0 Q) d L T H → Dy D T H := fun _ h => h.2.1
  unfold R_unit_6 at hE
  refine k_aload_n (pc := 0) hC dX3_unit_0 rfl 0 rfl ?_
  rcases xb_of hE with ⟨e, h1, rfl⟩ | ⟨r1, h1, hE⟩
  · exact p_callVT (pc := 1) (As := []) hP hR (ctx_R_sort X.2.1 D (cxA X) x Xp R0 d L Q T (pxf hP)  e h1) (fun H h => p_fault hC.K h) (p_tt hX) (cw_R_sort_X3 hX (Nat.le_of_ble_eq_true rfl) (Nat.le_of_ble_eq_true rfl)) (p_recv 9 lp_9 cl_X3 hP) rfl rfl (Nat.le_of_ble_eq_true rfl) dX3_unit_1
  refine a_callV (pc := 1) (As := []) hX (ct_R_sort X.2.1 D (cxA X) x Xp R0 d L Q T (pxf hP)  r1 h1) (cw_R_sort_X3 hX (Nat.le_of_ble_eq_true rfl) (Nat.le_of_ble_eq_true rfl)) (p_recv 9 lp_9 cl_X3 hP) rfl rfl (Nat.le_of_ble_eq_true rfl) dX3_unit_1 (fun c z => ?_)
  show Wk X c z (RD D (RP D x Xp R0 r1.2.1) d L r1.2.2) 4 [(0, .ref (x + 9))] [.int r1.1]
  refine k_iconst (pc := 4) (v := 1) hC dX3_unit_4 (by decide) ?_
  refine k_icmp_ne (pc := 5) (tgt := 33) hC dX3_unit_5 (by decide) hE (fun hE => ?_) (fun hE => ?_)
  · refine k_aload_n (pc := 8) hC dX3_unit_8 rfl 0 rfl ?_
    rcases xb_of hE with ⟨e, h1, rfl⟩ | ⟨r2, h1, hE⟩
    · exact p_callVT (pc := 9) (As := []) hP hR (ctx_R_pass X.2.1 D (cxA X) x Xp R0 d L r1.2.1 r1.2.2 (pxf hP)  e h1) (fun H h => p_fault hC.K h) (p_tt hX) (cw_R_pass_X3 hX (Nat.le_of_ble_eq_true rfl) (Nat.le_of_ble_eq_true rfl)) (p_recv 9 lp_9 cl_X3 hP) rfl rfl (Nat.le_of_ble_eq_true rfl) dX3_unit_9
    refine a_callV (pc := 9) (As := []) hX (ct_R_pass X.2.1 D (cxA X) x Xp R0 d L r1.2.1 r1.2.2 (pxf hP)  r2 h1) (cw_R_pass_X3 hX (Nat.le_of_ble_eq_true rfl) (Nat.le_of_ble_eq_true rfl)) (p_recv 9 lp_9 cl_X3 hP) rfl rfl (Nat.le_of_ble_eq_true rfl) dX3_unit_9 (fun c z => ?_)
    show Wk X c z (RD D (RP D x Xp R0 r2.1) d L r2.2) 12 [(0, .ref (x + 9))] []
    refine a_new (pc := 12) hX hSt cl_X18 in_X18 tyX18 tyX18_ok dv_X18 q1196 q1197 q149 dX3_unit_12 hE (fun T3 eT3 hE c z => ?_)
    refine k_dup (pc := 15) hC dX3_unit_15 rfl ?_
    refine k_aload_n (pc := 16) hC dX3_unit_16 rfl 0 rfl ?_
    refine gP_X3_9 (pc := 17) hP dX3_unit_17 ?_
    refine k_aload_n (pc := 20) hC dX3_unit_20 rfl 0 rfl ?_
    refine gP_X3_31 (pc := 21) hP dX3_unit_21 ?_
    refine k_iconst (pc := 24) (v := 1) hC dX3_unit_24 (by decide) ?_
    refine k_isub (pc := 25) hC dX3_unit_25 ?_
    obtain ⟨r4, h1, hE⟩ := ob_ hE
    refine a_callV (pc := 26) (As := [.int ((r2.1 9 3) - 1)]) hX (ct_T_number X.2.1 D (cxA X) x Xp R0 d L r2.1 T3 (pxf hP) F ((r2.1 9 3) - 1) r4 h1) (cw_T_number_X3 hX (Nat.le_of_ble_eq_true rfl) (Nat.le_of_ble_eq_true rfl)) (p_recv 2 lp_2 cl_X2 hP) rfl rfl (Nat.le_of_ble_eq_true rfl) dX3_unit_26 (fun c z => ?_)
    show Wk X c z (RD D (RP D x Xp R0 r2.1) d L T3) 29 [(0, .ref (x + 9))] [.int r4, .ref (tN r2.2), .ref (tN r2.2)]
    obtain ⟨r5, h1, hE⟩ := ob_ hE
    refine a_callI (pc := 29) (As := [.int r4]) hX (ct_A_Number X.2.1 D (cxA X) (RP D x Xp R0 r2.1) d L T3 hSt hX.2.1 hX.2.2.2.2.2.2.2.2.2 (tN r2.2) r4 r5 h1) (cw_A_Number_X3 hX (Nat.le_of_ble_eq_true rfl) (Nat.le_of_ble_eq_true rfl)) rfl rfl (Nat.le_of_ble_eq_true rfl) dX3_unit_29 (fun c z => ?_)
    show Wk X c z (RD D (RP D x Xp R0 r2.1) d L r5) 32 [(0, .ref (x + 9))] [.ref (tN r2.2)]
    cases hE
    exact a_aret (pc := 32) (v := va_rf _) (rt := (.object "SleepWork$Sum")) (by first | exact Or.inl ⟨_, rfl⟩ | exact Or.inr ⟨_, rfl⟩) (va_rfv _) hX hR dX3_unit_32 (by rfl) (fun _ h => h)
  · refine k_aload_n (pc := 33) hC dX3_unit_33 rfl 0 rfl ?_
    rcases xb_of hE with ⟨e, h1, rfl⟩ | ⟨r6, h1, hE⟩
    · exact p_callVT (pc := 34) (As := []) hP hR (ctx_R_sort X.2.1 D (cxA X) x Xp R0 d L r1.2.1 r1.2.2 (pxf hP)  e h1) (fun H h => p_fault hC.K h) (p_tt hX) (cw_R_sort_X3 hX (Nat.le_of_ble_eq_true rfl) (Nat.le_of_ble_eq_true rfl)) (p_recv 9 lp_9 cl_X3 hP) rfl rfl (Nat.le_of_ble_eq_true rfl) dX3_unit_34
    refine a_callV (pc := 34) (As := []) hX (ct_R_sort X.2.1 D (cxA X) x Xp R0 d L r1.2.1 r1.2.2 (pxf hP)  r6 h1) (cw_R_sort_X3 hX (Nat.le_of_ble_eq_true rfl) (Nat.le_of_ble_eq_true rfl)) (p_recv 9 lp_9 cl_X3 hP) rfl rfl (Nat.le_of_ble_eq_true rfl) dX3_unit_34 (fun c z => ?_)
    show Wk X c z (RD D (RP D x Xp R0 r6.2.1) d L r6.2.2) 37 [(0, .ref (x + 9))] [.int r6.1]
    refine k_iconst (pc := 37) (v := 3) hC dX3_unit_37 (by decide) ?_
    refine k_icmp_ne (pc := 38) (tgt := 87) hC dX3_unit_38 (by decide) hE (fun hE => ?_) (fun hE => ?_)
    · refine k_aload_n (pc := 41) hC dX3_unit_41 rfl 0 rfl ?_
      refine gP_X3_9 (pc := 42) hP dX3_unit_42 ?_
      refine gP_X3_52 (pc := 45) hP dX3_unit_45 ?_
      refine k_aload_n (pc := 48) hC dX3_unit_48 rfl 0 rfl ?_
      refine gP_X3_31 (pc := 49) hP dX3_unit_49 ?_
      refine p_sald (pc := 52) 8 lp_8 hP dX3_unit_52 hE (fun x7 hE => ?_)
      refine k_bipush (pc := 53) (v := 15) hC dX3_unit_53 (by decide) ?_
      refine k_icmp_lt (pc := 55) (tgt := 87) hC dX3_unit_55 (by decide) hE (fun hE => ?_) (fun hE => ?_)
      · exact w_R_unit_6_B87 hP hR F _ _ hE _ _
      · refine k_aload_n (pc := 58) hC dX3_unit_58 rfl 0 rfl ?_
        rcases xb_of hE with ⟨e, h1, rfl⟩ | ⟨r8, h1, hE⟩
        · exact p_callVT (pc := 59) (As := []) hP hR (ctx_R_pass X.2.1 D (cxA X) x Xp R0 d L r6.2.1 r6.2.2 (pxf hP)  e h1) (fun H h => p_fault hC.K h) (p_tt hX) (cw_R_pass_X3 hX (Nat.le_of_ble_eq_true rfl) (Nat.le_of_ble_eq_true rfl)) (p_recv 9 lp_9 cl_X3 hP) rfl rfl (Nat.le_of_ble_eq_true rfl) dX3_unit_59
        refine a_callV (pc := 59) (As := []) hX (ct_R_pass X.2.1 D (cxA X) x Xp R0 d L r6.2.1 r6.2.2 (pxf hP)  r8 h1) (cw_R_pass_X3 hX (Nat.le_of_ble_eq_true rfl) (Nat.le_of_ble_eq_true rfl)) (p_recv 9 lp_9 cl_X3 hP) rfl rfl (Nat.le_of_ble_eq_true rfl) dX3_unit_59 (fun c z => ?_)
        show Wk X c z (RD D (RP D x Xp R0 r8.1) d L r8.2) 62 [(0, .ref (x + 9))] []
        refine a_new (pc := 62) hX hSt cl_X19 in_X19 tyX19 tyX19_ok dv_X19 q1209 q1210 q150 dX3_unit_62 hE (fun T9 eT9 hE c z => ?_)
        refine k_dup (pc := 65) hC dX3_unit_65 rfl ?_
        refine k_aload_n (pc := 66) hC dX3_unit_66 rfl 0 rfl ?_
        refine gP_X3_9 (pc := 67) hP dX3_unit_67 ?_
        refine gP_X3_52 (pc := 70) hP dX3_unit_70 ?_
        refine k_aload_n (pc := 73) hC dX3_unit_73 rfl 0 rfl ?_
        refine gP_X3_31 (pc := 74) hP dX3_unit_74 ?_
        refine k_iconst (pc := 77) (v := 1) hC dX3_unit_77 (by decide) ?_
        refine k_isub (pc := 78) hC dX3_unit_78 ?_
        refine p_sald (pc := 79) 8 lp_8 hP dX3_unit_79 hE (fun x10 hE => ?_)
        refine k_bipush (pc := 80) (v := 15) hC dX3_unit_80 (by decide) ?_
        refine k_isub (pc := 82) hC dX3_unit_82 ?_
        obtain ⟨r11, h1, hE⟩ := ob_ hE
        refine a_callI (pc := 83) (As := [.int (x10 - 15)]) hX (ct_A_Var X.2.1 D (cxA X) (RP D x Xp R0 r8.1) d L T9 hSt hX.2.1 hX.2.2.2.2.2.2.2.2.2 (tN r8.2) (x10 - 15) r11 h1) (cw_A_Var_X3 hX (Nat.le_of_ble_eq_true rfl) (Nat.le_of_ble_eq_true rfl)) rfl rfl (Nat.le_of_ble_eq_true rfl) dX3_unit_83 (fun c z => ?_)
        show Wk X c z (RD D (RP D x Xp R0 r8.1) d L r11) 86 [(0, .ref (x + 9))] [.ref (tN r8.2)]
        cases hE
        exact a_aret (pc := 86) (v := va_rf _) (rt := (.object "SleepWork$Sum")) (by first | exact Or.inl ⟨_, rfl⟩ | exact Or.inr ⟨_, rfl⟩) (va_rfv _) hX hR dX3_unit_86 (by rfl) (fun _ h => h)
    · exact w_R_unit_6_B87 hP hR F _ _ hE _ _
theorem ct_R_unit_6 (l : Launch) (D : Dd) (A : Nat → Prop) (x : Nat) (Xp : Jr) (R0 : Heap → Prop) (d : Nat → Prop) (L : Nat × Nat × Nat × Nat) (Q : Ji) (T : Th) (hp : Pf D A x R0 d) (F : Nat) (out : Option Nat × Ji × Th) (hE : R_unit_6 F Xp Q T = some (.inr out)) : Ct l yX3_unit (ws_ yX3_unit cX3_unit 2 (some (.object "SleepWork$Sum"))) (rmA 23 498 L T) vwCl arTy D A [.ref (x + 9)] (RD D (RP D x Xp R0 Q) d L T) (RD D (RP D x Xp R0 out.2.1) d L out.2.2) (some (va_rf out.1)) (L.1 - tN T) (L.2.1 - tZ T) := by
  refine Ct.ofA (lv := [(0, .ref (x + 9))]) (by decide) (Nat.le_of_ble_eq_true rfl) rfl hp.1 hp.2.1 ?_
  intro X hl hX hR hXA _
  exact w_R_unit_6 (Xp := Xp) (out := .inr out) (hp.px hX hXA) hR F Q T hE
theorem ctx_R_unit_6 (l : Launch) (D : Dd) (A : Nat → Prop) (x : Nat) (Xp : Jr) (R0 : Heap → Prop) (d : Nat → Prop) (L : Nat × Nat × Nat × Nat) (Q : Ji) (T : Th) (hp : Pf D A x R0 d) (F : Nat) (e : Ji × Jr × Th) (hE : R_unit_6 F Xp Q T = some (.inl e)) : CtT l yX3_unit (ws_ yX3_unit cX3_unit 2 (some (.object "SleepWork$Sum"))) (rmA 23 498 L T) D A [.ref (x + 9)] (RD D (RP D x Xp R0 Q) d L T) (RD D (RP D x e.2.1 R0 e.1) d L e.2.2) (x + 1) (L.1 - tN T) (L.2.1 - tZ T) := by
  refine CtT.ofA (lv := [(0, .ref (x + 9))]) (by decide) (Nat.le_of_ble_eq_true rfl) rfl hp.1 hp.2.1 ?_
  intro X hl hX hR hXA
  exact w_R_unit_6 (Xp := Xp) (out := .inl e) (hp.px hX hXA) hR F Q T hE
theorem cw_R_unit_6_X3 {X : Ctx} {cc : ByteArray} {D : Dd} {d : Nat → Prop} {L : Nat × Nat × Nat × Nat} {mL fr lo : Nat} {T : Th} (hX : Ax X cc RX3 D d L mL fr lo) (h1 : 23 + 1 ≤ fr) (h2 : 8 + (2 + 11) + 498 ≤ lo) : CallW X.2.2.2.1 X.2.2.2.2.1 X.2.2.2.2.2.2.1 RX3 RX3 277 yX3_unit cX3_unit 2 (some (.object "SleepWork$Sum")) (ws_ yX3_unit cX3_unit 2 (some (.object "SleepWork$Sum"))) (rmA 23 498 L T) (L.1 - tN T) (L.2.1 - tZ T) 0 := cwV 0 (cx_w hX.1) (lw_V q1192 q1194 qs32 q120 q1195) rfl rfl rfl (by decide +kernel) (by rw [hX.2.2.2.1, hX.2.2.2.2.1]; exact ⟨h1, h2⟩)
set_option maxHeartbeats 4000000 in
theorem w_R_part_6_B23 {X : Ctx} {D : Dd} {x : Nat} {R0 : Heap → Prop} {d : Nat → Prop} {L : Nat × Nat × Nat × Nat} {Xp : Jr} {out : (Ji × Jr × Th) ⊕ (Option Nat × Ji × Th)} (hP : Px X cX3_part RX3 D x R0 d L 3 24 519) (hR : RtX X (some (.object "SleepWork$Sum")) D L x (fun r => (RD D (RP D x Xp R0 r.2.1) d L r.2.2)) (fun r => (some (va_rf r.1))) (fun e => RD D (RP D x e.2.1 R0 e.1) d L e.2.2) out) (F : Nat) (k5 : Option Nat → Ji → Th → Option ((Ji × Jr × Th) ⊕ (Option Nat × Ji × Th))) (hk5 : ∀ (a1 : Option Nat) (Q : Ji) (T : Th) , k5 a1 Q T = some out → ∀ c z, Wk X c z (RD D (RP D x Xp R0 Q) d L T) 5 [(0, .ref (x + 9)), (1, va_rf a1)] []) (a1 : Option Nat) (Q : Ji) (T : Th) (hE : R_part_6_B23 F k5 Xp a1 Q T = some out) (c z : Nat) : Wk X c z (RD D (RP D x Xp R0 Q) d L T) 23 [(0, .ref (x + 9)), (1, va_rf a1)] [] := by
  have hX := hP.1
  have hC := hX.1
  have hnL := hX.2.2.1
  have hSt : ∀ {Xp : Jr} {Q : Ji}, Stb (RP D x Xp R0 Q) d := hP.st
  have hDy : ∀ {Xp : Jr} {Q : Ji} {T : Th} (H : Heap), RD D (RP D x Xp R0 Q) d L T H → Dy D T H := fun _ h => h.2.1
  unfold R_part_6_B23 at hE
  refine k_aload_n (pc := 23) hC dX3_part_23 rfl 0 rfl ?_
  refine gP_X3_9 (pc := 24) hP dX3_part_24 ?_
  refine gP_X3_52 (pc := 27) hP dX3_part_27 ?_
  refine k_aload_n (pc := 30) hC dX3_part_30 rfl 0 rfl ?_
  refine gP_X3_31 (pc := 31) hP dX3_part_31 ?_
  refine p_sald (pc := 34) 8 lp_8 hP dX3_part_34 hE (fun x4 hE => ?_)
  refine k_istore_n (pc := 35) (lv' := [(2, .int x4), (0, .ref (x + 9)), (1, va_rf a1)]) hC dX3_part_35 rfl (by rw [hnL]; decide) (by cases a1 <;> rfl) ?_
  refine k_aload_n (pc := 36) hC dX3_part_36 rfl 1 rfl ?_
  rcases xb_of hE with ⟨e, h1, rfl⟩ | ⟨r5, h1, hE⟩
  · exact p_callVT (pc := 37) (As := []) hP hR (ctx_R_pass X.2.1 D (cxA X) x Xp R0 d L Q T (pxf hP)  e h1) (fun H h => p_fault hC.K h) (p_tt hX) (cw_R_pass_X3 hX (Nat.le_of_ble_eq_true rfl) (Nat.le_of_ble_eq_true rfl)) (p_recv 9 lp_9 cl_X3 hP) rfl rfl (Nat.le_of_ble_eq_true rfl) dX3_part_37
  refine a_callV (pc := 37) (As := []) hX (ct_R_pass X.2.1 D (cxA X) x Xp R0 d L Q T (pxf hP)  r5 h1) (cw_R_pass_X3 hX (Nat.le_of_ble_eq_true rfl) (Nat.le_of_ble_eq_true rfl)) (p_recv 9 lp_9 cl_X3 hP) rfl rfl (Nat.le_of_ble_eq_true rfl) dX3_part_37 (fun c z => ?_)
  show Wk X c z (RD D (RP D x Xp R0 r5.1) d L r5.2) 40 [(2, .int x4), (0, .ref (x + 9)), (1, va_rf a1)] []
  refine a_new (pc := 40) hX hSt cl_X20 in_X20 tyX20 tyX20_ok dv_X20 q1219 q1220 q151 dX3_part_40 hE (fun T6 eT6 hE c z => ?_)
  refine k_dup (pc := 43) hC dX3_part_43 rfl ?_
  refine k_iload_n (pc := 44) hC dX3_part_44 rfl 0 rfl ?_
  refine k_aloadR_n (pc := 45) hC dX3_part_45 rfl 2 rfl ?_
  refine k_aload_n (pc := 46) hC dX3_part_46 rfl 1 rfl ?_
  rcases xb_of hE with ⟨e, h1, rfl⟩ | ⟨r7, h1, hE⟩
  · exact p_callVT (pc := 47) (As := []) hP hR (ctx_R_unit_6 X.2.1 D (cxA X) x Xp R0 d L r5.1 T6 (pxf hP) F e h1) (fun H h => p_fault hC.K h) (p_tt hX) (cw_R_unit_6_X3 hX (Nat.le_of_ble_eq_true rfl) (Nat.le_of_ble_eq_true rfl)) (p_recv 9 lp_9 cl_X3 hP) rfl rfl (by cases a1 <;> exact Nat.le_of_ble_eq_true rfl) dX3_part_47
  refine a_callV (pc := 47) (As := []) hX (ct_R_unit_6 X.2.1 D (cxA X) x Xp R0 d L r5.1 T6 (pxf hP) F r7 h1) (cw_R_unit_6_X3 hX (Nat.le_of_ble_eq_true rfl) (Nat.le_of_ble_eq_true rfl)) (p_recv 9 lp_9 cl_X3 hP) rfl rfl (by cases a1 <;> exact Nat.le_of_ble_eq_true rfl) dX3_part_47 (fun c z => ?_)
  show Wk X c z (RD D (RP D x Xp R0 r7.2.1) d L r7.2.2) 50 [(2, .int x4), (0, .ref (x + 9)), (1, va_rf a1)] [va_rf r7.1, va_rf a1, .int x4, .ref (tN r5.2), .ref (tN r5.2)]
  refine k_nn (G := fun z => Wk X _ _ (RD D (RP D x Xp R0 r7.2.1) d L r7.2.2) 50 [(2, .int x4), (0, .ref (x + 9)), (1, va_rf a1)] [z, va_rf a1, .int x4, .ref (tN r5.2), .ref (tN r5.2)]) hE (fun b8 hE => ?_)
  refine k_nn (G := fun z => Wk X _ _ (RD D (RP D x Xp R0 r7.2.1) d L r7.2.2) 50 [(2, .int x4), (0, .ref (x + 9)), (1, z)] [.ref b8, z, .int x4, .ref (tN r5.2), .ref (tN r5.2)]) hE (fun b9 hE => ?_)
  obtain ⟨r10, h1, hE⟩ := ob_ hE
  refine a_callI (pc := 50) (As := [.int x4, .ref b9, .ref b8]) hX (ct_A_Joined X.2.1 D (cxA X) (RP D x Xp R0 r7.2.1) d L r7.2.2 hSt hX.2.1 hX.2.2.2.2.2.2.2.2.2 (tN r5.2) x4 b9 b8 r10 h1) (cw_A_Joined_X3 hX (Nat.le_of_ble_eq_true rfl) (Nat.le_of_ble_eq_true rfl)) rfl rfl (Nat.le_of_ble_eq_true rfl) dX3_part_50 (fun c z => ?_)
  show Wk X c z (RD D (RP D x Xp R0 r7.2.1) d L r10) 53 [(2, .int x4), (0, .ref (x + 9)), (1, .ref b9)] [.ref (tN r5.2)]
  refine k_astore_n (pc := 53) (lv' := [(1, .ref (tN r5.2)), (2, .int x4), (0, .ref (x + 9))]) hC dX3_part_53 rfl (by rw [hnL]; decide) rfl ?_
  refine k_goto (pc := 54) (tgt := 5) hC dX3_part_54 (by decide) ?_
  refine k_sub [2, 0] rfl ?_
  exact hk5 _ _ _ hE _ _
set_option maxHeartbeats 4000000 in
theorem w_R_part_6_B5 {X : Ctx} {D : Dd} {x : Nat} {R0 : Heap → Prop} {d : Nat → Prop} {L : Nat × Nat × Nat × Nat} {Xp : Jr} {out : (Ji × Jr × Th) ⊕ (Option Nat × Ji × Th)} (hP : Px X cX3_part RX3 D x R0 d L 3 24 519) (hR : RtX X (some (.object "SleepWork$Sum")) D L x (fun r => (RD D (RP D x Xp R0 r.2.1) d L r.2.2)) (fun r => (some (va_rf r.1))) (fun e => RD D (RP D x e.2.1 R0 e.1) d L e.2.2) out) (F : Nat) (k5 : Option Nat → Ji → Th → Option ((Ji × Jr × Th) ⊕ (Option Nat × Ji × Th))) (hk5 : ∀ (a1 : Option Nat) (Q : Ji) (T : Th) , k5 a1 Q T = some out → ∀ c z, Wk X c z (RD D (RP D x Xp R0 Q) d L T) 5 [(0, .ref (x + 9)), (1, va_rf a1)] []) (a1 : Option Nat) (Q : Ji) (T : Th) (hE : R_part_6_B5 F k5 Xp a1 Q T = some out) (c z : Nat) : Wk X c z (RD D (RP D x Xp R0 Q) d L T) 5 [(0, .ref (x + 9)), (1, va_rf a1)] [] := by
  have hX := hP.1
  have hC := hX.1
  have hnL := hX.2.2.1
  have hSt : ∀ {Xp : Jr} {Q : Ji}, Stb (RP D x Xp R0 Q) d := hP.st
  have hDy : ∀ {Xp : Jr} {Q : Ji} {T : Th} (H : Heap), RD D (RP D x Xp R0 Q) d L T H → Dy D T H := fun _ h => h.2.1
  unfold R_part_6_B5 at hE
  refine k_aload_n (pc := 5) hC dX3_part_5 rfl 0 rfl ?_
  refine k_bipush (pc := 6) (v := 42) hC dX3_part_6 (by decide) ?_
  rcases xb_of hE with ⟨e, h1, rfl⟩ | ⟨r2, h1, hE⟩
  · exact p_callVT (pc := 8) (As := [.int 42]) hP hR (ctx_R_isSign X.2.1 D (cxA X) x Xp R0 d L Q T (pxf hP) 42 e h1) (fun H h => p_fault hC.K h) (p_tt hX) (cw_R_isSign_X3 hX (Nat.le_of_ble_eq_true rfl) (Nat.le_of_ble_eq_true rfl)) (p_recv 9 lp_9 cl_X3 hP) rfl rfl (Nat.le_of_ble_eq_true rfl) dX3_part_8
  refine a_callV (pc := 8) (As := [.int 42]) hX (ct_R_isSign X.2.1 D (cxA X) x Xp R0 d L Q T (pxf hP) 42 r2 h1) (cw_R_isSign_X3 hX (Nat.le_of_ble_eq_true rfl) (Nat.le_of_ble_eq_true rfl)) (p_recv 9 lp_9 cl_X3 hP) rfl rfl (Nat.le_of_ble_eq_true rfl) dX3_part_8 (fun c z => ?_)
  show Wk X c z (RD D (RP D x Xp R0 r2.2.1) d L r2.2.2) 11 [(0, .ref (x + 9)), (1, va_rf a1)] [.int r2.1]
  refine k_if_ne (pc := 11) (tgt := 23) hC dX3_part_11 (by decide) hE (fun hE => ?_) (fun hE => ?_)
  · refine k_aload_n (pc := 14) hC dX3_part_14 rfl 0 rfl ?_
    refine k_bipush (pc := 15) (v := 47) hC dX3_part_15 (by decide) ?_
    rcases xb_of hE with ⟨e, h1, rfl⟩ | ⟨r3, h1, hE⟩
    · exact p_callVT (pc := 17) (As := [.int 47]) hP hR (ctx_R_isSign X.2.1 D (cxA X) x Xp R0 d L r2.2.1 r2.2.2 (pxf hP) 47 e h1) (fun H h => p_fault hC.K h) (p_tt hX) (cw_R_isSign_X3 hX (Nat.le_of_ble_eq_true rfl) (Nat.le_of_ble_eq_true rfl)) (p_recv 9 lp_9 cl_X3 hP) rfl rfl (Nat.le_of_ble_eq_true rfl) dX3_part_17
    refine a_callV (pc := 17) (As := [.int 47]) hX (ct_R_isSign X.2.1 D (cxA X) x Xp R0 d L r2.2.1 r2.2.2 (pxf hP) 47 r3 h1) (cw_R_isSign_X3 hX (Nat.le_of_ble_eq_true rfl) (Nat.le_of_ble_eq_true rfl)) (p_recv 9 lp_9 cl_X3 hP) rfl rfl (Nat.le_of_ble_eq_true rfl) dX3_part_17 (fun c z => ?_)
    show Wk X c z (RD D (RP D x Xp R0 r3.2.1) d L r3.2.2) 20 [(0, .ref (x + 9)), (1, va_rf a1)] [.int r3.1]
    refine k_if_eq (pc := 20) (tgt := 57) hC dX3_part_20 (by decide) hE (fun hE => ?_) (fun hE => ?_)
    · refine k_aloadR_n (pc := 57) hC dX3_part_57 rfl 1 rfl ?_
      cases hE
      exact a_aret (pc := 58) (v := va_rf _) (rt := (.object "SleepWork$Sum")) (by first | exact Or.inl ⟨_, rfl⟩ | exact Or.inr ⟨_, rfl⟩) (va_rfv _) hX hR dX3_part_58 (by rfl) (fun _ h => h)
    · exact w_R_part_6_B23 hP hR F k5 hk5 _ _ _ hE _ _
  · exact w_R_part_6_B23 hP hR F k5 hk5 _ _ _ hE _ _
theorem w_R_part_6_L5 {X : Ctx} {D : Dd} {x : Nat} {R0 : Heap → Prop} {d : Nat → Prop} {L : Nat × Nat × Nat × Nat} {Xp : Jr} {out : (Ji × Jr × Th) ⊕ (Option Nat × Ji × Th)} (hP : Px X cX3_part RX3 D x R0 d L 3 24 519) (hR : RtX X (some (.object "SleepWork$Sum")) D L x (fun r => (RD D (RP D x Xp R0 r.2.1) d L r.2.2)) (fun r => (some (va_rf r.1))) (fun e => RD D (RP D x e.2.1 R0 e.1) d L e.2.2) out) (F : Nat) (n : Nat) : ∀ (a1 : Option Nat) (Q : Ji) (T : Th) , R_part_6_L5 F Xp n a1 Q T = some out → ∀ c z, Wk X c z (RD D (RP D x Xp R0 Q) d L T) 5 [(0, .ref (x + 9)), (1, va_rf a1)] [] := by
  induction n with
  | zero => intro a1 Q T h; cases h
  | succ n ih => intro a1 Q T h; exact w_R_part_6_B5 hP hR F (R_part_6_L5 F Xp n) ih a1 Q T h
set_option maxHeartbeats 4000000 in
theorem w_R_part_6 {X : Ctx} {D : Dd} {x : Nat} {R0 : Heap → Prop} {d : Nat → Prop} {L : Nat × Nat × Nat × Nat} {Xp : Jr} {out : (Ji × Jr × Th) ⊕ (Option Nat × Ji × Th)} (hP : Px X cX3_part RX3 D x R0 d L 3 24 519) (hR : RtX X (some (.object "SleepWork$Sum")) D L x (fun r => (RD D (RP D x Xp R0 r.2.1) d L r.2.2)) (fun r => (some (va_rf r.1))) (fun e => RD D (RP D x e.2.1 R0 e.1) d L e.2.2) out) (F : Nat) (Q : Ji) (T : Th) (hE : R_part_6 F Xp Q T = some out) (c z : Nat) : Wk X c z (RD D (RP D x Xp R0 Q) d L T) 0 [(0, .ref (x + 9))] [] := by
  have hX := hP.1
  have hC := hX.1
  have hnL := hX.2.2.1
  have hSt : ∀ {Xp : Jr} {Q : Ji}, Stb (RP D x Xp R0 Q) d := hP.st
  have hDy : ∀ {Xp : Jr} {Q : Ji} {T : Th} (H : Heap), RD D (RP D x Xp R0 Q) d L T H → Dy D T H := fun _ h => h.2.1
  unfold R_part_6 at hE
  refine k_aload_n (pc := 0) hC dX3_part_0 rfl 0 rfl ?_
  rcases xb_of hE with ⟨e, h1, rfl⟩ | ⟨r1, h1, hE⟩
  · exact p_callVT (pc := 1) (As := []) hP hR (ctx_R_unit_6 X.2.1 D (cxA X) x Xp R0 d L Q T (pxf hP) F e h1) (fun H h => p_fault hC.K h) (p_tt hX) (cw_R_unit_6_X3 hX (Nat.le_of_ble_eq_true rfl) (Nat.le_of_ble_eq_true rfl)) (p_recv 9 lp_9 cl_X3 hP) rfl rfl (Nat.le_of_ble_eq_true rfl) dX3_part_1
  refine a_callV (pc := 1) (As := []) hX (ct_R_unit_6 X.2.1 D (cxA X) x Xp R0 d L Q T (pxf hP) F r1 h1) (cw_R_unit_6_X3 hX (Nat.le_of_ble_eq_true rfl) (Nat.le_of_ble_eq_true rfl)) (p_recv 9 lp_9 cl_X3 hP) rfl rfl (Nat.le_of_ble_eq_true rfl) dX3_part_1 (fun c z => ?_)
  show Wk X c z (RD D (RP D x Xp R0 r1.2.1) d L r1.2.2) 4 [(0, .ref (x + 9))] [va_rf r1.1]
  refine k_astoreR_n (pc := 4) (lv' := [(1, va_rf r1.1), (0, .ref (x + 9))]) hC dX3_part_4 rfl (by rw [hnL]; decide) rfl ?_
  refine k_sub [1, 0] rfl ?_
  exact w_R_part_6_L5 hP hR F _ _ _ _ hE _ _
theorem ct_R_part_6 (l : Launch) (D : Dd) (A : Nat → Prop) (x : Nat) (Xp : Jr) (R0 : Heap → Prop) (d : Nat → Prop) (L : Nat × Nat × Nat × Nat) (Q : Ji) (T : Th) (hp : Pf D A x R0 d) (F : Nat) (out : Option Nat × Ji × Th) (hE : R_part_6 F Xp Q T = some (.inr out)) : Ct l yX3_part (ws_ yX3_part cX3_part 3 (some (.object "SleepWork$Sum"))) (rmA 24 519 L T) vwCl arTy D A [.ref (x + 9)] (RD D (RP D x Xp R0 Q) d L T) (RD D (RP D x Xp R0 out.2.1) d L out.2.2) (some (va_rf out.1)) (L.1 - tN T) (L.2.1 - tZ T) := by
  refine Ct.ofA (lv := [(0, .ref (x + 9))]) (by decide) (Nat.le_of_ble_eq_true rfl) rfl hp.1 hp.2.1 ?_
  intro X hl hX hR hXA _
  exact w_R_part_6 (Xp := Xp) (out := .inr out) (hp.px hX hXA) hR F Q T hE
theorem ctx_R_part_6 (l : Launch) (D : Dd) (A : Nat → Prop) (x : Nat) (Xp : Jr) (R0 : Heap → Prop) (d : Nat → Prop) (L : Nat × Nat × Nat × Nat) (Q : Ji) (T : Th) (hp : Pf D A x R0 d) (F : Nat) (e : Ji × Jr × Th) (hE : R_part_6 F Xp Q T = some (.inl e)) : CtT l yX3_part (ws_ yX3_part cX3_part 3 (some (.object "SleepWork$Sum"))) (rmA 24 519 L T) D A [.ref (x + 9)] (RD D (RP D x Xp R0 Q) d L T) (RD D (RP D x e.2.1 R0 e.1) d L e.2.2) (x + 1) (L.1 - tN T) (L.2.1 - tZ T) := by
  refine CtT.ofA (lv := [(0, .ref (x + 9))]) (by decide) (Nat.le_of_ble_eq_true rfl) rfl hp.1 hp.2.1 ?_
  intro X hl hX hR hXA
  exact w_R_part_6 (Xp := Xp) (out := .inl e) (hp.px hX hXA) hR F Q T hE
theorem cw_R_part_6_X3 {X : Ctx} {cc : ByteArray} {D : Dd} {d : Nat → Prop} {L : Nat × Nat × Nat × Nat} {mL fr lo : Nat} {T : Th} (hX : Ax X cc RX3 D d L mL fr lo) (h1 : 24 + 1 ≤ fr) (h2 : 8 + (3 + 11) + 519 ≤ lo) : CallW X.2.2.2.1 X.2.2.2.2.1 X.2.2.2.2.2.2.1 RX3 RX3 269 yX3_part cX3_part 3 (some (.object "SleepWork$Sum")) (ws_ yX3_part cX3_part 3 (some (.object "SleepWork$Sum"))) (rmA 24 519 L T) (L.1 - tN T) (L.2.1 - tZ T) 0 := cwV 0 (cx_w hX.1) (lw_V q1188 q1190 qs31 q120 q1191) rfl rfl rfl (by decide +kernel) (by rw [hX.2.2.2.1, hX.2.2.2.2.1]; exact ⟨h1, h2⟩)
set_option maxHeartbeats 4000000 in
theorem w_R_sum_6_B23 {X : Ctx} {D : Dd} {x : Nat} {R0 : Heap → Prop} {d : Nat → Prop} {L : Nat × Nat × Nat × Nat} {Xp : Jr} {out : (Ji × Jr × Th) ⊕ (Option Nat × Ji × Th)} (hP : Px X cX3_sum RX3 D x R0 d L 3 25 541) (hR : RtX X (some (.object "SleepWork$Sum")) D L x (fun r => (RD D (RP D x Xp R0 r.2.1) d L r.2.2)) (fun r => (some (va_rf r.1))) (fun e => RD D (RP D x e.2.1 R0 e.1) d L e.2.2) out) (F : Nat) (k5 : Option Nat → Ji → Th → Option ((Ji × Jr × Th) ⊕ (Option Nat × Ji × Th))) (hk5 : ∀ (a1 : Option Nat) (Q : Ji) (T : Th) , k5 a1 Q T = some out → ∀ c z, Wk X c z (RD D (RP D x Xp R0 Q) d L T) 5 [(0, .ref (x + 9)), (1, va_rf a1)] []) (a1 : Option Nat) (Q : Ji) (T : Th) (hE : R_sum_6_B23 F k5 Xp a1 Q T = some out) (c z : Nat) : Wk X c z (RD D (RP D x Xp R0 Q) d L T) 23 [(0, .ref (x + 9)), (1, va_rf a1)] [] := by
  have hX := hP.1
  have hC := hX.1
  have hnL := hX.2.2.1
  have hSt : ∀ {Xp : Jr} {Q : Ji}, Stb (RP D x Xp R0 Q) d := hP.st
  have hDy : ∀ {Xp : Jr} {Q : Ji} {T : Th} (H : Heap), RD D (RP D x Xp R0 Q) d L T H → Dy D T H := fun _ h => h.2.1
  unfold R_sum_6_B23 at hE
  refine k_aload_n (pc := 23) hC dX3_sum_23 rfl 0 rfl ?_
  refine gP_X3_9 (pc := 24) hP dX3_sum_24 ?_
  refine gP_X3_52 (pc := 27) hP dX3_sum_27 ?_
  refine k_aload_n (pc := 30) hC dX3_sum_30 rfl 0 rfl ?_
  refine gP_X3_31 (pc := 31) hP dX3_sum_31 ?_
  refine p_sald (pc := 34) 8 lp_8 hP dX3_sum_34 hE (fun x4 hE => ?_)
  refine k_istore_n (pc := 35) (lv' := [(2, .int x4), (0, .ref (x + 9)), (1, va_rf a1)]) hC dX3_sum_35 rfl (by rw [hnL]; decide) (by cases a1 <;> rfl) ?_
  refine k_aload_n (pc := 36) hC dX3_sum_36 rfl 1 rfl ?_
  rcases xb_of hE with ⟨e, h1, rfl⟩ | ⟨r5, h1, hE⟩
  · exact p_callVT (pc := 37) (As := []) hP hR (ctx_R_pass X.2.1 D (cxA X) x Xp R0 d L Q T (pxf hP)  e h1) (fun H h => p_fault hC.K h) (p_tt hX) (cw_R_pass_X3 hX (Nat.le_of_ble_eq_true rfl) (Nat.le_of_ble_eq_true rfl)) (p_recv 9 lp_9 cl_X3 hP) rfl rfl (Nat.le_of_ble_eq_true rfl) dX3_sum_37
  refine a_callV (pc := 37) (As := []) hX (ct_R_pass X.2.1 D (cxA X) x Xp R0 d L Q T (pxf hP)  r5 h1) (cw_R_pass_X3 hX (Nat.le_of_ble_eq_true rfl) (Nat.le_of_ble_eq_true rfl)) (p_recv 9 lp_9 cl_X3 hP) rfl rfl (Nat.le_of_ble_eq_true rfl) dX3_sum_37 (fun c z => ?_)
  show Wk X c z (RD D (RP D x Xp R0 r5.1) d L r5.2) 40 [(2, .int x4), (0, .ref (x + 9)), (1, va_rf a1)] []
  refine a_new (pc := 40) hX hSt cl_X20 in_X20 tyX20 tyX20_ok dv_X20 q1219 q1220 q151 dX3_sum_40 hE (fun T6 eT6 hE c z => ?_)
  refine k_dup (pc := 43) hC dX3_sum_43 rfl ?_
  refine k_iload_n (pc := 44) hC dX3_sum_44 rfl 0 rfl ?_
  refine k_aloadR_n (pc := 45) hC dX3_sum_45 rfl 2 rfl ?_
  refine k_aload_n (pc := 46) hC dX3_sum_46 rfl 1 rfl ?_
  rcases xb_of hE with ⟨e, h1, rfl⟩ | ⟨r7, h1, hE⟩
  · exact p_callVT (pc := 47) (As := []) hP hR (ctx_R_part_6 X.2.1 D (cxA X) x Xp R0 d L r5.1 T6 (pxf hP) F e h1) (fun H h => p_fault hC.K h) (p_tt hX) (cw_R_part_6_X3 hX (Nat.le_of_ble_eq_true rfl) (Nat.le_of_ble_eq_true rfl)) (p_recv 9 lp_9 cl_X3 hP) rfl rfl (by cases a1 <;> exact Nat.le_of_ble_eq_true rfl) dX3_sum_47
  refine a_callV (pc := 47) (As := []) hX (ct_R_part_6 X.2.1 D (cxA X) x Xp R0 d L r5.1 T6 (pxf hP) F r7 h1) (cw_R_part_6_X3 hX (Nat.le_of_ble_eq_true rfl) (Nat.le_of_ble_eq_true rfl)) (p_recv 9 lp_9 cl_X3 hP) rfl rfl (by cases a1 <;> exact Nat.le_of_ble_eq_true rfl) dX3_sum_47 (fun c z => ?_)
  show Wk X c z (RD D (RP D x Xp R0 r7.2.1) d L r7.2.2) 50 [(2, .int x4), (0, .ref (x + 9)), (1, va_rf a1)] [va_rf r7.1, va_rf a1, .int x4, .ref (tN r5.2), .ref (tN r5.2)]
  refine k_nn (G := fun z => Wk X _ _ (RD D (RP D x Xp R0 r7.2.1) d L r7.2.2) 50 [(2, .int x4), (0, .ref (x + 9)), (1, va_rf a1)] [z, va_rf a1, .int x4, .ref (tN r5.2), .ref (tN r5.2)]) hE (fun b8 hE => ?_)
  refine k_nn (G := fun z => Wk X _ _ (RD D (RP D x Xp R0 r7.2.1) d L r7.2.2) 50 [(2, .int x4), (0, .ref (x + 9)), (1, z)] [.ref b8, z, .int x4, .ref (tN r5.2), .ref (tN r5.2)]) hE (fun b9 hE => ?_)
  obtain ⟨r10, h1, hE⟩ := ob_ hE
  refine a_callI (pc := 50) (As := [.int x4, .ref b9, .ref b8]) hX (ct_A_Joined X.2.1 D (cxA X) (RP D x Xp R0 r7.2.1) d L r7.2.2 hSt hX.2.1 hX.2.2.2.2.2.2.2.2.2 (tN r5.2) x4 b9 b8 r10 h1) (cw_A_Joined_X3 hX (Nat.le_of_ble_eq_true rfl) (Nat.le_of_ble_eq_true rfl)) rfl rfl (Nat.le_of_ble_eq_true rfl) dX3_sum_50 (fun c z => ?_)
  show Wk X c z (RD D (RP D x Xp R0 r7.2.1) d L r10) 53 [(2, .int x4), (0, .ref (x + 9)), (1, .ref b9)] [.ref (tN r5.2)]
  refine k_astore_n (pc := 53) (lv' := [(1, .ref (tN r5.2)), (2, .int x4), (0, .ref (x + 9))]) hC dX3_sum_53 rfl (by rw [hnL]; decide) rfl ?_
  refine k_goto (pc := 54) (tgt := 5) hC dX3_sum_54 (by decide) ?_
  refine k_sub [2, 0] rfl ?_
  exact hk5 _ _ _ hE _ _
set_option maxHeartbeats 4000000 in
theorem w_R_sum_6_B5 {X : Ctx} {D : Dd} {x : Nat} {R0 : Heap → Prop} {d : Nat → Prop} {L : Nat × Nat × Nat × Nat} {Xp : Jr} {out : (Ji × Jr × Th) ⊕ (Option Nat × Ji × Th)} (hP : Px X cX3_sum RX3 D x R0 d L 3 25 541) (hR : RtX X (some (.object "SleepWork$Sum")) D L x (fun r => (RD D (RP D x Xp R0 r.2.1) d L r.2.2)) (fun r => (some (va_rf r.1))) (fun e => RD D (RP D x e.2.1 R0 e.1) d L e.2.2) out) (F : Nat) (k5 : Option Nat → Ji → Th → Option ((Ji × Jr × Th) ⊕ (Option Nat × Ji × Th))) (hk5 : ∀ (a1 : Option Nat) (Q : Ji) (T : Th) , k5 a1 Q T = some out → ∀ c z, Wk X c z (RD D (RP D x Xp R0 Q) d L T) 5 [(0, .ref (x + 9)), (1, va_rf a1)] []) (a1 : Option Nat) (Q : Ji) (T : Th) (hE : R_sum_6_B5 F k5 Xp a1 Q T = some out) (c z : Nat) : Wk X c z (RD D (RP D x Xp R0 Q) d L T) 5 [(0, .ref (x + 9)), (1, va_rf a1)] [] := by
  have hX := hP.1
  have hC := hX.1
  have hnL := hX.2.2.1
  have hSt : ∀ {Xp : Jr} {Q : Ji}, Stb (RP D x Xp R0 Q) d := hP.st
  have hDy : ∀ {Xp : Jr} {Q : Ji} {T : Th} (H : Heap), RD D (RP D x Xp R0 Q) d L T H → Dy D T H := fun _ h => h.2.1
  unfold R_sum_6_B5 at hE
  refine k_aload_n (pc := 5) hC dX3_sum_5 rfl 0 rfl ?_
  refine k_bipush (pc := 6) (v := 43) hC dX3_sum_6 (by decide) ?_
  rcases xb_of hE with ⟨e, h1, rfl⟩ | ⟨r2, h1, hE⟩
  · exact p_callVT (pc := 8) (As := [.int 43]) hP hR (ctx_R_isSign X.2.1 D (cxA X) x Xp R0 d L Q T (pxf hP) 43 e h1) (fun H h => p_fault hC.K h) (p_tt hX) (cw_R_isSign_X3 hX (Nat.le_of_ble_eq_true rfl) (Nat.le_of_ble_eq_true rfl)) (p_recv 9 lp_9 cl_X3 hP) rfl rfl (Nat.le_of_ble_eq_true rfl) dX3_sum_8
  refine a_callV (pc := 8) (As := [.int 43]) hX (ct_R_isSign X.2.1 D (cxA X) x Xp R0 d L Q T (pxf hP) 43 r2 h1) (cw_R_isSign_X3 hX (Nat.le_of_ble_eq_true rfl) (Nat.le_of_ble_eq_true rfl)) (p_recv 9 lp_9 cl_X3 hP) rfl rfl (Nat.le_of_ble_eq_true rfl) dX3_sum_8 (fun c z => ?_)
  show Wk X c z (RD D (RP D x Xp R0 r2.2.1) d L r2.2.2) 11 [(0, .ref (x + 9)), (1, va_rf a1)] [.int r2.1]
  refine k_if_ne (pc := 11) (tgt := 23) hC dX3_sum_11 (by decide) hE (fun hE => ?_) (fun hE => ?_)
  · refine k_aload_n (pc := 14) hC dX3_sum_14 rfl 0 rfl ?_
    refine k_bipush (pc := 15) (v := 45) hC dX3_sum_15 (by decide) ?_
    rcases xb_of hE with ⟨e, h1, rfl⟩ | ⟨r3, h1, hE⟩
    · exact p_callVT (pc := 17) (As := [.int 45]) hP hR (ctx_R_isSign X.2.1 D (cxA X) x Xp R0 d L r2.2.1 r2.2.2 (pxf hP) 45 e h1) (fun H h => p_fault hC.K h) (p_tt hX) (cw_R_isSign_X3 hX (Nat.le_of_ble_eq_true rfl) (Nat.le_of_ble_eq_true rfl)) (p_recv 9 lp_9 cl_X3 hP) rfl rfl (Nat.le_of_ble_eq_true rfl) dX3_sum_17
    refine a_callV (pc := 17) (As := [.int 45]) hX (ct_R_isSign X.2.1 D (cxA X) x Xp R0 d L r2.2.1 r2.2.2 (pxf hP) 45 r3 h1) (cw_R_isSign_X3 hX (Nat.le_of_ble_eq_true rfl) (Nat.le_of_ble_eq_true rfl)) (p_recv 9 lp_9 cl_X3 hP) rfl rfl (Nat.le_of_ble_eq_true rfl) dX3_sum_17 (fun c z => ?_)
    show Wk X c z (RD D (RP D x Xp R0 r3.2.1) d L r3.2.2) 20 [(0, .ref (x + 9)), (1, va_rf a1)] [.int r3.1]
    refine k_if_eq (pc := 20) (tgt := 57) hC dX3_sum_20 (by decide) hE (fun hE => ?_) (fun hE => ?_)
    · refine k_aloadR_n (pc := 57) hC dX3_sum_57 rfl 1 rfl ?_
      cases hE
      exact a_aret (pc := 58) (v := va_rf _) (rt := (.object "SleepWork$Sum")) (by first | exact Or.inl ⟨_, rfl⟩ | exact Or.inr ⟨_, rfl⟩) (va_rfv _) hX hR dX3_sum_58 (by rfl) (fun _ h => h)
    · exact w_R_sum_6_B23 hP hR F k5 hk5 _ _ _ hE _ _
  · exact w_R_sum_6_B23 hP hR F k5 hk5 _ _ _ hE _ _
theorem w_R_sum_6_L5 {X : Ctx} {D : Dd} {x : Nat} {R0 : Heap → Prop} {d : Nat → Prop} {L : Nat × Nat × Nat × Nat} {Xp : Jr} {out : (Ji × Jr × Th) ⊕ (Option Nat × Ji × Th)} (hP : Px X cX3_sum RX3 D x R0 d L 3 25 541) (hR : RtX X (some (.object "SleepWork$Sum")) D L x (fun r => (RD D (RP D x Xp R0 r.2.1) d L r.2.2)) (fun r => (some (va_rf r.1))) (fun e => RD D (RP D x e.2.1 R0 e.1) d L e.2.2) out) (F : Nat) (n : Nat) : ∀ (a1 : Option Nat) (Q : Ji) (T : Th) , R_sum_6_L5 F Xp n a1 Q T = some out → ∀ c z, Wk X c z (RD D (RP D x Xp R0 Q) d L T) 5 [(0, .ref (x + 9)), (1, va_rf a1)] [] := by
  induction n with
  | zero => intro a1 Q T h; cases h
  | succ n ih => intro a1 Q T h; exact w_R_sum_6_B5 hP hR F (R_sum_6_L5 F Xp n) ih a1 Q T h
set_option maxHeartbeats 4000000 in
theorem w_R_sum_6 {X : Ctx} {D : Dd} {x : Nat} {R0 : Heap → Prop} {d : Nat → Prop} {L : Nat × Nat × Nat × Nat} {Xp : Jr} {out : (Ji × Jr × Th) ⊕ (Option Nat × Ji × Th)} (hP : Px X cX3_sum RX3 D x R0 d L 3 25 541) (hR : RtX X (some (.object "SleepWork$Sum")) D L x (fun r => (RD D (RP D x Xp R0 r.2.1) d L r.2.2)) (fun r => (some (va_rf r.1))) (fun e => RD D (RP D x e.2.1 R0 e.1) d L e.2.2) out) (F : Nat) (Q : Ji) (T : Th) (hE : R_sum_6 F Xp Q T = some out) (c z : Nat) : Wk X c z (RD D (RP D x Xp R0 Q) d L T) 0 [(0, .ref (x + 9))] [] := by
  have hX := hP.1
  have hC := hX.1
  have hnL := hX.2.2.1
  have hSt : ∀ {Xp : Jr} {Q : Ji}, Stb (RP D x Xp R0 Q) d := hP.st
  have hDy : ∀ {Xp : Jr} {Q : Ji} {T : Th} (H : Heap), RD D (RP D x Xp R0 Q) d L T H → Dy D T H := fun _ h => h.2.1
  unfold R_sum_6 at hE
  refine k_aload_n (pc := 0) hC dX3_sum_0 rfl 0 rfl ?_
  rcases xb_of hE with ⟨e, h1, rfl⟩ | ⟨r1, h1, hE⟩
  · exact p_callVT (pc := 1) (As := []) hP hR (ctx_R_part_6 X.2.1 D (cxA X) x Xp R0 d L Q T (pxf hP) F e h1) (fun H h => p_fault hC.K h) (p_tt hX) (cw_R_part_6_X3 hX (Nat.le_of_ble_eq_true rfl) (Nat.le_of_ble_eq_true rfl)) (p_recv 9 lp_9 cl_X3 hP) rfl rfl (Nat.le_of_ble_eq_true rfl) dX3_sum_1
  refine a_callV (pc := 1) (As := []) hX (ct_R_part_6 X.2.1 D (cxA X) x Xp R0 d L Q T (pxf hP) F r1 h1) (cw_R_part_6_X3 hX (Nat.le_of_ble_eq_true rfl) (Nat.le_of_ble_eq_true rfl)) (p_recv 9 lp_9 cl_X3 hP) rfl rfl (Nat.le_of_ble_eq_true rfl) dX3_sum_1 (fun c z => ?_)
  show Wk X c z (RD D (RP D x Xp R0 r1.2.1) d L r1.2.2) 4 [(0, .ref (x + 9))] [va_rf r1.1]
  refine k_astoreR_n (pc := 4) (lv' := [(1, va_rf r1.1), (0, .ref (x + 9))]) hC dX3_sum_4 rfl (by rw [hnL]; decide) rfl ?_
  refine k_sub [1, 0] rfl ?_
  exact w_R_sum_6_L5 hP hR F _ _ _ _ hE _ _
theorem ct_R_sum_6 (l : Launch) (D : Dd) (A : Nat → Prop) (x : Nat) (Xp : Jr) (R0 : Heap → Prop) (d : Nat → Prop) (L : Nat × Nat × Nat × Nat) (Q : Ji) (T : Th) (hp : Pf D A x R0 d) (F : Nat) (out : Option Nat × Ji × Th) (hE : R_sum_6 F Xp Q T = some (.inr out)) : Ct l yX3_sum (ws_ yX3_sum cX3_sum 3 (some (.object "SleepWork$Sum"))) (rmA 25 541 L T) vwCl arTy D A [.ref (x + 9)] (RD D (RP D x Xp R0 Q) d L T) (RD D (RP D x Xp R0 out.2.1) d L out.2.2) (some (va_rf out.1)) (L.1 - tN T) (L.2.1 - tZ T) := by
  refine Ct.ofA (lv := [(0, .ref (x + 9))]) (by decide) (Nat.le_of_ble_eq_true rfl) rfl hp.1 hp.2.1 ?_
  intro X hl hX hR hXA _
  exact w_R_sum_6 (Xp := Xp) (out := .inr out) (hp.px hX hXA) hR F Q T hE
theorem ctx_R_sum_6 (l : Launch) (D : Dd) (A : Nat → Prop) (x : Nat) (Xp : Jr) (R0 : Heap → Prop) (d : Nat → Prop) (L : Nat × Nat × Nat × Nat) (Q : Ji) (T : Th) (hp : Pf D A x R0 d) (F : Nat) (e : Ji × Jr × Th) (hE : R_sum_6 F Xp Q T = some (.inl e)) : CtT l yX3_sum (ws_ yX3_sum cX3_sum 3 (some (.object "SleepWork$Sum"))) (rmA 25 541 L T) D A [.ref (x + 9)] (RD D (RP D x Xp R0 Q) d L T) (RD D (RP D x e.2.1 R0 e.1) d L e.2.2) (x + 1) (L.1 - tN T) (L.2.1 - tZ T) := by
  refine CtT.ofA (lv := [(0, .ref (x + 9))]) (by decide) (Nat.le_of_ble_eq_true rfl) rfl hp.1 hp.2.1 ?_
  intro X hl hX hR hXA
  exact w_R_sum_6 (Xp := Xp) (out := .inl e) (hp.px hX hXA) hR F Q T hE
theorem cw_R_sum_6_X3 {X : Ctx} {cc : ByteArray} {D : Dd} {d : Nat → Prop} {L : Nat × Nat × Nat × Nat} {mL fr lo : Nat} {T : Th} (hX : Ax X cc RX3 D d L mL fr lo) (h1 : 25 + 1 ≤ fr) (h2 : 8 + (3 + 11) + 541 ≤ lo) : CallW X.2.2.2.1 X.2.2.2.2.1 X.2.2.2.2.2.2.1 RX3 RX3 253 yX3_sum cX3_sum 3 (some (.object "SleepWork$Sum")) (ws_ yX3_sum cX3_sum 3 (some (.object "SleepWork$Sum"))) (rmA 25 541 L T) (L.1 - tN T) (L.2.1 - tZ T) 0 := cwV 0 (cx_w hX.1) (lw_V q1184 q1186 qs30 q120 q1187) rfl rfl rfl (by decide +kernel) (by rw [hX.2.2.2.1, hX.2.2.2.2.1]; exact ⟨h1, h2⟩)
set_option maxHeartbeats 4000000 in
theorem w_R_unit_7_B87 {X : Ctx} {D : Dd} {x : Nat} {R0 : Heap → Prop} {d : Nat → Prop} {L : Nat × Nat × Nat × Nat} {Xp : Jr} {out : (Ji × Jr × Th) ⊕ (Option Nat × Ji × Th)} (hP : Px X cX3_unit RX3 D x R0 d L 2 26 563) (hR : RtX X (some (.object "SleepWork$Sum")) D L x (fun r => (RD D (RP D x Xp R0 r.2.1) d L r.2.2)) (fun r => (some (va_rf r.1))) (fun e => RD D (RP D x e.2.1 R0 e.1) d L e.2.2) out) (F : Nat) (Q : Ji) (T : Th) (hE : R_unit_7_B87 F Xp Q T = some out) (c z : Nat) : Wk X c z (RD D (RP D x Xp R0 Q) d L T) 87 [(0, .ref (x + 9))] [] := by
  have hX := hP.1
  have hC := hX.1
  have hnL := hX.2.2.1
  have hSt : ∀ {Xp : Jr} {Q : Ji}, Stb (RP D x Xp R0 Q) d := hP.st
  have hDy : ∀ {Xp : Jr} {Q : Ji} {T : Th} (H : Heap), RD D (RP D x Xp R0 Q) d L T H → Dy D T H := fun _ h => h.2.1
  unfold R_unit_7_B87 at hE
  refine k_aload_n (pc := 87) hC dX3_unit_87 rfl 0 rfl ?_
  refine k_bipush (pc := 88) (v := 40) hC dX3_unit_88 (by decide) ?_
  rcases xb_of hE with ⟨e, h1, rfl⟩ | ⟨r12, h1, hE⟩
  · exact p_callVT (pc := 90) (As := [.int 40]) hP hR (ctx_R_isSign X.2.1 D (cxA X) x Xp R0 d L Q T (pxf hP) 40 e h1) (fun H h => p_fault hC.K h) (p_tt hX) (cw_R_isSign_X3 hX (Nat.le_of_ble_eq_true rfl) (Nat.le_of_ble_eq_true rfl)) (p_recv 9 lp_9 cl_X3 hP) rfl rfl (Nat.le_of_ble_eq_true rfl) dX3_unit_90
  refine a_callV (pc := 90) (As := [.int 40]) hX (ct_R_isSign X.2.1 D (cxA X) x Xp R0 d L Q T (pxf hP) 40 r12 h1) (cw_R_isSign_X3 hX (Nat.le_of_ble_eq_true rfl) (Nat.le_of_ble_eq_true rfl)) (p_recv 9 lp_9 cl_X3 hP) rfl rfl (Nat.le_of_ble_eq_true rfl) dX3_unit_90 (fun c z => ?_)
  show Wk X c z (RD D (RP D x Xp R0 r12.2.1) d L r12.2.2) 93 [(0, .ref (x + 9))] [.int r12.1]
  refine k_if_ne (pc := 93) (tgt := 102) hC dX3_unit_93 (by decide) hE (fun hE => ?_) (fun hE => ?_)
  · refine k_aload_n (pc := 96) hC dX3_unit_96 rfl 0 rfl ?_
    refine k_iconst (pc := 97) (v := 1) hC dX3_unit_97 (by decide) ?_
    obtain ⟨r13, h1, hE⟩ := ob_ hE
    refine a_callV (pc := 98) (As := [.int 1]) hX (ct_R_wrong X.2.1 D (cxA X) x Xp R0 d L r12.2.1 r12.2.2 (pxf hP) 1 r13 h1) (cw_R_wrong_X3 hX (Nat.le_of_ble_eq_true rfl) (Nat.le_of_ble_eq_true rfl)) (p_recv 9 lp_9 cl_X3 hP) rfl rfl (Nat.le_of_ble_eq_true rfl) dX3_unit_98 (fun c z => ?_)
    show Wk X c z (RD D (RP D x Xp R0 r13) d L r12.2.2) 101 [(0, .ref (x + 9))] [.ref (x + 1)]
    cases hE
    exact p_athrow (pc := 101) hP hR dX3_unit_101 (fun _ h => h)
  · refine k_aload_n (pc := 102) hC dX3_unit_102 rfl 0 rfl ?_
    refine gP_X3_99 (pc := 103) hP dX3_unit_103 ?_
    refine k_bipush (pc := 106) (v := 6) hC dX3_unit_106 (by decide) ?_
    refine k_icmp_ne (pc := 108) (tgt := 117) hC dX3_unit_108 (by decide) hE (fun hE => ?_) (fun hE => ?_)
    · refine k_aload_n (pc := 111) hC dX3_unit_111 rfl 0 rfl ?_
      refine k_iconst (pc := 112) (v := 2) hC dX3_unit_112 (by decide) ?_
      obtain ⟨r14, h1, hE⟩ := ob_ hE
      refine a_callV (pc := 113) (As := [.int 2]) hX (ct_R_wrong X.2.1 D (cxA X) x Xp R0 d L r12.2.1 r12.2.2 (pxf hP) 2 r14 h1) (cw_R_wrong_X3 hX (Nat.le_of_ble_eq_true rfl) (Nat.le_of_ble_eq_true rfl)) (p_recv 9 lp_9 cl_X3 hP) rfl rfl (Nat.le_of_ble_eq_true rfl) dX3_unit_113 (fun c z => ?_)
      show Wk X c z (RD D (RP D x Xp R0 r14) d L r12.2.2) 116 [(0, .ref (x + 9))] [.ref (x + 1)]
      cases hE
      exact p_athrow (pc := 116) hP hR dX3_unit_116 (fun _ h => h)
    · refine k_aload_n (pc := 117) hC dX3_unit_117 rfl 0 rfl ?_
      refine k_dup (pc := 118) hC dX3_unit_118 rfl ?_
      refine gP_X3_99 (pc := 119) hP dX3_unit_119 ?_
      refine k_iconst (pc := 122) (v := 1) hC dX3_unit_122 (by decide) ?_
      refine k_iadd (pc := 123) hC dX3_unit_123 ?_
      refine pP_X3_99 (pc := 124) hP dX3_unit_124 hE (fun Q15 hE => ?_)
      refine k_aload_n (pc := 127) hC dX3_unit_127 rfl 0 rfl ?_
      rcases xb_of hE with ⟨e, h1, rfl⟩ | ⟨r16, h1, hE⟩
      · exact p_callVT (pc := 128) (As := []) hP hR (ctx_R_pass X.2.1 D (cxA X) x Xp R0 d L Q15 r12.2.2 (pxf hP)  e h1) (fun H h => p_fault hC.K h) (p_tt hX) (cw_R_pass_X3 hX (Nat.le_of_ble_eq_true rfl) (Nat.le_of_ble_eq_true rfl)) (p_recv 9 lp_9 cl_X3 hP) rfl rfl (Nat.le_of_ble_eq_true rfl) dX3_unit_128
      refine a_callV (pc := 128) (As := []) hX (ct_R_pass X.2.1 D (cxA X) x Xp R0 d L Q15 r12.2.2 (pxf hP)  r16 h1) (cw_R_pass_X3 hX (Nat.le_of_ble_eq_true rfl) (Nat.le_of_ble_eq_true rfl)) (p_recv 9 lp_9 cl_X3 hP) rfl rfl (Nat.le_of_ble_eq_true rfl) dX3_unit_128 (fun c z => ?_)
      show Wk X c z (RD D (RP D x Xp R0 r16.1) d L r16.2) 131 [(0, .ref (x + 9))] []
      refine k_aload_n (pc := 131) hC dX3_unit_131 rfl 0 rfl ?_
      rcases xb_of hE with ⟨e, h1, rfl⟩ | ⟨r17, h1, hE⟩
      · exact p_callVT (pc := 132) (As := []) hP hR (ctx_R_sum_6 X.2.1 D (cxA X) x Xp R0 d L r16.1 r16.2 (pxf hP) F e h1) (fun H h => p_fault hC.K h) (p_tt hX) (cw_R_sum_6_X3 hX (Nat.le_of_ble_eq_true rfl) (Nat.le_of_ble_eq_true rfl)) (p_recv 9 lp_9 cl_X3 hP) rfl rfl (Nat.le_of_ble_eq_true rfl) dX3_unit_132
      refine a_callV (pc := 132) (As := []) hX (ct_R_sum_6 X.2.1 D (cxA X) x Xp R0 d L r16.1 r16.2 (pxf hP) F r17 h1) (cw_R_sum_6_X3 hX (Nat.le_of_ble_eq_true rfl) (Nat.le_of_ble_eq_true rfl)) (p_recv 9 lp_9 cl_X3 hP) rfl rfl (Nat.le_of_ble_eq_true rfl) dX3_unit_132 (fun c z => ?_)
      show Wk X c z (RD D (RP D x Xp R0 r17.2.1) d L r17.2.2) 135 [(0, .ref (x + 9))] [va_rf r17.1]
      refine k_astoreR_n (pc := 135) (lv' := [(1, va_rf r17.1), (0, .ref (x + 9))]) hC dX3_unit_135 rfl (by rw [hnL]; decide) rfl ?_
      refine k_aload_n (pc := 136) hC dX3_unit_136 rfl 1 rfl ?_
      refine k_bipush (pc := 137) (v := 41) hC dX3_unit_137 (by decide) ?_
      rcases xb_of hE with ⟨e, h1, rfl⟩ | ⟨r18, h1, hE⟩
      · exact p_callVT (pc := 139) (As := [.int 41]) hP hR (ctx_R_sign X.2.1 D (cxA X) x Xp R0 d L r17.2.1 r17.2.2 (pxf hP) 41 e h1) (fun H h => p_fault hC.K h) (p_tt hX) (cw_R_sign_X3 hX (Nat.le_of_ble_eq_true rfl) (Nat.le_of_ble_eq_true rfl)) (p_recv 9 lp_9 cl_X3 hP) rfl rfl (Nat.le_of_ble_eq_true rfl) dX3_unit_139
      refine a_callV (pc := 139) (As := [.int 41]) hX (ct_R_sign X.2.1 D (cxA X) x Xp R0 d L r17.2.1 r17.2.2 (pxf hP) 41 r18 h1) (cw_R_sign_X3 hX (Nat.le_of_ble_eq_true rfl) (Nat.le_of_ble_eq_true rfl)) (p_recv 9 lp_9 cl_X3 hP) rfl rfl (Nat.le_of_ble_eq_true rfl) dX3_unit_139 (fun c z => ?_)
      show Wk X c z (RD D (RP D x Xp R0 r18.1) d L r18.2) 142 [(1, va_rf r17.1), (0, .ref (x + 9))] []
      refine k_aload_n (pc := 142) hC dX3_unit_142 rfl 1 rfl ?_
      refine k_dup (pc := 143) hC dX3_unit_143 rfl ?_
      refine gP_X3_99 (pc := 144) hP dX3_unit_144 ?_
      refine k_iconst (pc := 147) (v := 1) hC dX3_unit_147 (by decide) ?_
      refine k_isub (pc := 148) hC dX3_unit_148 ?_
      refine pP_X3_99 (pc := 149) hP dX3_unit_149 hE (fun Q19 hE => ?_)
      refine k_aloadR_n (pc := 152) hC dX3_unit_152 rfl 0 rfl ?_
      cases hE
      exact a_aret (pc := 153) (v := va_rf _) (rt := (.object "SleepWork$Sum")) (by first | exact Or.inl ⟨_, rfl⟩ | exact Or.inr ⟨_, rfl⟩) (va_rfv _) hX hR dX3_unit_153 (by rfl) (fun _ h => h)
set_option maxHeartbeats 4000000 in
theorem w_R_unit_7 {X : Ctx} {D : Dd} {x : Nat} {R0 : Heap → Prop} {d : Nat → Prop} {L : Nat × Nat × Nat × Nat} {Xp : Jr} {out : (Ji × Jr × Th) ⊕ (Option Nat × Ji × Th)} (hP : Px X cX3_unit RX3 D x R0 d L 2 26 563) (hR : RtX X (some (.object "SleepWork$Sum")) D L x (fun r => (RD D (RP D x Xp R0 r.2.1) d L r.2.2)) (fun r => (some (va_rf r.1))) (fun e => RD D (RP D x e.2.1 R0 e.1) d L e.2.2) out) (F : Nat) (Q : Ji) (T : Th) (hE : R_unit_7 F Xp Q T = some out) (c z : Nat) : Wk X c z (RD D (RP D x Xp R0 Q) d L T) 0 [(0, .ref (x + 9))] [] := by
  have hX := hP.1
  have hC := hX.1
  have hnL := hX.2.2.1
  have hSt : ∀ {Xp : Jr} {Q : Ji}, Stb (RP D x Xp R0 Q) d := hP.st
  have hDy : ∀ {Xp : Jr} {Q : Ji} {T : Th} (H : Heap), RD D (RP D x Xp R0 Q) d L T H → Dy D T H := fun _ h => h.2.1
  unfold R_unit_7 at hE
  refine k_aload_n (pc := 0) hC dX3_unit_0 rfl 0 rfl ?_
  rcases xb_of hE with ⟨e, h1, rfl⟩ | ⟨r1, h1, hE⟩
  · exact p_callVT (pc := 1) (As := []) hP hR (ctx_R_sort X.2.1 D (cxA X) x Xp R0 d L Q T (pxf hP)  e h1) (fun H h => p_fault hC.K h) (p_tt hX) (cw_R_sort_X3 hX (Nat.le_of_ble_eq_true rfl) (Nat.le_of_ble_eq_true rfl)) (p_recv 9 lp_9 cl_X3 hP) rfl rfl (Nat.le_of_ble_eq_true rfl) dX3_unit_1
  refine a_callV (pc := 1) (As := []) hX (ct_R_sort X.2.1 D (cxA X) x Xp R0 d L Q T (pxf hP)  r1 h1) (cw_R_sort_X3 hX (Nat.le_of_ble_eq_true rfl) (Nat.le_of_ble_eq_true rfl)) (p_recv 9 lp_9 cl_X3 hP) rfl rfl (Nat.le_of_ble_eq_true rfl) dX3_unit_1 (fun c z => ?_)
  show Wk X c z (RD D (RP D x Xp R0 r1.2.1) d L r1.2.2) 4 [(0, .ref (x + 9))] [.int r1.1]
  refine k_iconst (pc := 4) (v := 1) hC dX3_unit_4 (by decide) ?_
  refine k_icmp_ne (pc := 5) (tgt := 33) hC dX3_unit_5 (by decide) hE (fun hE => ?_) (fun hE => ?_)
  · refine k_aload_n (pc := 8) hC dX3_unit_8 rfl 0 rfl ?_
    rcases xb_of hE with ⟨e, h1, rfl⟩ | ⟨r2, h1, hE⟩
    · exact p_callVT (pc := 9) (As := []) hP hR (ctx_R_pass X.2.1 D (cxA X) x Xp R0 d L r1.2.1 r1.2.2 (pxf hP)  e h1) (fun H h => p_fault hC.K h) (p_tt hX) (cw_R_pass_X3 hX (Nat.le_of_ble_eq_true rfl) (Nat.le_of_ble_eq_true rfl)) (p_recv 9 lp_9 cl_X3 hP) rfl rfl (Nat.le_of_ble_eq_true rfl) dX3_unit_9
    refine a_callV (pc := 9) (As := []) hX (ct_R_pass X.2.1 D (cxA X) x Xp R0 d L r1.2.1 r1.2.2 (pxf hP)  r2 h1) (cw_R_pass_X3 hX (Nat.le_of_ble_eq_true rfl) (Nat.le_of_ble_eq_true rfl)) (p_recv 9 lp_9 cl_X3 hP) rfl rfl (Nat.le_of_ble_eq_true rfl) dX3_unit_9 (fun c z => ?_)
    show Wk X c z (RD D (RP D x Xp R0 r2.1) d L r2.2) 12 [(0, .ref (x + 9))] []
    refine a_new (pc := 12) hX hSt cl_X18 in_X18 tyX18 tyX18_ok dv_X18 q1196 q1197 q149 dX3_unit_12 hE (fun T3 eT3 hE c z => ?_)
    refine k_dup (pc := 15) hC dX3_unit_15 rfl ?_
    refine k_aload_n (pc := 16) hC dX3_unit_16 rfl 0 rfl ?_
    refine gP_X3_9 (pc := 17) hP dX3_unit_17 ?_
    refine k_aload_n (pc := 20) hC dX3_unit_20 rfl 0 rfl ?_
    refine gP_X3_31 (pc := 21) hP dX3_unit_21 ?_
    refine k_iconst (pc := 24) (v := 1) hC dX3_unit_24 (by decide) ?_
    refine k_isub (pc := 25) hC dX3_unit_25 ?_
    obtain ⟨r4, h1, hE⟩ := ob_ hE
    refine a_callV (pc := 26) (As := [.int ((r2.1 9 3) - 1)]) hX (ct_T_number X.2.1 D (cxA X) x Xp R0 d L r2.1 T3 (pxf hP) F ((r2.1 9 3) - 1) r4 h1) (cw_T_number_X3 hX (Nat.le_of_ble_eq_true rfl) (Nat.le_of_ble_eq_true rfl)) (p_recv 2 lp_2 cl_X2 hP) rfl rfl (Nat.le_of_ble_eq_true rfl) dX3_unit_26 (fun c z => ?_)
    show Wk X c z (RD D (RP D x Xp R0 r2.1) d L T3) 29 [(0, .ref (x + 9))] [.int r4, .ref (tN r2.2), .ref (tN r2.2)]
    obtain ⟨r5, h1, hE⟩ := ob_ hE
    refine a_callI (pc := 29) (As := [.int r4]) hX (ct_A_Number X.2.1 D (cxA X) (RP D x Xp R0 r2.1) d L T3 hSt hX.2.1 hX.2.2.2.2.2.2.2.2.2 (tN r2.2) r4 r5 h1) (cw_A_Number_X3 hX (Nat.le_of_ble_eq_true rfl) (Nat.le_of_ble_eq_true rfl)) rfl rfl (Nat.le_of_ble_eq_true rfl) dX3_unit_29 (fun c z => ?_)
    show Wk X c z (RD D (RP D x Xp R0 r2.1) d L r5) 32 [(0, .ref (x + 9))] [.ref (tN r2.2)]
    cases hE
    exact a_aret (pc := 32) (v := va_rf _) (rt := (.object "SleepWork$Sum")) (by first | exact Or.inl ⟨_, rfl⟩ | exact Or.inr ⟨_, rfl⟩) (va_rfv _) hX hR dX3_unit_32 (by rfl) (fun _ h => h)
  · refine k_aload_n (pc := 33) hC dX3_unit_33 rfl 0 rfl ?_
    rcases xb_of hE with ⟨e, h1, rfl⟩ | ⟨r6, h1, hE⟩
    · exact p_callVT (pc := 34) (As := []) hP hR (ctx_R_sort X.2.1 D (cxA X) x Xp R0 d L r1.2.1 r1.2.2 (pxf hP)  e h1) (fun H h => p_fault hC.K h) (p_tt hX) (cw_R_sort_X3 hX (Nat.le_of_ble_eq_true rfl) (Nat.le_of_ble_eq_true rfl)) (p_recv 9 lp_9 cl_X3 hP) rfl rfl (Nat.le_of_ble_eq_true rfl) dX3_unit_34
    refine a_callV (pc := 34) (As := []) hX (ct_R_sort X.2.1 D (cxA X) x Xp R0 d L r1.2.1 r1.2.2 (pxf hP)  r6 h1) (cw_R_sort_X3 hX (Nat.le_of_ble_eq_true rfl) (Nat.le_of_ble_eq_true rfl)) (p_recv 9 lp_9 cl_X3 hP) rfl rfl (Nat.le_of_ble_eq_true rfl) dX3_unit_34 (fun c z => ?_)
    show Wk X c z (RD D (RP D x Xp R0 r6.2.1) d L r6.2.2) 37 [(0, .ref (x + 9))] [.int r6.1]
    refine k_iconst (pc := 37) (v := 3) hC dX3_unit_37 (by decide) ?_
    refine k_icmp_ne (pc := 38) (tgt := 87) hC dX3_unit_38 (by decide) hE (fun hE => ?_) (fun hE => ?_)
    · refine k_aload_n (pc := 41) hC dX3_unit_41 rfl 0 rfl ?_
      refine gP_X3_9 (pc := 42) hP dX3_unit_42 ?_
      refine gP_X3_52 (pc := 45) hP dX3_unit_45 ?_
      refine k_aload_n (pc := 48) hC dX3_unit_48 rfl 0 rfl ?_
      refine gP_X3_31 (pc := 49) hP dX3_unit_49 ?_
      refine p_sald (pc := 52) 8 lp_8 hP dX3_unit_52 hE (fun x7 hE => ?_)
      refine k_bipush (pc := 53) (v := 15) hC dX3_unit_53 (by decide) ?_
      refine k_icmp_lt (pc := 55) (tgt := 87) hC dX3_unit_55 (by decide) hE (fun hE => ?_) (fun hE => ?_)
      · exact w_R_unit_7_B87 hP hR F _ _ hE _ _
      · refine k_aload_n (pc := 58) hC dX3_unit_58 rfl 0 rfl ?_
        rcases xb_of hE with ⟨e, h1, rfl⟩ | ⟨r8, h1, hE⟩
        · exact p_callVT (pc := 59) (As := []) hP hR (ctx_R_pass X.2.1 D (cxA X) x Xp R0 d L r6.2.1 r6.2.2 (pxf hP)  e h1) (fun H h => p_fault hC.K h) (p_tt hX) (cw_R_pass_X3 hX (Nat.le_of_ble_eq_true rfl) (Nat.le_of_ble_eq_true rfl)) (p_recv 9 lp_9 cl_X3 hP) rfl rfl (Nat.le_of_ble_eq_true rfl) dX3_unit_59
        refine a_callV (pc := 59) (As := []) hX (ct_R_pass X.2.1 D (cxA X) x Xp R0 d L r6.2.1 r6.2.2 (pxf hP)  r8 h1) (cw_R_pass_X3 hX (Nat.le_of_ble_eq_true rfl) (Nat.le_of_ble_eq_true rfl)) (p_recv 9 lp_9 cl_X3 hP) rfl rfl (Nat.le_of_ble_eq_true rfl) dX3_unit_59 (fun c z => ?_)
        show Wk X c z (RD D (RP D x Xp R0 r8.1) d L r8.2) 62 [(0, .ref (x + 9))] []
        refine a_new (pc := 62) hX hSt cl_X19 in_X19 tyX19 tyX19_ok dv_X19 q1209 q1210 q150 dX3_unit_62 hE (fun T9 eT9 hE c z => ?_)
        refine k_dup (pc := 65) hC dX3_unit_65 rfl ?_
        refine k_aload_n (pc := 66) hC dX3_unit_66 rfl 0 rfl ?_
        refine gP_X3_9 (pc := 67) hP dX3_unit_67 ?_
        refine gP_X3_52 (pc := 70) hP dX3_unit_70 ?_
        refine k_aload_n (pc := 73) hC dX3_unit_73 rfl 0 rfl ?_
        refine gP_X3_31 (pc := 74) hP dX3_unit_74 ?_
        refine k_iconst (pc := 77) (v := 1) hC dX3_unit_77 (by decide) ?_
        refine k_isub (pc := 78) hC dX3_unit_78 ?_
        refine p_sald (pc := 79) 8 lp_8 hP dX3_unit_79 hE (fun x10 hE => ?_)
        refine k_bipush (pc := 80) (v := 15) hC dX3_unit_80 (by decide) ?_
        refine k_isub (pc := 82) hC dX3_unit_82 ?_
        obtain ⟨r11, h1, hE⟩ := ob_ hE
        refine a_callI (pc := 83) (As := [.int (x10 - 15)]) hX (ct_A_Var X.2.1 D (cxA X) (RP D x Xp R0 r8.1) d L T9 hSt hX.2.1 hX.2.2.2.2.2.2.2.2.2 (tN r8.2) (x10 - 15) r11 h1) (cw_A_Var_X3 hX (Nat.le_of_ble_eq_true rfl) (Nat.le_of_ble_eq_true rfl)) rfl rfl (Nat.le_of_ble_eq_true rfl) dX3_unit_83 (fun c z => ?_)
        show Wk X c z (RD D (RP D x Xp R0 r8.1) d L r11) 86 [(0, .ref (x + 9))] [.ref (tN r8.2)]
        cases hE
        exact a_aret (pc := 86) (v := va_rf _) (rt := (.object "SleepWork$Sum")) (by first | exact Or.inl ⟨_, rfl⟩ | exact Or.inr ⟨_, rfl⟩) (va_rfv _) hX hR dX3_unit_86 (by rfl) (fun _ h => h)
    · exact w_R_unit_7_B87 hP hR F _ _ hE _ _
theorem ct_R_unit_7 (l : Launch) (D : Dd) (A : Nat → Prop) (x : Nat) (Xp : Jr) (R0 : Heap → Prop) (d : Nat → Prop) (L : Nat × Nat × Nat × Nat) (Q : Ji) (T : Th) (hp : Pf D A x R0 d) (F : Nat) (out : Option Nat × Ji × Th) (hE : R_unit_7 F Xp Q T = some (.inr out)) : Ct l yX3_unit (ws_ yX3_unit cX3_unit 2 (some (.object "SleepWork$Sum"))) (rmA 26 563 L T) vwCl arTy D A [.ref (x + 9)] (RD D (RP D x Xp R0 Q) d L T) (RD D (RP D x Xp R0 out.2.1) d L out.2.2) (some (va_rf out.1)) (L.1 - tN T) (L.2.1 - tZ T) := by
  refine Ct.ofA (lv := [(0, .ref (x + 9))]) (by decide) (Nat.le_of_ble_eq_true rfl) rfl hp.1 hp.2.1 ?_
  intro X hl hX hR hXA _
  exact w_R_unit_7 (Xp := Xp) (out := .inr out) (hp.px hX hXA) hR F Q T hE
theorem ctx_R_unit_7 (l : Launch) (D : Dd) (A : Nat → Prop) (x : Nat) (Xp : Jr) (R0 : Heap → Prop) (d : Nat → Prop) (L : Nat × Nat × Nat × Nat) (Q : Ji) (T : Th) (hp : Pf D A x R0 d) (F : Nat) (e : Ji × Jr × Th) (hE : R_unit_7 F Xp Q T = some (.inl e)) : CtT l yX3_unit (ws_ yX3_unit cX3_unit 2 (some (.object "SleepWork$Sum"))) (rmA 26 563 L T) D A [.ref (x + 9)] (RD D (RP D x Xp R0 Q) d L T) (RD D (RP D x e.2.1 R0 e.1) d L e.2.2) (x + 1) (L.1 - tN T) (L.2.1 - tZ T) := by
  refine CtT.ofA (lv := [(0, .ref (x + 9))]) (by decide) (Nat.le_of_ble_eq_true rfl) rfl hp.1 hp.2.1 ?_
  intro X hl hX hR hXA
  exact w_R_unit_7 (Xp := Xp) (out := .inl e) (hp.px hX hXA) hR F Q T hE
theorem cw_R_unit_7_X3 {X : Ctx} {cc : ByteArray} {D : Dd} {d : Nat → Prop} {L : Nat × Nat × Nat × Nat} {mL fr lo : Nat} {T : Th} (hX : Ax X cc RX3 D d L mL fr lo) (h1 : 26 + 1 ≤ fr) (h2 : 8 + (2 + 11) + 563 ≤ lo) : CallW X.2.2.2.1 X.2.2.2.2.1 X.2.2.2.2.2.2.1 RX3 RX3 277 yX3_unit cX3_unit 2 (some (.object "SleepWork$Sum")) (ws_ yX3_unit cX3_unit 2 (some (.object "SleepWork$Sum"))) (rmA 26 563 L T) (L.1 - tN T) (L.2.1 - tZ T) 0 := cwV 0 (cx_w hX.1) (lw_V q1192 q1194 qs32 q120 q1195) rfl rfl rfl (by decide +kernel) (by rw [hX.2.2.2.1, hX.2.2.2.2.1]; exact ⟨h1, h2⟩)
set_option maxHeartbeats 4000000 in
theorem w_R_part_7_B23 {X : Ctx} {D : Dd} {x : Nat} {R0 : Heap → Prop} {d : Nat → Prop} {L : Nat × Nat × Nat × Nat} {Xp : Jr} {out : (Ji × Jr × Th) ⊕ (Option Nat × Ji × Th)} (hP : Px X cX3_part RX3 D x R0 d L 3 27 584) (hR : RtX X (some (.object "SleepWork$Sum")) D L x (fun r => (RD D (RP D x Xp R0 r.2.1) d L r.2.2)) (fun r => (some (va_rf r.1))) (fun e => RD D (RP D x e.2.1 R0 e.1) d L e.2.2) out) (F : Nat) (k5 : Option Nat → Ji → Th → Option ((Ji × Jr × Th) ⊕ (Option Nat × Ji × Th))) (hk5 : ∀ (a1 : Option Nat) (Q : Ji) (T : Th) , k5 a1 Q T = some out → ∀ c z, Wk X c z (RD D (RP D x Xp R0 Q) d L T) 5 [(0, .ref (x + 9)), (1, va_rf a1)] []) (a1 : Option Nat) (Q : Ji) (T : Th) (hE : R_part_7_B23 F k5 Xp a1 Q T = some out) (c z : Nat) : Wk X c z (RD D (RP D x Xp R0 Q) d L T) 23 [(0, .ref (x + 9)), (1, va_rf a1)] [] := by
  have hX := hP.1
  have hC := hX.1
  have hnL := hX.2.2.1
  have hSt : ∀ {Xp : Jr} {Q : Ji}, Stb (RP D x Xp R0 Q) d := hP.st
  have hDy : ∀ {Xp : Jr} {Q : Ji} {T : Th} (H : Heap), RD D (RP D x Xp R0 Q) d L T H → Dy D T H := fun _ h => h.2.1
  unfold R_part_7_B23 at hE
  refine k_aload_n (pc := 23) hC dX3_part_23 rfl 0 rfl ?_
  refine gP_X3_9 (pc := 24) hP dX3_part_24 ?_
  refine gP_X3_52 (pc := 27) hP dX3_part_27 ?_
  refine k_aload_n (pc := 30) hC dX3_part_30 rfl 0 rfl ?_
  refine gP_X3_31 (pc := 31) hP dX3_part_31 ?_
  refine p_sald (pc := 34) 8 lp_8 hP dX3_part_34 hE (fun x4 hE => ?_)
  refine k_istore_n (pc := 35) (lv' := [(2, .int x4), (0, .ref (x + 9)), (1, va_rf a1)]) hC dX3_part_35 rfl (by rw [hnL]; decide) (by cases a1 <;> rfl) ?_
  refine k_aload_n (pc := 36) hC dX3_part_36 rfl 1 rfl ?_
  rcases xb_of hE with ⟨e, h1, rfl⟩ | ⟨r5, h1, hE⟩
  · exact p_callVT (pc := 37) (As := []) hP hR (ctx_R_pass X.2.1 D (cxA X) x Xp R0 d L Q T (pxf hP)  e h1) (fun H h => p_fault hC.K h) (p_tt hX) (cw_R_pass_X3 hX (Nat.le_of_ble_eq_true rfl) (Nat.le_of_ble_eq_true rfl)) (p_recv 9 lp_9 cl_X3 hP) rfl rfl (Nat.le_of_ble_eq_true rfl) dX3_part_37
  refine a_callV (pc := 37) (As := []) hX (ct_R_pass X.2.1 D (cxA X) x Xp R0 d L Q T (pxf hP)  r5 h1) (cw_R_pass_X3 hX (Nat.le_of_ble_eq_true rfl) (Nat.le_of_ble_eq_true rfl)) (p_recv 9 lp_9 cl_X3 hP) rfl rfl (Nat.le_of_ble_eq_true rfl) dX3_part_37 (fun c z => ?_)
  show Wk X c z (RD D (RP D x Xp R0 r5.1) d L r5.2) 40 [(2, .int x4), (0, .ref (x + 9)), (1, va_rf a1)] []
  refine a_new (pc := 40) hX hSt cl_X20 in_X20 tyX20 tyX20_ok dv_X20 q1219 q1220 q151 dX3_part_40 hE (fun T6 eT6 hE c z => ?_)
  refine k_dup (pc := 43) hC dX3_part_43 rfl ?_
  refine k_iload_n (pc := 44) hC dX3_part_44 rfl 0 rfl ?_
  refine k_aloadR_n (pc := 45) hC dX3_part_45 rfl 2 rfl ?_
  refine k_aload_n (pc := 46) hC dX3_part_46 rfl 1 rfl ?_
  rcases xb_of hE with ⟨e, h1, rfl⟩ | ⟨r7, h1, hE⟩
  · exact p_callVT (pc := 47) (As := []) hP hR (ctx_R_unit_7 X.2.1 D (cxA X) x Xp R0 d L r5.1 T6 (pxf hP) F e h1) (fun H h => p_fault hC.K h) (p_tt hX) (cw_R_unit_7_X3 hX (Nat.le_of_ble_eq_true rfl) (Nat.le_of_ble_eq_true rfl)) (p_recv 9 lp_9 cl_X3 hP) rfl rfl (by cases a1 <;> exact Nat.le_of_ble_eq_true rfl) dX3_part_47
  refine a_callV (pc := 47) (As := []) hX (ct_R_unit_7 X.2.1 D (cxA X) x Xp R0 d L r5.1 T6 (pxf hP) F r7 h1) (cw_R_unit_7_X3 hX (Nat.le_of_ble_eq_true rfl) (Nat.le_of_ble_eq_true rfl)) (p_recv 9 lp_9 cl_X3 hP) rfl rfl (by cases a1 <;> exact Nat.le_of_ble_eq_true rfl) dX3_part_47 (fun c z => ?_)
  show Wk X c z (RD D (RP D x Xp R0 r7.2.1) d L r7.2.2) 50 [(2, .int x4), (0, .ref (x + 9)), (1, va_rf a1)] [va_rf r7.1, va_rf a1, .int x4, .ref (tN r5.2), .ref (tN r5.2)]
  refine k_nn (G := fun z => Wk X _ _ (RD D (RP D x Xp R0 r7.2.1) d L r7.2.2) 50 [(2, .int x4), (0, .ref (x + 9)), (1, va_rf a1)] [z, va_rf a1, .int x4, .ref (tN r5.2), .ref (tN r5.2)]) hE (fun b8 hE => ?_)
  refine k_nn (G := fun z => Wk X _ _ (RD D (RP D x Xp R0 r7.2.1) d L r7.2.2) 50 [(2, .int x4), (0, .ref (x + 9)), (1, z)] [.ref b8, z, .int x4, .ref (tN r5.2), .ref (tN r5.2)]) hE (fun b9 hE => ?_)
  obtain ⟨r10, h1, hE⟩ := ob_ hE
  refine a_callI (pc := 50) (As := [.int x4, .ref b9, .ref b8]) hX (ct_A_Joined X.2.1 D (cxA X) (RP D x Xp R0 r7.2.1) d L r7.2.2 hSt hX.2.1 hX.2.2.2.2.2.2.2.2.2 (tN r5.2) x4 b9 b8 r10 h1) (cw_A_Joined_X3 hX (Nat.le_of_ble_eq_true rfl) (Nat.le_of_ble_eq_true rfl)) rfl rfl (Nat.le_of_ble_eq_true rfl) dX3_part_50 (fun c z => ?_)
  show Wk X c z (RD D (RP D x Xp R0 r7.2.1) d L r10) 53 [(2, .int x4), (0, .ref (x + 9)), (1, .ref b9)] [.ref (tN r5.2)]
  refine k_astore_n (pc := 53) (lv' := [(1, .ref (tN r5.2)), (2, .int x4), (0, .ref (x + 9))]) hC dX3_part_53 rfl (by rw [hnL]; decide) rfl ?_
  refine k_goto (pc := 54) (tgt := 5) hC dX3_part_54 (by decide) ?_
  refine k_sub [2, 0] rfl ?_
  exact hk5 _ _ _ hE _ _
set_option maxHeartbeats 4000000 in
theorem w_R_part_7_B5 {X : Ctx} {D : Dd} {x : Nat} {R0 : Heap → Prop} {d : Nat → Prop} {L : Nat × Nat × Nat × Nat} {Xp : Jr} {out : (Ji × Jr × Th) ⊕ (Option Nat × Ji × Th)} (hP : Px X cX3_part RX3 D x R0 d L 3 27 584) (hR : RtX X (some (.object "SleepWork$Sum")) D L x (fun r => (RD D (RP D x Xp R0 r.2.1) d L r.2.2)) (fun r => (some (va_rf r.1))) (fun e => RD D (RP D x e.2.1 R0 e.1) d L e.2.2) out) (F : Nat) (k5 : Option Nat → Ji → Th → Option ((Ji × Jr × Th) ⊕ (Option Nat × Ji × Th))) (hk5 : ∀ (a1 : Option Nat) (Q : Ji) (T : Th) , k5 a1 Q T = some out → ∀ c z, Wk X c z (RD D (RP D x Xp R0 Q) d L T) 5 [(0, .ref (x + 9)), (1, va_rf a1)] []) (a1 : Option Nat) (Q : Ji) (T : Th) (hE : R_part_7_B5 F k5 Xp a1 Q T = some out) (c z : Nat) : Wk X c z (RD D (RP D x Xp R0 Q) d L T) 5 [(0, .ref (x + 9)), (1, va_rf a1)] [] := by
  have hX := hP.1
  have hC := hX.1
  have hnL := hX.2.2.1
  have hSt : ∀ {Xp : Jr} {Q : Ji}, Stb (RP D x Xp R0 Q) d := hP.st
  have hDy : ∀ {Xp : Jr} {Q : Ji} {T : Th} (H : Heap), RD D (RP D x Xp R0 Q) d L T H → Dy D T H := fun _ h => h.2.1
  unfold R_part_7_B5 at hE
  refine k_aload_n (pc := 5) hC dX3_part_5 rfl 0 rfl ?_
  refine k_bipush (pc := 6) (v := 42) hC dX3_part_6 (by decide) ?_
  rcases xb_of hE with ⟨e, h1, rfl⟩ | ⟨r2, h1, hE⟩
  · exact p_callVT (pc := 8) (As := [.int 42]) hP hR (ctx_R_isSign X.2.1 D (cxA X) x Xp R0 d L Q T (pxf hP) 42 e h1) (fun H h => p_fault hC.K h) (p_tt hX) (cw_R_isSign_X3 hX (Nat.le_of_ble_eq_true rfl) (Nat.le_of_ble_eq_true rfl)) (p_recv 9 lp_9 cl_X3 hP) rfl rfl (Nat.le_of_ble_eq_true rfl) dX3_part_8
  refine a_callV (pc := 8) (As := [.int 42]) hX (ct_R_isSign X.2.1 D (cxA X) x Xp R0 d L Q T (pxf hP) 42 r2 h1) (cw_R_isSign_X3 hX (Nat.le_of_ble_eq_true rfl) (Nat.le_of_ble_eq_true rfl)) (p_recv 9 lp_9 cl_X3 hP) rfl rfl (Nat.le_of_ble_eq_true rfl) dX3_part_8 (fun c z => ?_)
  show Wk X c z (RD D (RP D x Xp R0 r2.2.1) d L r2.2.2) 11 [(0, .ref (x + 9)), (1, va_rf a1)] [.int r2.1]
  refine k_if_ne (pc := 11) (tgt := 23) hC dX3_part_11 (by decide) hE (fun hE => ?_) (fun hE => ?_)
  · refine k_aload_n (pc := 14) hC dX3_part_14 rfl 0 rfl ?_
    refine k_bipush (pc := 15) (v := 47) hC dX3_part_15 (by decide) ?_
    rcases xb_of hE with ⟨e, h1, rfl⟩ | ⟨r3, h1, hE⟩
    · exact p_callVT (pc := 17) (As := [.int 47]) hP hR (ctx_R_isSign X.2.1 D (cxA X) x Xp R0 d L r2.2.1 r2.2.2 (pxf hP) 47 e h1) (fun H h => p_fault hC.K h) (p_tt hX) (cw_R_isSign_X3 hX (Nat.le_of_ble_eq_true rfl) (Nat.le_of_ble_eq_true rfl)) (p_recv 9 lp_9 cl_X3 hP) rfl rfl (Nat.le_of_ble_eq_true rfl) dX3_part_17
    refine a_callV (pc := 17) (As := [.int 47]) hX (ct_R_isSign X.2.1 D (cxA X) x Xp R0 d L r2.2.1 r2.2.2 (pxf hP) 47 r3 h1) (cw_R_isSign_X3 hX (Nat.le_of_ble_eq_true rfl) (Nat.le_of_ble_eq_true rfl)) (p_recv 9 lp_9 cl_X3 hP) rfl rfl (Nat.le_of_ble_eq_true rfl) dX3_part_17 (fun c z => ?_)
    show Wk X c z (RD D (RP D x Xp R0 r3.2.1) d L r3.2.2) 20 [(0, .ref (x + 9)), (1, va_rf a1)] [.int r3.1]
    refine k_if_eq (pc := 20) (tgt := 57) hC dX3_part_20 (by decide) hE (fun hE => ?_) (fun hE => ?_)
    · refine k_aloadR_n (pc := 57) hC dX3_part_57 rfl 1 rfl ?_
      cases hE
      exact a_aret (pc := 58) (v := va_rf _) (rt := (.object "SleepWork$Sum")) (by first | exact Or.inl ⟨_, rfl⟩ | exact Or.inr ⟨_, rfl⟩) (va_rfv _) hX hR dX3_part_58 (by rfl) (fun _ h => h)
    · exact w_R_part_7_B23 hP hR F k5 hk5 _ _ _ hE _ _
  · exact w_R_part_7_B23 hP hR F k5 hk5 _ _ _ hE _ _
theorem w_R_part_7_L5 {X : Ctx} {D : Dd} {x : Nat} {R0 : Heap → Prop} {d : Nat → Prop} {L : Nat × Nat × Nat × Nat} {Xp : Jr} {out : (Ji × Jr × Th) ⊕ (Option Nat × Ji × Th)} (hP : Px X cX3_part RX3 D x R0 d L 3 27 584) (hR : RtX X (some (.object "SleepWork$Sum")) D L x (fun r => (RD D (RP D x Xp R0 r.2.1) d L r.2.2)) (fun r => (some (va_rf r.1))) (fun e => RD D (RP D x e.2.1 R0 e.1) d L e.2.2) out) (F : Nat) (n : Nat) : ∀ (a1 : Option Nat) (Q : Ji) (T : Th) , R_part_7_L5 F Xp n a1 Q T = some out → ∀ c z, Wk X c z (RD D (RP D x Xp R0 Q) d L T) 5 [(0, .ref (x + 9)), (1, va_rf a1)] [] := by
  induction n with
  | zero => intro a1 Q T h; cases h
  | succ n ih => intro a1 Q T h; exact w_R_part_7_B5 hP hR F (R_part_7_L5 F Xp n) ih a1 Q T h
set_option maxHeartbeats 4000000 in
theorem w_R_part_7 {X : Ctx} {D : Dd} {x : Nat} {R0 : Heap → Prop} {d : Nat → Prop} {L : Nat × Nat × Nat × Nat} {Xp : Jr} {out : (Ji × Jr × Th) ⊕ (Option Nat × Ji × Th)} (hP : Px X cX3_part RX3 D x R0 d L 3 27 584) (hR : RtX X (some (.object "SleepWork$Sum")) D L x (fun r => (RD D (RP D x Xp R0 r.2.1) d L r.2.2)) (fun r => (some (va_rf r.1))) (fun e => RD D (RP D x e.2.1 R0 e.1) d L e.2.2) out) (F : Nat) (Q : Ji) (T : Th) (hE : R_part_7 F Xp Q T = some out) (c z : Nat) : Wk X c z (RD D (RP D x Xp R0 Q) d L T) 0 [(0, .ref (x + 9))] [] := by
  have hX := hP.1
  have hC := hX.1
  have hnL := hX.2.2.1
  have hSt : ∀ {Xp : Jr} {Q : Ji}, Stb (RP D x Xp R0 Q) d := hP.st
  have hDy : ∀ {Xp : Jr} {Q : Ji} {T : Th} (H : Heap), RD D (RP D x Xp R0 Q) d L T H → Dy D T H := fun _ h => h.2.1
  unfold R_part_7 at hE
  refine k_aload_n (pc := 0) hC dX3_part_0 rfl 0 rfl ?_
  rcases xb_of hE with ⟨e, h1, rfl⟩ | ⟨r1, h1, hE⟩
  · exact p_callVT (pc := 1) (As := []) hP hR (ctx_R_unit_7 X.2.1 D (cxA X) x Xp R0 d L Q T (pxf hP) F e h1) (fun H h => p_fault hC.K h) (p_tt hX) (cw_R_unit_7_X3 hX (Nat.le_of_ble_eq_true rfl) (Nat.le_of_ble_eq_true rfl)) (p_recv 9 lp_9 cl_X3 hP) rfl rfl (Nat.le_of_ble_eq_true rfl) dX3_part_1
  refine a_callV (pc := 1) (As := []) hX (ct_R_unit_7 X.2.1 D (cxA X) x Xp R0 d L Q T (pxf hP) F r1 h1) (cw_R_unit_7_X3 hX (Nat.le_of_ble_eq_true rfl) (Nat.le_of_ble_eq_true rfl)) (p_recv 9 lp_9 cl_X3 hP) rfl rfl (Nat.le_of_ble_eq_true rfl) dX3_part_1 (fun c z => ?_)
  show Wk X c z (RD D (RP D x Xp R0 r1.2.1) d L r1.2.2) 4 [(0, .ref (x + 9))] [va_rf r1.1]
  refine k_astoreR_n (pc := 4) (lv' := [(1, va_rf r1.1), (0, .ref (x + 9))]) hC dX3_part_4 rfl (by rw [hnL]; decide) rfl ?_
  refine k_sub [1, 0] rfl ?_
  exact w_R_part_7_L5 hP hR F _ _ _ _ hE _ _
theorem ct_R_part_7 (l : Launch) (D : Dd) (A : Nat → Prop) (x : Nat) (Xp : Jr) (R0 : Heap → Prop) (d : Nat → Prop) (L : Nat × Nat × Nat × Nat) (Q : Ji) (T : Th) (hp : Pf D A x R0 d) (F : Nat) (out : Option Nat × Ji × Th) (hE : R_part_7 F Xp Q T = some (.inr out)) : Ct l yX3_part (ws_ yX3_part cX3_part 3 (some (.object "SleepWork$Sum"))) (rmA 27 584 L T) vwCl arTy D A [.ref (x + 9)] (RD D (RP D x Xp R0 Q) d L T) (RD D (RP D x Xp R0 out.2.1) d L out.2.2) (some (va_rf out.1)) (L.1 - tN T) (L.2.1 - tZ T) := by
  refine Ct.ofA (lv := [(0, .ref (x + 9))]) (by decide) (Nat.le_of_ble_eq_true rfl) rfl hp.1 hp.2.1 ?_
  intro X hl hX hR hXA _
  exact w_R_part_7 (Xp := Xp) (out := .inr out) (hp.px hX hXA) hR F Q T hE
theorem ctx_R_part_7 (l : Launch) (D : Dd) (A : Nat → Prop) (x : Nat) (Xp : Jr) (R0 : Heap → Prop) (d : Nat → Prop) (L : Nat × Nat × Nat × Nat) (Q : Ji) (T : Th) (hp : Pf D A x R0 d) (F : Nat) (e : Ji × Jr × Th) (hE : R_part_7 F Xp Q T = some (.inl e)) : CtT l yX3_part (ws_ yX3_part cX3_part 3 (some (.object "SleepWork$Sum"))) (rmA 27 584 L T) D A [.ref (x + 9)] (RD D (RP D x Xp R0 Q) d L T) (RD D (RP D x e.2.1 R0 e.1) d L e.2.2) (x + 1) (L.1 - tN T) (L.2.1 - tZ T) := by
  refine CtT.ofA (lv := [(0, .ref (x + 9))]) (by decide) (Nat.le_of_ble_eq_true rfl) rfl hp.1 hp.2.1 ?_
  intro X hl hX hR hXA
  exact w_R_part_7 (Xp := Xp) (out := .inl e) (hp.px hX hXA) hR F Q T hE
theorem cw_R_part_7_X3 {X : Ctx} {cc : ByteArray} {D : Dd} {d : Nat → Prop} {L : Nat × Nat × Nat × Nat} {mL fr lo : Nat} {T : Th} (hX : Ax X cc RX3 D d L mL fr lo) (h1 : 27 + 1 ≤ fr) (h2 : 8 + (3 + 11) + 584 ≤ lo) : CallW X.2.2.2.1 X.2.2.2.2.1 X.2.2.2.2.2.2.1 RX3 RX3 269 yX3_part cX3_part 3 (some (.object "SleepWork$Sum")) (ws_ yX3_part cX3_part 3 (some (.object "SleepWork$Sum"))) (rmA 27 584 L T) (L.1 - tN T) (L.2.1 - tZ T) 0 := cwV 0 (cx_w hX.1) (lw_V q1188 q1190 qs31 q120 q1191) rfl rfl rfl (by decide +kernel) (by rw [hX.2.2.2.1, hX.2.2.2.2.1]; exact ⟨h1, h2⟩)
set_option maxHeartbeats 4000000 in
theorem w_R_sum_7_B23 {X : Ctx} {D : Dd} {x : Nat} {R0 : Heap → Prop} {d : Nat → Prop} {L : Nat × Nat × Nat × Nat} {Xp : Jr} {out : (Ji × Jr × Th) ⊕ (Option Nat × Ji × Th)} (hP : Px X cX3_sum RX3 D x R0 d L 3 28 606) (hR : RtX X (some (.object "SleepWork$Sum")) D L x (fun r => (RD D (RP D x Xp R0 r.2.1) d L r.2.2)) (fun r => (some (va_rf r.1))) (fun e => RD D (RP D x e.2.1 R0 e.1) d L e.2.2) out) (F : Nat) (k5 : Option Nat → Ji → Th → Option ((Ji × Jr × Th) ⊕ (Option Nat × Ji × Th))) (hk5 : ∀ (a1 : Option Nat) (Q : Ji) (T : Th) , k5 a1 Q T = some out → ∀ c z, Wk X c z (RD D (RP D x Xp R0 Q) d L T) 5 [(0, .ref (x + 9)), (1, va_rf a1)] []) (a1 : Option Nat) (Q : Ji) (T : Th) (hE : R_sum_7_B23 F k5 Xp a1 Q T = some out) (c z : Nat) : Wk X c z (RD D (RP D x Xp R0 Q) d L T) 23 [(0, .ref (x + 9)), (1, va_rf a1)] [] := by
  have hX := hP.1
  have hC := hX.1
  have hnL := hX.2.2.1
  have hSt : ∀ {Xp : Jr} {Q : Ji}, Stb (RP D x Xp R0 Q) d := hP.st
  have hDy : ∀ {Xp : Jr} {Q : Ji} {T : Th} (H : Heap), RD D (RP D x Xp R0 Q) d L T H → Dy D T H := fun _ h => h.2.1
  unfold R_sum_7_B23 at hE
  refine k_aload_n (pc := 23) hC dX3_sum_23 rfl 0 rfl ?_
  refine gP_X3_9 (pc := 24) hP dX3_sum_24 ?_
  refine gP_X3_52 (pc := 27) hP dX3_sum_27 ?_
  refine k_aload_n (pc := 30) hC dX3_sum_30 rfl 0 rfl ?_
  refine gP_X3_31 (pc := 31) hP dX3_sum_31 ?_
  refine p_sald (pc := 34) 8 lp_8 hP dX3_sum_34 hE (fun x4 hE => ?_)
  refine k_istore_n (pc := 35) (lv' := [(2, .int x4), (0, .ref (x + 9)), (1, va_rf a1)]) hC dX3_sum_35 rfl (by rw [hnL]; decide) (by cases a1 <;> rfl) ?_
  refine k_aload_n (pc := 36) hC dX3_sum_36 rfl 1 rfl ?_
  rcases xb_of hE with ⟨e, h1, rfl⟩ | ⟨r5, h1, hE⟩
  · exact p_callVT (pc := 37) (As := []) hP hR (ctx_R_pass X.2.1 D (cxA X) x Xp R0 d L Q T (pxf hP)  e h1) (fun H h => p_fault hC.K h) (p_tt hX) (cw_R_pass_X3 hX (Nat.le_of_ble_eq_true rfl) (Nat.le_of_ble_eq_true rfl)) (p_recv 9 lp_9 cl_X3 hP) rfl rfl (Nat.le_of_ble_eq_true rfl) dX3_sum_37
  refine a_callV (pc := 37) (As := []) hX (ct_R_pass X.2.1 D (cxA X) x Xp R0 d L Q T (pxf hP)  r5 h1) (cw_R_pass_X3 hX (Nat.le_of_ble_eq_true rfl) (Nat.le_of_ble_eq_true rfl)) (p_recv 9 lp_9 cl_X3 hP) rfl rfl (Nat.le_of_ble_eq_true rfl) dX3_sum_37 (fun c z => ?_)
  show Wk X c z (RD D (RP D x Xp R0 r5.1) d L r5.2) 40 [(2, .int x4), (0, .ref (x + 9)), (1, va_rf a1)] []
  refine a_new (pc := 40) hX hSt cl_X20 in_X20 tyX20 tyX20_ok dv_X20 q1219 q1220 q151 dX3_sum_40 hE (fun T6 eT6 hE c z => ?_)
  refine k_dup (pc := 43) hC dX3_sum_43 rfl ?_
  refine k_iload_n (pc := 44) hC dX3_sum_44 rfl 0 rfl ?_
  refine k_aloadR_n (pc := 45) hC dX3_sum_45 rfl 2 rfl ?_
  refine k_aload_n (pc := 46) hC dX3_sum_46 rfl 1 rfl ?_
  rcases xb_of hE with ⟨e, h1, rfl⟩ | ⟨r7, h1, hE⟩
  · exact p_callVT (pc := 47) (As := []) hP hR (ctx_R_part_7 X.2.1 D (cxA X) x Xp R0 d L r5.1 T6 (pxf hP) F e h1) (fun H h => p_fault hC.K h) (p_tt hX) (cw_R_part_7_X3 hX (Nat.le_of_ble_eq_true rfl) (Nat.le_of_ble_eq_true rfl)) (p_recv 9 lp_9 cl_X3 hP) rfl rfl (by cases a1 <;> exact Nat.le_of_ble_eq_true rfl) dX3_sum_47
  refine a_callV (pc := 47) (As := []) hX (ct_R_part_7 X.2.1 D (cxA X) x Xp R0 d L r5.1 T6 (pxf hP) F r7 h1) (cw_R_part_7_X3 hX (Nat.le_of_ble_eq_true rfl) (Nat.le_of_ble_eq_true rfl)) (p_recv 9 lp_9 cl_X3 hP) rfl rfl (by cases a1 <;> exact Nat.le_of_ble_eq_true rfl) dX3_sum_47 (fun c z => ?_)
  show Wk X c z (RD D (RP D x Xp R0 r7.2.1) d L r7.2.2) 50 [(2, .int x4), (0, .ref (x + 9)), (1, va_rf a1)] [va_rf r7.1, va_rf a1, .int x4, .ref (tN r5.2), .ref (tN r5.2)]
  refine k_nn (G := fun z => Wk X _ _ (RD D (RP D x Xp R0 r7.2.1) d L r7.2.2) 50 [(2, .int x4), (0, .ref (x + 9)), (1, va_rf a1)] [z, va_rf a1, .int x4, .ref (tN r5.2), .ref (tN r5.2)]) hE (fun b8 hE => ?_)
  refine k_nn (G := fun z => Wk X _ _ (RD D (RP D x Xp R0 r7.2.1) d L r7.2.2) 50 [(2, .int x4), (0, .ref (x + 9)), (1, z)] [.ref b8, z, .int x4, .ref (tN r5.2), .ref (tN r5.2)]) hE (fun b9 hE => ?_)
  obtain ⟨r10, h1, hE⟩ := ob_ hE
  refine a_callI (pc := 50) (As := [.int x4, .ref b9, .ref b8]) hX (ct_A_Joined X.2.1 D (cxA X) (RP D x Xp R0 r7.2.1) d L r7.2.2 hSt hX.2.1 hX.2.2.2.2.2.2.2.2.2 (tN r5.2) x4 b9 b8 r10 h1) (cw_A_Joined_X3 hX (Nat.le_of_ble_eq_true rfl) (Nat.le_of_ble_eq_true rfl)) rfl rfl (Nat.le_of_ble_eq_true rfl) dX3_sum_50 (fun c z => ?_)
  show Wk X c z (RD D (RP D x Xp R0 r7.2.1) d L r10) 53 [(2, .int x4), (0, .ref (x + 9)), (1, .ref b9)] [.ref (tN r5.2)]
  refine k_astore_n (pc := 53) (lv' := [(1, .ref (tN r5.2)), (2, .int x4), (0, .ref (x + 9))]) hC dX3_sum_53 rfl (by rw [hnL]; decide) rfl ?_
  refine k_goto (pc := 54) (tgt := 5) hC dX3_sum_54 (by decide) ?_
  refine k_sub [2, 0] rfl ?_
  exact hk5 _ _ _ hE _ _
set_option maxHeartbeats 4000000 in
theorem w_R_sum_7_B5 {X : Ctx} {D : Dd} {x : Nat} {R0 : Heap → Prop} {d : Nat → Prop} {L : Nat × Nat × Nat × Nat} {Xp : Jr} {out : (Ji × Jr × Th) ⊕ (Option Nat × Ji × Th)} (hP : Px X cX3_sum RX3 D x R0 d L 3 28 606) (hR : RtX X (some (.object "SleepWork$Sum")) D L x (fun r => (RD D (RP D x Xp R0 r.2.1) d L r.2.2)) (fun r => (some (va_rf r.1))) (fun e => RD D (RP D x e.2.1 R0 e.1) d L e.2.2) out) (F : Nat) (k5 : Option Nat → Ji → Th → Option ((Ji × Jr × Th) ⊕ (Option Nat × Ji × Th))) (hk5 : ∀ (a1 : Option Nat) (Q : Ji) (T : Th) , k5 a1 Q T = some out → ∀ c z, Wk X c z (RD D (RP D x Xp R0 Q) d L T) 5 [(0, .ref (x + 9)), (1, va_rf a1)] []) (a1 : Option Nat) (Q : Ji) (T : Th) (hE : R_sum_7_B5 F k5 Xp a1 Q T = some out) (c z : Nat) : Wk X c z (RD D (RP D x Xp R0 Q) d L T) 5 [(0, .ref (x + 9)), (1, va_rf a1)] [] := by
  have hX := hP.1
  have hC := hX.1
  have hnL := hX.2.2.1
  have hSt : ∀ {Xp : Jr} {Q : Ji}, Stb (RP D x Xp R0 Q) d := hP.st
  have hDy : ∀ {Xp : Jr} {Q : Ji} {T : Th} (H : Heap), RD D (RP D x Xp R0 Q) d L T H → Dy D T H := fun _ h => h.2.1
  unfold R_sum_7_B5 at hE
  refine k_aload_n (pc := 5) hC dX3_sum_5 rfl 0 rfl ?_
  refine k_bipush (pc := 6) (v := 43) hC dX3_sum_6 (by decide) ?_
  rcases xb_of hE with ⟨e, h1, rfl⟩ | ⟨r2, h1, hE⟩
  · exact p_callVT (pc := 8) (As := [.int 43]) hP hR (ctx_R_isSign X.2.1 D (cxA X) x Xp R0 d L Q T (pxf hP) 43 e h1) (fun H h => p_fault hC.K h) (p_tt hX) (cw_R_isSign_X3 hX (Nat.le_of_ble_eq_true rfl) (Nat.le_of_ble_eq_true rfl)) (p_recv 9 lp_9 cl_X3 hP) rfl rfl (Nat.le_of_ble_eq_true rfl) dX3_sum_8
  refine a_callV (pc := 8) (As := [.int 43]) hX (ct_R_isSign X.2.1 D (cxA X) x Xp R0 d L Q T (pxf hP) 43 r2 h1) (cw_R_isSign_X3 hX (Nat.le_of_ble_eq_true rfl) (Nat.le_of_ble_eq_true rfl)) (p_recv 9 lp_9 cl_X3 hP) rfl rfl (Nat.le_of_ble_eq_true rfl) dX3_sum_8 (fun c z => ?_)
  show Wk X c z (RD D (RP D x Xp R0 r2.2.1) d L r2.2.2) 11 [(0, .ref (x + 9)), (1, va_rf a1)] [.int r2.1]
  refine k_if_ne (pc := 11) (tgt := 23) hC dX3_sum_11 (by decide) hE (fun hE => ?_) (fun hE => ?_)
  · refine k_aload_n (pc := 14) hC dX3_sum_14 rfl 0 rfl ?_
    refine k_bipush (pc := 15) (v := 45) hC dX3_sum_15 (by decide) ?_
    rcases xb_of hE with ⟨e, h1, rfl⟩ | ⟨r3, h1, hE⟩
    · exact p_callVT (pc := 17) (As := [.int 45]) hP hR (ctx_R_isSign X.2.1 D (cxA X) x Xp R0 d L r2.2.1 r2.2.2 (pxf hP) 45 e h1) (fun H h => p_fault hC.K h) (p_tt hX) (cw_R_isSign_X3 hX (Nat.le_of_ble_eq_true rfl) (Nat.le_of_ble_eq_true rfl)) (p_recv 9 lp_9 cl_X3 hP) rfl rfl (Nat.le_of_ble_eq_true rfl) dX3_sum_17
    refine a_callV (pc := 17) (As := [.int 45]) hX (ct_R_isSign X.2.1 D (cxA X) x Xp R0 d L r2.2.1 r2.2.2 (pxf hP) 45 r3 h1) (cw_R_isSign_X3 hX (Nat.le_of_ble_eq_true rfl) (Nat.le_of_ble_eq_true rfl)) (p_recv 9 lp_9 cl_X3 hP) rfl rfl (Nat.le_of_ble_eq_true rfl) dX3_sum_17 (fun c z => ?_)
    show Wk X c z (RD D (RP D x Xp R0 r3.2.1) d L r3.2.2) 20 [(0, .ref (x + 9)), (1, va_rf a1)] [.int r3.1]
    refine k_if_eq (pc := 20) (tgt := 57) hC dX3_sum_20 (by decide) hE (fun hE => ?_) (fun hE => ?_)
    · refine k_aloadR_n (pc := 57) hC dX3_sum_57 rfl 1 rfl ?_
      cases hE
      exact a_aret (pc := 58) (v := va_rf _) (rt := (.object "SleepWork$Sum")) (by first | exact Or.inl ⟨_, rfl⟩ | exact Or.inr ⟨_, rfl⟩) (va_rfv _) hX hR dX3_sum_58 (by rfl) (fun _ h => h)
    · exact w_R_sum_7_B23 hP hR F k5 hk5 _ _ _ hE _ _
  · exact w_R_sum_7_B23 hP hR F k5 hk5 _ _ _ hE _ _
theorem w_R_sum_7_L5 {X : Ctx} {D : Dd} {x : Nat} {R0 : Heap → Prop} {d : Nat → Prop} {L : Nat × Nat × Nat × Nat} {Xp : Jr} {out : (Ji × Jr × Th) ⊕ (Option Nat × Ji × Th)} (hP : Px X cX3_sum RX3 D x R0 d L 3 28 606) (hR : RtX X (some (.object "SleepWork$Sum")) D L x (fun r => (RD D (RP D x Xp R0 r.2.1) d L r.2.2)) (fun r => (some (va_rf r.1))) (fun e => RD D (RP D x e.2.1 R0 e.1) d L e.2.2) out) (F : Nat) (n : Nat) : ∀ (a1 : Option Nat) (Q : Ji) (T : Th) , R_sum_7_L5 F Xp n a1 Q T = some out → ∀ c z, Wk X c z (RD D (RP D x Xp R0 Q) d L T) 5 [(0, .ref (x + 9)), (1, va_rf a1)] [] := by
  induction n with
  | zero => intro a1 Q T h; cases h
  | succ n ih => intro a1 Q T h; exact w_R_sum_7_B5 hP hR F (R_sum_7_L5 F Xp n) ih a1 Q T h
set_option maxHeartbeats 4000000 in
theorem w_R_sum_7 {X : Ctx} {D : Dd} {x : Nat} {R0 : Heap → Prop} {d : Nat → Prop} {L : Nat × Nat × Nat × Nat} {Xp : Jr} {out : (Ji × Jr × Th) ⊕ (Option Nat × Ji × Th)} (hP : Px X cX3_sum RX3 D x R0 d L 3 28 606) (hR : RtX X (some (.object "SleepWork$Sum")) D L x (fun r => (RD D (RP D x Xp R0 r.2.1) d L r.2.2)) (fun r => (some (va_rf r.1))) (fun e => RD D (RP D x e.2.1 R0 e.1) d L e.2.2) out) (F : Nat) (Q : Ji) (T : Th) (hE : R_sum_7 F Xp Q T = some out) (c z : Nat) : Wk X c z (RD D (RP D x Xp R0 Q) d L T) 0 [(0, .ref (x + 9))] [] := by
  have hX := hP.1
  have hC := hX.1
  have hnL := hX.2.2.1
  have hSt : ∀ {Xp : Jr} {Q : Ji}, Stb (RP D x Xp R0 Q) d := hP.st
  have hDy : ∀ {Xp : Jr} {Q : Ji} {T : Th} (H : Heap), RD D (RP D x Xp R0 Q) d L T H → Dy D T H := fun _ h => h.2.1
  unfold R_sum_7 at hE
  refine k_aload_n (pc := 0) hC dX3_sum_0 rfl 0 rfl ?_
  rcases xb_of hE with ⟨e, h1, rfl⟩ | ⟨r1, h1, hE⟩
  · exact p_callVT (pc := 1) (As := []) hP hR (ctx_R_part_7 X.2.1 D (cxA X) x Xp R0 d L Q T (pxf hP) F e h1) (fun H h => p_fault hC.K h) (p_tt hX) (cw_R_part_7_X3 hX (Nat.le_of_ble_eq_true rfl) (Nat.le_of_ble_eq_true rfl)) (p_recv 9 lp_9 cl_X3 hP) rfl rfl (Nat.le_of_ble_eq_true rfl) dX3_sum_1
  refine a_callV (pc := 1) (As := []) hX (ct_R_part_7 X.2.1 D (cxA X) x Xp R0 d L Q T (pxf hP) F r1 h1) (cw_R_part_7_X3 hX (Nat.le_of_ble_eq_true rfl) (Nat.le_of_ble_eq_true rfl)) (p_recv 9 lp_9 cl_X3 hP) rfl rfl (Nat.le_of_ble_eq_true rfl) dX3_sum_1 (fun c z => ?_)
  show Wk X c z (RD D (RP D x Xp R0 r1.2.1) d L r1.2.2) 4 [(0, .ref (x + 9))] [va_rf r1.1]
  refine k_astoreR_n (pc := 4) (lv' := [(1, va_rf r1.1), (0, .ref (x + 9))]) hC dX3_sum_4 rfl (by rw [hnL]; decide) rfl ?_
  refine k_sub [1, 0] rfl ?_
  exact w_R_sum_7_L5 hP hR F _ _ _ _ hE _ _
theorem ct_R_sum_7 (l : Launch) (D : Dd) (A : Nat → Prop) (x : Nat) (Xp : Jr) (R0 : Heap → Prop) (d : Nat → Prop) (L : Nat × Nat × Nat × Nat) (Q : Ji) (T : Th) (hp : Pf D A x R0 d) (F : Nat) (out : Option Nat × Ji × Th) (hE : R_sum_7 F Xp Q T = some (.inr out)) : Ct l yX3_sum (ws_ yX3_sum cX3_sum 3 (some (.object "SleepWork$Sum"))) (rmA 28 606 L T) vwCl arTy D A [.ref (x + 9)] (RD D (RP D x Xp R0 Q) d L T) (RD D (RP D x Xp R0 out.2.1) d L out.2.2) (some (va_rf out.1)) (L.1 - tN T) (L.2.1 - tZ T) := by
  refine Ct.ofA (lv := [(0, .ref (x + 9))]) (by decide) (Nat.le_of_ble_eq_true rfl) rfl hp.1 hp.2.1 ?_
  intro X hl hX hR hXA _
  exact w_R_sum_7 (Xp := Xp) (out := .inr out) (hp.px hX hXA) hR F Q T hE
theorem ctx_R_sum_7 (l : Launch) (D : Dd) (A : Nat → Prop) (x : Nat) (Xp : Jr) (R0 : Heap → Prop) (d : Nat → Prop) (L : Nat × Nat × Nat × Nat) (Q : Ji) (T : Th) (hp : Pf D A x R0 d) (F : Nat) (e : Ji × Jr × Th) (hE : R_sum_7 F Xp Q T = some (.inl e)) : CtT l yX3_sum (ws_ yX3_sum cX3_sum 3 (some (.object "SleepWork$Sum"))) (rmA 28 606 L T) D A [.ref (x + 9)] (RD D (RP D x Xp R0 Q) d L T) (RD D (RP D x e.2.1 R0 e.1) d L e.2.2) (x + 1) (L.1 - tN T) (L.2.1 - tZ T) := by
  refine CtT.ofA (lv := [(0, .ref (x + 9))]) (by decide) (Nat.le_of_ble_eq_true rfl) rfl hp.1 hp.2.1 ?_
  intro X hl hX hR hXA
  exact w_R_sum_7 (Xp := Xp) (out := .inl e) (hp.px hX hXA) hR F Q T hE
theorem cw_R_sum_7_X3 {X : Ctx} {cc : ByteArray} {D : Dd} {d : Nat → Prop} {L : Nat × Nat × Nat × Nat} {mL fr lo : Nat} {T : Th} (hX : Ax X cc RX3 D d L mL fr lo) (h1 : 28 + 1 ≤ fr) (h2 : 8 + (3 + 11) + 606 ≤ lo) : CallW X.2.2.2.1 X.2.2.2.2.1 X.2.2.2.2.2.2.1 RX3 RX3 253 yX3_sum cX3_sum 3 (some (.object "SleepWork$Sum")) (ws_ yX3_sum cX3_sum 3 (some (.object "SleepWork$Sum"))) (rmA 28 606 L T) (L.1 - tN T) (L.2.1 - tZ T) 0 := cwV 0 (cx_w hX.1) (lw_V q1184 q1186 qs30 q120 q1187) rfl rfl rfl (by decide +kernel) (by rw [hX.2.2.2.1, hX.2.2.2.2.1]; exact ⟨h1, h2⟩)
set_option maxHeartbeats 4000000 in
theorem w_R_law_B52 {X : Ctx} {D : Dd} {x : Nat} {R0 : Heap → Prop} {d : Nat → Prop} {L : Nat × Nat × Nat × Nat} {Xp : Jr} {out : (Ji × Jr × Th) ⊕ (Ji × Th)} (hP : Px X cX3_law RX3 D x R0 d L 3 29 628) (hR : RtX X none D L x (fun r => (RD D (RP D x Xp R0 r.1) d L r.2)) (fun r => none) (fun e => RD D (RP D x e.2.1 R0 e.1) d L e.2.2) out) (F : Nat) (k52 : Int32 → Nat → Ji → Th → Option ((Ji × Jr × Th) ⊕ (Ji × Th))) (hk52 : ∀ (a1 : Int32) (a2 : Nat) (Q : Ji) (T : Th) , k52 a1 a2 Q T = some out → ∀ c z, Wk X c z (RD D (RP D x Xp R0 Q) d L T) 52 [(0, .ref (x + 9)), (1, .int a1), (2, .ref a2)] []) (a1 : Int32) (a2 : Nat) (Q : Ji) (T : Th) (hE : R_law_B52 F k52 Xp a1 a2 Q T = some out) (c z : Nat) : Wk X c z (RD D (RP D x Xp R0 Q) d L T) 52 [(0, .ref (x + 9)), (1, .int a1), (2, .ref a2)] [] := by
  have hX := hP.1
  have hC := hX.1
  have hnL := hX.2.2.1
  have hSt : ∀ {Xp : Jr} {Q : Ji}, Stb (RP D x Xp R0 Q) d := hP.st
  have hDy : ∀ {Xp : Jr} {Q : Ji} {T : Th} (H : Heap), RD D (RP D x Xp R0 Q) d L T H → Dy D T H := fun _ h => h.2.1
  unfold R_law_B52 at hE
  refine k_aload_n (pc := 52) hC dX3_law_52 rfl 0 rfl ?_
  refine k_bipush (pc := 53) (v := 11) hC dX3_law_53 (by decide) ?_
  rcases xb_of hE with ⟨e, h1, rfl⟩ | ⟨r14, h1, hE⟩
  · exact p_callVT (pc := 55) (As := [.int 11]) hP hR (ctx_R_isWord X.2.1 D (cxA X) x Xp R0 d L Q T (pxf hP) 11 e h1) (fun H h => p_fault hC.K h) (p_tt hX) (cw_R_isWord_X3 hX (Nat.le_of_ble_eq_true rfl) (Nat.le_of_ble_eq_true rfl)) (p_recv 9 lp_9 cl_X3 hP) rfl rfl (Nat.le_of_ble_eq_true rfl) dX3_law_55
  refine a_callV (pc := 55) (As := [.int 11]) hX (ct_R_isWord X.2.1 D (cxA X) x Xp R0 d L Q T (pxf hP) 11 r14 h1) (cw_R_isWord_X3 hX (Nat.le_of_ble_eq_true rfl) (Nat.le_of_ble_eq_true rfl)) (p_recv 9 lp_9 cl_X3 hP) rfl rfl (Nat.le_of_ble_eq_true rfl) dX3_law_55 (fun c z => ?_)
  show Wk X c z (RD D (RP D x Xp R0 r14.2.1) d L r14.2.2) 58 [(0, .ref (x + 9)), (1, .int a1), (2, .ref a2)] [.int r14.1]
  refine k_if_eq (pc := 58) (tgt := 140) hC dX3_law_58 (by decide) hE (fun hE => ?_) (fun hE => ?_)
  · refine k_aload_n (pc := 140) hC dX3_law_140 rfl 2 rfl ?_
    refine gD_X3_263_X16 (pc := 141) hC hDy dX3_law_141 hE (fun x15 hE => ?_)
    refine k_aload_n (pc := 144) hC dX3_law_144 rfl 2 rfl ?_
    refine gD_X3_246_X16 (pc := 145) hC hDy dX3_law_145 hE (fun x16 hE => ?_)
    refine k_aload_n (pc := 148) hC dX3_law_148 rfl 0 rfl ?_
    rcases xb_of hE with ⟨e, h1, rfl⟩ | ⟨r17, h1, hE⟩
    · exact p_callVT (pc := 149) (As := []) hP hR (ctx_R_sum_7 X.2.1 D (cxA X) x Xp R0 d L r14.2.1 r14.2.2 (pxf hP) F e h1) (fun H h => p_fault hC.K h) (p_tt hX) (cw_R_sum_7_X3 hX (Nat.le_of_ble_eq_true rfl) (Nat.le_of_ble_eq_true rfl)) (p_recv 9 lp_9 cl_X3 hP) rfl rfl (by cases x15 <;> exact Nat.le_of_ble_eq_true rfl) dX3_law_149
    refine a_callV (pc := 149) (As := []) hX (ct_R_sum_7 X.2.1 D (cxA X) x Xp R0 d L r14.2.1 r14.2.2 (pxf hP) F r17 h1) (cw_R_sum_7_X3 hX (Nat.le_of_ble_eq_true rfl) (Nat.le_of_ble_eq_true rfl)) (p_recv 9 lp_9 cl_X3 hP) rfl rfl (by cases x15 <;> exact Nat.le_of_ble_eq_true rfl) dX3_law_149 (fun c z => ?_)
    show Wk X c z (RD D (RP D x Xp R0 r17.2.1) d L r17.2.2) 152 [(0, .ref (x + 9)), (1, .int a1), (2, .ref a2)] [va_rf r17.1, .int x16, va_rf x15]
    refine k_nn (G := fun z => Wk X _ _ (RD D (RP D x Xp R0 r17.2.1) d L r17.2.2) 152 [(0, .ref (x + 9)), (1, .int a1), (2, .ref a2)] [z, .int x16, va_rf x15]) hE (fun b18 hE => ?_)
    refine k_nn (G := fun z => Wk X _ _ (RD D (RP D x Xp R0 r17.2.1) d L r17.2.2) 152 [(0, .ref (x + 9)), (1, .int a1), (2, .ref a2)] [.ref b18, .int x16, z]) hE (fun b19 hE => ?_)
    refine a_aast (pc := 152) (E := "SleepWork$Sum") hX hSt (by simp [arTy]) dX3_law_152 hE (fun T20 hE => ?_)
    refine k_iload_n (pc := 153) hC dX3_law_153 rfl 1 rfl ?_
    refine k_if_lt (pc := 154) (tgt := 175) hC dX3_law_154 (by decide) hE (fun hE => ?_) (fun hE => ?_)
    · cases hE
      exact a_vret (pc := 175) hX hR dX3_law_175 (by rfl) (fun _ h => h)
    · refine k_aload_n (pc := 157) hC dX3_law_157 rfl 0 rfl ?_
      refine gP_X3_83 (pc := 158) hP dX3_law_158 ?_
      refine k_nn (G := fun z => Wk X _ _ (RD D (RP D x Xp R0 r17.2.1) d L T20) 161 [(0, .ref (x + 9)), (1, .int a1), (2, .ref a2)] [z]) hE (fun b21 hE => ?_)
      refine gD_X3_226_X4 (pc := 161) hC hDy dX3_law_161 hE (fun x22 hE => ?_)
      refine k_iload_n (pc := 164) hC dX3_law_164 rfl 1 rfl ?_
      refine k_nn (G := fun z => Wk X _ _ (RD D (RP D x Xp R0 r17.2.1) d L T20) 165 [(0, .ref (x + 9)), (1, .int a1), (2, .ref a2)] [.int a1, z]) hE (fun b23 hE => ?_)
      refine a_tight hX ?_
      refine a_know (a_hcs hX) (fun hcs => ?_)
      refine t_callVR (pc := 165) (As := [.int a1]) 19 (fun r => r) hC hDy cl_J5 (cw_L_get_X3 hC rfl (by rw [hX.2.2.2.1]; exact Nat.le_of_ble_eq_true rfl) (by rw [hX.2.2.2.2.1]; exact Nat.le_of_ble_eq_true rfl)) rfl rfl (Nat.le_of_ble_eq_true rfl) (a_hc0 hcs) dX3_law_165 hE (fun r h => ct_L_get _ _ _ _ T20 hDy b23 a1 r h) (fun r24 hE => ?_)
      refine k_nn (G := fun z => Wk X _ _ (RD D (RP D x Xp R0 r17.2.1) d L T20) 168 [(0, .ref (x + 9)), (1, .int a1), (2, .ref a2)] [z]) hE (fun b25 hE => ?_)
      refine dy_castS (pc := 168) hC hDy cl_X15 q1120 dX3_law_168 hE (fun hE => ?_)
      refine k_aload_n (pc := 171) hC dX3_law_171 rfl 2 rfl ?_
      refine a_putR (pc := 172) (y := ((some a2))) hX hSt cl_X15 in_X15 4 (by decide) rfl tyX15 tyX15_ok nmX15 (by exact q1136) rfl rfl (by first | rfl | (cases hE <;> rfl)) (by first | rfl | (cases hE <;> rfl)) dX3_law_172 hE (fun T26 _ hE => ?_)
      cases hE
      exact a_vret (pc := 175) hX hR dX3_law_175 (by rfl) (fun _ h => h)
  · refine k_aload_n (pc := 61) hC dX3_law_61 rfl 0 rfl ?_
    refine k_aload_n (pc := 62) hC dX3_law_62 rfl 2 rfl ?_
    refine gD_X3_246_X16 (pc := 63) hC hDy dX3_law_63 hE (fun x27 hE => ?_)
    refine k_iconst (pc := 66) (v := 4) hC dX3_law_66 (by decide) ?_
    rcases xb_of hE with ⟨e, h1, rfl⟩ | ⟨r28, h1, hE⟩
    · exact p_callVT (pc := 67) (As := [.int x27, .int 4]) hP hR (ctx_R_begins X.2.1 D (cxA X) x Xp R0 d L r14.2.1 r14.2.2 (pxf hP) x27 4 e h1) (fun H h => p_fault hC.K h) (p_tt hX) (cw_R_begins_X3 hX (Nat.le_of_ble_eq_true rfl) (Nat.le_of_ble_eq_true rfl)) (p_recv 9 lp_9 cl_X3 hP) rfl rfl (Nat.le_of_ble_eq_true rfl) dX3_law_67
    refine a_callV (pc := 67) (As := [.int x27, .int 4]) hX (ct_R_begins X.2.1 D (cxA X) x Xp R0 d L r14.2.1 r14.2.2 (pxf hP) x27 4 r28 h1) (cw_R_begins_X3 hX (Nat.le_of_ble_eq_true rfl) (Nat.le_of_ble_eq_true rfl)) (p_recv 9 lp_9 cl_X3 hP) rfl rfl (Nat.le_of_ble_eq_true rfl) dX3_law_67 (fun c z => ?_)
    show Wk X c z (RD D (RP D x Xp R0 r28.1) d L r28.2) 70 [(0, .ref (x + 9)), (1, .int a1), (2, .ref a2)] []
    refine k_aload_n (pc := 70) hC dX3_law_70 rfl 2 rfl ?_
    refine gD_X3_249_X16 (pc := 71) hC hDy dX3_law_71 hE (fun x29 hE => ?_)
    refine k_aload_n (pc := 74) hC dX3_law_74 rfl 2 rfl ?_
    refine gD_X3_246_X16 (pc := 75) hC hDy dX3_law_75 hE (fun x30 hE => ?_)
    refine k_aload_n (pc := 78) hC dX3_law_78 rfl 0 rfl ?_
    rcases xb_of hE with ⟨e, h1, rfl⟩ | ⟨r31, h1, hE⟩
    · exact p_callVT (pc := 79) (As := []) hP hR (ctx_R_sum_7 X.2.1 D (cxA X) x Xp R0 d L r28.1 r28.2 (pxf hP) F e h1) (fun H h => p_fault hC.K h) (p_tt hX) (cw_R_sum_7_X3 hX (Nat.le_of_ble_eq_true rfl) (Nat.le_of_ble_eq_true rfl)) (p_recv 9 lp_9 cl_X3 hP) rfl rfl (by cases x29 <;> exact Nat.le_of_ble_eq_true rfl) dX3_law_79
    refine a_callV (pc := 79) (As := []) hX (ct_R_sum_7 X.2.1 D (cxA X) x Xp R0 d L r28.1 r28.2 (pxf hP) F r31 h1) (cw_R_sum_7_X3 hX (Nat.le_of_ble_eq_true rfl) (Nat.le_of_ble_eq_true rfl)) (p_recv 9 lp_9 cl_X3 hP) rfl rfl (by cases x29 <;> exact Nat.le_of_ble_eq_true rfl) dX3_law_79 (fun c z => ?_)
    show Wk X c z (RD D (RP D x Xp R0 r31.2.1) d L r31.2.2) 82 [(0, .ref (x + 9)), (1, .int a1), (2, .ref a2)] [va_rf r31.1, .int x30, va_rf x29]
    refine k_nn (G := fun z => Wk X _ _ (RD D (RP D x Xp R0 r31.2.1) d L r31.2.2) 82 [(0, .ref (x + 9)), (1, .int a1), (2, .ref a2)] [z, .int x30, va_rf x29]) hE (fun b32 hE => ?_)
    refine k_nn (G := fun z => Wk X _ _ (RD D (RP D x Xp R0 r31.2.1) d L r31.2.2) 82 [(0, .ref (x + 9)), (1, .int a1), (2, .ref a2)] [.ref b32, .int x30, z]) hE (fun b33 hE => ?_)
    refine a_aast (pc := 82) (E := "SleepWork$Sum") hX hSt (by simp [arTy]) dX3_law_82 hE (fun T34 hE => ?_)
    refine k_aload_n (pc := 83) hC dX3_law_83 rfl 0 rfl ?_
    refine k_bipush (pc := 84) (v := 60) hC dX3_law_84 (by decide) ?_
    rcases xb_of hE with ⟨e, h1, rfl⟩ | ⟨r35, h1, hE⟩
    · exact p_callVT (pc := 86) (As := [.int 60]) hP hR (ctx_R_sign X.2.1 D (cxA X) x Xp R0 d L r31.2.1 T34 (pxf hP) 60 e h1) (fun H h => p_fault hC.K h) (p_tt hX) (cw_R_sign_X3 hX (Nat.le_of_ble_eq_true rfl) (Nat.le_of_ble_eq_true rfl)) (p_recv 9 lp_9 cl_X3 hP) rfl rfl (Nat.le_of_ble_eq_true rfl) dX3_law_86
    refine a_callV (pc := 86) (As := [.int 60]) hX (ct_R_sign X.2.1 D (cxA X) x Xp R0 d L r31.2.1 T34 (pxf hP) 60 r35 h1) (cw_R_sign_X3 hX (Nat.le_of_ble_eq_true rfl) (Nat.le_of_ble_eq_true rfl)) (p_recv 9 lp_9 cl_X3 hP) rfl rfl (Nat.le_of_ble_eq_true rfl) dX3_law_86 (fun c z => ?_)
    show Wk X c z (RD D (RP D x Xp R0 r35.1) d L r35.2) 89 [(0, .ref (x + 9)), (1, .int a1), (2, .ref a2)] []
    refine k_aload_n (pc := 89) hC dX3_law_89 rfl 2 rfl ?_
    refine gD_X3_257_X16 (pc := 90) hC hDy dX3_law_90 hE (fun x36 hE => ?_)
    refine k_aload_n (pc := 93) hC dX3_law_93 rfl 2 rfl ?_
    refine gD_X3_246_X16 (pc := 94) hC hDy dX3_law_94 hE (fun x37 hE => ?_)
    refine k_aload_n (pc := 97) hC dX3_law_97 rfl 0 rfl ?_
    rcases xb_of hE with ⟨e, h1, rfl⟩ | ⟨r38, h1, hE⟩
    · exact p_callVT (pc := 98) (As := []) hP hR (ctx_R_sum_7 X.2.1 D (cxA X) x Xp R0 d L r35.1 r35.2 (pxf hP) F e h1) (fun H h => p_fault hC.K h) (p_tt hX) (cw_R_sum_7_X3 hX (Nat.le_of_ble_eq_true rfl) (Nat.le_of_ble_eq_true rfl)) (p_recv 9 lp_9 cl_X3 hP) rfl rfl (by cases x36 <;> exact Nat.le_of_ble_eq_true rfl) dX3_law_98
    refine a_callV (pc := 98) (As := []) hX (ct_R_sum_7 X.2.1 D (cxA X) x Xp R0 d L r35.1 r35.2 (pxf hP) F r38 h1) (cw_R_sum_7_X3 hX (Nat.le_of_ble_eq_true rfl) (Nat.le_of_ble_eq_true rfl)) (p_recv 9 lp_9 cl_X3 hP) rfl rfl (by cases x36 <;> exact Nat.le_of_ble_eq_true rfl) dX3_law_98 (fun c z => ?_)
    show Wk X c z (RD D (RP D x Xp R0 r38.2.1) d L r38.2.2) 101 [(0, .ref (x + 9)), (1, .int a1), (2, .ref a2)] [va_rf r38.1, .int x37, va_rf x36]
    refine k_nn (G := fun z => Wk X _ _ (RD D (RP D x Xp R0 r38.2.1) d L r38.2.2) 101 [(0, .ref (x + 9)), (1, .int a1), (2, .ref a2)] [z, .int x37, va_rf x36]) hE (fun b39 hE => ?_)
    refine k_nn (G := fun z => Wk X _ _ (RD D (RP D x Xp R0 r38.2.1) d L r38.2.2) 101 [(0, .ref (x + 9)), (1, .int a1), (2, .ref a2)] [.ref b39, .int x37, z]) hE (fun b40 hE => ?_)
    refine a_aast (pc := 101) (E := "SleepWork$Sum") hX hSt (by simp [arTy]) dX3_law_101 hE (fun T41 hE => ?_)
    refine k_aload_n (pc := 102) hC dX3_law_102 rfl 0 rfl ?_
    refine k_bipush (pc := 103) (v := 12) hC dX3_law_103 (by decide) ?_
    rcases xb_of hE with ⟨e, h1, rfl⟩ | ⟨r42, h1, hE⟩
    · exact p_callVT (pc := 105) (As := [.int 12]) hP hR (ctx_R_word X.2.1 D (cxA X) x Xp R0 d L r38.2.1 T41 (pxf hP) 12 e h1) (fun H h => p_fault hC.K h) (p_tt hX) (cw_R_word_X3 hX (Nat.le_of_ble_eq_true rfl) (Nat.le_of_ble_eq_true rfl)) (p_recv 9 lp_9 cl_X3 hP) rfl rfl (Nat.le_of_ble_eq_true rfl) dX3_law_105
    refine a_callV (pc := 105) (As := [.int 12]) hX (ct_R_word X.2.1 D (cxA X) x Xp R0 d L r38.2.1 T41 (pxf hP) 12 r42 h1) (cw_R_word_X3 hX (Nat.le_of_ble_eq_true rfl) (Nat.le_of_ble_eq_true rfl)) (p_recv 9 lp_9 cl_X3 hP) rfl rfl (Nat.le_of_ble_eq_true rfl) dX3_law_105 (fun c z => ?_)
    show Wk X c z (RD D (RP D x Xp R0 r42.1) d L r42.2) 108 [(0, .ref (x + 9)), (1, .int a1), (2, .ref a2)] []
    refine k_aload_n (pc := 108) hC dX3_law_108 rfl 2 rfl ?_
    refine gD_X3_263_X16 (pc := 109) hC hDy dX3_law_109 hE (fun x43 hE => ?_)
    refine k_aload_n (pc := 112) hC dX3_law_112 rfl 2 rfl ?_
    refine gD_X3_246_X16 (pc := 113) hC hDy dX3_law_113 hE (fun x44 hE => ?_)
    refine k_aload_n (pc := 116) hC dX3_law_116 rfl 0 rfl ?_
    rcases xb_of hE with ⟨e, h1, rfl⟩ | ⟨r45, h1, hE⟩
    · exact p_callVT (pc := 117) (As := []) hP hR (ctx_R_sum_7 X.2.1 D (cxA X) x Xp R0 d L r42.1 r42.2 (pxf hP) F e h1) (fun H h => p_fault hC.K h) (p_tt hX) (cw_R_sum_7_X3 hX (Nat.le_of_ble_eq_true rfl) (Nat.le_of_ble_eq_true rfl)) (p_recv 9 lp_9 cl_X3 hP) rfl rfl (by cases x43 <;> exact Nat.le_of_ble_eq_true rfl) dX3_law_117
    refine a_callV (pc := 117) (As := []) hX (ct_R_sum_7 X.2.1 D (cxA X) x Xp R0 d L r42.1 r42.2 (pxf hP) F r45 h1) (cw_R_sum_7_X3 hX (Nat.le_of_ble_eq_true rfl) (Nat.le_of_ble_eq_true rfl)) (p_recv 9 lp_9 cl_X3 hP) rfl rfl (by cases x43 <;> exact Nat.le_of_ble_eq_true rfl) dX3_law_117 (fun c z => ?_)
    show Wk X c z (RD D (RP D x Xp R0 r45.2.1) d L r45.2.2) 120 [(0, .ref (x + 9)), (1, .int a1), (2, .ref a2)] [va_rf r45.1, .int x44, va_rf x43]
    refine k_nn (G := fun z => Wk X _ _ (RD D (RP D x Xp R0 r45.2.1) d L r45.2.2) 120 [(0, .ref (x + 9)), (1, .int a1), (2, .ref a2)] [z, .int x44, va_rf x43]) hE (fun b46 hE => ?_)
    refine k_nn (G := fun z => Wk X _ _ (RD D (RP D x Xp R0 r45.2.1) d L r45.2.2) 120 [(0, .ref (x + 9)), (1, .int a1), (2, .ref a2)] [.ref b46, .int x44, z]) hE (fun b47 hE => ?_)
    refine a_aast (pc := 120) (E := "SleepWork$Sum") hX hSt (by simp [arTy]) dX3_law_120 hE (fun T48 hE => ?_)
    refine k_aload_n (pc := 121) hC dX3_law_121 rfl 0 rfl ?_
    refine k_bipush (pc := 122) (v := 13) hC dX3_law_122 (by decide) ?_
    rcases xb_of hE with ⟨e, h1, rfl⟩ | ⟨r49, h1, hE⟩
    · exact p_callVT (pc := 124) (As := [.int 13]) hP hR (ctx_R_word X.2.1 D (cxA X) x Xp R0 d L r45.2.1 T48 (pxf hP) 13 e h1) (fun H h => p_fault hC.K h) (p_tt hX) (cw_R_word_X3 hX (Nat.le_of_ble_eq_true rfl) (Nat.le_of_ble_eq_true rfl)) (p_recv 9 lp_9 cl_X3 hP) rfl rfl (Nat.le_of_ble_eq_true rfl) dX3_law_124
    refine a_callV (pc := 124) (As := [.int 13]) hX (ct_R_word X.2.1 D (cxA X) x Xp R0 d L r45.2.1 T48 (pxf hP) 13 r49 h1) (cw_R_word_X3 hX (Nat.le_of_ble_eq_true rfl) (Nat.le_of_ble_eq_true rfl)) (p_recv 9 lp_9 cl_X3 hP) rfl rfl (Nat.le_of_ble_eq_true rfl) dX3_law_124 (fun c z => ?_)
    show Wk X c z (RD D (RP D x Xp R0 r49.1) d L r49.2) 127 [(0, .ref (x + 9)), (1, .int a1), (2, .ref a2)] []
    refine k_aload_n (pc := 127) hC dX3_law_127 rfl 2 rfl ?_
    refine k_dup (pc := 128) hC dX3_law_128 rfl ?_
    refine gD_X3_246_X16 (pc := 129) hC hDy dX3_law_129 hE (fun x50 hE => ?_)
    refine k_iconst (pc := 132) (v := 1) hC dX3_law_132 (by decide) ?_
    refine k_iadd (pc := 133) hC dX3_law_133 ?_
    refine a_putI (pc := 134) (y := (x50 + 1)) hX hSt cl_X16 in_X16 3 (by decide) rfl tyX16 tyX16_ok nmX16 (by exact q1166) rfl rfl rfl rfl dX3_law_134 hE (fun T51 _ hE => ?_)
    refine k_goto (pc := 137) (tgt := 52) hC dX3_law_137 (by decide) ?_
    exact hk52 _ _ _ _ hE _ _
theorem w_R_law_L52 {X : Ctx} {D : Dd} {x : Nat} {R0 : Heap → Prop} {d : Nat → Prop} {L : Nat × Nat × Nat × Nat} {Xp : Jr} {out : (Ji × Jr × Th) ⊕ (Ji × Th)} (hP : Px X cX3_law RX3 D x R0 d L 3 29 628) (hR : RtX X none D L x (fun r => (RD D (RP D x Xp R0 r.1) d L r.2)) (fun r => none) (fun e => RD D (RP D x e.2.1 R0 e.1) d L e.2.2) out) (F : Nat) (n : Nat) : ∀ (a1 : Int32) (a2 : Nat) (Q : Ji) (T : Th) , R_law_L52 F Xp n a1 a2 Q T = some out → ∀ c z, Wk X c z (RD D (RP D x Xp R0 Q) d L T) 52 [(0, .ref (x + 9)), (1, .int a1), (2, .ref a2)] [] := by
  induction n with
  | zero => intro a1 a2 Q T h; cases h
  | succ n ih => intro a1 a2 Q T h; exact w_R_law_B52 hP hR F (R_law_L52 F Xp n) ih a1 a2 Q T h
set_option maxHeartbeats 4000000 in
theorem w_R_law {X : Ctx} {D : Dd} {x : Nat} {R0 : Heap → Prop} {d : Nat → Prop} {L : Nat × Nat × Nat × Nat} {Xp : Jr} {out : (Ji × Jr × Th) ⊕ (Ji × Th)} (hP : Px X cX3_law RX3 D x R0 d L 3 29 628) (hR : RtX X none D L x (fun r => (RD D (RP D x Xp R0 r.1) d L r.2)) (fun r => none) (fun e => RD D (RP D x e.2.1 R0 e.1) d L e.2.2) out) (F : Nat) (Q : Ji) (T : Th) (hE : R_law F Xp Q T = some out) (c z : Nat) : Wk X c z (RD D (RP D x Xp R0 Q) d L T) 0 [(0, .ref (x + 9))] [] := by
  have hX := hP.1
  have hC := hX.1
  have hnL := hX.2.2.1
  have hSt : ∀ {Xp : Jr} {Q : Ji}, Stb (RP D x Xp R0 Q) d := hP.st
  have hDy : ∀ {Xp : Jr} {Q : Ji} {T : Th} (H : Heap), RD D (RP D x Xp R0 Q) d L T H → Dy D T H := fun _ h => h.2.1
  unfold R_law at hE
  refine k_aload_n (pc := 0) hC dX3_law_0 rfl 0 rfl ?_
  refine k_aload_n (pc := 1) hC dX3_law_1 rfl 0 rfl ?_
  refine gP_X3_83 (pc := 2) hP dX3_law_2 ?_
  refine k_nn (G := fun z => Wk X _ _ (RD D (RP D x Xp R0 Q) d L T) 5 [(0, .ref (x + 9))] [z, .ref (x + 9)]) hE (fun b1 hE => ?_)
  refine gD_X3_241_X4 (pc := 5) hC hDy dX3_law_5 hE (fun x2 hE => ?_)
  refine k_bipush (pc := 8) (v := 8) hC dX3_law_8 (by decide) ?_
  rcases xb_of hE with ⟨e, h1, rfl⟩ | ⟨r3, h1, hE⟩
  · exact p_callVT (pc := 10) (As := [.int x2, .int 8]) hP hR (ctx_R_begins X.2.1 D (cxA X) x Xp R0 d L Q T (pxf hP) x2 8 e h1) (fun H h => p_fault hC.K h) (p_tt hX) (cw_R_begins_X3 hX (Nat.le_of_ble_eq_true rfl) (Nat.le_of_ble_eq_true rfl)) (p_recv 9 lp_9 cl_X3 hP) rfl rfl (Nat.le_of_ble_eq_true rfl) dX3_law_10
  refine a_callV (pc := 10) (As := [.int x2, .int 8]) hX (ct_R_begins X.2.1 D (cxA X) x Xp R0 d L Q T (pxf hP) x2 8 r3 h1) (cw_R_begins_X3 hX (Nat.le_of_ble_eq_true rfl) (Nat.le_of_ble_eq_true rfl)) (p_recv 9 lp_9 cl_X3 hP) rfl rfl (Nat.le_of_ble_eq_true rfl) dX3_law_10 (fun c z => ?_)
  show Wk X c z (RD D (RP D x Xp R0 r3.1) d L r3.2) 13 [(0, .ref (x + 9))] []
  refine k_aload_n (pc := 13) hC dX3_law_13 rfl 0 rfl ?_
  refine gP_X3_83 (pc := 14) hP dX3_law_14 ?_
  refine k_dup (pc := 17) hC dX3_law_17 (by cases Xp 9 2 <;> rfl) ?_
  refine k_nn (G := fun z => Wk X _ _ (RD D (RP D x Xp R0 r3.1) d L r3.2) 18 [(0, .ref (x + 9))] [z, z]) hE (fun b4 hE => ?_)
  refine gD_X3_241_X4 (pc := 18) hC hDy dX3_law_18 hE (fun x5 hE => ?_)
  refine k_iconst (pc := 21) (v := 1) hC dX3_law_21 (by decide) ?_
  refine k_iadd (pc := 22) hC dX3_law_22 ?_
  refine a_putI (pc := 23) (y := (x5 + 1)) hX hSt cl_X4 in_X4 6 (by decide) rfl tyX4 tyX4_ok nmX4 (by exact q381) rfl rfl rfl rfl dX3_law_23 hE (fun T6 _ hE => ?_)
  refine k_aload_n (pc := 26) hC dX3_law_26 rfl 0 rfl ?_
  refine k_aload_n (pc := 27) hC dX3_law_27 rfl 0 rfl ?_
  refine gP_X3_83 (pc := 28) hP dX3_law_28 ?_
  refine k_nn (G := fun z => Wk X _ _ (RD D (RP D x Xp R0 r3.1) d L T6) 31 [(0, .ref (x + 9))] [z, .ref (x + 9)]) hE (fun b7 hE => ?_)
  refine gD_X3_226_X4 (pc := 31) hC hDy dX3_law_31 hE (fun x8 hE => ?_)
  refine k_nn (G := fun z => Wk X _ _ (RD D (RP D x Xp R0 r3.1) d L T6) 34 [(0, .ref (x + 9))] [z, .ref (x + 9)]) hE (fun b9 hE => ?_)
  rcases xb_of hE with ⟨e, h1, rfl⟩ | ⟨r10, h1, hE⟩
  · exact p_callVT (pc := 34) (As := [.ref b9]) hP hR (ctx_R_known X.2.1 D (cxA X) x Xp R0 d L r3.1 T6 (pxf hP) F b9 e h1) (fun H h => p_fault hC.K h) (p_tt hX) (cw_R_known_X3 hX (Nat.le_of_ble_eq_true rfl) (Nat.le_of_ble_eq_true rfl)) (p_recv 9 lp_9 cl_X3 hP) rfl rfl (Nat.le_of_ble_eq_true rfl) dX3_law_34
  refine a_callV (pc := 34) (As := [.ref b9]) hX (ct_R_known X.2.1 D (cxA X) x Xp R0 d L r3.1 T6 (pxf hP) F b9 r10 h1) (cw_R_known_X3 hX (Nat.le_of_ble_eq_true rfl) (Nat.le_of_ble_eq_true rfl)) (p_recv 9 lp_9 cl_X3 hP) rfl rfl (Nat.le_of_ble_eq_true rfl) dX3_law_34 (fun c z => ?_)
  show Wk X c z (RD D (RP D x Xp R0 r10.2.1) d L r10.2.2) 37 [(0, .ref (x + 9))] [.int r10.1]
  refine k_istore_n (pc := 37) (lv' := [(1, .int r10.1), (0, .ref (x + 9))]) hC dX3_law_37 rfl (by rw [hnL]; decide) rfl ?_
  refine a_new (pc := 38) hX hSt cl_X16 in_X16 tyX16 tyX16_ok dv_X16 q1151 q1152 q147 dX3_law_38 hE (fun T11 eT11 hE c z => ?_)
  refine k_dup (pc := 41) hC dX3_law_41 rfl ?_
  obtain ⟨r12, h1, hE⟩ := ob_ hE
  refine a_callIN (pc := 42) (As := []) hX (ct_A_Law X.2.1 D (cxA X) (RP D x Xp R0 r10.2.1) d L T11 hSt hX.2.1 hX.2.2.2.2.2.2.2.2.2 (tN r10.2.2) r12 h1) (cw_A_Law_X3 hX (Nat.le_of_ble_eq_true rfl) (Nat.le_of_ble_eq_true rfl)) rfl rfl (Nat.le_of_ble_eq_true rfl) dX3_law_42 (fun c z => ?_)
  show Wk X c z (RD D (RP D x Xp R0 r10.2.1) d L r12) 45 [(1, .int r10.1), (0, .ref (x + 9))] [.ref (tN r10.2.2)]
  refine k_astore_n (pc := 45) (lv' := [(2, .ref (tN r10.2.2)), (1, .int r10.1), (0, .ref (x + 9))]) hC dX3_law_45 rfl (by rw [hnL]; decide) rfl ?_
  refine k_aload_n (pc := 46) hC dX3_law_46 rfl 2 rfl ?_
  refine k_bipush (pc := 47) (v := 61) hC dX3_law_47 (by decide) ?_
  rcases xb_of hE with ⟨e, h1, rfl⟩ | ⟨r13, h1, hE⟩
  · exact p_callVT (pc := 49) (As := [.int 61]) hP hR (ctx_R_sign X.2.1 D (cxA X) x Xp R0 d L r10.2.1 r12 (pxf hP) 61 e h1) (fun H h => p_fault hC.K h) (p_tt hX) (cw_R_sign_X3 hX (Nat.le_of_ble_eq_true rfl) (Nat.le_of_ble_eq_true rfl)) (p_recv 9 lp_9 cl_X3 hP) rfl rfl (Nat.le_of_ble_eq_true rfl) dX3_law_49
  refine a_callV (pc := 49) (As := [.int 61]) hX (ct_R_sign X.2.1 D (cxA X) x Xp R0 d L r10.2.1 r12 (pxf hP) 61 r13 h1) (cw_R_sign_X3 hX (Nat.le_of_ble_eq_true rfl) (Nat.le_of_ble_eq_true rfl)) (p_recv 9 lp_9 cl_X3 hP) rfl rfl (Nat.le_of_ble_eq_true rfl) dX3_law_49 (fun c z => ?_)
  show Wk X c z (RD D (RP D x Xp R0 r13.1) d L r13.2) 52 [(2, .ref (tN r10.2.2)), (1, .int r10.1), (0, .ref (x + 9))] []
  refine k_sub [2, 1, 0] rfl ?_
  exact w_R_law_L52 hP hR F _ _ _ _ _ hE _ _
theorem ct_R_law (l : Launch) (D : Dd) (A : Nat → Prop) (x : Nat) (Xp : Jr) (R0 : Heap → Prop) (d : Nat → Prop) (L : Nat × Nat × Nat × Nat) (Q : Ji) (T : Th) (hp : Pf D A x R0 d) (F : Nat) (out : Ji × Th) (hE : R_law F Xp Q T = some (.inr out)) : Ct l yX3_law (ws_ yX3_law cX3_law 3 none) (rmA 29 628 L T) vwCl arTy D A [.ref (x + 9)] (RD D (RP D x Xp R0 Q) d L T) (RD D (RP D x Xp R0 out.1) d L out.2) none (L.1 - tN T) (L.2.1 - tZ T) := by
  refine Ct.ofA (lv := [(0, .ref (x + 9))]) (by decide) (Nat.le_of_ble_eq_true rfl) rfl hp.1 hp.2.1 ?_
  intro X hl hX hR hXA _
  exact w_R_law (Xp := Xp) (out := .inr out) (hp.px hX hXA) hR F Q T hE
theorem ctx_R_law (l : Launch) (D : Dd) (A : Nat → Prop) (x : Nat) (Xp : Jr) (R0 : Heap → Prop) (d : Nat → Prop) (L : Nat × Nat × Nat × Nat) (Q : Ji) (T : Th) (hp : Pf D A x R0 d) (F : Nat) (e : Ji × Jr × Th) (hE : R_law F Xp Q T = some (.inl e)) : CtT l yX3_law (ws_ yX3_law cX3_law 3 none) (rmA 29 628 L T) D A [.ref (x + 9)] (RD D (RP D x Xp R0 Q) d L T) (RD D (RP D x e.2.1 R0 e.1) d L e.2.2) (x + 1) (L.1 - tN T) (L.2.1 - tZ T) := by
  refine CtT.ofA (lv := [(0, .ref (x + 9))]) (by decide) (Nat.le_of_ble_eq_true rfl) rfl hp.1 hp.2.1 ?_
  intro X hl hX hR hXA
  exact w_R_law (Xp := Xp) (out := .inl e) (hp.px hX hXA) hR F Q T hE
theorem cw_R_law_X3 {X : Ctx} {cc : ByteArray} {D : Dd} {d : Nat → Prop} {L : Nat × Nat × Nat × Nat} {mL fr lo : Nat} {T : Th} (hX : Ax X cc RX3 D d L mL fr lo) (h1 : 29 + 1 ≤ fr) (h2 : 8 + (3 + 11) + 628 ≤ lo) : CallW X.2.2.2.1 X.2.2.2.2.1 X.2.2.2.2.2.2.1 RX3 RX3 169 yX3_law cX3_law 3 none (ws_ yX3_law cX3_law 3 none) (rmA 29 628 L T) (L.1 - tN T) (L.2.1 - tZ T) 0 := cwV 0 (cx_w hX.1) (lw_V q1147 q1149 qs27 q120 q1150) rfl rfl rfl (by decide +kernel) (by rw [hX.2.2.2.1, hX.2.2.2.2.1]; exact ⟨h1, h2⟩)
set_option maxHeartbeats 4000000 in
theorem w_R_told_B24 {X : Ctx} {D : Dd} {x : Nat} {R0 : Heap → Prop} {d : Nat → Prop} {L : Nat × Nat × Nat × Nat} {Xp : Jr} {out : (Ji × Jr × Th) ⊕ (Ji × Th)} (hP : Px X cX3_told RX3 D x R0 d L 3 30 650) (hR : RtX X none D L x (fun r => (RD D (RP D x Xp R0 r.1) d L r.2)) (fun r => none) (fun e => RD D (RP D x e.2.1 R0 e.1) d L e.2.2) out) (F : Nat) (s0 : Int32) (Q : Ji) (T : Th) (hE : R_told_B24 F Xp s0 Q T = some out) (c z : Nat) : Wk X c z (RD D (RP D x Xp R0 Q) d L T) 24 [(0, .ref (x + 9))] [.int s0] := by
  have hX := hP.1
  have hC := hX.1
  have hnL := hX.2.2.1
  have hSt : ∀ {Xp : Jr} {Q : Ji}, Stb (RP D x Xp R0 Q) d := hP.st
  have hDy : ∀ {Xp : Jr} {Q : Ji} {T : Th} (H : Heap), RD D (RP D x Xp R0 Q) d L T H → Dy D T H := fun _ h => h.2.1
  unfold R_told_B24 at hE
  refine k_istore_n (pc := 24) (lv' := [(1, .int s0), (0, .ref (x + 9))]) hC dX3_told_24 rfl (by rw [hnL]; decide) rfl ?_
  refine k_iload_n (pc := 25) hC dX3_told_25 rfl 0 rfl ?_
  refine sw_E hE (fun hx hE => ?_) (fun n0 hE => ?_)
  · refine k_tswI (pc := 26) (k := 0) (tgt := 100) hC dX3_told_26 hx (by decide) (by decide) rfl (by decide) ?_
    refine k_aload_n (pc := 100) hC dX3_told_100 rfl 1 rfl ?_
    refine k_aload_n (pc := 101) hC dX3_told_101 rfl 1 rfl ?_
    refine gP_X3_83 (pc := 102) hP dX3_told_102 ?_
    refine k_nn (G := fun z => Wk X _ _ (RD D (RP D x Xp R0 Q) d L T) 105 [(1, .int s0), (0, .ref (x + 9))] [z, .ref (x + 9)]) hE (fun b3 hE => ?_)
    refine gD_X3_109_X4 (pc := 105) hC hDy dX3_told_105 hE (fun x4 hE => ?_)
    refine k_nn (G := fun z => Wk X _ _ (RD D (RP D x Xp R0 Q) d L T) 108 [(1, .int s0), (0, .ref (x + 9))] [z, .ref (x + 9)]) hE (fun b5 hE => ?_)
    refine a_tight hX ?_
    refine a_know (a_hcs hX) (fun hcs => ?_)
    refine t_callVI (pc := 108) (As := []) 19 (fun r => r) hC hDy cl_J5 (cw_L_size_X3 hC rfl (by rw [hX.2.2.2.1]; exact Nat.le_of_ble_eq_true rfl) (by rw [hX.2.2.2.2.1]; exact Nat.le_of_ble_eq_true rfl)) rfl rfl (Nat.le_of_ble_eq_true rfl) (a_hc0 hcs) dX3_told_108 hE (fun r h => ct_L_size _ _ _ _ T hDy b5 r h) (fun r6 hE => ?_)
    refine k_bipush (pc := 111) (v := 8) hC dX3_told_111 (by decide) ?_
    rcases xb_of hE with ⟨e, h1, rfl⟩ | ⟨r7, h1, hE⟩
    · exact p_callVT (pc := 113) (As := [.int r6, .int 8]) hP hR (ctx_R_begins X.2.1 D (cxA X) x Xp R0 d L Q T (pxf hP) r6 8 e h1) (fun H h => p_fault hC.K h) (p_tt hX) (cw_R_begins_X3 hX (Nat.le_of_ble_eq_true rfl) (Nat.le_of_ble_eq_true rfl)) (p_recv 9 lp_9 cl_X3 hP) rfl rfl (Nat.le_of_ble_eq_true rfl) dX3_told_113
    refine a_callV (pc := 113) (As := [.int r6, .int 8]) hX (ct_R_begins X.2.1 D (cxA X) x Xp R0 d L Q T (pxf hP) r6 8 r7 h1) (cw_R_begins_X3 hX (Nat.le_of_ble_eq_true rfl) (Nat.le_of_ble_eq_true rfl)) (p_recv 9 lp_9 cl_X3 hP) rfl rfl (Nat.le_of_ble_eq_true rfl) dX3_told_113 (fun c z => ?_)
    show Wk X c z (RD D (RP D x Xp R0 r7.1) d L r7.2) 116 [(1, .int s0), (0, .ref (x + 9))] []
    refine k_aload_n (pc := 116) hC dX3_told_116 rfl 1 rfl ?_
    refine gP_X3_83 (pc := 117) hP dX3_told_117 ?_
    refine k_nn (G := fun z => Wk X _ _ (RD D (RP D x Xp R0 r7.1) d L r7.2) 120 [(1, .int s0), (0, .ref (x + 9))] [z]) hE (fun b8 hE => ?_)
    refine gD_X3_109_X4 (pc := 120) hC hDy dX3_told_120 hE (fun x9 hE => ?_)
    refine a_new (pc := 123) hX hSt cl_X10 in_X10 tyX10 tyX10_ok dv_X10 q706 q707 q134 dX3_told_123 hE (fun T10 eT10 hE c z => ?_)
    refine k_dup (pc := 126) hC dX3_told_126 rfl ?_
    refine k_aload_n (pc := 127) hC dX3_told_127 rfl 1 rfl ?_
    rcases xb_of hE with ⟨e, h1, rfl⟩ | ⟨r11, h1, hE⟩
    · exact p_callVT (pc := 128) (As := []) hP hR (ctx_R_name X.2.1 D (cxA X) x Xp R0 d L r7.1 T10 (pxf hP) F e h1) (fun H h => p_fault hC.K h) (p_tt hX) (cw_R_name_X3 hX (Nat.le_of_ble_eq_true rfl) (Nat.le_of_ble_eq_true rfl)) (p_recv 9 lp_9 cl_X3 hP) rfl rfl (by cases x9 <;> exact Nat.le_of_ble_eq_true rfl) dX3_told_128
    refine a_callV (pc := 128) (As := []) hX (ct_R_name X.2.1 D (cxA X) x Xp R0 d L r7.1 T10 (pxf hP) F r11 h1) (cw_R_name_X3 hX (Nat.le_of_ble_eq_true rfl) (Nat.le_of_ble_eq_true rfl)) (p_recv 9 lp_9 cl_X3 hP) rfl rfl (by cases x9 <;> exact Nat.le_of_ble_eq_true rfl) dX3_told_128 (fun c z => ?_)
    show Wk X c z (RD D (RP D x Xp R0 r11.2.1) d L r11.2.2) 131 [(1, .int s0), (0, .ref (x + 9))] [va_rf r11.1, .ref (tN r7.2), .ref (tN r7.2), va_rf x9]
    refine k_nn (G := fun z => Wk X _ _ (RD D (RP D x Xp R0 r11.2.1) d L r11.2.2) 131 [(1, .int s0), (0, .ref (x + 9))] [z, .ref (tN r7.2), .ref (tN r7.2), va_rf x9]) hE (fun b12 hE => ?_)
    obtain ⟨r13, h1, hE⟩ := ob_ hE
    refine a_callI (pc := 131) (As := [.ref b12]) hX (ct_A_Room X.2.1 D (cxA X) (RP D x Xp R0 r11.2.1) d L r11.2.2 hSt hX.2.1 hX.2.2.2.2.2.2.2.2.2 (tN r7.2) b12 r13 h1) (cw_A_Room_X3 hX (Nat.le_of_ble_eq_true rfl) (Nat.le_of_ble_eq_true rfl)) rfl rfl (by cases x9 <;> exact Nat.le_of_ble_eq_true rfl) dX3_told_131 (fun c z => ?_)
    show Wk X c z (RD D (RP D x Xp R0 r11.2.1) d L r13) 134 [(1, .int s0), (0, .ref (x + 9))] [.ref (tN r7.2), va_rf x9]
    refine k_nn (G := fun z => Wk X _ _ (RD D (RP D x Xp R0 r11.2.1) d L r13) 134 [(1, .int s0), (0, .ref (x + 9))] [.ref (tN r7.2), z]) hE (fun b14 hE => ?_)
    obtain ⟨hrv, hE⟩ := dC_of hE
    obtain ⟨r15, h1, hE⟩ := ob_ hE
    refine a_callV (pc := 134) (As := [.ref (tN r7.2)]) hX (ct_A_L_add X.2.1 D (cxA X) (RP D x Xp R0 r11.2.1) d L r13 hSt hX.2.1 hX.2.2.2.2.2.2.2.2.2 b14 (tN r7.2) r15 h1) (cw_A_L_add_X3 hX (Nat.le_of_ble_eq_true rfl) (Nat.le_of_ble_eq_true rfl)) (a_recv hC cl_J5 hrv) rfl rfl (Nat.le_of_ble_eq_true rfl) dX3_told_134 (fun c z => ?_)
    show Wk X c z (RD D (RP D x Xp R0 r11.2.1) d L r15.2) 137 [(1, .int s0), (0, .ref (x + 9))] [.int r15.1]
    refine k_pop (pc := 137) hC dX3_told_137 rfl ?_
    refine k_goto (pc := 138) (tgt := 325) hC dX3_told_138 (by decide) ?_
    cases hE
    exact a_vret (pc := 325) hX hR dX3_told_325 (by rfl) (fun _ h => h)
  refine sw_E hE (fun hx hE => ?_) (fun n1 hE => ?_)
  · refine k_tswI (pc := 26) (k := 1) (tgt := 141) hC dX3_told_26 hx (by decide) (by decide) rfl (by decide) ?_
    refine k_aload_n (pc := 141) hC dX3_told_141 rfl 1 rfl ?_
    rcases xb_of hE with ⟨e, h1, rfl⟩ | ⟨r16, h1, hE⟩
    · exact p_callVT (pc := 142) (As := []) hP hR (ctx_R_door X.2.1 D (cxA X) x Xp R0 d L Q T (pxf hP) F e h1) (fun H h => p_fault hC.K h) (p_tt hX) (cw_R_door_X3 hX (Nat.le_of_ble_eq_true rfl) (Nat.le_of_ble_eq_true rfl)) (p_recv 9 lp_9 cl_X3 hP) rfl rfl (Nat.le_of_ble_eq_true rfl) dX3_told_142
    refine a_callV (pc := 142) (As := []) hX (ct_R_door X.2.1 D (cxA X) x Xp R0 d L Q T (pxf hP) F r16 h1) (cw_R_door_X3 hX (Nat.le_of_ble_eq_true rfl) (Nat.le_of_ble_eq_true rfl)) (p_recv 9 lp_9 cl_X3 hP) rfl rfl (Nat.le_of_ble_eq_true rfl) dX3_told_142 (fun c z => ?_)
    show Wk X c z (RD D (RP D x Xp R0 r16.1) d L r16.2) 145 [(1, .int s0), (0, .ref (x + 9))] []
    refine k_goto (pc := 145) (tgt := 325) hC dX3_told_145 (by decide) ?_
    cases hE
    exact a_vret (pc := 325) hX hR dX3_told_325 (by rfl) (fun _ h => h)
  refine sw_E hE (fun hx hE => ?_) (fun n3 hE => ?_)
  · refine k_tswI (pc := 26) (k := 3) (tgt := 148) hC dX3_told_26 hx (by decide) (by decide) rfl (by decide) ?_
    refine k_aload_n (pc := 148) hC dX3_told_148 rfl 1 rfl ?_
    refine k_aload_n (pc := 149) hC dX3_told_149 rfl 1 rfl ?_
    refine gP_X3_83 (pc := 150) hP dX3_told_150 ?_
    refine k_nn (G := fun z => Wk X _ _ (RD D (RP D x Xp R0 Q) d L T) 153 [(1, .int s0), (0, .ref (x + 9))] [z, .ref (x + 9)]) hE (fun b17 hE => ?_)
    refine gD_X3_137_X4 (pc := 153) hC hDy dX3_told_153 hE (fun x18 hE => ?_)
    refine k_nn (G := fun z => Wk X _ _ (RD D (RP D x Xp R0 Q) d L T) 156 [(1, .int s0), (0, .ref (x + 9))] [z, .ref (x + 9)]) hE (fun b19 hE => ?_)
    refine a_tight hX ?_
    refine a_know (a_hcs hX) (fun hcs => ?_)
    refine t_callVI (pc := 156) (As := []) 19 (fun r => r) hC hDy cl_J5 (cw_L_size_X3 hC rfl (by rw [hX.2.2.2.1]; exact Nat.le_of_ble_eq_true rfl) (by rw [hX.2.2.2.2.1]; exact Nat.le_of_ble_eq_true rfl)) rfl rfl (Nat.le_of_ble_eq_true rfl) (a_hc0 hcs) dX3_told_156 hE (fun r h => ct_L_size _ _ _ _ T hDy b19 r h) (fun r20 hE => ?_)
    refine k_bipush (pc := 159) (v := 6) hC dX3_told_159 (by decide) ?_
    rcases xb_of hE with ⟨e, h1, rfl⟩ | ⟨r21, h1, hE⟩
    · exact p_callVT (pc := 161) (As := [.int r20, .int 6]) hP hR (ctx_R_begins X.2.1 D (cxA X) x Xp R0 d L Q T (pxf hP) r20 6 e h1) (fun H h => p_fault hC.K h) (p_tt hX) (cw_R_begins_X3 hX (Nat.le_of_ble_eq_true rfl) (Nat.le_of_ble_eq_true rfl)) (p_recv 9 lp_9 cl_X3 hP) rfl rfl (Nat.le_of_ble_eq_true rfl) dX3_told_161
    refine a_callV (pc := 161) (As := [.int r20, .int 6]) hX (ct_R_begins X.2.1 D (cxA X) x Xp R0 d L Q T (pxf hP) r20 6 r21 h1) (cw_R_begins_X3 hX (Nat.le_of_ble_eq_true rfl) (Nat.le_of_ble_eq_true rfl)) (p_recv 9 lp_9 cl_X3 hP) rfl rfl (Nat.le_of_ble_eq_true rfl) dX3_told_161 (fun c z => ?_)
    show Wk X c z (RD D (RP D x Xp R0 r21.1) d L r21.2) 164 [(1, .int s0), (0, .ref (x + 9))] []
    refine a_new (pc := 164) hX hSt cl_X12 in_X12 tyX12 tyX12_ok dv_X12 q1025 q1026 q143 dX3_told_164 hE (fun T22 eT22 hE c z => ?_)
    refine k_dup (pc := 167) hC dX3_told_167 rfl ?_
    refine k_aload_n (pc := 168) hC dX3_told_168 rfl 1 rfl ?_
    rcases xb_of hE with ⟨e, h1, rfl⟩ | ⟨r23, h1, hE⟩
    · exact p_callVT (pc := 169) (As := []) hP hR (ctx_R_name X.2.1 D (cxA X) x Xp R0 d L r21.1 T22 (pxf hP) F e h1) (fun H h => p_fault hC.K h) (p_tt hX) (cw_R_name_X3 hX (Nat.le_of_ble_eq_true rfl) (Nat.le_of_ble_eq_true rfl)) (p_recv 9 lp_9 cl_X3 hP) rfl rfl (Nat.le_of_ble_eq_true rfl) dX3_told_169
    refine a_callV (pc := 169) (As := []) hX (ct_R_name X.2.1 D (cxA X) x Xp R0 d L r21.1 T22 (pxf hP) F r23 h1) (cw_R_name_X3 hX (Nat.le_of_ble_eq_true rfl) (Nat.le_of_ble_eq_true rfl)) (p_recv 9 lp_9 cl_X3 hP) rfl rfl (Nat.le_of_ble_eq_true rfl) dX3_told_169 (fun c z => ?_)
    show Wk X c z (RD D (RP D x Xp R0 r23.2.1) d L r23.2.2) 172 [(1, .int s0), (0, .ref (x + 9))] [va_rf r23.1, .ref (tN r21.2), .ref (tN r21.2)]
    refine k_nn (G := fun z => Wk X _ _ (RD D (RP D x Xp R0 r23.2.1) d L r23.2.2) 172 [(1, .int s0), (0, .ref (x + 9))] [z, .ref (tN r21.2), .ref (tN r21.2)]) hE (fun b24 hE => ?_)
    obtain ⟨r25, h1, hE⟩ := ob_ hE
    refine a_callI (pc := 172) (As := [.ref b24]) hX (ct_A_Tool X.2.1 D (cxA X) (RP D x Xp R0 r23.2.1) d L r23.2.2 hSt hX.2.1 hX.2.2.2.2.2.2.2.2.2 (tN r21.2) b24 r25 h1) (cw_A_Tool_X3 hX (Nat.le_of_ble_eq_true rfl) (Nat.le_of_ble_eq_true rfl)) rfl rfl (Nat.le_of_ble_eq_true rfl) dX3_told_172 (fun c z => ?_)
    show Wk X c z (RD D (RP D x Xp R0 r23.2.1) d L r25) 175 [(1, .int s0), (0, .ref (x + 9))] [.ref (tN r21.2)]
    refine k_astore_n (pc := 175) (lv' := [(2, .ref (tN r21.2)), (1, .int s0), (0, .ref (x + 9))]) hC dX3_told_175 rfl (by rw [hnL]; decide) rfl ?_
    refine k_aload_n (pc := 176) hC dX3_told_176 rfl 0 rfl ?_
    refine k_aload_n (pc := 177) hC dX3_told_177 rfl 2 rfl ?_
    refine k_aload_n (pc := 178) hC dX3_told_178 rfl 2 rfl ?_
    refine gP_X3_83 (pc := 179) hP dX3_told_179 ?_
    refine k_nn (G := fun z => Wk X _ _ (RD D (RP D x Xp R0 r23.2.1) d L r25) 182 [(2, .ref (tN r21.2)), (1, .int s0), (0, .ref (x + 9))] [z, .ref (x + 9), .ref (tN r21.2)]) hE (fun b26 hE => ?_)
    refine gD_X3_109_X4 (pc := 182) hC hDy dX3_told_182 hE (fun x27 hE => ?_)
    refine k_nn (G := fun z => Wk X _ _ (RD D (RP D x Xp R0 r23.2.1) d L r25) 185 [(2, .ref (tN r21.2)), (1, .int s0), (0, .ref (x + 9))] [z, .ref (x + 9), .ref (tN r21.2)]) hE (fun b28 hE => ?_)
    rcases xb_of hE with ⟨e, h1, rfl⟩ | ⟨r29, h1, hE⟩
    · exact p_callVT (pc := 185) (As := [.ref b28]) hP hR (ctx_R_known X.2.1 D (cxA X) x Xp R0 d L r23.2.1 r25 (pxf hP) F b28 e h1) (fun H h => p_fault hC.K h) (p_tt hX) (cw_R_known_X3 hX (Nat.le_of_ble_eq_true rfl) (Nat.le_of_ble_eq_true rfl)) (p_recv 9 lp_9 cl_X3 hP) rfl rfl (Nat.le_of_ble_eq_true rfl) dX3_told_185
    refine a_callV (pc := 185) (As := [.ref b28]) hX (ct_R_known X.2.1 D (cxA X) x Xp R0 d L r23.2.1 r25 (pxf hP) F b28 r29 h1) (cw_R_known_X3 hX (Nat.le_of_ble_eq_true rfl) (Nat.le_of_ble_eq_true rfl)) (p_recv 9 lp_9 cl_X3 hP) rfl rfl (Nat.le_of_ble_eq_true rfl) dX3_told_185 (fun c z => ?_)
    show Wk X c z (RD D (RP D x Xp R0 r29.2.1) d L r29.2.2) 188 [(2, .ref (tN r21.2)), (1, .int s0), (0, .ref (x + 9))] [.int r29.1, .ref (tN r21.2)]
    refine a_putI (pc := 188) (y := r29.1) hX hSt cl_X12 in_X12 1 (by decide) rfl tyX12 tyX12_ok nmX12 (by exact q1032) rfl rfl rfl rfl dX3_told_188 hE (fun T30 _ hE => ?_)
    refine k_aload_n (pc := 191) hC dX3_told_191 rfl 2 rfl ?_
    refine gP_X3_83 (pc := 192) hP dX3_told_192 ?_
    refine k_nn (G := fun z => Wk X _ _ (RD D (RP D x Xp R0 r29.2.1) d L T30) 195 [(2, .ref (tN r21.2)), (1, .int s0), (0, .ref (x + 9))] [z]) hE (fun b31 hE => ?_)
    refine gD_X3_137_X4 (pc := 195) hC hDy dX3_told_195 hE (fun x32 hE => ?_)
    refine k_aload_n (pc := 198) hC dX3_told_198 rfl 0 rfl ?_
    refine k_nn (G := fun z => Wk X _ _ (RD D (RP D x Xp R0 r29.2.1) d L T30) 199 [(2, .ref (tN r21.2)), (1, .int s0), (0, .ref (x + 9))] [.ref (tN r21.2), z]) hE (fun b33 hE => ?_)
    obtain ⟨hrv, hE⟩ := dC_of hE
    obtain ⟨r34, h1, hE⟩ := ob_ hE
    refine a_callV (pc := 199) (As := [.ref (tN r21.2)]) hX (ct_A_L_add X.2.1 D (cxA X) (RP D x Xp R0 r29.2.1) d L T30 hSt hX.2.1 hX.2.2.2.2.2.2.2.2.2 b33 (tN r21.2) r34 h1) (cw_A_L_add_X3 hX (Nat.le_of_ble_eq_true rfl) (Nat.le_of_ble_eq_true rfl)) (a_recv hC cl_J5 hrv) rfl rfl (Nat.le_of_ble_eq_true rfl) dX3_told_199 (fun c z => ?_)
    show Wk X c z (RD D (RP D x Xp R0 r29.2.1) d L r34.2) 202 [(2, .ref (tN r21.2)), (1, .int s0), (0, .ref (x + 9))] [.int r34.1]
    refine k_pop (pc := 202) hC dX3_told_202 rfl ?_
    refine k_goto (pc := 203) (tgt := 325) hC dX3_told_203 (by decide) ?_
    cases hE
    exact a_vret (pc := 325) hX hR dX3_told_325 (by rfl) (fun _ h => h)
  refine sw_E hE (fun hx hE => ?_) (fun n4 hE => ?_)
  · refine k_tswI (pc := 26) (k := 4) (tgt := 206) hC dX3_told_26 hx (by decide) (by decide) rfl (by decide) ?_
    refine k_aload_n (pc := 206) hC dX3_told_206 rfl 1 rfl ?_
    refine k_aload_n (pc := 207) hC dX3_told_207 rfl 1 rfl ?_
    refine gP_X3_83 (pc := 208) hP dX3_told_208 ?_
    refine k_nn (G := fun z => Wk X _ _ (RD D (RP D x Xp R0 Q) d L T) 211 [(1, .int s0), (0, .ref (x + 9))] [z, .ref (x + 9)]) hE (fun b35 hE => ?_)
    refine gD_X3_150_X4 (pc := 211) hC hDy dX3_told_211 hE (fun x36 hE => ?_)
    refine k_nn (G := fun z => Wk X _ _ (RD D (RP D x Xp R0 Q) d L T) 214 [(1, .int s0), (0, .ref (x + 9))] [z, .ref (x + 9)]) hE (fun b37 hE => ?_)
    refine a_tight hX ?_
    refine a_know (a_hcs hX) (fun hcs => ?_)
    refine t_callVI (pc := 214) (As := []) 19 (fun r => r) hC hDy cl_J5 (cw_L_size_X3 hC rfl (by rw [hX.2.2.2.1]; exact Nat.le_of_ble_eq_true rfl) (by rw [hX.2.2.2.2.1]; exact Nat.le_of_ble_eq_true rfl)) rfl rfl (Nat.le_of_ble_eq_true rfl) (a_hc0 hcs) dX3_told_214 hE (fun r h => ct_L_size _ _ _ _ T hDy b37 r h) (fun r38 hE => ?_)
    refine k_bipush (pc := 217) (v := 6) hC dX3_told_217 (by decide) ?_
    rcases xb_of hE with ⟨e, h1, rfl⟩ | ⟨r39, h1, hE⟩
    · exact p_callVT (pc := 219) (As := [.int r38, .int 6]) hP hR (ctx_R_begins X.2.1 D (cxA X) x Xp R0 d L Q T (pxf hP) r38 6 e h1) (fun H h => p_fault hC.K h) (p_tt hX) (cw_R_begins_X3 hX (Nat.le_of_ble_eq_true rfl) (Nat.le_of_ble_eq_true rfl)) (p_recv 9 lp_9 cl_X3 hP) rfl rfl (Nat.le_of_ble_eq_true rfl) dX3_told_219
    refine a_callV (pc := 219) (As := [.int r38, .int 6]) hX (ct_R_begins X.2.1 D (cxA X) x Xp R0 d L Q T (pxf hP) r38 6 r39 h1) (cw_R_begins_X3 hX (Nat.le_of_ble_eq_true rfl) (Nat.le_of_ble_eq_true rfl)) (p_recv 9 lp_9 cl_X3 hP) rfl rfl (Nat.le_of_ble_eq_true rfl) dX3_told_219 (fun c z => ?_)
    show Wk X c z (RD D (RP D x Xp R0 r39.1) d L r39.2) 222 [(1, .int s0), (0, .ref (x + 9))] []
    refine a_new (pc := 222) hX hSt cl_X13 in_X13 tyX13 tyX13_ok dv_X13 q1037 q1038 q144 dX3_told_222 hE (fun T40 eT40 hE c z => ?_)
    refine k_dup (pc := 225) hC dX3_told_225 rfl ?_
    refine k_aload_n (pc := 226) hC dX3_told_226 rfl 1 rfl ?_
    rcases xb_of hE with ⟨e, h1, rfl⟩ | ⟨r41, h1, hE⟩
    · exact p_callVT (pc := 227) (As := []) hP hR (ctx_R_name X.2.1 D (cxA X) x Xp R0 d L r39.1 T40 (pxf hP) F e h1) (fun H h => p_fault hC.K h) (p_tt hX) (cw_R_name_X3 hX (Nat.le_of_ble_eq_true rfl) (Nat.le_of_ble_eq_true rfl)) (p_recv 9 lp_9 cl_X3 hP) rfl rfl (Nat.le_of_ble_eq_true rfl) dX3_told_227
    refine a_callV (pc := 227) (As := []) hX (ct_R_name X.2.1 D (cxA X) x Xp R0 d L r39.1 T40 (pxf hP) F r41 h1) (cw_R_name_X3 hX (Nat.le_of_ble_eq_true rfl) (Nat.le_of_ble_eq_true rfl)) (p_recv 9 lp_9 cl_X3 hP) rfl rfl (Nat.le_of_ble_eq_true rfl) dX3_told_227 (fun c z => ?_)
    show Wk X c z (RD D (RP D x Xp R0 r41.2.1) d L r41.2.2) 230 [(1, .int s0), (0, .ref (x + 9))] [va_rf r41.1, .ref (tN r39.2), .ref (tN r39.2)]
    refine k_nn (G := fun z => Wk X _ _ (RD D (RP D x Xp R0 r41.2.1) d L r41.2.2) 230 [(1, .int s0), (0, .ref (x + 9))] [z, .ref (tN r39.2), .ref (tN r39.2)]) hE (fun b42 hE => ?_)
    obtain ⟨r43, h1, hE⟩ := ob_ hE
    refine a_callI (pc := 230) (As := [.ref b42]) hX (ct_A_Task X.2.1 D (cxA X) (RP D x Xp R0 r41.2.1) d L r41.2.2 hSt hX.2.1 hX.2.2.2.2.2.2.2.2.2 (tN r39.2) b42 r43 h1) (cw_A_Task_X3 hX (Nat.le_of_ble_eq_true rfl) (Nat.le_of_ble_eq_true rfl)) rfl rfl (Nat.le_of_ble_eq_true rfl) dX3_told_230 (fun c z => ?_)
    show Wk X c z (RD D (RP D x Xp R0 r41.2.1) d L r43) 233 [(1, .int s0), (0, .ref (x + 9))] [.ref (tN r39.2)]
    refine k_astore_n (pc := 233) (lv' := [(2, .ref (tN r39.2)), (1, .int s0), (0, .ref (x + 9))]) hC dX3_told_233 rfl (by rw [hnL]; decide) rfl ?_
    refine k_aload_n (pc := 234) hC dX3_told_234 rfl 0 rfl ?_
    refine k_aload_n (pc := 235) hC dX3_told_235 rfl 2 rfl ?_
    refine k_aload_n (pc := 236) hC dX3_told_236 rfl 2 rfl ?_
    refine gP_X3_83 (pc := 237) hP dX3_told_237 ?_
    refine k_nn (G := fun z => Wk X _ _ (RD D (RP D x Xp R0 r41.2.1) d L r43) 240 [(2, .ref (tN r39.2)), (1, .int s0), (0, .ref (x + 9))] [z, .ref (x + 9), .ref (tN r39.2)]) hE (fun b44 hE => ?_)
    refine gD_X3_109_X4 (pc := 240) hC hDy dX3_told_240 hE (fun x45 hE => ?_)
    refine k_nn (G := fun z => Wk X _ _ (RD D (RP D x Xp R0 r41.2.1) d L r43) 243 [(2, .ref (tN r39.2)), (1, .int s0), (0, .ref (x + 9))] [z, .ref (x + 9), .ref (tN r39.2)]) hE (fun b46 hE => ?_)
    rcases xb_of hE with ⟨e, h1, rfl⟩ | ⟨r47, h1, hE⟩
    · exact p_callVT (pc := 243) (As := [.ref b46]) hP hR (ctx_R_known X.2.1 D (cxA X) x Xp R0 d L r41.2.1 r43 (pxf hP) F b46 e h1) (fun H h => p_fault hC.K h) (p_tt hX) (cw_R_known_X3 hX (Nat.le_of_ble_eq_true rfl) (Nat.le_of_ble_eq_true rfl)) (p_recv 9 lp_9 cl_X3 hP) rfl rfl (Nat.le_of_ble_eq_true rfl) dX3_told_243
    refine a_callV (pc := 243) (As := [.ref b46]) hX (ct_R_known X.2.1 D (cxA X) x Xp R0 d L r41.2.1 r43 (pxf hP) F b46 r47 h1) (cw_R_known_X3 hX (Nat.le_of_ble_eq_true rfl) (Nat.le_of_ble_eq_true rfl)) (p_recv 9 lp_9 cl_X3 hP) rfl rfl (Nat.le_of_ble_eq_true rfl) dX3_told_243 (fun c z => ?_)
    show Wk X c z (RD D (RP D x Xp R0 r47.2.1) d L r47.2.2) 246 [(2, .ref (tN r39.2)), (1, .int s0), (0, .ref (x + 9))] [.int r47.1, .ref (tN r39.2)]
    refine a_putI (pc := 246) (y := r47.1) hX hSt cl_X13 in_X13 1 (by decide) rfl tyX13 tyX13_ok nmX13 (by exact q1047) rfl rfl rfl rfl dX3_told_246 hE (fun T48 _ hE => ?_)
    refine k_aload_n (pc := 249) hC dX3_told_249 rfl 0 rfl ?_
    refine k_aload_n (pc := 250) hC dX3_told_250 rfl 2 rfl ?_
    refine k_iconst (pc := 251) (v := 0) hC dX3_told_251 (by decide) ?_
    refine k_sipush (pc := 252) (v := 999) hC dX3_told_252 (by decide) ?_
    rcases xb_of hE with ⟨e, h1, rfl⟩ | ⟨r49, h1, hE⟩
    · exact p_callVT (pc := 255) (As := [.int 0, .int 999]) hP hR (ctx_R_number X.2.1 D (cxA X) x Xp R0 d L r47.2.1 T48 (pxf hP) F 0 999 e h1) (fun H h => p_fault hC.K h) (p_tt hX) (cw_R_number_X3 hX (Nat.le_of_ble_eq_true rfl) (Nat.le_of_ble_eq_true rfl)) (p_recv 9 lp_9 cl_X3 hP) rfl rfl (Nat.le_of_ble_eq_true rfl) dX3_told_255
    refine a_callV (pc := 255) (As := [.int 0, .int 999]) hX (ct_R_number X.2.1 D (cxA X) x Xp R0 d L r47.2.1 T48 (pxf hP) F 0 999 r49 h1) (cw_R_number_X3 hX (Nat.le_of_ble_eq_true rfl) (Nat.le_of_ble_eq_true rfl)) (p_recv 9 lp_9 cl_X3 hP) rfl rfl (Nat.le_of_ble_eq_true rfl) dX3_told_255 (fun c z => ?_)
    show Wk X c z (RD D (RP D x Xp R0 r49.2.1) d L r49.2.2) 258 [(2, .ref (tN r39.2)), (1, .int s0), (0, .ref (x + 9))] [.int r49.1, .ref (tN r39.2)]
    refine a_putI (pc := 258) (y := r49.1) hX hSt cl_X13 in_X13 2 (by decide) rfl tyX13 tyX13_ok nmX13 (by exact q1049) rfl rfl rfl rfl dX3_told_258 hE (fun T50 _ hE => ?_)
    refine k_aload_n (pc := 261) hC dX3_told_261 rfl 2 rfl ?_
    refine gP_X3_83 (pc := 262) hP dX3_told_262 ?_
    refine k_nn (G := fun z => Wk X _ _ (RD D (RP D x Xp R0 r49.2.1) d L T50) 265 [(2, .ref (tN r39.2)), (1, .int s0), (0, .ref (x + 9))] [z]) hE (fun b51 hE => ?_)
    refine gD_X3_150_X4 (pc := 265) hC hDy dX3_told_265 hE (fun x52 hE => ?_)
    refine k_aload_n (pc := 268) hC dX3_told_268 rfl 0 rfl ?_
    refine k_nn (G := fun z => Wk X _ _ (RD D (RP D x Xp R0 r49.2.1) d L T50) 269 [(2, .ref (tN r39.2)), (1, .int s0), (0, .ref (x + 9))] [.ref (tN r39.2), z]) hE (fun b53 hE => ?_)
    obtain ⟨hrv, hE⟩ := dC_of hE
    obtain ⟨r54, h1, hE⟩ := ob_ hE
    refine a_callV (pc := 269) (As := [.ref (tN r39.2)]) hX (ct_A_L_add X.2.1 D (cxA X) (RP D x Xp R0 r49.2.1) d L T50 hSt hX.2.1 hX.2.2.2.2.2.2.2.2.2 b53 (tN r39.2) r54 h1) (cw_A_L_add_X3 hX (Nat.le_of_ble_eq_true rfl) (Nat.le_of_ble_eq_true rfl)) (a_recv hC cl_J5 hrv) rfl rfl (Nat.le_of_ble_eq_true rfl) dX3_told_269 (fun c z => ?_)
    show Wk X c z (RD D (RP D x Xp R0 r49.2.1) d L r54.2) 272 [(2, .ref (tN r39.2)), (1, .int s0), (0, .ref (x + 9))] [.int r54.1]
    refine k_pop (pc := 272) hC dX3_told_272 rfl ?_
    refine k_goto (pc := 273) (tgt := 325) hC dX3_told_273 (by decide) ?_
    cases hE
    exact a_vret (pc := 325) hX hR dX3_told_325 (by rfl) (fun _ h => h)
  refine sw_E hE (fun hx hE => ?_) (fun n5 hE => ?_)
  · refine k_tswI (pc := 26) (k := 5) (tgt := 276) hC dX3_told_26 hx (by decide) (by decide) rfl (by decide) ?_
    refine k_aload_n (pc := 276) hC dX3_told_276 rfl 1 rfl ?_
    rcases xb_of hE with ⟨e, h1, rfl⟩ | ⟨r55, h1, hE⟩
    · exact p_callVT (pc := 277) (As := []) hP hR (ctx_R_step X.2.1 D (cxA X) x Xp R0 d L Q T (pxf hP) F e h1) (fun H h => p_fault hC.K h) (p_tt hX) (cw_R_step_X3 hX (Nat.le_of_ble_eq_true rfl) (Nat.le_of_ble_eq_true rfl)) (p_recv 9 lp_9 cl_X3 hP) rfl rfl (Nat.le_of_ble_eq_true rfl) dX3_told_277
    refine a_callV (pc := 277) (As := []) hX (ct_R_step X.2.1 D (cxA X) x Xp R0 d L Q T (pxf hP) F r55 h1) (cw_R_step_X3 hX (Nat.le_of_ble_eq_true rfl) (Nat.le_of_ble_eq_true rfl)) (p_recv 9 lp_9 cl_X3 hP) rfl rfl (Nat.le_of_ble_eq_true rfl) dX3_told_277 (fun c z => ?_)
    show Wk X c z (RD D (RP D x Xp R0 r55.1) d L r55.2) 280 [(1, .int s0), (0, .ref (x + 9))] []
    refine k_goto (pc := 280) (tgt := 325) hC dX3_told_280 (by decide) ?_
    cases hE
    exact a_vret (pc := 325) hX hR dX3_told_325 (by rfl) (fun _ h => h)
  refine sw_E hE (fun hx hE => ?_) (fun n8 hE => ?_)
  · refine k_tswI (pc := 26) (k := 8) (tgt := 283) hC dX3_told_26 hx (by decide) (by decide) rfl (by decide) ?_
    refine k_aload_n (pc := 283) hC dX3_told_283 rfl 1 rfl ?_
    rcases xb_of hE with ⟨e, h1, rfl⟩ | ⟨r56, h1, hE⟩
    · exact p_callVT (pc := 284) (As := []) hP hR (ctx_R_man X.2.1 D (cxA X) x Xp R0 d L Q T (pxf hP) F e h1) (fun H h => p_fault hC.K h) (p_tt hX) (cw_R_man_X3 hX (Nat.le_of_ble_eq_true rfl) (Nat.le_of_ble_eq_true rfl)) (p_recv 9 lp_9 cl_X3 hP) rfl rfl (Nat.le_of_ble_eq_true rfl) dX3_told_284
    refine a_callV (pc := 284) (As := []) hX (ct_R_man X.2.1 D (cxA X) x Xp R0 d L Q T (pxf hP) F r56 h1) (cw_R_man_X3 hX (Nat.le_of_ble_eq_true rfl) (Nat.le_of_ble_eq_true rfl)) (p_recv 9 lp_9 cl_X3 hP) rfl rfl (Nat.le_of_ble_eq_true rfl) dX3_told_284 (fun c z => ?_)
    show Wk X c z (RD D (RP D x Xp R0 r56.1) d L r56.2) 287 [(1, .int s0), (0, .ref (x + 9))] []
    refine k_goto (pc := 287) (tgt := 325) hC dX3_told_287 (by decide) ?_
    cases hE
    exact a_vret (pc := 325) hX hR dX3_told_325 (by rfl) (fun _ h => h)
  refine sw_E hE (fun hx hE => ?_) (fun n10 hE => ?_)
  · refine k_tswI (pc := 26) (k := 10) (tgt := 290) hC dX3_told_26 hx (by decide) (by decide) rfl (by decide) ?_
    refine k_aload_n (pc := 290) hC dX3_told_290 rfl 1 rfl ?_
    rcases xb_of hE with ⟨e, h1, rfl⟩ | ⟨r57, h1, hE⟩
    · exact p_callVT (pc := 291) (As := []) hP hR (ctx_R_law X.2.1 D (cxA X) x Xp R0 d L Q T (pxf hP) F e h1) (fun H h => p_fault hC.K h) (p_tt hX) (cw_R_law_X3 hX (Nat.le_of_ble_eq_true rfl) (Nat.le_of_ble_eq_true rfl)) (p_recv 9 lp_9 cl_X3 hP) rfl rfl (Nat.le_of_ble_eq_true rfl) dX3_told_291
    refine a_callV (pc := 291) (As := []) hX (ct_R_law X.2.1 D (cxA X) x Xp R0 d L Q T (pxf hP) F r57 h1) (cw_R_law_X3 hX (Nat.le_of_ble_eq_true rfl) (Nat.le_of_ble_eq_true rfl)) (p_recv 9 lp_9 cl_X3 hP) rfl rfl (Nat.le_of_ble_eq_true rfl) dX3_told_291 (fun c z => ?_)
    show Wk X c z (RD D (RP D x Xp R0 r57.1) d L r57.2) 294 [(1, .int s0), (0, .ref (x + 9))] []
    refine k_goto (pc := 294) (tgt := 325) hC dX3_told_294 (by decide) ?_
    cases hE
    exact a_vret (pc := 325) hX hR dX3_told_325 (by rfl) (fun _ h => h)
  refine sw_E hE (fun hx hE => ?_) (fun n14 hE => ?_)
  · refine k_tswI (pc := 26) (k := 14) (tgt := 297) hC dX3_told_26 hx (by decide) (by decide) rfl (by decide) ?_
    refine k_aload_n (pc := 297) hC dX3_told_297 rfl 1 rfl ?_
    rcases xb_of hE with ⟨e, h1, rfl⟩ | ⟨r58, h1, hE⟩
    · exact p_callVT (pc := 298) (As := []) hP hR (ctx_R_pass X.2.1 D (cxA X) x Xp R0 d L Q T (pxf hP)  e h1) (fun H h => p_fault hC.K h) (p_tt hX) (cw_R_pass_X3 hX (Nat.le_of_ble_eq_true rfl) (Nat.le_of_ble_eq_true rfl)) (p_recv 9 lp_9 cl_X3 hP) rfl rfl (Nat.le_of_ble_eq_true rfl) dX3_told_298
    refine a_callV (pc := 298) (As := []) hX (ct_R_pass X.2.1 D (cxA X) x Xp R0 d L Q T (pxf hP)  r58 h1) (cw_R_pass_X3 hX (Nat.le_of_ble_eq_true rfl) (Nat.le_of_ble_eq_true rfl)) (p_recv 9 lp_9 cl_X3 hP) rfl rfl (Nat.le_of_ble_eq_true rfl) dX3_told_298 (fun c z => ?_)
    show Wk X c z (RD D (RP D x Xp R0 r58.1) d L r58.2) 301 [(1, .int s0), (0, .ref (x + 9))] []
    refine k_aload_n (pc := 301) hC dX3_told_301 rfl 1 rfl ?_
    refine gP_X3_83 (pc := 302) hP dX3_told_302 ?_
    refine k_aload_n (pc := 305) hC dX3_told_305 rfl 1 rfl ?_
    refine k_iconst (pc := 306) (v := 1) hC dX3_told_306 (by decide) ?_
    refine k_sipush (pc := 307) (v := 600) hC dX3_told_307 (by decide) ?_
    rcases xb_of hE with ⟨e, h1, rfl⟩ | ⟨r59, h1, hE⟩
    · exact p_callVT (pc := 310) (As := [.int 1, .int 600]) hP hR (ctx_R_number X.2.1 D (cxA X) x Xp R0 d L r58.1 r58.2 (pxf hP) F 1 600 e h1) (fun H h => p_fault hC.K h) (p_tt hX) (cw_R_number_X3 hX (Nat.le_of_ble_eq_true rfl) (Nat.le_of_ble_eq_true rfl)) (p_recv 9 lp_9 cl_X3 hP) rfl rfl (by cases Xp 9 2 <;> exact Nat.le_of_ble_eq_true rfl) dX3_told_310
    refine a_callV (pc := 310) (As := [.int 1, .int 600]) hX (ct_R_number X.2.1 D (cxA X) x Xp R0 d L r58.1 r58.2 (pxf hP) F 1 600 r59 h1) (cw_R_number_X3 hX (Nat.le_of_ble_eq_true rfl) (Nat.le_of_ble_eq_true rfl)) (p_recv 9 lp_9 cl_X3 hP) rfl rfl (by cases Xp 9 2 <;> exact Nat.le_of_ble_eq_true rfl) dX3_told_310 (fun c z => ?_)
    show Wk X c z (RD D (RP D x Xp R0 r59.2.1) d L r59.2.2) 313 [(1, .int s0), (0, .ref (x + 9))] [.int r59.1, va_rf (Xp 9 2)]
    refine k_nn (G := fun z => Wk X _ _ (RD D (RP D x Xp R0 r59.2.1) d L r59.2.2) 313 [(1, .int s0), (0, .ref (x + 9))] [.int r59.1, z]) hE (fun b60 hE => ?_)
    refine a_putI (pc := 313) (y := r59.1) hX hSt cl_X4 in_X4 5 (by decide) rfl tyX4 tyX4_ok nmX4 (by exact q379) rfl rfl rfl rfl dX3_told_313 hE (fun T61 _ hE => ?_)
    refine k_goto (pc := 316) (tgt := 325) hC dX3_told_316 (by decide) ?_
    cases hE
    exact a_vret (pc := 325) hX hR dX3_told_325 (by rfl) (fun _ h => h)
  refine sw_C (s0 = 2) (fun hx => ?_) (fun n2 => ?_)
  · refine k_tswI (pc := 26) (k := 2) (tgt := 319) hC dX3_told_26 hx (by decide) (by decide) rfl (by decide) ?_
    refine k_aload_n (pc := 319) hC dX3_told_319 rfl 1 rfl ?_
    refine k_iconst (pc := 320) (v := 1) hC dX3_told_320 (by decide) ?_
    obtain ⟨r62, h1, hE⟩ := ob_ hE
    refine a_callV (pc := 321) (As := [.int 1]) hX (ct_R_wrong X.2.1 D (cxA X) x Xp R0 d L Q T (pxf hP) 1 r62 h1) (cw_R_wrong_X3 hX (Nat.le_of_ble_eq_true rfl) (Nat.le_of_ble_eq_true rfl)) (p_recv 9 lp_9 cl_X3 hP) rfl rfl (Nat.le_of_ble_eq_true rfl) dX3_told_321 (fun c z => ?_)
    show Wk X c z (RD D (RP D x Xp R0 r62) d L T) 324 [(1, .int s0), (0, .ref (x + 9))] [.ref (x + 1)]
    cases hE
    exact p_athrow (pc := 324) hP hR dX3_told_324 (fun _ h => h)
  refine sw_C (s0 = 6) (fun hx => ?_) (fun n6 => ?_)
  · refine k_tswI (pc := 26) (k := 6) (tgt := 319) hC dX3_told_26 hx (by decide) (by decide) rfl (by decide) ?_
    refine k_aload_n (pc := 319) hC dX3_told_319 rfl 1 rfl ?_
    refine k_iconst (pc := 320) (v := 1) hC dX3_told_320 (by decide) ?_
    obtain ⟨r62, h1, hE⟩ := ob_ hE
    refine a_callV (pc := 321) (As := [.int 1]) hX (ct_R_wrong X.2.1 D (cxA X) x Xp R0 d L Q T (pxf hP) 1 r62 h1) (cw_R_wrong_X3 hX (Nat.le_of_ble_eq_true rfl) (Nat.le_of_ble_eq_true rfl)) (p_recv 9 lp_9 cl_X3 hP) rfl rfl (Nat.le_of_ble_eq_true rfl) dX3_told_321 (fun c z => ?_)
    show Wk X c z (RD D (RP D x Xp R0 r62) d L T) 324 [(1, .int s0), (0, .ref (x + 9))] [.ref (x + 1)]
    cases hE
    exact p_athrow (pc := 324) hP hR dX3_told_324 (fun _ h => h)
  refine sw_C (s0 = 7) (fun hx => ?_) (fun n7 => ?_)
  · refine k_tswI (pc := 26) (k := 7) (tgt := 319) hC dX3_told_26 hx (by decide) (by decide) rfl (by decide) ?_
    refine k_aload_n (pc := 319) hC dX3_told_319 rfl 1 rfl ?_
    refine k_iconst (pc := 320) (v := 1) hC dX3_told_320 (by decide) ?_
    obtain ⟨r62, h1, hE⟩ := ob_ hE
    refine a_callV (pc := 321) (As := [.int 1]) hX (ct_R_wrong X.2.1 D (cxA X) x Xp R0 d L Q T (pxf hP) 1 r62 h1) (cw_R_wrong_X3 hX (Nat.le_of_ble_eq_true rfl) (Nat.le_of_ble_eq_true rfl)) (p_recv 9 lp_9 cl_X3 hP) rfl rfl (Nat.le_of_ble_eq_true rfl) dX3_told_321 (fun c z => ?_)
    show Wk X c z (RD D (RP D x Xp R0 r62) d L T) 324 [(1, .int s0), (0, .ref (x + 9))] [.ref (x + 1)]
    cases hE
    exact p_athrow (pc := 324) hP hR dX3_told_324 (fun _ h => h)
  refine sw_C (s0 = 9) (fun hx => ?_) (fun n9 => ?_)
  · refine k_tswI (pc := 26) (k := 9) (tgt := 319) hC dX3_told_26 hx (by decide) (by decide) rfl (by decide) ?_
    refine k_aload_n (pc := 319) hC dX3_told_319 rfl 1 rfl ?_
    refine k_iconst (pc := 320) (v := 1) hC dX3_told_320 (by decide) ?_
    obtain ⟨r62, h1, hE⟩ := ob_ hE
    refine a_callV (pc := 321) (As := [.int 1]) hX (ct_R_wrong X.2.1 D (cxA X) x Xp R0 d L Q T (pxf hP) 1 r62 h1) (cw_R_wrong_X3 hX (Nat.le_of_ble_eq_true rfl) (Nat.le_of_ble_eq_true rfl)) (p_recv 9 lp_9 cl_X3 hP) rfl rfl (Nat.le_of_ble_eq_true rfl) dX3_told_321 (fun c z => ?_)
    show Wk X c z (RD D (RP D x Xp R0 r62) d L T) 324 [(1, .int s0), (0, .ref (x + 9))] [.ref (x + 1)]
    cases hE
    exact p_athrow (pc := 324) hP hR dX3_told_324 (fun _ h => h)
  refine sw_C (s0 = 11) (fun hx => ?_) (fun n11 => ?_)
  · refine k_tswI (pc := 26) (k := 11) (tgt := 319) hC dX3_told_26 hx (by decide) (by decide) rfl (by decide) ?_
    refine k_aload_n (pc := 319) hC dX3_told_319 rfl 1 rfl ?_
    refine k_iconst (pc := 320) (v := 1) hC dX3_told_320 (by decide) ?_
    obtain ⟨r62, h1, hE⟩ := ob_ hE
    refine a_callV (pc := 321) (As := [.int 1]) hX (ct_R_wrong X.2.1 D (cxA X) x Xp R0 d L Q T (pxf hP) 1 r62 h1) (cw_R_wrong_X3 hX (Nat.le_of_ble_eq_true rfl) (Nat.le_of_ble_eq_true rfl)) (p_recv 9 lp_9 cl_X3 hP) rfl rfl (Nat.le_of_ble_eq_true rfl) dX3_told_321 (fun c z => ?_)
    show Wk X c z (RD D (RP D x Xp R0 r62) d L T) 324 [(1, .int s0), (0, .ref (x + 9))] [.ref (x + 1)]
    cases hE
    exact p_athrow (pc := 324) hP hR dX3_told_324 (fun _ h => h)
  refine sw_C (s0 = 12) (fun hx => ?_) (fun n12 => ?_)
  · refine k_tswI (pc := 26) (k := 12) (tgt := 319) hC dX3_told_26 hx (by decide) (by decide) rfl (by decide) ?_
    refine k_aload_n (pc := 319) hC dX3_told_319 rfl 1 rfl ?_
    refine k_iconst (pc := 320) (v := 1) hC dX3_told_320 (by decide) ?_
    obtain ⟨r62, h1, hE⟩ := ob_ hE
    refine a_callV (pc := 321) (As := [.int 1]) hX (ct_R_wrong X.2.1 D (cxA X) x Xp R0 d L Q T (pxf hP) 1 r62 h1) (cw_R_wrong_X3 hX (Nat.le_of_ble_eq_true rfl) (Nat.le_of_ble_eq_true rfl)) (p_recv 9 lp_9 cl_X3 hP) rfl rfl (Nat.le_of_ble_eq_true rfl) dX3_told_321 (fun c z => ?_)
    show Wk X c z (RD D (RP D x Xp R0 r62) d L T) 324 [(1, .int s0), (0, .ref (x + 9))] [.ref (x + 1)]
    cases hE
    exact p_athrow (pc := 324) hP hR dX3_told_324 (fun _ h => h)
  refine sw_C (s0 = 13) (fun hx => ?_) (fun n13 => ?_)
  · refine k_tswI (pc := 26) (k := 13) (tgt := 319) hC dX3_told_26 hx (by decide) (by decide) rfl (by decide) ?_
    refine k_aload_n (pc := 319) hC dX3_told_319 rfl 1 rfl ?_
    refine k_iconst (pc := 320) (v := 1) hC dX3_told_320 (by decide) ?_
    obtain ⟨r62, h1, hE⟩ := ob_ hE
    refine a_callV (pc := 321) (As := [.int 1]) hX (ct_R_wrong X.2.1 D (cxA X) x Xp R0 d L Q T (pxf hP) 1 r62 h1) (cw_R_wrong_X3 hX (Nat.le_of_ble_eq_true rfl) (Nat.le_of_ble_eq_true rfl)) (p_recv 9 lp_9 cl_X3 hP) rfl rfl (Nat.le_of_ble_eq_true rfl) dX3_told_321 (fun c z => ?_)
    show Wk X c z (RD D (RP D x Xp R0 r62) d L T) 324 [(1, .int s0), (0, .ref (x + 9))] [.ref (x + 1)]
    cases hE
    exact p_athrow (pc := 324) hP hR dX3_told_324 (fun _ h => h)
  have z0 := sw_ne (z := 0) n0 rfl
  have z1 := sw_ne (z := 1) n1 rfl
  have z2 := sw_ne (z := 2) n2 rfl
  have z3 := sw_ne (z := 3) n3 rfl
  have z4 := sw_ne (z := 4) n4 rfl
  have z5 := sw_ne (z := 5) n5 rfl
  have z6 := sw_ne (z := 6) n6 rfl
  have z7 := sw_ne (z := 7) n7 rfl
  have z8 := sw_ne (z := 8) n8 rfl
  have z9 := sw_ne (z := 9) n9 rfl
  have z10 := sw_ne (z := 10) n10 rfl
  have z11 := sw_ne (z := 11) n11 rfl
  have z12 := sw_ne (z := 12) n12 rfl
  have z13 := sw_ne (z := 13) n13 rfl
  have z14 := sw_ne (z := 14) n14 rfl
  refine k_tswO (pc := 26) (tgt := 319) hC dX3_told_26 (by omega) (by decide) ?_
  refine k_aload_n (pc := 319) hC dX3_told_319 rfl 1 rfl ?_
  refine k_iconst (pc := 320) (v := 1) hC dX3_told_320 (by decide) ?_
  obtain ⟨r62, h1, hE⟩ := ob_ hE
  refine a_callV (pc := 321) (As := [.int 1]) hX (ct_R_wrong X.2.1 D (cxA X) x Xp R0 d L Q T (pxf hP) 1 r62 h1) (cw_R_wrong_X3 hX (Nat.le_of_ble_eq_true rfl) (Nat.le_of_ble_eq_true rfl)) (p_recv 9 lp_9 cl_X3 hP) rfl rfl (Nat.le_of_ble_eq_true rfl) dX3_told_321 (fun c z => ?_)
  show Wk X c z (RD D (RP D x Xp R0 r62) d L T) 324 [(1, .int s0), (0, .ref (x + 9))] [.ref (x + 1)]
  cases hE
  exact p_athrow (pc := 324) hP hR dX3_told_324 (fun _ h => h)
set_option maxHeartbeats 4000000 in
theorem w_R_told {X : Ctx} {D : Dd} {x : Nat} {R0 : Heap → Prop} {d : Nat → Prop} {L : Nat × Nat × Nat × Nat} {Xp : Jr} {out : (Ji × Jr × Th) ⊕ (Ji × Th)} (hP : Px X cX3_told RX3 D x R0 d L 3 30 650) (hR : RtX X none D L x (fun r => (RD D (RP D x Xp R0 r.1) d L r.2)) (fun r => none) (fun e => RD D (RP D x e.2.1 R0 e.1) d L e.2.2) out) (F : Nat) (Q : Ji) (T : Th) (hE : R_told F Xp Q T = some out) (c z : Nat) : Wk X c z (RD D (RP D x Xp R0 Q) d L T) 0 [(0, .ref (x + 9))] [] := by
  have hX := hP.1
  have hC := hX.1
  have hnL := hX.2.2.1
  have hSt : ∀ {Xp : Jr} {Q : Ji}, Stb (RP D x Xp R0 Q) d := hP.st
  have hDy : ∀ {Xp : Jr} {Q : Ji} {T : Th} (H : Heap), RD D (RP D x Xp R0 Q) d L T H → Dy D T H := fun _ h => h.2.1
  unfold R_told at hE
  refine k_aload_n (pc := 0) hC dX3_told_0 rfl 0 rfl ?_
  rcases xb_of hE with ⟨e, h1, rfl⟩ | ⟨r1, h1, hE⟩
  · exact p_callVT (pc := 1) (As := []) hP hR (ctx_R_sort X.2.1 D (cxA X) x Xp R0 d L Q T (pxf hP)  e h1) (fun H h => p_fault hC.K h) (p_tt hX) (cw_R_sort_X3 hX (Nat.le_of_ble_eq_true rfl) (Nat.le_of_ble_eq_true rfl)) (p_recv 9 lp_9 cl_X3 hP) rfl rfl (Nat.le_of_ble_eq_true rfl) dX3_told_1
  refine a_callV (pc := 1) (As := []) hX (ct_R_sort X.2.1 D (cxA X) x Xp R0 d L Q T (pxf hP)  r1 h1) (cw_R_sort_X3 hX (Nat.le_of_ble_eq_true rfl) (Nat.le_of_ble_eq_true rfl)) (p_recv 9 lp_9 cl_X3 hP) rfl rfl (Nat.le_of_ble_eq_true rfl) dX3_told_1 (fun c z => ?_)
  show Wk X c z (RD D (RP D x Xp R0 r1.2.1) d L r1.2.2) 4 [(0, .ref (x + 9))] [.int r1.1]
  refine k_iconst (pc := 4) (v := 3) hC dX3_told_4 (by decide) ?_
  refine k_icmp_ne (pc := 5) (tgt := 23) hC dX3_told_5 (by decide) hE (fun hE => ?_) (fun hE => ?_)
  · refine k_aload_n (pc := 8) hC dX3_told_8 rfl 0 rfl ?_
    refine gP_X3_9 (pc := 9) hP dX3_told_9 ?_
    refine gP_X3_52 (pc := 12) hP dX3_told_12 ?_
    refine k_aload_n (pc := 15) hC dX3_told_15 rfl 0 rfl ?_
    refine gP_X3_31 (pc := 16) hP dX3_told_16 ?_
    refine p_sald (pc := 19) 8 lp_8 hP dX3_told_19 hE (fun x2 hE => ?_)
    refine k_goto (pc := 20) (tgt := 24) hC dX3_told_20 (by decide) ?_
    exact w_R_told_B24 hP hR F _ _ _ hE _ _
  · refine k_iconst (pc := 23) (v := (-1)) hC dX3_told_23 (by decide) ?_
    exact w_R_told_B24 hP hR F _ _ _ hE _ _
theorem ct_R_told (l : Launch) (D : Dd) (A : Nat → Prop) (x : Nat) (Xp : Jr) (R0 : Heap → Prop) (d : Nat → Prop) (L : Nat × Nat × Nat × Nat) (Q : Ji) (T : Th) (hp : Pf D A x R0 d) (F : Nat) (out : Ji × Th) (hE : R_told F Xp Q T = some (.inr out)) : Ct l yX3_told (ws_ yX3_told cX3_told 3 none) (rmA 30 650 L T) vwCl arTy D A [.ref (x + 9)] (RD D (RP D x Xp R0 Q) d L T) (RD D (RP D x Xp R0 out.1) d L out.2) none (L.1 - tN T) (L.2.1 - tZ T) := by
  refine Ct.ofA (lv := [(0, .ref (x + 9))]) (by decide) (Nat.le_of_ble_eq_true rfl) rfl hp.1 hp.2.1 ?_
  intro X hl hX hR hXA _
  exact w_R_told (Xp := Xp) (out := .inr out) (hp.px hX hXA) hR F Q T hE
theorem ctx_R_told (l : Launch) (D : Dd) (A : Nat → Prop) (x : Nat) (Xp : Jr) (R0 : Heap → Prop) (d : Nat → Prop) (L : Nat × Nat × Nat × Nat) (Q : Ji) (T : Th) (hp : Pf D A x R0 d) (F : Nat) (e : Ji × Jr × Th) (hE : R_told F Xp Q T = some (.inl e)) : CtT l yX3_told (ws_ yX3_told cX3_told 3 none) (rmA 30 650 L T) D A [.ref (x + 9)] (RD D (RP D x Xp R0 Q) d L T) (RD D (RP D x e.2.1 R0 e.1) d L e.2.2) (x + 1) (L.1 - tN T) (L.2.1 - tZ T) := by
  refine CtT.ofA (lv := [(0, .ref (x + 9))]) (by decide) (Nat.le_of_ble_eq_true rfl) rfl hp.1 hp.2.1 ?_
  intro X hl hX hR hXA
  exact w_R_told (Xp := Xp) (out := .inl e) (hp.px hX hXA) hR F Q T hE
theorem cw_R_told_X3 {X : Ctx} {cc : ByteArray} {D : Dd} {d : Nat → Prop} {L : Nat × Nat × Nat × Nat} {mL fr lo : Nat} {T : Th} (hX : Ax X cc RX3 D d L mL fr lo) (h1 : 30 + 1 ≤ fr) (h2 : 8 + (3 + 11) + 650 ≤ lo) : CallW X.2.2.2.1 X.2.2.2.2.1 X.2.2.2.2.2.2.1 RX3 RX3 102 yX3_told cX3_told 3 none (ws_ yX3_told cX3_told 3 none) (rmA 30 650 L T) (L.1 - tN T) (L.2.1 - tZ T) 0 := cwV 0 (cx_w hX.1) (lw_V q690 q692 qs11 q120 q693) rfl rfl rfl (by decide +kernel) (by rw [hX.2.2.2.1, hX.2.2.2.2.1]; exact ⟨h1, h2⟩)
set_option maxHeartbeats 4000000 in
theorem w_R_read_B33 {X : Ctx} {D : Dd} {x : Nat} {R0 : Heap → Prop} {d : Nat → Prop} {L : Nat × Nat × Nat × Nat} {out : (Ji × Jr × Th) ⊕ (Option Nat × Ji × Jr × Th)} (hP : Px X cX3_read RX3 D x R0 d L 1 31 672) (hR : RtX X (some (.object "SleepWork$Text")) D L x (fun r => (RD D (RP D x r.2.2.1 R0 r.2.1) d L r.2.2.2)) (fun r => (some (va_rf r.1))) (fun e => RD D (RP D x e.2.1 R0 e.1) d L e.2.2) out) (F : Nat) (k33 : Ji → Jr → Th → Option ((Ji × Jr × Th) ⊕ (Option Nat × Ji × Jr × Th))) (hk33 : ∀ (Q : Ji) (Xp : Jr) (T : Th) , k33 Q Xp T = some out → ∀ c z, Wk X c z (RD D (RP D x Xp R0 Q) d L T) 33 [(0, .ref (x + 9))] []) (Q : Ji) (Xp : Jr) (T : Th) (hE : R_read_B33 F k33 Q Xp T = some out) (c z : Nat) : Wk X c z (RD D (RP D x Xp R0 Q) d L T) 33 [(0, .ref (x + 9))] [] := by
  have hX := hP.1
  have hC := hX.1
  have hnL := hX.2.2.1
  have hSt : ∀ {Xp : Jr} {Q : Ji}, Stb (RP D x Xp R0 Q) d := hP.st
  have hDy : ∀ {Xp : Jr} {Q : Ji} {T : Th} (H : Heap), RD D (RP D x Xp R0 Q) d L T H → Dy D T H := fun _ h => h.2.1
  unfold R_read_B33 at hE
  refine k_aload_n (pc := 33) hC dX3_read_33 rfl 0 rfl ?_
  rcases xb_of hE with ⟨e, h1, rfl⟩ | ⟨r8, h1, hE⟩
  · exact p_callVT (pc := 34) (As := []) hP hR (ctx_R_sort X.2.1 D (cxA X) x Xp R0 d L Q T (pxf hP)  e h1) (fun H h => p_fault hC.K h) (p_tt hX) (cw_R_sort_X3 hX (Nat.le_of_ble_eq_true rfl) (Nat.le_of_ble_eq_true rfl)) (p_recv 9 lp_9 cl_X3 hP) rfl rfl (Nat.le_of_ble_eq_true rfl) dX3_read_34
  refine a_callV (pc := 34) (As := []) hX (ct_R_sort X.2.1 D (cxA X) x Xp R0 d L Q T (pxf hP)  r8 h1) (cw_R_sort_X3 hX (Nat.le_of_ble_eq_true rfl) (Nat.le_of_ble_eq_true rfl)) (p_recv 9 lp_9 cl_X3 hP) rfl rfl (Nat.le_of_ble_eq_true rfl) dX3_read_34 (fun c z => ?_)
  show Wk X c z (RD D (RP D x Xp R0 r8.2.1) d L r8.2.2) 37 [(0, .ref (x + 9))] [.int r8.1]
  refine k_iconst (pc := 37) (v := 4) hC dX3_read_37 (by decide) ?_
  refine k_icmp_eq (pc := 38) (tgt := 54) hC dX3_read_38 (by decide) hE (fun hE => ?_) (fun hE => ?_)
  · refine k_aload_n (pc := 54) hC dX3_read_54 rfl 0 rfl ?_
    refine gP_X3_38 (pc := 55) hP dX3_read_55 ?_
    refine k_if_eq (pc := 58) (tgt := 74) hC dX3_read_58 (by decide) hE (fun hE => ?_) (fun hE => ?_)
    · refine k_aload_n (pc := 74) hC dX3_read_74 rfl 0 rfl ?_
      refine gP_X3_83 (pc := 75) hP dX3_read_75 ?_
      cases hE
      exact a_aret (pc := 78) (v := va_rf _) (rt := (.object "SleepWork$Text")) (by first | exact Or.inl ⟨_, rfl⟩ | exact Or.inr ⟨_, rfl⟩) (va_rfv _) hX hR dX3_read_78 (by rfl) (fun _ h => h)
    · refine k_aload_n (pc := 61) hC dX3_read_61 rfl 0 rfl ?_
      refine k_aload_n (pc := 62) hC dX3_read_62 rfl 0 rfl ?_
      refine gP_X3_38 (pc := 63) hP dX3_read_63 ?_
      refine k_aload_n (pc := 66) hC dX3_read_66 rfl 0 rfl ?_
      refine gP_X3_41 (pc := 67) hP dX3_read_67 ?_
      obtain ⟨r9, h1, hE⟩ := ob_ hE
      refine a_callV (pc := 70) (As := [.int (r8.2.1 9 5), .int (r8.2.1 9 6)]) hX (ct_R_wrongAt X.2.1 D (cxA X) x Xp R0 d L r8.2.1 r8.2.2 (pxf hP) (r8.2.1 9 5) (r8.2.1 9 6) r9 h1) (cw_R_wrongAt_X3 hX (Nat.le_of_ble_eq_true rfl) (Nat.le_of_ble_eq_true rfl)) (p_recv 9 lp_9 cl_X3 hP) rfl rfl (Nat.le_of_ble_eq_true rfl) dX3_read_70 (fun c z => ?_)
      show Wk X c z (RD D (RP D x Xp R0 r9) d L r8.2.2) 73 [(0, .ref (x + 9))] [.ref (x + 1)]
      cases hE
      exact p_athrow (pc := 73) hP hR dX3_read_73 (fun _ h => h)
  · refine k_aload_n (pc := 41) hC dX3_read_41 rfl 0 rfl ?_
    rcases xb_of hE with ⟨e, h1, rfl⟩ | ⟨r10, h1, hE⟩
    · exact p_callVT (pc := 42) (As := []) hP hR (ctx_R_told X.2.1 D (cxA X) x Xp R0 d L r8.2.1 r8.2.2 (pxf hP) F e h1) (fun H h => p_fault hC.K h) (p_tt hX) (cw_R_told_X3 hX (Nat.le_of_ble_eq_true rfl) (Nat.le_of_ble_eq_true rfl)) (p_recv 9 lp_9 cl_X3 hP) rfl rfl (Nat.le_of_ble_eq_true rfl) dX3_read_42
    refine a_callV (pc := 42) (As := []) hX (ct_R_told X.2.1 D (cxA X) x Xp R0 d L r8.2.1 r8.2.2 (pxf hP) F r10 h1) (cw_R_told_X3 hX (Nat.le_of_ble_eq_true rfl) (Nat.le_of_ble_eq_true rfl)) (p_recv 9 lp_9 cl_X3 hP) rfl rfl (Nat.le_of_ble_eq_true rfl) dX3_read_42 (fun c z => ?_)
    show Wk X c z (RD D (RP D x Xp R0 r10.1) d L r10.2) 45 [(0, .ref (x + 9))] []
    refine k_aload_n (pc := 45) hC dX3_read_45 rfl 0 rfl ?_
    refine k_bipush (pc := 46) (v := 59) hC dX3_read_46 (by decide) ?_
    rcases xb_of hE with ⟨e, h1, rfl⟩ | ⟨r11, h1, hE⟩
    · exact p_callVT (pc := 48) (As := [.int 59]) hP hR (ctx_R_sign X.2.1 D (cxA X) x Xp R0 d L r10.1 r10.2 (pxf hP) 59 e h1) (fun H h => p_fault hC.K h) (p_tt hX) (cw_R_sign_X3 hX (Nat.le_of_ble_eq_true rfl) (Nat.le_of_ble_eq_true rfl)) (p_recv 9 lp_9 cl_X3 hP) rfl rfl (Nat.le_of_ble_eq_true rfl) dX3_read_48
    refine a_callV (pc := 48) (As := [.int 59]) hX (ct_R_sign X.2.1 D (cxA X) x Xp R0 d L r10.1 r10.2 (pxf hP) 59 r11 h1) (cw_R_sign_X3 hX (Nat.le_of_ble_eq_true rfl) (Nat.le_of_ble_eq_true rfl)) (p_recv 9 lp_9 cl_X3 hP) rfl rfl (Nat.le_of_ble_eq_true rfl) dX3_read_48 (fun c z => ?_)
    show Wk X c z (RD D (RP D x Xp R0 r11.1) d L r11.2) 51 [(0, .ref (x + 9))] []
    refine k_goto (pc := 51) (tgt := 33) hC dX3_read_51 (by decide) ?_
    exact hk33 _ _ _ hE _ _
theorem w_R_read_L33 {X : Ctx} {D : Dd} {x : Nat} {R0 : Heap → Prop} {d : Nat → Prop} {L : Nat × Nat × Nat × Nat} {out : (Ji × Jr × Th) ⊕ (Option Nat × Ji × Jr × Th)} (hP : Px X cX3_read RX3 D x R0 d L 1 31 672) (hR : RtX X (some (.object "SleepWork$Text")) D L x (fun r => (RD D (RP D x r.2.2.1 R0 r.2.1) d L r.2.2.2)) (fun r => (some (va_rf r.1))) (fun e => RD D (RP D x e.2.1 R0 e.1) d L e.2.2) out) (F : Nat) (n : Nat) : ∀ (Q : Ji) (Xp : Jr) (T : Th) , R_read_L33 F n Q Xp T = some out → ∀ c z, Wk X c z (RD D (RP D x Xp R0 Q) d L T) 33 [(0, .ref (x + 9))] [] := by
  induction n with
  | zero => intro Q Xp T h; cases h
  | succ n ih => intro Q Xp T h; exact w_R_read_B33 hP hR F (R_read_L33 F n) ih Q Xp T h
set_option maxHeartbeats 4000000 in
theorem w_R_read {X : Ctx} {D : Dd} {x : Nat} {R0 : Heap → Prop} {d : Nat → Prop} {L : Nat × Nat × Nat × Nat} {out : (Ji × Jr × Th) ⊕ (Option Nat × Ji × Jr × Th)} (hP : Px X cX3_read RX3 D x R0 d L 1 31 672) (hR : RtX X (some (.object "SleepWork$Text")) D L x (fun r => (RD D (RP D x r.2.2.1 R0 r.2.1) d L r.2.2.2)) (fun r => (some (va_rf r.1))) (fun e => RD D (RP D x e.2.1 R0 e.1) d L e.2.2) out) (F : Nat) (Q : Ji) (Xp : Jr) (T : Th) (hE : R_read F Q Xp T = some out) (c z : Nat) : Wk X c z (RD D (RP D x Xp R0 Q) d L T) 0 [(0, .ref (x + 9))] [] := by
  have hX := hP.1
  have hC := hX.1
  have hnL := hX.2.2.1
  have hSt : ∀ {Xp : Jr} {Q : Ji}, Stb (RP D x Xp R0 Q) d := hP.st
  have hDy : ∀ {Xp : Jr} {Q : Ji} {T : Th} (H : Heap), RD D (RP D x Xp R0 Q) d L T H → Dy D T H := fun _ h => h.2.1
  unfold R_read at hE
  refine k_aload_n (pc := 0) hC dX3_read_0 rfl 0 rfl ?_
  refine gP_X3_9 (pc := 1) hP dX3_read_1 ?_
  obtain ⟨r1, h1, hE⟩ := ob_ hE
  refine a_callV (pc := 4) (As := []) hX (ct_T_read X.2.1 D (cxA X) x Xp R0 d L Q T (pxf hP) F r1 h1) (cw_T_read_X3 hX (Nat.le_of_ble_eq_true rfl) (Nat.le_of_ble_eq_true rfl)) (p_recv 2 lp_2 cl_X2 hP) rfl rfl (Nat.le_of_ble_eq_true rfl) dX3_read_4 (fun c z => ?_)
  show Wk X c z (RD D (RP D x Xp R0 r1) d L T) 7 [(0, .ref (x + 9))] []
  refine k_aload_n (pc := 7) hC dX3_read_7 rfl 0 rfl ?_
  refine a_new (pc := 8) hX hSt cl_X4 in_X4 tyX4 tyX4_ok dv_X4 q672 q324 q121 dX3_read_8 hE (fun T2 eT2 hE c z => ?_)
  refine k_dup (pc := 11) hC dX3_read_11 rfl ?_
  obtain ⟨r3, h1, hE⟩ := ob_ hE
  refine a_callIN (pc := 12) (As := []) hX (ct_A_Text X.2.1 D (cxA X) (RP D x Xp R0 r1) d L T2 hSt hX.2.1 hX.2.2.2.2.2.2.2.2.2 (tN T) r3 h1) (cw_A_Text_X3 hX (Nat.le_of_ble_eq_true rfl) (Nat.le_of_ble_eq_true rfl)) rfl rfl (Nat.le_of_ble_eq_true rfl) dX3_read_12 (fun c z => ?_)
  show Wk X c z (RD D (RP D x Xp R0 r1) d L r3) 15 [(0, .ref (x + 9))] [.ref (tN T), .ref (x + 9)]
  refine pPR_X3_83 (pc := 15) (y := (some (tN T))) hP dX3_read_15 hE (fun X4 hE => ?_)
  refine k_aload_n (pc := 18) hC dX3_read_18 rfl 0 rfl ?_
  refine k_iconst (pc := 19) (v := 0) hC dX3_read_19 (by decide) ?_
  refine pP_X3_31 (pc := 20) hP dX3_read_20 hE (fun Q5 hE => ?_)
  refine k_aload_n (pc := 23) hC dX3_read_23 rfl 0 rfl ?_
  refine k_iconst (pc := 24) (v := 0) hC dX3_read_24 (by decide) ?_
  refine pP_X3_99 (pc := 25) hP dX3_read_25 hE (fun Q6 hE => ?_)
  refine k_aload_n (pc := 28) hC dX3_read_28 rfl 0 rfl ?_
  refine k_iconst (pc := 29) (v := 0) hC dX3_read_29 (by decide) ?_
  refine pP_X3_38 (pc := 30) hP dX3_read_30 hE (fun Q7 hE => ?_)
  exact w_R_read_L33 hP hR F _ _ _ _ hE _ _
theorem ct_R_read (l : Launch) (D : Dd) (A : Nat → Prop) (x : Nat) (Xp : Jr) (R0 : Heap → Prop) (d : Nat → Prop) (L : Nat × Nat × Nat × Nat) (Q : Ji) (T : Th) (hp : Pf D A x R0 d) (F : Nat) (out : Option Nat × Ji × Jr × Th) (hE : R_read F Q Xp T = some (.inr out)) : Ct l yX3_read (ws_ yX3_read cX3_read 1 (some (.object "SleepWork$Text"))) (rmA 31 672 L T) vwCl arTy D A [.ref (x + 9)] (RD D (RP D x Xp R0 Q) d L T) (RD D (RP D x out.2.2.1 R0 out.2.1) d L out.2.2.2) (some (va_rf out.1)) (L.1 - tN T) (L.2.1 - tZ T) := by
  refine Ct.ofA (lv := [(0, .ref (x + 9))]) (by decide) (Nat.le_of_ble_eq_true rfl) rfl hp.1 hp.2.1 ?_
  intro X hl hX hR hXA _
  exact w_R_read (out := .inr out) (hp.px hX hXA) hR F Q Xp T hE
theorem ctx_R_read (l : Launch) (D : Dd) (A : Nat → Prop) (x : Nat) (Xp : Jr) (R0 : Heap → Prop) (d : Nat → Prop) (L : Nat × Nat × Nat × Nat) (Q : Ji) (T : Th) (hp : Pf D A x R0 d) (F : Nat) (e : Ji × Jr × Th) (hE : R_read F Q Xp T = some (.inl e)) : CtT l yX3_read (ws_ yX3_read cX3_read 1 (some (.object "SleepWork$Text"))) (rmA 31 672 L T) D A [.ref (x + 9)] (RD D (RP D x Xp R0 Q) d L T) (RD D (RP D x e.2.1 R0 e.1) d L e.2.2) (x + 1) (L.1 - tN T) (L.2.1 - tZ T) := by
  refine CtT.ofA (lv := [(0, .ref (x + 9))]) (by decide) (Nat.le_of_ble_eq_true rfl) rfl hp.1 hp.2.1 ?_
  intro X hl hX hR hXA
  exact w_R_read (out := .inl e) (hp.px hX hXA) hR F Q Xp T hE
theorem cw_R_read_X0 {X : Ctx} {cc : ByteArray} {D : Dd} {d : Nat → Prop} {L : Nat × Nat × Nat × Nat} {mL fr lo : Nat} {T : Th} (hX : Ax X cc RX0 D d L mL fr lo) (h1 : 31 + 1 ≤ fr) (h2 : 8 + (1 + 11) + 672 ≤ lo) : CallW X.2.2.2.1 X.2.2.2.2.1 X.2.2.2.2.2.2.1 RX0 RX3 85 yX3_read cX3_read 1 (some (.object "SleepWork$Text")) (ws_ yX3_read cX3_read 1 (some (.object "SleepWork$Text"))) (rmA 31 672 L T) (L.1 - tN T) (L.2.1 - tZ T) 0 := cwV 0 (cx_w hX.1) (lw_V q592 q593 q594 q120 q595) rfl rfl rfl (by decide +kernel) (by rw [hX.2.2.2.1, hX.2.2.2.2.1]; exact ⟨h1, h2⟩)
