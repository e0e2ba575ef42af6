set_option maxRecDepth 100000
abbrev rmJ_bitCount : Room := { frames := 0, cells := 0, slots := 0, locals := 0 }
set_option maxHeartbeats 4000000 in
theorem w_J_bitCount {X : Ctx} {D : Dd} {P : Heap → Prop} {out : Int32} (hM : Tx X cJ16_bitCount RJ16 D 1 rmJ_bitCount) (hR : Rt X (some .int) P (some (.int out)) 0 0) (a0 : Int32) (hE : J_bitCount a0 = some out) : Wk X 0 0 P 0 [(0, .int a0)] [] := by
  have hC := hM.1
  have hnL := hM.2.1
  have hrm := hM.2.2
  unfold J_bitCount at hE
  refine k_iload_n (pc := 0) hC dJ16_bitCount_0 rfl 0 rfl ?_
  refine k_iload_n (pc := 1) hC dJ16_bitCount_1 rfl 0 rfl ?_
  refine k_iconst (pc := 2) (v := 1) hC dJ16_bitCount_2 (by decide) ?_
  refine k_iushr (pc := 3) hC dJ16_bitCount_3 ?_
  refine k_ldcw (pc := 4) (v := 1431655765) hC q1477 dJ16_bitCount_4 ?_
  refine k_iand (pc := 7) hC dJ16_bitCount_7 ?_
  refine k_isub (pc := 8) hC dJ16_bitCount_8 ?_
  refine k_istoreE_n (pc := 9) (lv' := fun x1 => [(0, .int x1)]) hC dJ16_bitCount_9 rfl (by rw [hnL]; decide) hE (fun _ => rfl) (fun x1 hE => ?_)
  refine k_iload_n (pc := 10) hC dJ16_bitCount_10 rfl 0 rfl ?_
  refine k_ldcw (pc := 11) (v := 858993459) hC q1478 dJ16_bitCount_11 ?_
  refine k_iand (pc := 14) hC dJ16_bitCount_14 ?_
  refine k_iload_n (pc := 15) hC dJ16_bitCount_15 rfl 0 rfl ?_
  refine k_iconst (pc := 16) (v := 2) hC dJ16_bitCount_16 (by decide) ?_
  refine k_iushr (pc := 17) hC dJ16_bitCount_17 ?_
  refine k_ldcw (pc := 18) (v := 858993459) hC q1478 dJ16_bitCount_18 ?_
  refine k_iand (pc := 21) hC dJ16_bitCount_21 ?_
  refine k_iadd (pc := 22) hC dJ16_bitCount_22 ?_
  refine k_istoreE_n (pc := 23) (lv' := fun x2 => [(0, .int x2)]) hC dJ16_bitCount_23 rfl (by rw [hnL]; decide) hE (fun _ => rfl) (fun x2 hE => ?_)
  refine k_iload_n (pc := 24) hC dJ16_bitCount_24 rfl 0 rfl ?_
  refine k_iload_n (pc := 25) hC dJ16_bitCount_25 rfl 0 rfl ?_
  refine k_iconst (pc := 26) (v := 4) hC dJ16_bitCount_26 (by decide) ?_
  refine k_iushr (pc := 27) hC dJ16_bitCount_27 ?_
  refine k_iadd (pc := 28) hC dJ16_bitCount_28 ?_
  refine k_ldcw (pc := 29) (v := 252645135) hC q1479 dJ16_bitCount_29 ?_
  refine k_iand (pc := 32) hC dJ16_bitCount_32 ?_
  refine k_istoreE_n (pc := 33) (lv' := fun x3 => [(0, .int x3)]) hC dJ16_bitCount_33 rfl (by rw [hnL]; decide) hE (fun _ => rfl) (fun x3 hE => ?_)
  refine k_iload_n (pc := 34) hC dJ16_bitCount_34 rfl 0 rfl ?_
  refine k_iload_n (pc := 35) hC dJ16_bitCount_35 rfl 0 rfl ?_
  refine k_bipush (pc := 36) (v := 8) hC dJ16_bitCount_36 (by decide) ?_
  refine k_iushr (pc := 38) hC dJ16_bitCount_38 ?_
  refine k_iadd (pc := 39) hC dJ16_bitCount_39 ?_
  refine k_istoreE_n (pc := 40) (lv' := fun x4 => [(0, .int x4)]) hC dJ16_bitCount_40 rfl (by rw [hnL]; decide) hE (fun _ => rfl) (fun x4 hE => ?_)
  refine k_iload_n (pc := 41) hC dJ16_bitCount_41 rfl 0 rfl ?_
  refine k_iload_n (pc := 42) hC dJ16_bitCount_42 rfl 0 rfl ?_
  refine k_bipush (pc := 43) (v := 16) hC dJ16_bitCount_43 (by decide) ?_
  refine k_iushr (pc := 45) hC dJ16_bitCount_45 ?_
  refine k_iadd (pc := 46) hC dJ16_bitCount_46 ?_
  refine k_istoreE_n (pc := 47) (lv' := fun x5 => [(0, .int x5)]) hC dJ16_bitCount_47 rfl (by rw [hnL]; decide) hE (fun _ => rfl) (fun x5 hE => ?_)
  refine k_iload_n (pc := 48) hC dJ16_bitCount_48 rfl 0 rfl ?_
  refine k_bipush (pc := 49) (v := 63) hC dJ16_bitCount_49 (by decide) ?_
  refine k_iand (pc := 51) hC dJ16_bitCount_51 ?_
  exact k_iret (pc := 52) hC hR ⟨Nat.le_refl 0, Nat.le_refl 0⟩ dJ16_bitCount_52 (by cases hE; rfl) (by cases hE; exact fun _ h => h)
theorem ct_J_bitCount (l : Launch) (D : Dd) (A : Nat → Prop) (P : Heap → Prop) (a0 : Int32) (out : Int32) (hE : J_bitCount a0 = some out) : Ct l yJ16_bitCount (ws_ yJ16_bitCount cJ16_bitCount 1 (some .int)) rmJ_bitCount vwCl arTy D A [.int a0] P P (some (.int out)) 0 0 := by
  refine Ct.of (by decide) (Nat.le_of_ble_eq_true rfl) rfl ?_
  intro X hl hrm hC hR hXA hnL _
  exact w_J_bitCount ⟨hC, hnL, hrm⟩ hR a0 hE
theorem cw_J_bitCount_X0 {X : Ctx} {cc : ByteArray} {D : Dd} {rm : Room} (hC : Cx X cc RX0 vwCl arTy D) (hrm : X.2.2.2.1 = rm) (h1 : rmJ_bitCount.frames + 1 ≤ rm.frames) (h2 : 8 + (1 + 11) + rmJ_bitCount.locals ≤ rm.locals) : CallB X.2.2.2.1 X.2.2.2.2.1 X.2.2.2.2.2.2.1 RX0 282 yJ16_bitCount cJ16_bitCount 1 (some .int) (ws_ yJ16_bitCount cJ16_bitCount 1 (some .int)) rmJ_bitCount 0 0 1 ∧ (Cond.static yJ16_bitCount).before X.2.2.2.2.2.2.1 X.2.2.2.2.1 = true := va_cwS 1 (cx_w hC) (lw_S q1474 q1475 q152 q1476) rfl rfl rfl (by decide +kernel) (by rw [hrm]; exact ⟨h1, h2⟩)
abbrev rmJ_pci : Room := { frames := 0, cells := 0, slots := 0, locals := 0 }
set_option maxHeartbeats 4000000 in
theorem w_J_pci_B9 {X : Ctx} {D : Dd} {P : Heap → Prop} {out : Int32} (hM : Tx X cJ8_checkIndex RJ8 D 3 rmJ_pci) (hR : Rt X (some .int) P (some (.int out)) 0 0) (a0 : Int32) (a1 : Int32) (a2 : Option Nat) (hE : J_pci_B9 a0 a1 a2 = some out) : Wk X 0 0 P 9 [(0, .int a0), (1, .int a1), (2, va_rf a2)] [] := by
  have hC := hM.1
  have hnL := hM.2.1
  have hrm := hM.2.2
  unfold J_pci_B9 at hE
  refine k_aloadR_n (pc := 9) hC dJ8_checkIndex_9 rfl 2 rfl ?_
  refine k_iload_n (pc := 10) hC dJ8_checkIndex_10 rfl 0 rfl ?_
  refine k_iload_n (pc := 11) hC dJ8_checkIndex_11 rfl 1 rfl ?_
  cases hE
set_option maxHeartbeats 4000000 in
theorem w_J_pci {X : Ctx} {D : Dd} {P : Heap → Prop} {out : Int32} (hM : Tx X cJ8_checkIndex RJ8 D 3 rmJ_pci) (hR : Rt X (some .int) P (some (.int out)) 0 0) (a0 : Int32) (a1 : Int32) (hE : J_pci a0 a1 = some out) : Wk X 0 0 P 0 [(0, .int a0), (1, .int a1), (2, .null)] [] := by
  have hC := hM.1
  have hnL := hM.2.1
  have hrm := hM.2.2
  unfold J_pci at hE
  refine k_iload_n (pc := 0) hC dJ8_checkIndex_0 rfl 0 rfl ?_
  refine k_if_lt (pc := 1) (tgt := 9) hC dJ8_checkIndex_1 (by decide) hE (fun hE => ?_) (fun hE => ?_)
  · exact w_J_pci_B9 hM hR  _ _ _  hE
  · refine k_iload_n (pc := 4) hC dJ8_checkIndex_4 rfl 0 rfl ?_
    refine k_iload_n (pc := 5) hC dJ8_checkIndex_5 rfl 1 rfl ?_
    refine k_icmp_lt (pc := 6) (tgt := 16) hC dJ8_checkIndex_6 (by decide) hE (fun hE => ?_) (fun hE => ?_)
    · refine k_iload_n (pc := 16) hC dJ8_checkIndex_16 rfl 0 rfl ?_
      exact k_iret (pc := 17) hC hR ⟨Nat.le_refl 0, Nat.le_refl 0⟩ dJ8_checkIndex_17 (by cases hE; rfl) (by cases hE; exact fun _ h => h)
    · exact w_J_pci_B9 hM hR  _ _ _  hE
theorem ct_J_pci (l : Launch) (D : Dd) (A : Nat → Prop) (P : Heap → Prop) (a0 : Int32) (a1 : Int32) (out : Int32) (hE : J_pci a0 a1 = some out) : Ct l yJ8_checkIndex (ws_ yJ8_checkIndex cJ8_checkIndex 3 (some .int)) rmJ_pci vwCl arTy D A [.int a0, .int a1, .null] P P (some (.int out)) 0 0 := by
  refine Ct.of (by decide) (Nat.le_of_ble_eq_true rfl) rfl ?_
  intro X hl hrm hC hR hXA hnL _
  exact w_J_pci ⟨hC, hnL, hrm⟩ hR a0 a1 hE
theorem cw_J_pci_J6 {X : Ctx} {cc : ByteArray} {D : Dd} {rm : Room} (hC : Cx X cc RJ6 vwCl arTy D) (hrm : X.2.2.2.1 = rm) (h1 : rmJ_pci.frames + 1 ≤ rm.frames) (h2 : 8 + (3 + 11) + rmJ_pci.locals ≤ rm.locals) : CallB X.2.2.2.1 X.2.2.2.2.1 X.2.2.2.2.2.2.1 RJ6 1059 yJ8_checkIndex cJ8_checkIndex 3 (some .int) (ws_ yJ8_checkIndex cJ8_checkIndex 3 (some .int)) rmJ_pci 0 0 3 ∧ (Cond.static yJ8_checkIndex).before X.2.2.2.2.2.2.1 X.2.2.2.2.1 = true := va_cwS 3 (cx_w hC) (lw_S q638 q639 q131 q640) rfl rfl rfl (by decide +kernel) (by rw [hrm]; exact ⟨h1, h2⟩)
theorem cw_J_pci_J15 {X : Ctx} {cc : ByteArray} {D : Dd} {rm : Room} (hC : Cx X cc RJ15 vwCl arTy D) (hrm : X.2.2.2.1 = rm) (h1 : rmJ_pci.frames + 1 ≤ rm.frames) (h2 : 8 + (3 + 11) + rmJ_pci.locals ≤ rm.locals) : CallB X.2.2.2.1 X.2.2.2.2.1 X.2.2.2.2.2.2.1 RJ15 105 yJ8_checkIndex cJ8_checkIndex 3 (some .int) (ws_ yJ8_checkIndex cJ8_checkIndex 3 (some .int)) rmJ_pci 0 0 3 ∧ (Cond.static yJ8_checkIndex).before X.2.2.2.2.2.2.1 X.2.2.2.2.1 = true := va_cwS 3 (cx_w hC) (lw_S q897 q639 q131 q640) rfl rfl rfl (by decide +kernel) (by rw [hrm]; exact ⟨h1, h2⟩)
abbrev rmJ_oci : Room := { frames := 1, cells := 0, slots := 0, locals := 22 }
set_option maxHeartbeats 4000000 in
theorem w_J_oci {X : Ctx} {D : Dd} {P : Heap → Prop} {out : Int32} (hM : Tx X cJ15_checkIndex RJ15 D 2 rmJ_oci) (hR : Rt X (some .int) P (some (.int out)) 0 0) (a0 : Int32) (a1 : Int32) (hE : J_oci a0 a1 = some out) : Wk X 0 0 P 0 [(0, .int a0), (1, .int a1)] [] := by
  have hC := hM.1
  have hnL := hM.2.1
  have hrm := hM.2.2
  unfold J_oci at hE
  refine k_iload_n (pc := 0) hC dJ15_checkIndex_0 rfl 0 rfl ?_
  refine k_iload_n (pc := 1) hC dJ15_checkIndex_1 rfl 1 rfl ?_
  refine k_null (pc := 2) hC dJ15_checkIndex_2 ?_
  refine m_callSI (pc := 3) (As := [.int a0, .int a1, .null]) (fun r => r) hC (cw_J_pci_J15 hC hrm (Nat.le_of_ble_eq_true rfl) (Nat.le_of_ble_eq_true rfl)) rfl rfl (Nat.le_of_ble_eq_true rfl) ⟨Nat.zero_le _, Nat.zero_le _⟩ dJ15_checkIndex_3 hE (fun r h => ct_J_pci _ _ _ _ a0 a1 r h) (fun r1 hE => ?_)
  exact k_iret (pc := 6) hC hR ⟨Nat.le_refl 0, Nat.le_refl 0⟩ dJ15_checkIndex_6 (by cases hE; rfl) (by cases hE; exact fun _ h => h)
theorem ct_J_oci (l : Launch) (D : Dd) (A : Nat → Prop) (P : Heap → Prop) (a0 : Int32) (a1 : Int32) (out : Int32) (hE : J_oci a0 a1 = some out) : Ct l yJ15_checkIndex (ws_ yJ15_checkIndex cJ15_checkIndex 2 (some .int)) rmJ_oci vwCl arTy D A [.int a0, .int a1] P P (some (.int out)) 0 0 := by
  refine Ct.of (by decide) (Nat.le_of_ble_eq_true rfl) rfl ?_
  intro X hl hrm hC hR hXA hnL _
  exact w_J_oci ⟨hC, hnL, hrm⟩ hR a0 a1 hE
theorem cw_J_oci_J5 {X : Ctx} {cc : ByteArray} {D : Dd} {rm : Room} (hC : Cx X cc RJ5 vwCl arTy D) (hrm : X.2.2.2.1 = rm) (h1 : rmJ_oci.frames + 1 ≤ rm.frames) (h2 : 8 + (2 + 11) + rmJ_oci.locals ≤ rm.locals) : CallB X.2.2.2.1 X.2.2.2.2.1 X.2.2.2.2.2.2.1 RJ5 118 yJ15_checkIndex cJ15_checkIndex 2 (some .int) (ws_ yJ15_checkIndex cJ15_checkIndex 2 (some .int)) rmJ_oci 0 0 2 ∧ (Cond.static yJ15_checkIndex).before X.2.2.2.2.2.2.1 X.2.2.2.2.1 = true := va_cwS 2 (cx_w hC) (lw_S q894 q895 q141 q896) rfl rfl rfl (by decide +kernel) (by rw [hrm]; exact ⟨h1, h2⟩)
abbrev rmL_size : Room := { frames := 0, cells := 0, slots := 0, locals := 0 }
set_option maxHeartbeats 4000000 in
theorem w_L_size {X : Ctx} {D : Dd} {P : Heap → Prop} {T : Th} {out : Int32} (hM : Tx X cJ5_size RJ5 D 1 rmL_size) (hDy : ∀ H, P H → Dy D T H) (hR : Rt X (some .int) P (some (.int out)) 0 0) (a0 : Nat) (hE : L_size T a0 = some out) : Wk X 0 0 P 0 [(0, .ref a0)] [] := by
  have hC := hM.1
  have hnL := hM.2.1
  have hrm := hM.2.2
  unfold L_size at hE
  refine k_aload_n (pc := 0) hC dJ5_size_0 rfl 0 rfl ?_
  refine gD_J5_48_J5 (pc := 1) hC hDy dJ5_size_1 hE (fun x1 hE => ?_)
  exact k_iret (pc := 4) hC hR ⟨Nat.le_refl 0, Nat.le_refl 0⟩ dJ5_size_4 (by cases hE; rfl) (by cases hE; exact fun _ h => h)
theorem ct_L_size (l : Launch) (D : Dd) (A : Nat → Prop) (P : Heap → Prop) (T : Th) (hDy : ∀ H, P H → Dy D T H) (a0 : Nat) (out : Int32) (hE : L_size T a0 = some out) : Ct l yJ5_size (ws_ yJ5_size cJ5_size 1 (some .int)) rmL_size vwCl arTy D A [.ref a0] P P (some (.int out)) 0 0 := by
  refine Ct.of (by decide) (Nat.le_of_ble_eq_true rfl) rfl ?_
  intro X hl hrm hC hR hXA hnL _
  exact w_L_size ⟨hC, hnL, hrm⟩ hDy hR a0 hE
theorem cw_L_size_X0 {X : Ctx} {cc : ByteArray} {D : Dd} {rm : Room} (hC : Cx X cc RX0 vwCl arTy D) (hrm : X.2.2.2.1 = rm) (h1 : rmL_size.frames + 1 ≤ rm.frames) (h2 : 8 + (1 + 11) + rmL_size.locals ≤ rm.locals) : CallW X.2.2.2.1 X.2.2.2.2.1 X.2.2.2.2.2.2.1 RX0 RJ5 111 yJ5_size cJ5_size 1 (some .int) (ws_ yJ5_size cJ5_size 1 (some .int)) rmL_size 0 0 0 := cwV 0 (cx_w hC) (lw_V q1261 q695 q696 q124 q697) rfl rfl rfl (by decide +kernel) (by rw [hrm]; exact ⟨h1, h2⟩)
theorem cw_L_size_X3 {X : Ctx} {cc : ByteArray} {D : Dd} {rm : Room} (hC : Cx X cc RX3 vwCl arTy D) (hrm : X.2.2.2.1 = rm) (h1 : rmL_size.frames + 1 ≤ rm.frames) (h2 : 8 + (1 + 11) + rmL_size.locals ≤ rm.locals) : CallW X.2.2.2.1 X.2.2.2.2.1 X.2.2.2.2.2.2.1 RX3 RJ5 113 yJ5_size cJ5_size 1 (some .int) (ws_ yJ5_size cJ5_size 1 (some .int)) rmL_size 0 0 0 := cwV 0 (cx_w hC) (lw_V q694 q695 q696 q124 q697) rfl rfl rfl (by decide +kernel) (by rw [hrm]; exact ⟨h1, h2⟩)
theorem cw_L_size_X6 {X : Ctx} {cc : ByteArray} {D : Dd} {rm : Room} (hC : Cx X cc RX6 vwCl arTy D) (hrm : X.2.2.2.1 = rm) (h1 : rmL_size.frames + 1 ≤ rm.frames) (h2 : 8 + (1 + 11) + rmL_size.locals ≤ rm.locals) : CallW X.2.2.2.1 X.2.2.2.2.1 X.2.2.2.2.2.2.1 RX6 RJ5 135 yJ5_size cJ5_size 1 (some .int) (ws_ yJ5_size cJ5_size 1 (some .int)) rmL_size 0 0 0 := cwV 0 (cx_w hC) (lw_V q1393 q695 q696 q124 q697) rfl rfl rfl (by decide +kernel) (by rw [hrm]; exact ⟨h1, h2⟩)
theorem cw_L_size_X13 {X : Ctx} {cc : ByteArray} {D : Dd} {rm : Room} (hC : Cx X cc RX13 vwCl arTy D) (hrm : X.2.2.2.1 = rm) (h1 : rmL_size.frames + 1 ≤ rm.frames) (h2 : 8 + (1 + 11) + rmL_size.locals ≤ rm.locals) : CallW X.2.2.2.1 X.2.2.2.2.1 X.2.2.2.2.2.2.1 RX13 RJ5 18 yJ5_size cJ5_size 1 (some .int) (ws_ yJ5_size cJ5_size 1 (some .int)) rmL_size 0 0 0 := cwV 0 (cx_w hC) (lw_V q1115 q695 q696 q124 q697) rfl rfl rfl (by decide +kernel) (by rw [hrm]; exact ⟨h1, h2⟩)
theorem cw_L_size_X4 {X : Ctx} {cc : ByteArray} {D : Dd} {rm : Room} (hC : Cx X cc RX4 vwCl arTy D) (hrm : X.2.2.2.1 = rm) (h1 : rmL_size.frames + 1 ≤ rm.frames) (h2 : 8 + (1 + 11) + rmL_size.locals ≤ rm.locals) : CallW X.2.2.2.1 X.2.2.2.2.1 X.2.2.2.2.2.2.1 RX4 RJ5 34 yJ5_size cJ5_size 1 (some .int) (ws_ yJ5_size cJ5_size 1 (some .int)) rmL_size 0 0 0 := cwV 0 (cx_w hC) (lw_V q889 q695 q696 q124 q697) rfl rfl rfl (by decide +kernel) (by rw [hrm]; exact ⟨h1, h2⟩)
theorem cw_L_size_X5 {X : Ctx} {cc : ByteArray} {D : Dd} {rm : Room} (hC : Cx X cc RX5 vwCl arTy D) (hrm : X.2.2.2.1 = rm) (h1 : rmL_size.frames + 1 ≤ rm.frames) (h2 : 8 + (1 + 11) + rmL_size.locals ≤ rm.locals) : CallW X.2.2.2.1 X.2.2.2.2.1 X.2.2.2.2.2.2.1 RX5 RJ5 68 yJ5_size cJ5_size 1 (some .int) (ws_ yJ5_size cJ5_size 1 (some .int)) rmL_size 0 0 0 := cwV 0 (cx_w hC) (lw_V q1243 q695 q696 q124 q697) rfl rfl rfl (by decide +kernel) (by rw [hrm]; exact ⟨h1, h2⟩)
abbrev rmL_elem : Room := { frames := 0, cells := 0, slots := 0, locals := 0 }
set_option maxHeartbeats 4000000 in
theorem w_L_elem {X : Ctx} {D : Dd} {P : Heap → Prop} {T : Th} {out : Option Nat} (hM : Tx X cJ5_elementData RJ5 D 2 rmL_elem) (hDy : ∀ H, P H → Dy D T H) (hR : Rt X (some (.object "java/lang/Object")) P (some (va_rf out)) 0 0) (a0 : Nat) (a1 : Int32) (hE : L_elem T a0 a1 = some out) : Wk X 0 0 P 0 [(0, .ref a0), (1, .int a1)] [] := by
  have hC := hM.1
  have hnL := hM.2.1
  have hrm := hM.2.2
  unfold L_elem at hE
  refine k_aload_n (pc := 0) hC dJ5_elementData_0 rfl 0 rfl ?_
  refine gD_J5_9_J5 (pc := 1) hC hDy dJ5_elementData_1 hE (fun x1 hE => ?_)
  refine k_iload_n (pc := 4) hC dJ5_elementData_4 rfl 1 rfl ?_
  refine k_nn (G := fun z => Wk X 0 0 P 5 [(0, .ref a0), (1, .int a1)] [.int a1, z]) hE (fun b2 hE => ?_)
  refine dy_aald (pc := 5) (ty := .object "java/lang/Object") hC hDy (by simp [arTy]) rfl dJ5_elementData_5 hE (fun x3 hE => ?_)
  exact k_aret (pc := 6) (v := va_rf x3) (rt := (.object "java/lang/Object")) (by first | exact Or.inl ⟨_, rfl⟩ | exact Or.inr ⟨_, rfl⟩) (va_rfv _) hC hR ⟨Nat.le_refl 0, Nat.le_refl 0⟩ dJ5_elementData_6 (by cases hE; rfl) (by cases hE; exact fun _ h => h)
theorem ct_L_elem (l : Launch) (D : Dd) (A : Nat → Prop) (P : Heap → Prop) (T : Th) (hDy : ∀ H, P H → Dy D T H) (a0 : Nat) (a1 : Int32) (out : Option Nat) (hE : L_elem T a0 a1 = some out) : Ct l yJ5_elementData (ws_ yJ5_elementData cJ5_elementData 2 (some (.object "java/lang/Object"))) rmL_elem vwCl arTy D A [.ref a0, .int a1] P P (some (va_rf out)) 0 0 := by
  refine Ct.of (by decide) (Nat.le_of_ble_eq_true rfl) rfl ?_
  intro X hl hrm hC hR hXA hnL _
  exact w_L_elem ⟨hC, hnL, hrm⟩ hDy hR a0 a1 hE
theorem cw_L_elem_J5 {X : Ctx} {cc : ByteArray} {D : Dd} {rm : Room} (hC : Cx X cc RJ5 vwCl arTy D) (hrm : X.2.2.2.1 = rm) (h1 : rmL_elem.frames + 1 ≤ rm.frames) (h2 : 8 + (2 + 11) + rmL_elem.locals ≤ rm.locals) : CallW X.2.2.2.1 X.2.2.2.2.1 X.2.2.2.2.2.2.1 RJ5 RJ5 123 yJ5_elementData cJ5_elementData 2 (some (.object "java/lang/Object")) (ws_ yJ5_elementData cJ5_elementData 2 (some (.object "java/lang/Object"))) rmL_elem 0 0 1 := cwV 1 (cx_w hC) (lw_V q898 q899 q900 q124 q901) rfl rfl rfl (by decide +kernel) (by rw [hrm]; exact ⟨h1, h2⟩)
abbrev rmL_get : Room := { frames := 2, cells := 0, slots := 0, locals := 43 }
set_option maxHeartbeats 4000000 in
theorem w_L_get {X : Ctx} {D : Dd} {P : Heap → Prop} {T : Th} {out : Option Nat} (hM : Tx X cJ5_get RJ5 D 2 rmL_get) (hDy : ∀ H, P H → Dy D T H) (hR : Rt X (some (.object "java/lang/Object")) P (some (va_rf out)) 0 0) (a0 : Nat) (a1 : Int32) (hE : L_get T a0 a1 = some out) : Wk X 0 0 P 0 [(0, .ref a0), (1, .int a1)] [] := by
  have hC := hM.1
  have hnL := hM.2.1
  have hrm := hM.2.2
  unfold L_get at hE
  refine k_iload_n (pc := 0) hC dJ5_get_0 rfl 1 rfl ?_
  refine k_aload_n (pc := 1) hC dJ5_get_1 rfl 0 rfl ?_
  refine gD_J5_48_J5 (pc := 2) hC hDy dJ5_get_2 hE (fun x1 hE => ?_)
  refine m_callSI (pc := 5) (As := [.int a1, .int x1]) (fun r => r) hC (cw_J_oci_J5 hC hrm (Nat.le_of_ble_eq_true rfl) (Nat.le_of_ble_eq_true rfl)) rfl rfl (Nat.le_of_ble_eq_true rfl) ⟨Nat.zero_le _, Nat.zero_le _⟩ dJ5_get_5 hE (fun r h => ct_J_oci _ _ _ _ a1 x1 r h) (fun r2 hE => ?_)
  refine k_pop (pc := 8) hC dJ5_get_8 rfl ?_
  refine k_aload_n (pc := 9) hC dJ5_get_9 rfl 0 rfl ?_
  refine k_iload_n (pc := 10) hC dJ5_get_10 rfl 1 rfl ?_
  refine t_callVR (pc := 11) (As := [.int a1]) 19 (fun r => r) hC hDy cl_J5 (cw_L_elem_J5 hC hrm (Nat.le_of_ble_eq_true rfl) (Nat.le_of_ble_eq_true rfl)) rfl rfl (Nat.le_of_ble_eq_true rfl) ⟨Nat.zero_le _, Nat.zero_le _⟩ dJ5_get_11 hE (fun r h => ct_L_elem _ _ _ _ T hDy a0 a1 r h) (fun r3 hE => ?_)
  exact k_aret (pc := 14) (v := va_rf r3) (rt := (.object "java/lang/Object")) (by first | exact Or.inl ⟨_, rfl⟩ | exact Or.inr ⟨_, rfl⟩) (va_rfv _) hC hR ⟨Nat.le_refl 0, Nat.le_refl 0⟩ dJ5_get_14 (by cases hE; rfl) (by cases hE; exact fun _ h => h)
theorem ct_L_get (l : Launch) (D : Dd) (A : Nat → Prop) (P : Heap → Prop) (T : Th) (hDy : ∀ H, P H → Dy D T H) (a0 : Nat) (a1 : Int32) (out : Option Nat) (hE : L_get T a0 a1 = some out) : Ct l yJ5_get (ws_ yJ5_get cJ5_get 2 (some (.object "java/lang/Object"))) rmL_get vwCl arTy D A [.ref a0, .int a1] P P (some (va_rf out)) 0 0 := by
  refine Ct.of (by decide) (Nat.le_of_ble_eq_true rfl) rfl ?_
  intro X hl hrm hC hR hXA hnL _
  exact w_L_get ⟨hC, hnL, hrm⟩ hDy hR a0 a1 hE
theorem cw_L_get_X0 {X : Ctx} {cc : ByteArray} {D : Dd} {rm : Room} (hC : Cx X cc RX0 vwCl arTy D) (hrm : X.2.2.2.1 = rm) (h1 : rmL_get.frames + 1 ≤ rm.frames) (h2 : 8 + (2 + 11) + rmL_get.locals ≤ rm.locals) : CallW X.2.2.2.1 X.2.2.2.2.1 X.2.2.2.2.2.2.1 RX0 RJ5 131 yJ5_get cJ5_get 2 (some (.object "java/lang/Object")) (ws_ yJ5_get cJ5_get 2 (some (.object "java/lang/Object"))) rmL_get 0 0 1 := cwV 1 (cx_w hC) (lw_V q1268 q891 q892 q124 q893) rfl rfl rfl (by decide +kernel) (by rw [hrm]; exact ⟨h1, h2⟩)
theorem cw_L_get_X3 {X : Ctx} {cc : ByteArray} {D : Dd} {rm : Room} (hC : Cx X cc RX3 vwCl arTy D) (hrm : X.2.2.2.1 = rm) (h1 : rmL_get.frames + 1 ≤ rm.frames) (h2 : 8 + (2 + 11) + rmL_get.locals ≤ rm.locals) : CallW X.2.2.2.1 X.2.2.2.2.1 X.2.2.2.2.2.2.1 RX3 RJ5 196 yJ5_get cJ5_get 2 (some (.object "java/lang/Object")) (ws_ yJ5_get cJ5_get 2 (some (.object "java/lang/Object"))) rmL_get 0 0 1 := cwV 1 (cx_w hC) (lw_V q1067 q891 q892 q124 q893) rfl rfl rfl (by decide +kernel) (by rw [hrm]; exact ⟨h1, h2⟩)
theorem cw_L_get_X6 {X : Ctx} {cc : ByteArray} {D : Dd} {rm : Room} (hC : Cx X cc RX6 vwCl arTy D) (hrm : X.2.2.2.1 = rm) (h1 : rmL_get.frames + 1 ≤ rm.frames) (h2 : 8 + (2 + 11) + rmL_get.locals ≤ rm.locals) : CallW X.2.2.2.1 X.2.2.2.2.1 X.2.2.2.2.2.2.1 RX6 RJ5 50 yJ5_get cJ5_get 2 (some (.object "java/lang/Object")) (ws_ yJ5_get cJ5_get 2 (some (.object "java/lang/Object"))) rmL_get 0 0 1 := cwV 1 (cx_w hC) (lw_V q1370 q891 q892 q124 q893) rfl rfl rfl (by decide +kernel) (by rw [hrm]; exact ⟨h1, h2⟩)
theorem cw_L_get_X4 {X : Ctx} {cc : ByteArray} {D : Dd} {rm : Room} (hC : Cx X cc RX4 vwCl arTy D) (hrm : X.2.2.2.1 = rm) (h1 : rmL_get.frames + 1 ≤ rm.frames) (h2 : 8 + (2 + 11) + rmL_get.locals ≤ rm.locals) : CallW X.2.2.2.1 X.2.2.2.2.1 X.2.2.2.2.2.2.1 RX4 RJ5 38 yJ5_get cJ5_get 2 (some (.object "java/lang/Object")) (ws_ yJ5_get cJ5_get 2 (some (.object "java/lang/Object"))) rmL_get 0 0 1 := cwV 1 (cx_w hC) (lw_V q890 q891 q892 q124 q893) rfl rfl rfl (by decide +kernel) (by rw [hrm]; exact ⟨h1, h2⟩)
theorem cw_L_get_X5 {X : Ctx} {cc : ByteArray} {D : Dd} {rm : Room} (hC : Cx X cc RX5 vwCl arTy D) (hrm : X.2.2.2.1 = rm) (h1 : rmL_get.frames + 1 ≤ rm.frames) (h2 : 8 + (2 + 11) + rmL_get.locals ≤ rm.locals) : CallW X.2.2.2.1 X.2.2.2.2.1 X.2.2.2.2.2.2.1 RX5 RJ5 74 yJ5_get cJ5_get 2 (some (.object "java/lang/Object")) (ws_ yJ5_get cJ5_get 2 (some (.object "java/lang/Object"))) rmL_get 0 0 1 := cwV 1 (cx_w hC) (lw_V q1244 q891 q892 q124 q893) rfl rfl rfl (by decide +kernel) (by rw [hrm]; exact ⟨h1, h2⟩)
abbrev rmC_isStep : Room := { frames := 1, cells := 0, slots := 0, locals := 20 }
set_option maxHeartbeats 4000000 in
theorem w_C_isStep {X : Ctx} {D : Dd} {P : Heap → Prop} {T : Th} {out : Int32} (hM : Tx X cX13_isStep RX13 D 2 rmC_isStep) (hDy : ∀ H, P H → Dy D T H) (hR : Rt X (some .boolean) P (some (.int out)) 0 0) (a0 : Nat) (a1 : Int32) (hE : C_isStep T a0 a1 = some out) : Wk X 0 0 P 0 [(0, .ref a0), (1, .int a1)] [] := by
  have hC := hM.1
  have hnL := hM.2.1
  have hrm := hM.2.2
  unfold C_isStep at hE
  refine k_iload_n (pc := 0) hC dX13_isStep_0 rfl 1 rfl ?_
  refine k_if_lt (pc := 1) (tgt := 19) hC dX13_isStep_1 (by decide) hE (fun hE => ?_) (fun hE => ?_)
  · refine k_iconst (pc := 19) (v := 0) hC dX13_isStep_19 (by decide) ?_
    exact k_zret (pc := 20) (by decide) hC hR ⟨Nat.le_refl 0, Nat.le_refl 0⟩ dX13_isStep_20 (by cases hE; rfl) (by cases hE; exact fun _ h => h)
  · refine k_iload_n (pc := 4) hC dX13_isStep_4 rfl 1 rfl ?_
    refine k_aload_n (pc := 5) hC dX13_isStep_5 rfl 0 rfl ?_
    refine gD_X13_12_X13 (pc := 6) hC hDy dX13_isStep_6 hE (fun x1 hE => ?_)
    refine k_nn (G := fun z => Wk X 0 0 P 9 [(0, .ref a0), (1, .int a1)] [z, .int a1]) hE (fun b2 hE => ?_)
    refine t_callVI (pc := 9) (As := []) 19 (fun r => r) hC hDy cl_J5 (cw_L_size_X13 hC hrm (Nat.le_of_ble_eq_true rfl) (Nat.le_of_ble_eq_true rfl)) rfl rfl (Nat.le_of_ble_eq_true rfl) ⟨Nat.zero_le _, Nat.zero_le _⟩ dX13_isStep_9 hE (fun r h => ct_L_size _ _ _ _ T hDy b2 r h) (fun r3 hE => ?_)
    refine k_icmp_ge (pc := 12) (tgt := 19) hC dX13_isStep_12 (by decide) hE (fun hE => ?_) (fun hE => ?_)
    · refine k_iconst (pc := 19) (v := 0) hC dX13_isStep_19 (by decide) ?_
      exact k_zret (pc := 20) (by decide) hC hR ⟨Nat.le_refl 0, Nat.le_refl 0⟩ dX13_isStep_20 (by cases hE; rfl) (by cases hE; exact fun _ h => h)
    · refine k_iconst (pc := 15) (v := 1) hC dX13_isStep_15 (by decide) ?_
      refine k_goto (pc := 16) (tgt := 20) hC dX13_isStep_16 (by decide) ?_
      exact k_zret (pc := 20) (by decide) hC hR ⟨Nat.le_refl 0, Nat.le_refl 0⟩ dX13_isStep_20 (by cases hE; rfl) (by cases hE; exact fun _ h => h)
theorem ct_C_isStep (l : Launch) (D : Dd) (A : Nat → Prop) (P : Heap → Prop) (T : Th) (hDy : ∀ H, P H → Dy D T H) (a0 : Nat) (a1 : Int32) (out : Int32) (hE : C_isStep T a0 a1 = some out) : Ct l yX13_isStep (ws_ yX13_isStep cX13_isStep 2 (some .boolean)) rmC_isStep vwCl arTy D A [.ref a0, .int a1] P P (some (.int out)) 0 0 := by
  refine Ct.of (by decide) (Nat.le_of_ble_eq_true rfl) rfl ?_
  intro X hl hrm hC hR hXA hnL _
  exact w_C_isStep ⟨hC, hnL, hrm⟩ hDy hR a0 a1 hE
theorem cw_C_isStep_X0 {X : Ctx} {cc : ByteArray} {D : Dd} {rm : Room} (hC : Cx X cc RX0 vwCl arTy D) (hrm : X.2.2.2.1 = rm) (h1 : rmC_isStep.frames + 1 ≤ rm.frames) (h2 : 8 + (2 + 11) + rmC_isStep.locals ≤ rm.locals) : CallW X.2.2.2.1 X.2.2.2.2.1 X.2.2.2.2.2.2.1 RX0 RX13 137 yX13_isStep cX13_isStep 2 (some .boolean) (ws_ yX13_isStep cX13_isStep 2 (some .boolean)) rmC_isStep 0 0 1 := cwV 1 (cx_w hC) (lw_V q1289 q1112 q1113 q144 q1114) rfl rfl rfl (by decide +kernel) (by rw [hrm]; exact ⟨h1, h2⟩)
theorem cw_C_isStep_X3 {X : Ctx} {cc : ByteArray} {D : Dd} {rm : Room} (hC : Cx X cc RX3 vwCl arTy D) (hrm : X.2.2.2.1 = rm) (h1 : rmC_isStep.frames + 1 ≤ rm.frames) (h2 : 8 + (2 + 11) + rmC_isStep.locals ≤ rm.locals) : CallW X.2.2.2.1 X.2.2.2.2.1 X.2.2.2.2.2.2.1 RX3 RX13 193 yX13_isStep cX13_isStep 2 (some .boolean) (ws_ yX13_isStep cX13_isStep 2 (some .boolean)) rmC_isStep 0 0 1 := cwV 1 (cx_w hC) (lw_V q1111 q1112 q1113 q144 q1114) rfl rfl rfl (by decide +kernel) (by rw [hrm]; exact ⟨h1, h2⟩)
abbrev rmV_isEnded : Room := { frames := 3, cells := 0, slots := 0, locals := 64 }
set_option maxHeartbeats 4000000 in
theorem w_V_isEnded_B15 {X : Ctx} {D : Dd} {v : Nat} {T : Th} {J : Ji} {out : Int32} (hM : Vx X cX5_isEnded RX5 D v 5 rmV_isEnded) (hR : Rt X (some .boolean) (VP D v J T) (some (.int out)) 0 0) (F : Nat) (k15 : Int32 → Nat → Int32 → Option (Int32)) (hk15 : ∀ (a2 : Int32) (a3 : Nat) (a4 : Int32) , k15 a2 a3 a4  = some out → Wk X 0 0 (VP D v J T) 15 [(0, .ref (v + 0)), (2, .int a2), (3, .ref a3), (4, .int a4)] []) (a2 : Int32) (a3 : Nat) (a4 : Int32) (hE : V_isEnded_B15 F k15 T J a2 a3 a4 = some out) : Wk X 0 0 (VP D v J T) 15 [(0, .ref (v + 0)), (2, .int a2), (3, .ref a3), (4, .int a4)] [] := by
  have hC := hM.1
  have hnL := hM.2.2.1
  have hrm := hM.2.2.2
  have hDy : ∀ {J : Ji} (H : Heap), VP D v J T H → Dy D T H := fun _ h => h.2.1
  unfold V_isEnded_B15 at hE
  refine k_iload (pc := 15) hC dX5_isEnded_15 3 rfl ?_
  refine k_aload_n (pc := 17) hC dX5_isEnded_17 rfl 2 rfl ?_
  refine gD_X5_132_X13 (pc := 18) hC hDy dX5_isEnded_18 hE (fun x5 hE => ?_)
  refine k_nn (G := fun z => Wk X 0 0 (VP D v J T) 21 [(0, .ref (v + 0)), (2, .int a2), (3, .ref a3), (4, .int a4)] [z, .int a4]) hE (fun b6 hE => ?_)
  refine t_callVI (pc := 21) (As := []) 19 (fun r => r) hC hDy cl_J5 (cw_L_size_X5 hC hrm (Nat.le_of_ble_eq_true rfl) (Nat.le_of_ble_eq_true rfl)) rfl rfl (Nat.le_of_ble_eq_true rfl) ⟨Nat.zero_le _, Nat.zero_le _⟩ dX5_isEnded_21 hE (fun r h => ct_L_size _ _ _ _ T hDy b6 r h) (fun r7 hE => ?_)
  refine k_icmp_ge (pc := 24) (tgt := 62) hC dX5_isEnded_24 (by decide) hE (fun hE => ?_) (fun hE => ?_)
  · refine k_iconst (pc := 62) (v := 1) hC dX5_isEnded_62 (by decide) ?_
    exact k_zret (pc := 63) (by decide) hC hR ⟨Nat.le_refl 0, Nat.le_refl 0⟩ dX5_isEnded_63 (by cases hE; rfl) (by cases hE; exact fun _ h => h)
  · refine k_aload_n (pc := 27) hC dX5_isEnded_27 rfl 0 rfl ?_
    refine gV_X5_11 (pc := 28) 0 lv_0 hM dX5_isEnded_28 ?_
    refine k_iload_n (pc := 31) hC dX5_isEnded_31 rfl 1 rfl ?_
    refine v_aald (pc := 32) 1 lv_1 (by simp [arTy]) rfl hM dX5_isEnded_32 hE (fun q8 hq8 hE => ?_)
    refine k_iload (pc := 33) hC dX5_isEnded_33 3 rfl ?_
    refine v_iald (pc := 35) (2 + q8) (lv_done hq8) hM dX5_isEnded_35 hE (fun x9 hE => ?_)
    refine k_aload_n (pc := 36) hC dX5_isEnded_36 rfl 2 rfl ?_
    refine gD_X5_132_X13 (pc := 37) hC hDy dX5_isEnded_37 hE (fun x10 hE => ?_)
    refine k_iload (pc := 40) hC dX5_isEnded_40 3 rfl ?_
    refine k_nn (G := fun z => Wk X 0 0 (VP D v J T) 42 [(0, .ref (v + 0)), (2, .int a2), (3, .ref a3), (4, .int a4)] [.int a4, z, .int x9]) hE (fun b11 hE => ?_)
    refine t_callVR (pc := 42) (As := [.int a4]) 19 (fun r => r) hC hDy cl_J5 (cw_L_get_X5 hC hrm (Nat.le_of_ble_eq_true rfl) (Nat.le_of_ble_eq_true rfl)) rfl rfl (Nat.le_of_ble_eq_true rfl) ⟨Nat.zero_le _, Nat.zero_le _⟩ dX5_isEnded_42 hE (fun r h => ct_L_get _ _ _ _ T hDy b11 a4 r h) (fun r12 hE => ?_)
    refine k_nn (G := fun z => Wk X 0 0 (VP D v J T) 45 [(0, .ref (v + 0)), (2, .int a2), (3, .ref a3), (4, .int a4)] [z, .int x9]) hE (fun b13 hE => ?_)
    refine dy_castS (pc := 45) hC hDy cl_X14 q1274 dX5_isEnded_45 hE (fun hE => ?_)
    refine gD_X5_137_X14 (pc := 48) hC hDy dX5_isEnded_48 hE (fun x14 hE => ?_)
    refine k_icmp_ge (pc := 51) (tgt := 56) hC dX5_isEnded_51 (by decide) hE (fun hE => ?_) (fun hE => ?_)
    · refine k_iincE (pc := 56) (k := 3) (d := 1) (lv' := fun x15 => [(4, .int x15), (0, .ref (v + 0)), (2, .int a2), (3, .ref a3)]) hC dX5_isEnded_56 rfl (by decide) (by rw [hnL]; decide) hE (fun _ => rfl) (fun x15 hE => ?_)
      refine k_goto (pc := 59) (tgt := 15) hC dX5_isEnded_59 (by decide) ?_
      refine k_sub [1, 2, 3, 0] rfl ?_
      exact hk15 _ _ _  hE
    · refine k_iconst (pc := 54) (v := 0) hC dX5_isEnded_54 (by decide) ?_
      exact k_zret (pc := 55) (by decide) hC hR ⟨Nat.le_refl 0, Nat.le_refl 0⟩ dX5_isEnded_55 (by cases hE; rfl) (by cases hE; exact fun _ h => h)
theorem w_V_isEnded_L15 {X : Ctx} {D : Dd} {v : Nat} {T : Th} {J : Ji} {out : Int32} (hM : Vx X cX5_isEnded RX5 D v 5 rmV_isEnded) (hR : Rt X (some .boolean) (VP D v J T) (some (.int out)) 0 0) (F : Nat) (n : Nat) : ∀ (a2 : Int32) (a3 : Nat) (a4 : Int32) , V_isEnded_L15 F T J n a2 a3 a4 = some out → Wk X 0 0 (VP D v J T) 15 [(0, .ref (v + 0)), (2, .int a2), (3, .ref a3), (4, .int a4)] [] := by
  induction n with
  | zero => intro a2 a3 a4 h; cases h
  | succ n ih => intro a2 a3 a4 h; exact w_V_isEnded_B15 hM hR F (V_isEnded_L15 F T J n) ih a2 a3 a4 h
set_option maxHeartbeats 4000000 in
theorem w_V_isEnded {X : Ctx} {D : Dd} {v : Nat} {T : Th} {J : Ji} {out : Int32} (hM : Vx X cX5_isEnded RX5 D v 5 rmV_isEnded) (hR : Rt X (some .boolean) (VP D v J T) (some (.int out)) 0 0) (F : Nat) (a1 : Nat) (a2 : Int32) (hE : V_isEnded F T J a1 a2 = some out) : Wk X 0 0 (VP D v J T) 0 [(0, .ref (v + 0)), (1, .ref a1), (2, .int a2)] [] := by
  have hC := hM.1
  have hnL := hM.2.2.1
  have hrm := hM.2.2.2
  have hDy : ∀ {J : Ji} (H : Heap), VP D v J T H → Dy D T H := fun _ h => h.2.1
  unfold V_isEnded at hE
  refine k_aload_n (pc := 0) hC dX5_isEnded_0 rfl 1 rfl ?_
  refine gD_X5_91_X4 (pc := 1) hC hDy dX5_isEnded_1 hE (fun x1 hE => ?_)
  refine k_iload_n (pc := 4) hC dX5_isEnded_4 rfl 2 rfl ?_
  refine k_nn (G := fun z => Wk X 0 0 (VP D v J T) 5 [(0, .ref (v + 0)), (1, .ref a1), (2, .int a2)] [.int a2, z]) hE (fun b2 hE => ?_)
  refine t_callVR (pc := 5) (As := [.int a2]) 19 (fun r => r) hC hDy cl_J5 (cw_L_get_X5 hC hrm (Nat.le_of_ble_eq_true rfl) (Nat.le_of_ble_eq_true rfl)) rfl rfl (Nat.le_of_ble_eq_true rfl) ⟨Nat.zero_le _, Nat.zero_le _⟩ dX5_isEnded_5 hE (fun r h => ct_L_get _ _ _ _ T hDy b2 a2 r h) (fun r3 hE => ?_)
  refine k_nn (G := fun z => Wk X 0 0 (VP D v J T) 8 [(0, .ref (v + 0)), (1, .ref a1), (2, .int a2)] [z]) hE (fun b4 hE => ?_)
  refine dy_castS (pc := 8) hC hDy cl_X13 q1247 dX5_isEnded_8 hE (fun hE => ?_)
  refine k_astore_n (pc := 11) (lv' := [(3, .ref b4), (0, .ref (v + 0)), (1, .ref a1), (2, .int a2)]) hC dX5_isEnded_11 rfl (by rw [hnL]; decide) rfl ?_
  refine k_iconst (pc := 12) (v := 0) hC dX5_isEnded_12 (by decide) ?_
  refine k_istore (pc := 13) (lv' := [(4, .int 0), (3, .ref b4), (0, .ref (v + 0)), (1, .ref a1), (2, .int a2)]) hC dX5_isEnded_13 (by rw [hnL]; decide) rfl ?_
  refine k_sub [2, 4, 1, 0] rfl ?_
  exact w_V_isEnded_L15 hM hR F _ _ _ _  hE
theorem ct_V_isEnded (l : Launch) (D : Dd) (A : Nat → Prop) (v : Nat) (T : Th) (hA : ∀ (off : Nat) (kd : Kd), layV off = some kd → A (v + off)) (F : Nat) (a1 : Nat) (a2 : Int32) (J : Ji) (out : Int32) (hE : V_isEnded F T J a1 a2 = some out) : Ct l yX5_isEnded (ws_ yX5_isEnded cX5_isEnded 5 (some .boolean)) rmV_isEnded vwCl arTy D A [.ref (v + 0), .ref a1, .int a2] (VP D v J T) (VP D v J T) (some (.int out)) 0 0 := by
  refine Ct.of (by decide) (Nat.le_of_ble_eq_true rfl) rfl ?_
  intro X hl hrm hC hR hXA hnL _
  exact w_V_isEnded ⟨hC, by unfold Ft; rw [hXA]; exact hA, hnL, hrm⟩ hR F a1 a2 hE
theorem cw_V_isEnded_X0 {X : Ctx} {cc : ByteArray} {D : Dd} {rm : Room} (hC : Cx X cc RX0 vwCl arTy D) (hrm : X.2.2.2.1 = rm) (h1 : rmV_isEnded.frames + 1 ≤ rm.frames) (h2 : 8 + (5 + 11) + rmV_isEnded.locals ≤ rm.locals) : CallW X.2.2.2.1 X.2.2.2.2.1 X.2.2.2.2.2.2.1 RX0 RX5 153 yX5_isEnded cX5_isEnded 5 (some .boolean) (ws_ yX5_isEnded cX5_isEnded 5 (some .boolean)) rmV_isEnded 0 0 2 := cwV 2 (cx_w hC) (lw_V q1277 q1278 q1279 q125 q1280) rfl rfl rfl (by decide +kernel) (by rw [hrm]; exact ⟨h1, h2⟩)
theorem cw_V_isEnded_X6 {X : Ctx} {cc : ByteArray} {D : Dd} {rm : Room} (hC : Cx X cc RX6 vwCl arTy D) (hrm : X.2.2.2.1 = rm) (h1 : rmV_isEnded.frames + 1 ≤ rm.frames) (h2 : 8 + (5 + 11) + rmV_isEnded.locals ≤ rm.locals) : CallW X.2.2.2.1 X.2.2.2.2.1 X.2.2.2.2.2.2.1 RX6 RX5 101 yX5_isEnded cX5_isEnded 5 (some .boolean) (ws_ yX5_isEnded cX5_isEnded 5 (some .boolean)) rmV_isEnded 0 0 2 := cwV 2 (cx_w hC) (lw_V q1388 q1278 q1279 q125 q1280) rfl rfl rfl (by decide +kernel) (by rw [hrm]; exact ⟨h1, h2⟩)
abbrev rmV_worth : Room := { frames := 3, cells := 0, slots := 0, locals := 64 }
set_option maxHeartbeats 4000000 in
theorem w_V_worth_B18 {X : Ctx} {D : Dd} {v : Nat} {T : Th} {J : Ji} {out : Int32} (hM : Vx X cX5_worth RX5 D v 8 rmV_worth) (hR : Rt X (some .int) (VP D v J T) (some (.int out)) 0 0) (F : Nat) (k18 : Int32 → Nat → Int32 → Int32 → Option (Int32)) (hk18 : ∀ (a2 : Int32) (a3 : Nat) (a4 : Int32) (a5 : Int32) , k18 a2 a3 a4 a5  = some out → Wk X 0 0 (VP D v J T) 18 [(0, .ref (v + 0)), (2, .int a2), (3, .ref a3), (4, .int a4), (5, .int a5)] []) (a2 : Int32) (a3 : Nat) (a4 : Int32) (a5 : Int32) (hE : V_worth_B18 F k18 T J a2 a3 a4 a5 = some out) : Wk X 0 0 (VP D v J T) 18 [(0, .ref (v + 0)), (2, .int a2), (3, .ref a3), (4, .int a4), (5, .int a5)] [] := by
  have hC := hM.1
  have hnL := hM.2.2.1
  have hrm := hM.2.2.2
  have hDy : ∀ {J : Ji} (H : Heap), VP D v J T H → Dy D T H := fun _ h => h.2.1
  unfold V_worth_B18 at hE
  refine k_iload (pc := 18) hC dX5_worth_18 4 rfl ?_
  refine k_aload_n (pc := 20) hC dX5_worth_20 rfl 2 rfl ?_
  refine gD_X5_132_X13 (pc := 21) hC hDy dX5_worth_21 hE (fun x5 hE => ?_)
  refine k_nn (G := fun z => Wk X 0 0 (VP D v J T) 24 [(0, .ref (v + 0)), (2, .int a2), (3, .ref a3), (4, .int a4), (5, .int a5)] [z, .int a5]) hE (fun b6 hE => ?_)
  refine t_callVI (pc := 24) (As := []) 19 (fun r => r) hC hDy cl_J5 (cw_L_size_X5 hC hrm (Nat.le_of_ble_eq_true rfl) (Nat.le_of_ble_eq_true rfl)) rfl rfl (Nat.le_of_ble_eq_true rfl) ⟨Nat.zero_le _, Nat.zero_le _⟩ dX5_worth_24 hE (fun r h => ct_L_size _ _ _ _ T hDy b6 r h) (fun r7 hE => ?_)
  refine k_icmp_ge (pc := 27) (tgt := 101) hC dX5_worth_27 (by decide) hE (fun hE => ?_) (fun hE => ?_)
  · refine k_iload (pc := 101) hC dX5_worth_101 3 rfl ?_
    exact k_iret (pc := 103) hC hR ⟨Nat.le_refl 0, Nat.le_refl 0⟩ dX5_worth_103 (by cases hE; rfl) (by cases hE; exact fun _ h => h)
  · refine k_aload_n (pc := 30) hC dX5_worth_30 rfl 2 rfl ?_
    refine gD_X5_132_X13 (pc := 31) hC hDy dX5_worth_31 hE (fun x8 hE => ?_)
    refine k_iload (pc := 34) hC dX5_worth_34 4 rfl ?_
    refine k_nn (G := fun z => Wk X 0 0 (VP D v J T) 36 [(0, .ref (v + 0)), (2, .int a2), (3, .ref a3), (4, .int a4), (5, .int a5)] [.int a5, z]) hE (fun b9 hE => ?_)
    refine t_callVR (pc := 36) (As := [.int a5]) 19 (fun r => r) hC hDy cl_J5 (cw_L_get_X5 hC hrm (Nat.le_of_ble_eq_true rfl) (Nat.le_of_ble_eq_true rfl)) rfl rfl (Nat.le_of_ble_eq_true rfl) ⟨Nat.zero_le _, Nat.zero_le _⟩ dX5_worth_36 hE (fun r h => ct_L_get _ _ _ _ T hDy b9 a5 r h) (fun r10 hE => ?_)
    refine k_nn (G := fun z => Wk X 0 0 (VP D v J T) 39 [(0, .ref (v + 0)), (2, .int a2), (3, .ref a3), (4, .int a4), (5, .int a5)] [z]) hE (fun b11 hE => ?_)
    refine dy_castS (pc := 39) hC hDy cl_X14 q1274 dX5_worth_39 hE (fun hE => ?_)
    refine k_astore (pc := 42) (lv' := [(6, .ref b11), (0, .ref (v + 0)), (2, .int a2), (3, .ref a3), (4, .int a4), (5, .int a5)]) hC dX5_worth_42 (by rw [hnL]; decide) rfl ?_
    refine k_aload_n (pc := 44) hC dX5_worth_44 rfl 1 rfl ?_
    refine gV_X5_11 (pc := 45) 0 lv_0 hM dX5_worth_45 ?_
    refine k_iload_n (pc := 48) hC dX5_worth_48 rfl 2 rfl ?_
    refine v_aald (pc := 49) 1 lv_1 (by simp [arTy]) rfl hM dX5_worth_49 hE (fun q12 hq12 hE => ?_)
    refine k_iload (pc := 50) hC dX5_worth_50 5 rfl ?_
    refine v_iald (pc := 52) (2 + q12) (lv_done hq12) hM dX5_worth_52 hE (fun x13 hE => ?_)
    refine k_istore (pc := 53) (lv' := [(7, .int x13), (6, .ref b11), (0, .ref (v + 0)), (2, .int a2), (3, .ref a3), (4, .int a4), (5, .int a5)]) hC dX5_worth_53 (by rw [hnL]; decide) rfl ?_
    refine k_iload (pc := 55) hC dX5_worth_55 5 rfl ?_
    refine k_aload (pc := 57) hC dX5_worth_57 1 rfl ?_
    refine gD_X5_140_X14 (pc := 59) hC hDy dX5_worth_59 hE (fun x14 hE => ?_)
    refine k_iload (pc := 62) hC dX5_worth_62 0 rfl ?_
    refine k_aload (pc := 64) hC dX5_worth_64 1 rfl ?_
    refine gD_X5_137_X14 (pc := 66) hC hDy dX5_worth_66 hE (fun x15 hE => ?_)
    refine k_mmin (pc := 69) hC q1275 hrm (Nat.le_of_ble_eq_true rfl) (Nat.le_of_ble_eq_true rfl) ⟨Nat.zero_le _, Nat.zero_le _⟩ dX5_worth_69 ?_
    refine k_imul (pc := 72) hC dX5_worth_72 ?_
    refine k_aload (pc := 73) hC dX5_worth_73 1 rfl ?_
    refine gD_X5_143_X14 (pc := 75) hC hDy dX5_worth_75 hE (fun x16 hE => ?_)
    refine k_iconst (pc := 78) (v := 0) hC dX5_worth_78 (by decide) ?_
    refine k_iload (pc := 79) hC dX5_worth_79 0 rfl ?_
    refine k_aload (pc := 81) hC dX5_worth_81 1 rfl ?_
    refine gD_X5_137_X14 (pc := 83) hC hDy dX5_worth_83 hE (fun x17 hE => ?_)
    refine k_isub (pc := 86) hC dX5_worth_86 ?_
    refine k_mmax (pc := 87) hC q1276 hrm (Nat.le_of_ble_eq_true rfl) (Nat.le_of_ble_eq_true rfl) ⟨Nat.zero_le _, Nat.zero_le _⟩ dX5_worth_87 ?_
    refine k_imul (pc := 90) hC dX5_worth_90 ?_
    refine k_isub (pc := 91) hC dX5_worth_91 ?_
    refine k_iadd (pc := 92) hC dX5_worth_92 ?_
    refine k_istoreE (pc := 93) (lv' := fun x18 => [(4, .int x18), (7, .int x13), (6, .ref b11), (0, .ref (v + 0)), (2, .int a2), (3, .ref a3), (5, .int a5)]) hC dX5_worth_93 (by rw [hnL]; decide) hE (fun _ => rfl) (fun x18 hE => ?_)
    refine k_iincE (pc := 95) (k := 6) (d := 1) (lv' := fun x19 => [(5, .int x19), (4, .int x18), (7, .int x13), (6, .ref b11), (0, .ref (v + 0)), (2, .int a2), (3, .ref a3)]) hC dX5_worth_95 rfl (by decide) (by rw [hnL]; decide) hE (fun _ => rfl) (fun x19 hE => ?_)
    refine k_goto (pc := 98) (tgt := 18) hC dX5_worth_98 (by decide) ?_
    refine k_sub [4, 5, 6, 1, 0] rfl ?_
    exact hk18 _ _ _ _  hE
theorem w_V_worth_L18 {X : Ctx} {D : Dd} {v : Nat} {T : Th} {J : Ji} {out : Int32} (hM : Vx X cX5_worth RX5 D v 8 rmV_worth) (hR : Rt X (some .int) (VP D v J T) (some (.int out)) 0 0) (F : Nat) (n : Nat) : ∀ (a2 : Int32) (a3 : Nat) (a4 : Int32) (a5 : Int32) , V_worth_L18 F T J n a2 a3 a4 a5 = some out → Wk X 0 0 (VP D v J T) 18 [(0, .ref (v + 0)), (2, .int a2), (3, .ref a3), (4, .int a4), (5, .int a5)] [] := by
  induction n with
  | zero => intro a2 a3 a4 a5 h; cases h
  | succ n ih => intro a2 a3 a4 a5 h; exact w_V_worth_B18 hM hR F (V_worth_L18 F T J n) ih a2 a3 a4 a5 h
set_option maxHeartbeats 4000000 in
theorem w_V_worth {X : Ctx} {D : Dd} {v : Nat} {T : Th} {J : Ji} {out : Int32} (hM : Vx X cX5_worth RX5 D v 8 rmV_worth) (hR : Rt X (some .int) (VP D v J T) (some (.int out)) 0 0) (F : Nat) (a1 : Nat) (a2 : Int32) (hE : V_worth F T J a1 a2 = some out) : Wk X 0 0 (VP D v J T) 0 [(0, .ref (v + 0)), (1, .ref a1), (2, .int a2)] [] := by
  have hC := hM.1
  have hnL := hM.2.2.1
  have hrm := hM.2.2.2
  have hDy : ∀ {J : Ji} (H : Heap), VP D v J T H → Dy D T H := fun _ h => h.2.1
  unfold V_worth at hE
  refine k_aload_n (pc := 0) hC dX5_worth_0 rfl 1 rfl ?_
  refine gD_X5_91_X4 (pc := 1) hC hDy dX5_worth_1 hE (fun x1 hE => ?_)
  refine k_iload_n (pc := 4) hC dX5_worth_4 rfl 2 rfl ?_
  refine k_nn (G := fun z => Wk X 0 0 (VP D v J T) 5 [(0, .ref (v + 0)), (1, .ref a1), (2, .int a2)] [.int a2, z]) hE (fun b2 hE => ?_)
  refine t_callVR (pc := 5) (As := [.int a2]) 19 (fun r => r) hC hDy cl_J5 (cw_L_get_X5 hC hrm (Nat.le_of_ble_eq_true rfl) (Nat.le_of_ble_eq_true rfl)) rfl rfl (Nat.le_of_ble_eq_true rfl) ⟨Nat.zero_le _, Nat.zero_le _⟩ dX5_worth_5 hE (fun r h => ct_L_get _ _ _ _ T hDy b2 a2 r h) (fun r3 hE => ?_)
  refine k_nn (G := fun z => Wk X 0 0 (VP D v J T) 8 [(0, .ref (v + 0)), (1, .ref a1), (2, .int a2)] [z]) hE (fun b4 hE => ?_)
  refine dy_castS (pc := 8) hC hDy cl_X13 q1247 dX5_worth_8 hE (fun hE => ?_)
  refine k_astore_n (pc := 11) (lv' := [(3, .ref b4), (0, .ref (v + 0)), (1, .ref a1), (2, .int a2)]) hC dX5_worth_11 rfl (by rw [hnL]; decide) rfl ?_
  refine k_iconst (pc := 12) (v := 0) hC dX5_worth_12 (by decide) ?_
  refine k_istore (pc := 13) (lv' := [(4, .int 0), (3, .ref b4), (0, .ref (v + 0)), (1, .ref a1), (2, .int a2)]) hC dX5_worth_13 (by rw [hnL]; decide) rfl ?_
  refine k_iconst (pc := 15) (v := 0) hC dX5_worth_15 (by decide) ?_
  refine k_istore (pc := 16) (lv' := [(5, .int 0), (4, .int 0), (3, .ref b4), (0, .ref (v + 0)), (1, .ref a1), (2, .int a2)]) hC dX5_worth_16 (by rw [hnL]; decide) rfl ?_
  refine k_sub [3, 5, 2, 1, 0] rfl ?_
  exact w_V_worth_L18 hM hR F _ _ _ _ _  hE
theorem ct_V_worth (l : Launch) (D : Dd) (A : Nat → Prop) (v : Nat) (T : Th) (hA : ∀ (off : Nat) (kd : Kd), layV off = some kd → A (v + off)) (F : Nat) (a1 : Nat) (a2 : Int32) (J : Ji) (out : Int32) (hE : V_worth F T J a1 a2 = some out) : Ct l yX5_worth (ws_ yX5_worth cX5_worth 8 (some .int)) rmV_worth vwCl arTy D A [.ref (v + 0), .ref a1, .int a2] (VP D v J T) (VP D v J T) (some (.int out)) 0 0 := by
  refine Ct.of (by decide) (Nat.le_of_ble_eq_true rfl) rfl ?_
  intro X hl hrm hC hR hXA hnL _
  exact w_V_worth ⟨hC, by unfold Ft; rw [hXA]; exact hA, hnL, hrm⟩ hR F a1 a2 hE
theorem cw_V_worth_X0 {X : Ctx} {cc : ByteArray} {D : Dd} {rm : Room} (hC : Cx X cc RX0 vwCl arTy D) (hrm : X.2.2.2.1 = rm) (h1 : rmV_worth.frames + 1 ≤ rm.frames) (h2 : 8 + (8 + 11) + rmV_worth.locals ≤ rm.locals) : CallW X.2.2.2.1 X.2.2.2.2.1 X.2.2.2.2.2.2.1 RX0 RX5 149 yX5_worth cX5_worth 8 (some .int) (ws_ yX5_worth cX5_worth 8 (some .int)) rmV_worth 0 0 2 := cwV 2 (cx_w hC) (lw_V q1270 q1271 q1272 q125 q1273) rfl rfl rfl (by decide +kernel) (by rw [hrm]; exact ⟨h1, h2⟩)
theorem cw_V_worth_X5 {X : Ctx} {cc : ByteArray} {D : Dd} {rm : Room} (hC : Cx X cc RX5 vwCl arTy D) (hrm : X.2.2.2.1 = rm) (h1 : rmV_worth.frames + 1 ≤ rm.frames) (h2 : 8 + (8 + 11) + rmV_worth.locals ≤ rm.locals) : CallW X.2.2.2.1 X.2.2.2.2.1 X.2.2.2.2.2.2.1 RX5 RX5 149 yX5_worth cX5_worth 8 (some .int) (ws_ yX5_worth cX5_worth 8 (some .int)) rmV_worth 0 0 2 := cwV 2 (cx_w hC) (lw_V q1356 q1271 q1272 q125 q1273) rfl rfl rfl (by decide +kernel) (by rw [hrm]; exact ⟨h1, h2⟩)
abbrev rmV_worthOfAll : Room := { frames := 4, cells := 0, slots := 0, locals := 91 }
set_option maxHeartbeats 4000000 in
theorem w_V_worthOfAll_B4 {X : Ctx} {D : Dd} {v : Nat} {T : Th} {J : Ji} {out : Int32} (hM : Vx X cX5_worthOfAll RX5 D v 4 rmV_worthOfAll) (hR : Rt X (some .int) (VP D v J T) (some (.int out)) 0 0) (F : Nat) (k4 : Nat → Int32 → Int32 → Option (Int32)) (hk4 : ∀ (a1 : Nat) (a2 : Int32) (a3 : Int32) , k4 a1 a2 a3  = some out → Wk X 0 0 (VP D v J T) 4 [(0, .ref (v + 0)), (1, .ref a1), (2, .int a2), (3, .int a3)] []) (a1 : Nat) (a2 : Int32) (a3 : Int32) (hE : V_worthOfAll_B4 F k4 T J a1 a2 a3 = some out) : Wk X 0 0 (VP D v J T) 4 [(0, .ref (v + 0)), (1, .ref a1), (2, .int a2), (3, .int a3)] [] := by
  have hC := hM.1
  have hnL := hM.2.2.1
  have hrm := hM.2.2.2
  have hDy : ∀ {J : Ji} (H : Heap), VP D v J T H → Dy D T H := fun _ h => h.2.1
  unfold V_worthOfAll_B4 at hE
  refine k_iload_n (pc := 4) hC dX5_worthOfAll_4 rfl 3 rfl ?_
  refine k_aload_n (pc := 5) hC dX5_worthOfAll_5 rfl 1 rfl ?_
  refine gD_X5_91_X4 (pc := 6) hC hDy dX5_worthOfAll_6 hE (fun x1 hE => ?_)
  refine k_nn (G := fun z => Wk X 0 0 (VP D v J T) 9 [(0, .ref (v + 0)), (1, .ref a1), (2, .int a2), (3, .int a3)] [z, .int a3]) hE (fun b2 hE => ?_)
  refine t_callVI (pc := 9) (As := []) 19 (fun r => r) hC hDy cl_J5 (cw_L_size_X5 hC hrm (Nat.le_of_ble_eq_true rfl) (Nat.le_of_ble_eq_true rfl)) rfl rfl (Nat.le_of_ble_eq_true rfl) ⟨Nat.zero_le _, Nat.zero_le _⟩ dX5_worthOfAll_9 hE (fun r h => ct_L_size _ _ _ _ T hDy b2 r h) (fun r3 hE => ?_)
  refine k_icmp_ge (pc := 12) (tgt := 30) hC dX5_worthOfAll_12 (by decide) hE (fun hE => ?_) (fun hE => ?_)
  · refine k_iload_n (pc := 30) hC dX5_worthOfAll_30 rfl 2 rfl ?_
    exact k_iret (pc := 31) hC hR ⟨Nat.le_refl 0, Nat.le_refl 0⟩ dX5_worthOfAll_31 (by cases hE; rfl) (by cases hE; exact fun _ h => h)
  · refine k_iload_n (pc := 15) hC dX5_worthOfAll_15 rfl 2 rfl ?_
    refine k_aload_n (pc := 16) hC dX5_worthOfAll_16 rfl 0 rfl ?_
    refine k_aload_n (pc := 17) hC dX5_worthOfAll_17 rfl 1 rfl ?_
    refine k_iload_n (pc := 18) hC dX5_worthOfAll_18 rfl 3 rfl ?_
    refine v_callI (pc := 19) (As := [.ref a1, .int a3]) (fun r => r) (fun r => J) 0 lv_0 cl_X5 hM (cw_V_worth_X5 hC hrm (Nat.le_of_ble_eq_true rfl) (Nat.le_of_ble_eq_true rfl)) rfl rfl (Nat.le_of_ble_eq_true rfl) dX5_worthOfAll_19 hE (fun r h => ct_V_worth _ _ _ _ _ hM.2.1 F a1 a3 J r h) (fun r4 hE => ?_)
    refine k_iadd (pc := 22) hC dX5_worthOfAll_22 ?_
    refine k_istoreE_n (pc := 23) (lv' := fun x5 => [(2, .int x5), (0, .ref (v + 0)), (1, .ref a1), (3, .int a3)]) hC dX5_worthOfAll_23 rfl (by rw [hnL]; decide) hE (fun _ => rfl) (fun x5 hE => ?_)
    refine k_iincE (pc := 24) (k := 3) (d := 1) (lv' := fun x6 => [(3, .int x6), (2, .int x5), (0, .ref (v + 0)), (1, .ref a1)]) hC dX5_worthOfAll_24 rfl (by decide) (by rw [hnL]; decide) hE (fun _ => rfl) (fun x6 hE => ?_)
    refine k_goto (pc := 27) (tgt := 4) hC dX5_worthOfAll_27 (by decide) ?_
    refine k_sub [2, 3, 1, 0] rfl ?_
    exact hk4 _ _ _  hE
theorem w_V_worthOfAll_L4 {X : Ctx} {D : Dd} {v : Nat} {T : Th} {J : Ji} {out : Int32} (hM : Vx X cX5_worthOfAll RX5 D v 4 rmV_worthOfAll) (hR : Rt X (some .int) (VP D v J T) (some (.int out)) 0 0) (F : Nat) (n : Nat) : ∀ (a1 : Nat) (a2 : Int32) (a3 : Int32) , V_worthOfAll_L4 F T J n a1 a2 a3 = some out → Wk X 0 0 (VP D v J T) 4 [(0, .ref (v + 0)), (1, .ref a1), (2, .int a2), (3, .int a3)] [] := by
  induction n with
  | zero => intro a1 a2 a3 h; cases h
  | succ n ih => intro a1 a2 a3 h; exact w_V_worthOfAll_B4 hM hR F (V_worthOfAll_L4 F T J n) ih a1 a2 a3 h
set_option maxHeartbeats 4000000 in
theorem w_V_worthOfAll {X : Ctx} {D : Dd} {v : Nat} {T : Th} {J : Ji} {out : Int32} (hM : Vx X cX5_worthOfAll RX5 D v 4 rmV_worthOfAll) (hR : Rt X (some .int) (VP D v J T) (some (.int out)) 0 0) (F : Nat) (a1 : Nat) (hE : V_worthOfAll F T J a1 = some out) : Wk X 0 0 (VP D v J T) 0 [(0, .ref (v + 0)), (1, .ref a1)] [] := by
  have hC := hM.1
  have hnL := hM.2.2.1
  have hrm := hM.2.2.2
  have hDy : ∀ {J : Ji} (H : Heap), VP D v J T H → Dy D T H := fun _ h => h.2.1
  unfold V_worthOfAll at hE
  refine k_iconst (pc := 0) (v := 0) hC dX5_worthOfAll_0 (by decide) ?_
  refine k_istore_n (pc := 1) (lv' := [(2, .int 0), (0, .ref (v + 0)), (1, .ref a1)]) hC dX5_worthOfAll_1 rfl (by rw [hnL]; decide) rfl ?_
  refine k_iconst (pc := 2) (v := 0) hC dX5_worthOfAll_2 (by decide) ?_
  refine k_istore_n (pc := 3) (lv' := [(3, .int 0), (2, .int 0), (0, .ref (v + 0)), (1, .ref a1)]) hC dX5_worthOfAll_3 rfl (by rw [hnL]; decide) rfl ?_
  refine k_sub [2, 3, 1, 0] rfl ?_
  exact w_V_worthOfAll_L4 hM hR F _ _ _ _  hE
theorem ct_V_worthOfAll (l : Launch) (D : Dd) (A : Nat → Prop) (v : Nat) (T : Th) (hA : ∀ (off : Nat) (kd : Kd), layV off = some kd → A (v + off)) (F : Nat) (a1 : Nat) (J : Ji) (out : Int32) (hE : V_worthOfAll F T J a1 = some out) : Ct l yX5_worthOfAll (ws_ yX5_worthOfAll cX5_worthOfAll 4 (some .int)) rmV_worthOfAll vwCl arTy D A [.ref (v + 0), .ref a1] (VP D v J T) (VP D v J T) (some (.int out)) 0 0 := by
  refine Ct.of (by decide) (Nat.le_of_ble_eq_true rfl) rfl ?_
  intro X hl hrm hC hR hXA hnL _
  exact w_V_worthOfAll ⟨hC, by unfold Ft; rw [hXA]; exact hA, hnL, hrm⟩ hR F a1 hE
theorem cw_V_worthOfAll_X0 {X : Ctx} {cc : ByteArray} {D : Dd} {rm : Room} (hC : Cx X cc RX0 vwCl arTy D) (hrm : X.2.2.2.1 = rm) (h1 : rmV_worthOfAll.frames + 1 ≤ rm.frames) (h2 : 8 + (4 + 11) + rmV_worthOfAll.locals ≤ rm.locals) : CallW X.2.2.2.1 X.2.2.2.2.1 X.2.2.2.2.2.2.1 RX0 RX5 245 yX5_worthOfAll cX5_worthOfAll 4 (some .int) (ws_ yX5_worthOfAll cX5_worthOfAll 4 (some .int)) rmV_worthOfAll 0 0 1 := cwV 1 (cx_w hC) (lw_V q1352 q1353 q1354 q125 q1355) rfl rfl rfl (by decide +kernel) (by rw [hrm]; exact ⟨h1, h2⟩)
abbrev rmV_does : Room := { frames := 3, cells := 0, slots := 0, locals := 64 }
set_option maxHeartbeats 4000000 in
theorem w_V_does {X : Ctx} {D : Dd} {v : Nat} {T : Th} {out : Ji} (hM : Vx X cX5_does RX5 D v 5 rmV_does) (hR : Rt X none (VP D v out T) none 0 0) (a1 : Nat) (a2 : Int32) (a3 : Int32) (J : Ji) (hE : V_does T a1 a2 a3 J = some out) : Wk X 0 0 (VP D v J T) 0 [(0, .ref (v + 0)), (1, .ref a1), (2, .int a2), (3, .int a3)] [] := by
  have hC := hM.1
  have hnL := hM.2.2.1
  have hrm := hM.2.2.2
  have hDy : ∀ {J : Ji} (H : Heap), VP D v J T H → Dy D T H := fun _ h => h.2.1
  unfold V_does at hE
  refine k_aload_n (pc := 0) hC dX5_does_0 rfl 0 rfl ?_
  refine gV_X5_11 (pc := 1) 0 lv_0 hM dX5_does_1 ?_
  refine k_iload_n (pc := 4) hC dX5_does_4 rfl 2 rfl ?_
  refine v_aald (pc := 5) 1 lv_1 (by simp [arTy]) rfl hM dX5_does_5 hE (fun q1 hq1 hE => ?_)
  refine k_iload_n (pc := 6) hC dX5_does_6 rfl 3 rfl ?_
  refine k_dup2 (pc := 7) hC dX5_does_7 rfl rfl ?_
  refine v_iald (pc := 8) (2 + q1) (lv_done hq1) hM dX5_does_8 hE (fun x2 hE => ?_)
  refine k_iconst (pc := 9) (v := 1) hC dX5_does_9 (by decide) ?_
  refine k_iadd (pc := 10) hC dX5_does_10 ?_
  refine v_iast (pc := 11) (2 + q1) (lv_done hq1) hM dX5_does_11 hE (fun J3 hE => ?_)
  refine k_aload_n (pc := 12) hC dX5_does_12 rfl 1 rfl ?_
  refine gD_X5_91_X4 (pc := 13) hC hDy dX5_does_13 hE (fun x4 hE => ?_)
  refine k_iload_n (pc := 16) hC dX5_does_16 rfl 2 rfl ?_
  refine k_nn (G := fun z => Wk X 0 0 (VP D v J3 T) 17 [(0, .ref (v + 0)), (1, .ref a1), (2, .int a2), (3, .int a3)] [.int a2, z]) hE (fun b5 hE => ?_)
  refine t_callVR (pc := 17) (As := [.int a2]) 19 (fun r => r) hC hDy cl_J5 (cw_L_get_X5 hC hrm (Nat.le_of_ble_eq_true rfl) (Nat.le_of_ble_eq_true rfl)) rfl rfl (Nat.le_of_ble_eq_true rfl) ⟨Nat.zero_le _, Nat.zero_le _⟩ dX5_does_17 hE (fun r h => ct_L_get _ _ _ _ T hDy b5 a2 r h) (fun r6 hE => ?_)
  refine k_nn (G := fun z => Wk X 0 0 (VP D v J3 T) 20 [(0, .ref (v + 0)), (1, .ref a1), (2, .int a2), (3, .int a3)] [z]) hE (fun b7 hE => ?_)
  refine dy_castS (pc := 20) hC hDy cl_X13 q1247 dX5_does_20 hE (fun hE => ?_)
  refine gD_X5_132_X13 (pc := 23) hC hDy dX5_does_23 hE (fun x8 hE => ?_)
  refine k_iload_n (pc := 26) hC dX5_does_26 rfl 3 rfl ?_
  refine k_nn (G := fun z => Wk X 0 0 (VP D v J3 T) 27 [(0, .ref (v + 0)), (1, .ref a1), (2, .int a2), (3, .int a3)] [.int a3, z]) hE (fun b9 hE => ?_)
  refine t_callVR (pc := 27) (As := [.int a3]) 19 (fun r => r) hC hDy cl_J5 (cw_L_get_X5 hC hrm (Nat.le_of_ble_eq_true rfl) (Nat.le_of_ble_eq_true rfl)) rfl rfl (Nat.le_of_ble_eq_true rfl) ⟨Nat.zero_le _, Nat.zero_le _⟩ dX5_does_27 hE (fun r h => ct_L_get _ _ _ _ T hDy b9 a3 r h) (fun r10 hE => ?_)
  refine k_nn (G := fun z => Wk X 0 0 (VP D v J3 T) 30 [(0, .ref (v + 0)), (1, .ref a1), (2, .int a2), (3, .int a3)] [z]) hE (fun b11 hE => ?_)
  refine dy_castS (pc := 30) hC hDy cl_X14 q1274 dX5_does_30 hE (fun hE => ?_)
  refine gD_X5_153_X14 (pc := 33) hC hDy dX5_does_33 hE (fun x12 hE => ?_)
  refine k_istore (pc := 36) (lv' := [(4, .int x12), (0, .ref (v + 0)), (1, .ref a1), (2, .int a2), (3, .int a3)]) hC dX5_does_36 (by rw [hnL]; decide) rfl ?_
  refine k_iload (pc := 38) hC dX5_does_38 0 rfl ?_
  refine k_if_lt (pc := 40) (tgt := 68) hC dX5_does_40 (by decide) hE (fun hE => ?_) (fun hE => ?_)
  · exact k_vret (pc := 68) hC hR ⟨Nat.le_refl 0, Nat.le_refl 0⟩ dX5_does_68 (by cases hE; rfl) (by cases hE; exact fun _ h => h)
  · refine k_aload_n (pc := 43) hC dX5_does_43 rfl 1 rfl ?_
    refine gV_X5_11 (pc := 44) 0 lv_0 hM dX5_does_44 ?_
    refine k_iload_n (pc := 47) hC dX5_does_47 rfl 3 rfl ?_
    refine v_aald (pc := 48) 1 lv_1 (by simp [arTy]) rfl hM dX5_does_48 hE (fun q13 hq13 hE => ?_)
    refine k_iload (pc := 49) hC dX5_does_49 0 rfl ?_
    refine v_iald (pc := 51) (2 + q13) (lv_done hq13) hM dX5_does_51 hE (fun x14 hE => ?_)
    refine k_if_le (pc := 52) (tgt := 68) hC dX5_does_52 (by decide) hE (fun hE => ?_) (fun hE => ?_)
    · exact k_vret (pc := 68) hC hR ⟨Nat.le_refl 0, Nat.le_refl 0⟩ dX5_does_68 (by cases hE; rfl) (by cases hE; exact fun _ h => h)
    · refine k_aload_n (pc := 55) hC dX5_does_55 rfl 1 rfl ?_
      refine gV_X5_11 (pc := 56) 0 lv_0 hM dX5_does_56 ?_
      refine k_iload_n (pc := 59) hC dX5_does_59 rfl 3 rfl ?_
      refine v_aald (pc := 60) 1 lv_1 (by simp [arTy]) rfl hM dX5_does_60 hE (fun q15 hq15 hE => ?_)
      refine k_iload (pc := 61) hC dX5_does_61 0 rfl ?_
      refine k_dup2 (pc := 63) hC dX5_does_63 rfl rfl ?_
      refine v_iald (pc := 64) (2 + q15) (lv_done hq15) hM dX5_does_64 hE (fun x16 hE => ?_)
      refine k_iconst (pc := 65) (v := 1) hC dX5_does_65 (by decide) ?_
      refine k_isub (pc := 66) hC dX5_does_66 ?_
      refine v_iast (pc := 67) (2 + q15) (lv_done hq15) hM dX5_does_67 hE (fun J17 hE => ?_)
      exact k_vret (pc := 68) hC hR ⟨Nat.le_refl 0, Nat.le_refl 0⟩ dX5_does_68 (by cases hE; rfl) (by cases hE; exact fun _ h => h)
theorem ct_V_does (l : Launch) (D : Dd) (A : Nat → Prop) (v : Nat) (T : Th) (hA : ∀ (off : Nat) (kd : Kd), layV off = some kd → A (v + off)) (a1 : Nat) (a2 : Int32) (a3 : Int32) (J : Ji) (out : Ji) (hE : V_does T a1 a2 a3 J = some out) : Ct l yX5_does (ws_ yX5_does cX5_does 5 none) rmV_does vwCl arTy D A [.ref (v + 0), .ref a1, .int a2, .int a3] (VP D v J T) (VP D v out T) none 0 0 := by
  refine Ct.of (by decide) (Nat.le_of_ble_eq_true rfl) rfl ?_
  intro X hl hrm hC hR hXA hnL _
  exact w_V_does ⟨hC, by unfold Ft; rw [hXA]; exact hA, hnL, hrm⟩ hR a1 a2 a3 J hE
theorem cw_V_does_X0 {X : Ctx} {cc : ByteArray} {D : Dd} {rm : Room} (hC : Cx X cc RX0 vwCl arTy D) (hrm : X.2.2.2.1 = rm) (h1 : rmV_does.frames + 1 ≤ rm.frames) (h2 : 8 + (5 + 11) + rmV_does.locals ≤ rm.locals) : CallW X.2.2.2.1 X.2.2.2.2.1 X.2.2.2.2.2.2.1 RX0 RX5 222 yX5_does cX5_does 5 none (ws_ yX5_does cX5_does 5 none) rmV_does 0 0 3 := cwV 3 (cx_w hC) (lw_V q1326 q1327 q1328 q125 q1329) rfl rfl rfl (by decide +kernel) (by rw [hrm]; exact ⟨h1, h2⟩)
theorem cw_V_does_X6 {X : Ctx} {cc : ByteArray} {D : Dd} {rm : Room} (hC : Cx X cc RX6 vwCl arTy D) (hrm : X.2.2.2.1 = rm) (h1 : rmV_does.frames + 1 ≤ rm.frames) (h2 : 8 + (5 + 11) + rmV_does.locals ≤ rm.locals) : CallW X.2.2.2.1 X.2.2.2.2.1 X.2.2.2.2.2.2.1 RX6 RX5 83 yX5_does cX5_does 5 none (ws_ yX5_does cX5_does 5 none) rmV_does 0 0 3 := cwV 3 (cx_w hC) (lw_V q1382 q1327 q1328 q125 q1329) rfl rfl rfl (by decide +kernel) (by rw [hrm]; exact ⟨h1, h2⟩)
abbrev rmV_isToolThere : Room := { frames := 0, cells := 0, slots := 0, locals := 0 }
set_option maxHeartbeats 4000000 in
theorem w_V_isToolThere {X : Ctx} {D : Dd} {v : Nat} {T : Th} {J : Ji} {out : Int32} (hM : Vx X cX5_isToolThere RX5 D v 4 rmV_isToolThere) (hR : Rt X (some .boolean) (VP D v J T) (some (.int out)) 0 0) (a1 : Int32) (a2 : Int32) (a3 : Int32) (hE : V_isToolThere T J a1 a2 a3 = some out) : Wk X 0 0 (VP D v J T) 0 [(0, .ref (v + 0)), (1, .int a1), (2, .int a2), (3, .int a3)] [] := by
  have hC := hM.1
  have hnL := hM.2.2.1
  have hrm := hM.2.2.2
  have hDy : ∀ {J : Ji} (H : Heap), VP D v J T H → Dy D T H := fun _ h => h.2.1
  unfold V_isToolThere at hE
  refine k_aload_n (pc := 0) hC dX5_isToolThere_0 rfl 0 rfl ?_
  refine gV_X5_26 (pc := 1) 0 lv_0 hM dX5_isToolThere_1 ?_
  refine k_iload_n (pc := 4) hC dX5_isToolThere_4 rfl 1 rfl ?_
  refine v_iald (pc := 5) 11 lv_11 hM dX5_isToolThere_5 hE (fun x1 hE => ?_)
  refine k_iload_n (pc := 6) hC dX5_isToolThere_6 rfl 2 rfl ?_
  refine k_icmp_eq (pc := 7) (tgt := 23) hC dX5_isToolThere_7 (by decide) hE (fun hE => ?_) (fun hE => ?_)
  · refine k_iconst (pc := 23) (v := 1) hC dX5_isToolThere_23 (by decide) ?_
    refine k_goto (pc := 24) (tgt := 28) hC dX5_isToolThere_24 (by decide) ?_
    exact k_zret (pc := 28) (by decide) hC hR ⟨Nat.le_refl 0, Nat.le_refl 0⟩ dX5_isToolThere_28 (by cases hE; rfl) (by cases hE; exact fun _ h => h)
  · refine k_aload_n (pc := 10) hC dX5_isToolThere_10 rfl 0 rfl ?_
    refine gV_X5_26 (pc := 11) 0 lv_0 hM dX5_isToolThere_11 ?_
    refine k_iload_n (pc := 14) hC dX5_isToolThere_14 rfl 1 rfl ?_
    refine v_iald (pc := 15) 11 lv_11 hM dX5_isToolThere_15 hE (fun x2 hE => ?_)
    refine k_bipush (pc := 16) (v := 100) hC dX5_isToolThere_16 (by decide) ?_
    refine k_iload_n (pc := 18) hC dX5_isToolThere_18 rfl 3 rfl ?_
    refine k_iadd (pc := 19) hC dX5_isToolThere_19 ?_
    refine k_icmp_ne (pc := 20) (tgt := 27) hC dX5_isToolThere_20 (by decide) hE (fun hE => ?_) (fun hE => ?_)
    · refine k_iconst (pc := 23) (v := 1) hC dX5_isToolThere_23 (by decide) ?_
      refine k_goto (pc := 24) (tgt := 28) hC dX5_isToolThere_24 (by decide) ?_
      exact k_zret (pc := 28) (by decide) hC hR ⟨Nat.le_refl 0, Nat.le_refl 0⟩ dX5_isToolThere_28 (by cases hE; rfl) (by cases hE; exact fun _ h => h)
    · refine k_iconst (pc := 27) (v := 0) hC dX5_isToolThere_27 (by decide) ?_
      exact k_zret (pc := 28) (by decide) hC hR ⟨Nat.le_refl 0, Nat.le_refl 0⟩ dX5_isToolThere_28 (by cases hE; rfl) (by cases hE; exact fun _ h => h)
theorem ct_V_isToolThere (l : Launch) (D : Dd) (A : Nat → Prop) (v : Nat) (T : Th) (hA : ∀ (off : Nat) (kd : Kd), layV off = some kd → A (v + off)) (a1 : Int32) (a2 : Int32) (a3 : Int32) (J : Ji) (out : Int32) (hE : V_isToolThere T J a1 a2 a3 = some out) : Ct l yX5_isToolThere (ws_ yX5_isToolThere cX5_isToolThere 4 (some .boolean)) rmV_isToolThere vwCl arTy D A [.ref (v + 0), .int a1, .int a2, .int a3] (VP D v J T) (VP D v J T) (some (.int out)) 0 0 := by
  refine Ct.of (by decide) (Nat.le_of_ble_eq_true rfl) rfl ?_
  intro X hl hrm hC hR hXA hnL _
  exact w_V_isToolThere ⟨hC, by unfold Ft; rw [hXA]; exact hA, hnL, hrm⟩ hR a1 a2 a3 hE
theorem cw_V_isToolThere_X6 {X : Ctx} {cc : ByteArray} {D : Dd} {rm : Room} (hC : Cx X cc RX6 vwCl arTy D) (hrm : X.2.2.2.1 = rm) (h1 : rmV_isToolThere.frames + 1 ≤ rm.frames) (h2 : 8 + (4 + 11) + rmV_isToolThere.locals ≤ rm.locals) : CallW X.2.2.2.1 X.2.2.2.2.1 X.2.2.2.2.2.2.1 RX6 RX5 112 yX5_isToolThere cX5_isToolThere 4 (some .boolean) (ws_ yX5_isToolThere cX5_isToolThere 4 (some .boolean)) rmV_isToolThere 0 0 3 := cwV 3 (cx_w hC) (lw_V q1413 q1414 q1415 q125 q1416) rfl rfl rfl (by decide +kernel) (by rw [hrm]; exact ⟨h1, h2⟩)
abbrev rmV_laysWays : Room := { frames := 3, cells := 0, slots := 0, locals := 64 }
set_option maxHeartbeats 4000000 in
theorem w_V_laysWays_B44 {X : Ctx} {D : Dd} {v : Nat} {T : Th} {out : Ji} (hM : Vx X cX5_laysWays RX5 D v 6 rmV_laysWays) (hR : Rt X none (VP D v out T) none 0 0) (F : Nat) (k10 : Nat → Int32 → Int32 → Ji → Option (Ji)) (hk10 : ∀ (a1 : Nat) (a2 : Int32) (a3 : Int32) (J : Ji) , k10 a1 a2 a3 J = some out → Wk X 0 0 (VP D v J T) 10 [(0, .ref (v + 0)), (1, .ref a1), (2, .int a2), (3, .int a3)] []) (k18 : Nat → Int32 → Int32 → Int32 → Ji → Option (Ji)) (hk18 : ∀ (a1 : Nat) (a2 : Int32) (a3 : Int32) (a4 : Int32) (J : Ji) , k18 a1 a2 a3 a4 J = some out → Wk X 0 0 (VP D v J T) 18 [(0, .ref (v + 0)), (1, .ref a1), (2, .int a2), (3, .int a3), (4, .int a4)] []) (a1 : Nat) (a2 : Int32) (a3 : Int32) (a4 : Int32) (s0 : Int32) (s1 : Int32) (qs2 : Nat) (J : Ji) (hqs2 : qs2 < 8) (hE : V_laysWays_B44 F k10 k18 T a1 a2 a3 a4 s0 s1 qs2 J = some out) : Wk X 0 0 (VP D v J T) 44 [(0, .ref (v + 0)), (1, .ref a1), (2, .int a2), (3, .int a3), (4, .int a4)] [.int s0, .int s1, .ref (v + (16 + qs2))] := by
  have hC := hM.1
  have hnL := hM.2.2.1
  have hrm := hM.2.2.2
  have hDy : ∀ {J : Ji} (H : Heap), VP D v J T H → Dy D T H := fun _ h => h.2.1
  unfold V_laysWays_B44 at hE
  refine v_iast (pc := 44) (16 + qs2) (lv_apart hqs2) hM dX5_laysWays_44 hE (fun J6 hE => ?_)
  refine k_iincE (pc := 45) (k := 4) (d := 1) (lv' := fun x7 => [(4, .int x7), (0, .ref (v + 0)), (1, .ref a1), (2, .int a2), (3, .int a3)]) hC dX5_laysWays_45 rfl (by decide) (by rw [hnL]; decide) hE (fun _ => rfl) (fun x7 hE => ?_)
  refine k_goto (pc := 48) (tgt := 18) hC dX5_laysWays_48 (by decide) ?_
  refine k_sub [1, 2, 3, 4, 0] rfl ?_
  exact hk18 _ _ _ _ _  hE
set_option maxHeartbeats 4000000 in
theorem w_V_laysWays_B18 {X : Ctx} {D : Dd} {v : Nat} {T : Th} {out : Ji} (hM : Vx X cX5_laysWays RX5 D v 6 rmV_laysWays) (hR : Rt X none (VP D v out T) none 0 0) (F : Nat) (k10 : Nat → Int32 → Int32 → Ji → Option (Ji)) (hk10 : ∀ (a1 : Nat) (a2 : Int32) (a3 : Int32) (J : Ji) , k10 a1 a2 a3 J = some out → Wk X 0 0 (VP D v J T) 10 [(0, .ref (v + 0)), (1, .ref a1), (2, .int a2), (3, .int a3)] []) (k18 : Nat → Int32 → Int32 → Int32 → Ji → Option (Ji)) (hk18 : ∀ (a1 : Nat) (a2 : Int32) (a3 : Int32) (a4 : Int32) (J : Ji) , k18 a1 a2 a3 a4 J = some out → Wk X 0 0 (VP D v J T) 18 [(0, .ref (v + 0)), (1, .ref a1), (2, .int a2), (3, .int a3), (4, .int a4)] []) (a1 : Nat) (a2 : Int32) (a3 : Int32) (a4 : Int32) (J : Ji) (hE : V_laysWays_B18 F k10 k18 T a1 a2 a3 a4 J = some out) : Wk X 0 0 (VP D v J T) 18 [(0, .ref (v + 0)), (1, .ref a1), (2, .int a2), (3, .int a3), (4, .int a4)] [] := by
  have hC := hM.1
  have hnL := hM.2.2.1
  have hrm := hM.2.2.2
  have hDy : ∀ {J : Ji} (H : Heap), VP D v J T H → Dy D T H := fun _ h => h.2.1
  unfold V_laysWays_B18 at hE
  refine k_iload (pc := 18) hC dX5_laysWays_18 4 rfl ?_
  refine k_iload_n (pc := 20) hC dX5_laysWays_20 rfl 2 rfl ?_
  refine k_icmp_ge (pc := 21) (tgt := 51) hC dX5_laysWays_21 (by decide) hE (fun hE => ?_) (fun hE => ?_)
  · refine k_iincE (pc := 51) (k := 3) (d := 1) (lv' := fun x4 => [(3, .int x4), (0, .ref (v + 0)), (1, .ref a1), (2, .int a2), (4, .int a4)]) hC dX5_laysWays_51 rfl (by decide) (by rw [hnL]; decide) hE (fun _ => rfl) (fun x4 hE => ?_)
    refine k_goto (pc := 54) (tgt := 10) hC dX5_laysWays_54 (by decide) ?_
    refine k_sub [1, 2, 3, 0] rfl ?_
    exact hk10 _ _ _ _  hE
  · refine k_aload_n (pc := 24) hC dX5_laysWays_24 rfl 0 rfl ?_
    refine gV_X5_38 (pc := 25) 0 lv_0 hM dX5_laysWays_25 ?_
    refine k_iload_n (pc := 28) hC dX5_laysWays_28 rfl 3 rfl ?_
    refine v_aald (pc := 29) 15 lv_15 (by simp [arTy]) rfl hM dX5_laysWays_29 hE (fun q5 hq5 hE => ?_)
    refine k_iload (pc := 30) hC dX5_laysWays_30 4 rfl ?_
    refine k_iload_n (pc := 32) hC dX5_laysWays_32 rfl 3 rfl ?_
    refine k_iload (pc := 33) hC dX5_laysWays_33 4 rfl ?_
    refine k_icmp_ne (pc := 35) (tgt := 42) hC dX5_laysWays_35 (by decide) hE (fun hE => ?_) (fun hE => ?_)
    · refine k_iconst (pc := 38) (v := 0) hC dX5_laysWays_38 (by decide) ?_
      refine k_goto (pc := 39) (tgt := 44) hC dX5_laysWays_39 (by decide) ?_
      exact w_V_laysWays_B44 hM hR F k10 hk10 k18 hk18 _ _ _ _ _ _ _ _ hq5 hE
    · refine k_ldc (pc := 42) (v := 1000000) hC q1316 dX5_laysWays_42 ?_
      exact w_V_laysWays_B44 hM hR F k10 hk10 k18 hk18 _ _ _ _ _ _ _ _ hq5 hE
theorem w_V_laysWays_L18 {X : Ctx} {D : Dd} {v : Nat} {T : Th} {out : Ji} (hM : Vx X cX5_laysWays RX5 D v 6 rmV_laysWays) (hR : Rt X none (VP D v out T) none 0 0) (F : Nat) (k10 : Nat → Int32 → Int32 → Ji → Option (Ji)) (hk10 : ∀ (a1 : Nat) (a2 : Int32) (a3 : Int32) (J : Ji) , k10 a1 a2 a3 J = some out → Wk X 0 0 (VP D v J T) 10 [(0, .ref (v + 0)), (1, .ref a1), (2, .int a2), (3, .int a3)] []) (n : Nat) : ∀ (a1 : Nat) (a2 : Int32) (a3 : Int32) (a4 : Int32) (J : Ji) , V_laysWays_L18 F k10 T n a1 a2 a3 a4 J = some out → Wk X 0 0 (VP D v J T) 18 [(0, .ref (v + 0)), (1, .ref a1), (2, .int a2), (3, .int a3), (4, .int a4)] [] := by
  induction n with
  | zero => intro a1 a2 a3 a4 J h; cases h
  | succ n ih => intro a1 a2 a3 a4 J h; exact w_V_laysWays_B18 hM hR F k10 hk10 (V_laysWays_L18 F k10 T n) ih a1 a2 a3 a4 J h
set_option maxHeartbeats 4000000 in
theorem w_V_laysWays_B195 {X : Ctx} {D : Dd} {v : Nat} {T : Th} {out : Ji} (hM : Vx X cX5_laysWays RX5 D v 6 rmV_laysWays) (hR : Rt X none (VP D v out T) none 0 0) (F : Nat) (k178 : Int32 → Int32 → Ji → Option (Ji)) (hk178 : ∀ (a2 : Int32) (a3 : Int32) (J : Ji) , k178 a2 a3 J = some out → Wk X 0 0 (VP D v J T) 178 [(0, .ref (v + 0)), (2, .int a2), (3, .int a3)] []) (k186 : Int32 → Int32 → Int32 → Ji → Option (Ji)) (hk186 : ∀ (a2 : Int32) (a3 : Int32) (a4 : Int32) (J : Ji) , k186 a2 a3 a4 J = some out → Wk X 0 0 (VP D v J T) 186 [(0, .ref (v + 0)), (2, .int a2), (3, .int a3), (4, .int a4)] []) (k195 : Int32 → Int32 → Int32 → Int32 → Ji → Option (Ji)) (hk195 : ∀ (a2 : Int32) (a3 : Int32) (a4 : Int32) (a5 : Int32) (J : Ji) , k195 a2 a3 a4 a5 J = some out → Wk X 0 0 (VP D v J T) 195 [(0, .ref (v + 0)), (2, .int a2), (3, .int a3), (4, .int a4), (5, .int a5)] []) (a2 : Int32) (a3 : Int32) (a4 : Int32) (a5 : Int32) (J : Ji) (hE : V_laysWays_B195 F k178 k186 k195 T a2 a3 a4 a5 J = some out) : Wk X 0 0 (VP D v J T) 195 [(0, .ref (v + 0)), (2, .int a2), (3, .int a3), (4, .int a4), (5, .int a5)] [] := by
  have hC := hM.1
  have hnL := hM.2.2.1
  have hrm := hM.2.2.2
  have hDy : ∀ {J : Ji} (H : Heap), VP D v J T H → Dy D T H := fun _ h => h.2.1
  unfold V_laysWays_B195 at hE
  refine k_iload (pc := 195) hC dX5_laysWays_195 4 rfl ?_
  refine k_iload_n (pc := 197) hC dX5_laysWays_197 rfl 1 rfl ?_
  refine k_icmp_ge (pc := 198) (tgt := 249) hC dX5_laysWays_198 (by decide) hE (fun hE => ?_) (fun hE => ?_)
  · refine k_iincE (pc := 249) (k := 3) (d := 1) (lv' := fun x35 => [(4, .int x35), (0, .ref (v + 0)), (2, .int a2), (3, .int a3), (5, .int a5)]) hC dX5_laysWays_249 rfl (by decide) (by rw [hnL]; decide) hE (fun _ => rfl) (fun x35 hE => ?_)
    refine k_goto (pc := 252) (tgt := 186) hC dX5_laysWays_252 (by decide) ?_
    refine k_sub [1, 2, 3, 0] rfl ?_
    exact hk186 _ _ _ _  hE
  · refine k_aload_n (pc := 201) hC dX5_laysWays_201 rfl 0 rfl ?_
    refine gV_X5_38 (pc := 202) 0 lv_0 hM dX5_laysWays_202 ?_
    refine k_iload (pc := 205) hC dX5_laysWays_205 3 rfl ?_
    refine v_aald (pc := 207) 15 lv_15 (by simp [arTy]) rfl hM dX5_laysWays_207 hE (fun q36 hq36 hE => ?_)
    refine k_iload (pc := 208) hC dX5_laysWays_208 4 rfl ?_
    refine k_aload_n (pc := 210) hC dX5_laysWays_210 rfl 0 rfl ?_
    refine gV_X5_38 (pc := 211) 0 lv_0 hM dX5_laysWays_211 ?_
    refine k_iload (pc := 214) hC dX5_laysWays_214 3 rfl ?_
    refine v_aald (pc := 216) 15 lv_15 (by simp [arTy]) rfl hM dX5_laysWays_216 hE (fun q37 hq37 hE => ?_)
    refine k_iload (pc := 217) hC dX5_laysWays_217 4 rfl ?_
    refine v_iald (pc := 219) (16 + q37) (lv_apart hq37) hM dX5_laysWays_219 hE (fun x38 hE => ?_)
    refine k_aload_n (pc := 220) hC dX5_laysWays_220 rfl 0 rfl ?_
    refine gV_X5_38 (pc := 221) 0 lv_0 hM dX5_laysWays_221 ?_
    refine k_iload (pc := 224) hC dX5_laysWays_224 3 rfl ?_
    refine v_aald (pc := 226) 15 lv_15 (by simp [arTy]) rfl hM dX5_laysWays_226 hE (fun q39 hq39 hE => ?_)
    refine k_iload_n (pc := 227) hC dX5_laysWays_227 rfl 2 rfl ?_
    refine v_iald (pc := 228) (16 + q39) (lv_apart hq39) hM dX5_laysWays_228 hE (fun x40 hE => ?_)
    refine k_aload_n (pc := 229) hC dX5_laysWays_229 rfl 0 rfl ?_
    refine gV_X5_38 (pc := 230) 0 lv_0 hM dX5_laysWays_230 ?_
    refine k_iload_n (pc := 233) hC dX5_laysWays_233 rfl 2 rfl ?_
    refine v_aald (pc := 234) 15 lv_15 (by simp [arTy]) rfl hM dX5_laysWays_234 hE (fun q41 hq41 hE => ?_)
    refine k_iload (pc := 235) hC dX5_laysWays_235 4 rfl ?_
    refine v_iald (pc := 237) (16 + q41) (lv_apart hq41) hM dX5_laysWays_237 hE (fun x42 hE => ?_)
    refine k_iadd (pc := 238) hC dX5_laysWays_238 ?_
    refine k_mmin (pc := 239) hC q1275 hrm (Nat.le_of_ble_eq_true rfl) (Nat.le_of_ble_eq_true rfl) ⟨Nat.zero_le _, Nat.zero_le _⟩ dX5_laysWays_239 ?_
    refine v_iast (pc := 242) (16 + q36) (lv_apart hq36) hM dX5_laysWays_242 hE (fun J43 hE => ?_)
    refine k_iincE (pc := 243) (k := 4) (d := 1) (lv' := fun x44 => [(5, .int x44), (0, .ref (v + 0)), (2, .int a2), (3, .int a3), (4, .int a4)]) hC dX5_laysWays_243 rfl (by decide) (by rw [hnL]; decide) hE (fun _ => rfl) (fun x44 hE => ?_)
    refine k_goto (pc := 246) (tgt := 195) hC dX5_laysWays_246 (by decide) ?_
    refine k_sub [1, 2, 3, 4, 0] rfl ?_
    exact hk195 _ _ _ _ _  hE
theorem w_V_laysWays_L195 {X : Ctx} {D : Dd} {v : Nat} {T : Th} {out : Ji} (hM : Vx X cX5_laysWays RX5 D v 6 rmV_laysWays) (hR : Rt X none (VP D v out T) none 0 0) (F : Nat) (k178 : Int32 → Int32 → Ji → Option (Ji)) (hk178 : ∀ (a2 : Int32) (a3 : Int32) (J : Ji) , k178 a2 a3 J = some out → Wk X 0 0 (VP D v J T) 178 [(0, .ref (v + 0)), (2, .int a2), (3, .int a3)] []) (k186 : Int32 → Int32 → Int32 → Ji → Option (Ji)) (hk186 : ∀ (a2 : Int32) (a3 : Int32) (a4 : Int32) (J : Ji) , k186 a2 a3 a4 J = some out → Wk X 0 0 (VP D v J T) 186 [(0, .ref (v + 0)), (2, .int a2), (3, .int a3), (4, .int a4)] []) (n : Nat) : ∀ (a2 : Int32) (a3 : Int32) (a4 : Int32) (a5 : Int32) (J : Ji) , V_laysWays_L195 F k178 k186 T n a2 a3 a4 a5 J = some out → Wk X 0 0 (VP D v J T) 195 [(0, .ref (v + 0)), (2, .int a2), (3, .int a3), (4, .int a4), (5, .int a5)] [] := by
  induction n with
  | zero => intro a2 a3 a4 a5 J h; cases h
  | succ n ih => intro a2 a3 a4 a5 J h; exact w_V_laysWays_B195 hM hR F k178 hk178 k186 hk186 (V_laysWays_L195 F k178 k186 T n) ih a2 a3 a4 a5 J h
set_option maxHeartbeats 4000000 in
theorem w_V_laysWays_B186 {X : Ctx} {D : Dd} {v : Nat} {T : Th} {out : Ji} (hM : Vx X cX5_laysWays RX5 D v 6 rmV_laysWays) (hR : Rt X none (VP D v out T) none 0 0) (F : Nat) (k178 : Int32 → Int32 → Ji → Option (Ji)) (hk178 : ∀ (a2 : Int32) (a3 : Int32) (J : Ji) , k178 a2 a3 J = some out → Wk X 0 0 (VP D v J T) 178 [(0, .ref (v + 0)), (2, .int a2), (3, .int a3)] []) (k186 : Int32 → Int32 → Int32 → Ji → Option (Ji)) (hk186 : ∀ (a2 : Int32) (a3 : Int32) (a4 : Int32) (J : Ji) , k186 a2 a3 a4 J = some out → Wk X 0 0 (VP D v J T) 186 [(0, .ref (v + 0)), (2, .int a2), (3, .int a3), (4, .int a4)] []) (a2 : Int32) (a3 : Int32) (a4 : Int32) (J : Ji) (hE : V_laysWays_B186 F k178 k186 T a2 a3 a4 J = some out) : Wk X 0 0 (VP D v J T) 186 [(0, .ref (v + 0)), (2, .int a2), (3, .int a3), (4, .int a4)] [] := by
  have hC := hM.1
  have hnL := hM.2.2.1
  have hrm := hM.2.2.2
  have hDy : ∀ {J : Ji} (H : Heap), VP D v J T H → Dy D T H := fun _ h => h.2.1
  unfold V_laysWays_B186 at hE
  refine k_iload (pc := 186) hC dX5_laysWays_186 3 rfl ?_
  refine k_iload_n (pc := 188) hC dX5_laysWays_188 rfl 1 rfl ?_
  refine k_icmp_ge (pc := 189) (tgt := 255) hC dX5_laysWays_189 (by decide) hE (fun hE => ?_) (fun hE => ?_)
  · refine k_iincE (pc := 255) (k := 2) (d := 1) (lv' := fun x34 => [(3, .int x34), (0, .ref (v + 0)), (2, .int a2), (4, .int a4)]) hC dX5_laysWays_255 rfl (by decide) (by rw [hnL]; decide) hE (fun _ => rfl) (fun x34 hE => ?_)
    refine k_goto (pc := 258) (tgt := 178) hC dX5_laysWays_258 (by decide) ?_
    refine k_sub [1, 2, 0] rfl ?_
    exact hk178 _ _ _  hE
  · refine k_iconst (pc := 192) (v := 0) hC dX5_laysWays_192 (by decide) ?_
    refine k_istore (pc := 193) (lv' := [(5, .int 0), (0, .ref (v + 0)), (2, .int a2), (3, .int a3), (4, .int a4)]) hC dX5_laysWays_193 (by rw [hnL]; decide) rfl ?_
    refine k_sub [1, 2, 3, 4, 0] rfl ?_
    exact w_V_laysWays_L195 hM hR F k178 hk178 k186 hk186 _ _ _ _ _ _  hE
theorem w_V_laysWays_L186 {X : Ctx} {D : Dd} {v : Nat} {T : Th} {out : Ji} (hM : Vx X cX5_laysWays RX5 D v 6 rmV_laysWays) (hR : Rt X none (VP D v out T) none 0 0) (F : Nat) (k178 : Int32 → Int32 → Ji → Option (Ji)) (hk178 : ∀ (a2 : Int32) (a3 : Int32) (J : Ji) , k178 a2 a3 J = some out → Wk X 0 0 (VP D v J T) 178 [(0, .ref (v + 0)), (2, .int a2), (3, .int a3)] []) (n : Nat) : ∀ (a2 : Int32) (a3 : Int32) (a4 : Int32) (J : Ji) , V_laysWays_L186 F k178 T n a2 a3 a4 J = some out → Wk X 0 0 (VP D v J T) 186 [(0, .ref (v + 0)), (2, .int a2), (3, .int a3), (4, .int a4)] [] := by
  induction n with
  | zero => intro a2 a3 a4 J h; cases h
  | succ n ih => intro a2 a3 a4 J h; exact w_V_laysWays_B186 hM hR F k178 hk178 (V_laysWays_L186 F k178 T n) ih a2 a3 a4 J h
set_option maxHeartbeats 4000000 in
theorem w_V_laysWays_B178 {X : Ctx} {D : Dd} {v : Nat} {T : Th} {out : Ji} (hM : Vx X cX5_laysWays RX5 D v 6 rmV_laysWays) (hR : Rt X none (VP D v out T) none 0 0) (F : Nat) (k178 : Int32 → Int32 → Ji → Option (Ji)) (hk178 : ∀ (a2 : Int32) (a3 : Int32) (J : Ji) , k178 a2 a3 J = some out → Wk X 0 0 (VP D v J T) 178 [(0, .ref (v + 0)), (2, .int a2), (3, .int a3)] []) (a2 : Int32) (a3 : Int32) (J : Ji) (hE : V_laysWays_B178 F k178 T a2 a3 J = some out) : Wk X 0 0 (VP D v J T) 178 [(0, .ref (v + 0)), (2, .int a2), (3, .int a3)] [] := by
  have hC := hM.1
  have hnL := hM.2.2.1
  have hrm := hM.2.2.2
  have hDy : ∀ {J : Ji} (H : Heap), VP D v J T H → Dy D T H := fun _ h => h.2.1
  unfold V_laysWays_B178 at hE
  refine k_iload_n (pc := 178) hC dX5_laysWays_178 rfl 2 rfl ?_
  refine k_iload_n (pc := 179) hC dX5_laysWays_179 rfl 1 rfl ?_
  refine k_icmp_ge (pc := 180) (tgt := 261) hC dX5_laysWays_180 (by decide) hE (fun hE => ?_) (fun hE => ?_)
  · exact k_vret (pc := 261) hC hR ⟨Nat.le_refl 0, Nat.le_refl 0⟩ dX5_laysWays_261 (by cases hE; rfl) (by cases hE; exact fun _ h => h)
  · refine k_iconst (pc := 183) (v := 0) hC dX5_laysWays_183 (by decide) ?_
    refine k_istore (pc := 184) (lv' := [(4, .int 0), (0, .ref (v + 0)), (2, .int a2), (3, .int a3)]) hC dX5_laysWays_184 (by rw [hnL]; decide) rfl ?_
    refine k_sub [1, 2, 3, 0] rfl ?_
    exact w_V_laysWays_L186 hM hR F k178 hk178 _ _ _ _ _  hE
theorem w_V_laysWays_L178 {X : Ctx} {D : Dd} {v : Nat} {T : Th} {out : Ji} (hM : Vx X cX5_laysWays RX5 D v 6 rmV_laysWays) (hR : Rt X none (VP D v out T) none 0 0) (F : Nat) (n : Nat) : ∀ (a2 : Int32) (a3 : Int32) (J : Ji) , V_laysWays_L178 F T n a2 a3 J = some out → Wk X 0 0 (VP D v J T) 178 [(0, .ref (v + 0)), (2, .int a2), (3, .int a3)] [] := by
  induction n with
  | zero => intro a2 a3 J h; cases h
  | succ n ih => intro a2 a3 J h; exact w_V_laysWays_B178 hM hR F (V_laysWays_L178 F T n) ih a2 a3 J h
set_option maxHeartbeats 4000000 in
theorem w_V_laysWays_B59 {X : Ctx} {D : Dd} {v : Nat} {T : Th} {out : Ji} (hM : Vx X cX5_laysWays RX5 D v 6 rmV_laysWays) (hR : Rt X none (VP D v out T) none 0 0) (F : Nat) (k59 : Nat → Int32 → Int32 → Ji → Option (Ji)) (hk59 : ∀ (a1 : Nat) (a2 : Int32) (a3 : Int32) (J : Ji) , k59 a1 a2 a3 J = some out → Wk X 0 0 (VP D v J T) 59 [(0, .ref (v + 0)), (1, .ref a1), (2, .int a2), (3, .int a3)] []) (a1 : Nat) (a2 : Int32) (a3 : Int32) (J : Ji) (hE : V_laysWays_B59 F k59 T a1 a2 a3 J = some out) : Wk X 0 0 (VP D v J T) 59 [(0, .ref (v + 0)), (1, .ref a1), (2, .int a2), (3, .int a3)] [] := by
  have hC := hM.1
  have hnL := hM.2.2.1
  have hrm := hM.2.2.2
  have hDy : ∀ {J : Ji} (H : Heap), VP D v J T H → Dy D T H := fun _ h => h.2.1
  unfold V_laysWays_B59 at hE
  refine k_iload_n (pc := 59) hC dX5_laysWays_59 rfl 3 rfl ?_
  refine k_aload_n (pc := 60) hC dX5_laysWays_60 rfl 1 rfl ?_
  refine gD_X5_62_X4 (pc := 61) hC hDy dX5_laysWays_61 hE (fun x8 hE => ?_)
  refine k_nn (G := fun z => Wk X 0 0 (VP D v J T) 64 [(0, .ref (v + 0)), (1, .ref a1), (2, .int a2), (3, .int a3)] [z, .int a3]) hE (fun b9 hE => ?_)
  refine t_callVI (pc := 64) (As := []) 19 (fun r => r) hC hDy cl_J5 (cw_L_size_X5 hC hrm (Nat.le_of_ble_eq_true rfl) (Nat.le_of_ble_eq_true rfl)) rfl rfl (Nat.le_of_ble_eq_true rfl) ⟨Nat.zero_le _, Nat.zero_le _⟩ dX5_laysWays_64 hE (fun r h => ct_L_size _ _ _ _ T hDy b9 r h) (fun r10 hE => ?_)
  refine k_icmp_ge (pc := 67) (tgt := 176) hC dX5_laysWays_67 (by decide) hE (fun hE => ?_) (fun hE => ?_)
  · refine k_iconst (pc := 176) (v := 0) hC dX5_laysWays_176 (by decide) ?_
    refine k_istore_n (pc := 177) (lv' := [(3, .int 0), (0, .ref (v + 0)), (1, .ref a1), (2, .int a2)]) hC dX5_laysWays_177 rfl (by rw [hnL]; decide) rfl ?_
    refine k_sub [1, 3, 0] rfl ?_
    exact w_V_laysWays_L178 hM hR F _ _ _ _  hE
  · refine k_aload_n (pc := 70) hC dX5_laysWays_70 rfl 1 rfl ?_
    refine gD_X5_62_X4 (pc := 71) hC hDy dX5_laysWays_71 hE (fun x11 hE => ?_)
    refine k_iload_n (pc := 74) hC dX5_laysWays_74 rfl 3 rfl ?_
    refine k_nn (G := fun z => Wk X 0 0 (VP D v J T) 75 [(0, .ref (v + 0)), (1, .ref a1), (2, .int a2), (3, .int a3)] [.int a3, z]) hE (fun b12 hE => ?_)
    refine t_callVR (pc := 75) (As := [.int a3]) 19 (fun r => r) hC hDy cl_J5 (cw_L_get_X5 hC hrm (Nat.le_of_ble_eq_true rfl) (Nat.le_of_ble_eq_true rfl)) rfl rfl (Nat.le_of_ble_eq_true rfl) ⟨Nat.zero_le _, Nat.zero_le _⟩ dX5_laysWays_75 hE (fun r h => ct_L_get _ _ _ _ T hDy b12 a3 r h) (fun r13 hE => ?_)
    refine k_nn (G := fun z => Wk X 0 0 (VP D v J T) 78 [(0, .ref (v + 0)), (1, .ref a1), (2, .int a2), (3, .int a3)] [z]) hE (fun b14 hE => ?_)
    refine dy_castS (pc := 78) hC hDy cl_X11 q1245 dX5_laysWays_78 hE (fun hE => ?_)
    refine k_astore (pc := 81) (lv' := [(4, .ref b14), (0, .ref (v + 0)), (1, .ref a1), (2, .int a2), (3, .int a3)]) hC dX5_laysWays_81 (by rw [hnL]; decide) rfl ?_
    refine k_aload_n (pc := 83) hC dX5_laysWays_83 rfl 1 rfl ?_
    refine gV_X5_55 (pc := 84) 0 lv_0 hM dX5_laysWays_84 ?_
    refine k_iload_n (pc := 87) hC dX5_laysWays_87 rfl 4 rfl ?_
    refine k_ishr (pc := 88) hC dX5_laysWays_88 ?_
    refine k_iconst (pc := 89) (v := 1) hC dX5_laysWays_89 (by decide) ?_
    refine k_iand (pc := 90) hC dX5_laysWays_90 ?_
    refine k_iconst (pc := 91) (v := 1) hC dX5_laysWays_91 (by decide) ?_
    refine k_icmp_ne (pc := 92) (tgt := 98) hC dX5_laysWays_92 (by decide) hE (fun hE => ?_) (fun hE => ?_)
    · refine k_goto (pc := 95) (tgt := 170) hC dX5_laysWays_95 (by decide) ?_
      refine k_iincE (pc := 170) (k := 4) (d := 1) (lv' := fun x15 => [(3, .int x15), (4, .ref b14), (0, .ref (v + 0)), (1, .ref a1), (2, .int a2)]) hC dX5_laysWays_170 rfl (by decide) (by rw [hnL]; decide) hE (fun _ => rfl) (fun x15 hE => ?_)
      refine k_goto (pc := 173) (tgt := 59) hC dX5_laysWays_173 (by decide) ?_
      refine k_sub [2, 3, 4, 0] rfl ?_
      exact hk59 _ _ _ _  hE
    · refine k_aload_n (pc := 98) hC dX5_laysWays_98 rfl 1 rfl ?_
      refine gV_X5_38 (pc := 99) 0 lv_0 hM dX5_laysWays_99 ?_
      refine k_aload (pc := 102) hC dX5_laysWays_102 0 rfl ?_
      refine gD_X5_117_X11 (pc := 104) hC hDy dX5_laysWays_104 hE (fun x16 hE => ?_)
      refine v_aald (pc := 107) 15 lv_15 (by simp [arTy]) rfl hM dX5_laysWays_107 hE (fun q17 hq17 hE => ?_)
      refine k_aload (pc := 108) hC dX5_laysWays_108 0 rfl ?_
      refine gD_X5_120_X11 (pc := 110) hC hDy dX5_laysWays_110 hE (fun x18 hE => ?_)
      refine k_aload_n (pc := 113) hC dX5_laysWays_113 rfl 1 rfl ?_
      refine gV_X5_38 (pc := 114) 0 lv_0 hM dX5_laysWays_114 ?_
      refine k_aload (pc := 117) hC dX5_laysWays_117 0 rfl ?_
      refine gD_X5_117_X11 (pc := 119) hC hDy dX5_laysWays_119 hE (fun x19 hE => ?_)
      refine v_aald (pc := 122) 15 lv_15 (by simp [arTy]) rfl hM dX5_laysWays_122 hE (fun q20 hq20 hE => ?_)
      refine k_aload (pc := 123) hC dX5_laysWays_123 0 rfl ?_
      refine gD_X5_120_X11 (pc := 125) hC hDy dX5_laysWays_125 hE (fun x21 hE => ?_)
      refine v_iald (pc := 128) (16 + q20) (lv_apart hq20) hM dX5_laysWays_128 hE (fun x22 hE => ?_)
      refine k_aload (pc := 129) hC dX5_laysWays_129 0 rfl ?_
      refine gD_X5_123_X11 (pc := 131) hC hDy dX5_laysWays_131 hE (fun x23 hE => ?_)
      refine k_mmin (pc := 134) hC q1275 hrm (Nat.le_of_ble_eq_true rfl) (Nat.le_of_ble_eq_true rfl) ⟨Nat.zero_le _, Nat.zero_le _⟩ dX5_laysWays_134 ?_
      refine v_iast (pc := 137) (16 + q17) (lv_apart hq17) hM dX5_laysWays_137 hE (fun J24 hE => ?_)
      refine k_aload_n (pc := 138) hC dX5_laysWays_138 rfl 1 rfl ?_
      refine gV_X5_38 (pc := 139) 0 lv_0 hM dX5_laysWays_139 ?_
      refine k_aload (pc := 142) hC dX5_laysWays_142 0 rfl ?_
      refine gD_X5_120_X11 (pc := 144) hC hDy dX5_laysWays_144 hE (fun x25 hE => ?_)
      refine v_aald (pc := 147) 15 lv_15 (by simp [arTy]) rfl hM dX5_laysWays_147 hE (fun q26 hq26 hE => ?_)
      refine k_aload (pc := 148) hC dX5_laysWays_148 0 rfl ?_
      refine gD_X5_117_X11 (pc := 150) hC hDy dX5_laysWays_150 hE (fun x27 hE => ?_)
      refine k_aload_n (pc := 153) hC dX5_laysWays_153 rfl 1 rfl ?_
      refine gV_X5_38 (pc := 154) 0 lv_0 hM dX5_laysWays_154 ?_
      refine k_aload (pc := 157) hC dX5_laysWays_157 0 rfl ?_
      refine gD_X5_117_X11 (pc := 159) hC hDy dX5_laysWays_159 hE (fun x28 hE => ?_)
      refine v_aald (pc := 162) 15 lv_15 (by simp [arTy]) rfl hM dX5_laysWays_162 hE (fun q29 hq29 hE => ?_)
      refine k_aload (pc := 163) hC dX5_laysWays_163 0 rfl ?_
      refine gD_X5_120_X11 (pc := 165) hC hDy dX5_laysWays_165 hE (fun x30 hE => ?_)
      refine v_iald (pc := 168) (16 + q29) (lv_apart hq29) hM dX5_laysWays_168 hE (fun x31 hE => ?_)
      refine v_iast (pc := 169) (16 + q26) (lv_apart hq26) hM dX5_laysWays_169 hE (fun J32 hE => ?_)
      refine k_iincE (pc := 170) (k := 4) (d := 1) (lv' := fun x33 => [(3, .int x33), (4, .ref b14), (0, .ref (v + 0)), (1, .ref a1), (2, .int a2)]) hC dX5_laysWays_170 rfl (by decide) (by rw [hnL]; decide) hE (fun _ => rfl) (fun x33 hE => ?_)
      refine k_goto (pc := 173) (tgt := 59) hC dX5_laysWays_173 (by decide) ?_
      refine k_sub [2, 3, 4, 0] rfl ?_
      exact hk59 _ _ _ _  hE
theorem w_V_laysWays_L59 {X : Ctx} {D : Dd} {v : Nat} {T : Th} {out : Ji} (hM : Vx X cX5_laysWays RX5 D v 6 rmV_laysWays) (hR : Rt X none (VP D v out T) none 0 0) (F : Nat) (n : Nat) : ∀ (a1 : Nat) (a2 : Int32) (a3 : Int32) (J : Ji) , V_laysWays_L59 F T n a1 a2 a3 J = some out → Wk X 0 0 (VP D v J T) 59 [(0, .ref (v + 0)), (1, .ref a1), (2, .int a2), (3, .int a3)] [] := by
  induction n with
  | zero => intro a1 a2 a3 J h; cases h
  | succ n ih => intro a1 a2 a3 J h; exact w_V_laysWays_B59 hM hR F (V_laysWays_L59 F T n) ih a1 a2 a3 J h
set_option maxHeartbeats 4000000 in
theorem w_V_laysWays_B10 {X : Ctx} {D : Dd} {v : Nat} {T : Th} {out : Ji} (hM : Vx X cX5_laysWays RX5 D v 6 rmV_laysWays) (hR : Rt X none (VP D v out T) none 0 0) (F : Nat) (k10 : Nat → Int32 → Int32 → Ji → Option (Ji)) (hk10 : ∀ (a1 : Nat) (a2 : Int32) (a3 : Int32) (J : Ji) , k10 a1 a2 a3 J = some out → Wk X 0 0 (VP D v J T) 10 [(0, .ref (v + 0)), (1, .ref a1), (2, .int a2), (3, .int a3)] []) (a1 : Nat) (a2 : Int32) (a3 : Int32) (J : Ji) (hE : V_laysWays_B10 F k10 T a1 a2 a3 J = some out) : Wk X 0 0 (VP D v J T) 10 [(0, .ref (v + 0)), (1, .ref a1), (2, .int a2), (3, .int a3)] [] := by
  have hC := hM.1
  have hnL := hM.2.2.1
  have hrm := hM.2.2.2
  have hDy : ∀ {J : Ji} (H : Heap), VP D v J T H → Dy D T H := fun _ h => h.2.1
  unfold V_laysWays_B10 at hE
  refine k_iload_n (pc := 10) hC dX5_laysWays_10 rfl 3 rfl ?_
  refine k_iload_n (pc := 11) hC dX5_laysWays_11 rfl 2 rfl ?_
  refine k_icmp_ge (pc := 12) (tgt := 57) hC dX5_laysWays_12 (by decide) hE (fun hE => ?_) (fun hE => ?_)
  · refine k_iconst (pc := 57) (v := 0) hC dX5_laysWays_57 (by decide) ?_
    refine k_istore_n (pc := 58) (lv' := [(3, .int 0), (0, .ref (v + 0)), (1, .ref a1), (2, .int a2)]) hC dX5_laysWays_58 rfl (by rw [hnL]; decide) rfl ?_
    refine k_sub [1, 2, 3, 0] rfl ?_
    exact w_V_laysWays_L59 hM hR F _ _ _ _ _  hE
  · refine k_iconst (pc := 15) (v := 0) hC dX5_laysWays_15 (by decide) ?_
    refine k_istore (pc := 16) (lv' := [(4, .int 0), (0, .ref (v + 0)), (1, .ref a1), (2, .int a2), (3, .int a3)]) hC dX5_laysWays_16 (by rw [hnL]; decide) rfl ?_
    refine k_sub [1, 2, 3, 4, 0] rfl ?_
    exact w_V_laysWays_L18 hM hR F k10 hk10 _ _ _ _ _ _  hE
theorem w_V_laysWays_L10 {X : Ctx} {D : Dd} {v : Nat} {T : Th} {out : Ji} (hM : Vx X cX5_laysWays RX5 D v 6 rmV_laysWays) (hR : Rt X none (VP D v out T) none 0 0) (F : Nat) (n : Nat) : ∀ (a1 : Nat) (a2 : Int32) (a3 : Int32) (J : Ji) , V_laysWays_L10 F T n a1 a2 a3 J = some out → Wk X 0 0 (VP D v J T) 10 [(0, .ref (v + 0)), (1, .ref a1), (2, .int a2), (3, .int a3)] [] := by
  induction n with
  | zero => intro a1 a2 a3 J h; cases h
  | succ n ih => intro a1 a2 a3 J h; exact w_V_laysWays_B10 hM hR F (V_laysWays_L10 F T n) ih a1 a2 a3 J h
set_option maxHeartbeats 4000000 in
theorem w_V_laysWays {X : Ctx} {D : Dd} {v : Nat} {T : Th} {out : Ji} (hM : Vx X cX5_laysWays RX5 D v 6 rmV_laysWays) (hR : Rt X none (VP D v out T) none 0 0) (F : Nat) (a1 : Nat) (J : Ji) (hE : V_laysWays F T a1 J = some out) : Wk X 0 0 (VP D v J T) 0 [(0, .ref (v + 0)), (1, .ref a1)] [] := by
  have hC := hM.1
  have hnL := hM.2.2.1
  have hrm := hM.2.2.2
  have hDy : ∀ {J : Ji} (H : Heap), VP D v J T H → Dy D T H := fun _ h => h.2.1
  unfold V_laysWays at hE
  refine k_aload_n (pc := 0) hC dX5_laysWays_0 rfl 1 rfl ?_
  refine gD_X5_113_X4 (pc := 1) hC hDy dX5_laysWays_1 hE (fun x1 hE => ?_)
  refine k_nn (G := fun z => Wk X 0 0 (VP D v J T) 4 [(0, .ref (v + 0)), (1, .ref a1)] [z]) hE (fun b2 hE => ?_)
  refine t_callVI (pc := 4) (As := []) 19 (fun r => r) hC hDy cl_J5 (cw_L_size_X5 hC hrm (Nat.le_of_ble_eq_true rfl) (Nat.le_of_ble_eq_true rfl)) rfl rfl (Nat.le_of_ble_eq_true rfl) ⟨Nat.zero_le _, Nat.zero_le _⟩ dX5_laysWays_4 hE (fun r h => ct_L_size _ _ _ _ T hDy b2 r h) (fun r3 hE => ?_)
  refine k_istore_n (pc := 7) (lv' := [(2, .int r3), (0, .ref (v + 0)), (1, .ref a1)]) hC dX5_laysWays_7 rfl (by rw [hnL]; decide) rfl ?_
  refine k_iconst (pc := 8) (v := 0) hC dX5_laysWays_8 (by decide) ?_
  refine k_istore_n (pc := 9) (lv' := [(3, .int 0), (2, .int r3), (0, .ref (v + 0)), (1, .ref a1)]) hC dX5_laysWays_9 rfl (by rw [hnL]; decide) rfl ?_
  refine k_sub [2, 3, 1, 0] rfl ?_
  exact w_V_laysWays_L10 hM hR F _ _ _ _ _  hE
theorem ct_V_laysWays (l : Launch) (D : Dd) (A : Nat → Prop) (v : Nat) (T : Th) (hA : ∀ (off : Nat) (kd : Kd), layV off = some kd → A (v + off)) (F : Nat) (a1 : Nat) (J : Ji) (out : Ji) (hE : V_laysWays F T a1 J = some out) : Ct l yX5_laysWays (ws_ yX5_laysWays cX5_laysWays 6 none) rmV_laysWays vwCl arTy D A [.ref (v + 0), .ref a1] (VP D v J T) (VP D v out T) none 0 0 := by
  refine Ct.of (by decide) (Nat.le_of_ble_eq_true rfl) rfl ?_
  intro X hl hrm hC hR hXA hnL _
  exact w_V_laysWays ⟨hC, by unfold Ft; rw [hXA]; exact hA, hnL, hrm⟩ hR F a1 J hE
theorem cw_V_laysWays_X0 {X : Ctx} {cc : ByteArray} {D : Dd} {rm : Room} (hC : Cx X cc RX0 vwCl arTy D) (hrm : X.2.2.2.1 = rm) (h1 : rmV_laysWays.frames + 1 ≤ rm.frames) (h2 : 8 + (6 + 11) + rmV_laysWays.locals ≤ rm.locals) : CallW X.2.2.2.1 X.2.2.2.2.1 X.2.2.2.2.2.2.1 RX0 RX5 215 yX5_laysWays cX5_laysWays 6 none (ws_ yX5_laysWays cX5_laysWays 6 none) rmV_laysWays 0 0 1 := cwV 1 (cx_w hC) (lw_V q1312 q1313 q1314 q125 q1315) rfl rfl rfl (by decide +kernel) (by rw [hrm]; exact ⟨h1, h2⟩)
theorem cw_V_laysWays_X5 {X : Ctx} {cc : ByteArray} {D : Dd} {rm : Room} (hC : Cx X cc RX5 vwCl arTy D) (hrm : X.2.2.2.1 = rm) (h1 : rmV_laysWays.frames + 1 ≤ rm.frames) (h2 : 8 + (6 + 11) + rmV_laysWays.locals ≤ rm.locals) : CallW X.2.2.2.1 X.2.2.2.2.1 X.2.2.2.2.2.2.1 RX5 RX5 163 yX5_laysWays cX5_laysWays 6 none (ws_ yX5_laysWays cX5_laysWays 6 none) rmV_laysWays 0 0 1 := cwV 1 (cx_w hC) (lw_V q1365 q1313 q1314 q125 q1315) rfl rfl rfl (by decide +kernel) (by rw [hrm]; exact ⟨h1, h2⟩)
abbrev rmV_begins : Room := { frames := 3, cells := 0, slots := 0, locals := 64 }
set_option maxHeartbeats 4000000 in
theorem w_V_begins_B52 {X : Ctx} {D : Dd} {v : Nat} {T : Th} {out : Ji} (hM : Vx X cX5_begins RX5 D v 4 rmV_begins) (hR : Rt X none (VP D v out T) none 0 0) (F : Nat) (k12 : Nat → Int32 → Ji → Option (Ji)) (hk12 : ∀ (a1 : Nat) (a2 : Int32) (J : Ji) , k12 a1 a2 J = some out → Wk X 0 0 (VP D v J T) 12 [(0, .ref (v + 0)), (1, .ref a1), (2, .int a2)] []) (a1 : Nat) (a2 : Int32) (s0 : Int32) (s1 : Int32) (J : Ji) (hE : V_begins_B52 F k12 T a1 a2 s0 s1 J = some out) : Wk X 0 0 (VP D v J T) 52 [(0, .ref (v + 0)), (1, .ref a1), (2, .int a2)] [.int s0, .int s1, .ref (v + 0)] := by
  have hC := hM.1
  have hnL := hM.2.2.1
  have hrm := hM.2.2.2
  have hDy : ∀ {J : Ji} (H : Heap), VP D v J T H → Dy D T H := fun _ h => h.2.1
  unfold V_begins_B52 at hE
  refine k_ior (pc := 52) hC dX5_begins_52 ?_
  refine pV_X5_55 (pc := 53) 0 lv_0 hM dX5_begins_53 hE (fun J11 hE => ?_)
  refine k_iincE (pc := 56) (k := 2) (d := 1) (lv' := fun x12 => [(2, .int x12), (0, .ref (v + 0)), (1, .ref a1)]) hC dX5_begins_56 rfl (by decide) (by rw [hnL]; decide) hE (fun _ => rfl) (fun x12 hE => ?_)
  refine k_goto (pc := 59) (tgt := 12) hC dX5_begins_59 (by decide) ?_
  refine k_sub [1, 2, 0] rfl ?_
  exact hk12 _ _ _  hE
set_option maxHeartbeats 4000000 in
theorem w_V_begins_B146 {X : Ctx} {D : Dd} {v : Nat} {T : Th} {out : Ji} (hM : Vx X cX5_begins RX5 D v 4 rmV_begins) (hR : Rt X none (VP D v out T) none 0 0) (F : Nat) (k103 : Nat → Int32 → Ji → Option (Ji)) (hk103 : ∀ (a1 : Nat) (a2 : Int32) (J : Ji) , k103 a1 a2 J = some out → Wk X 0 0 (VP D v J T) 103 [(0, .ref (v + 0)), (1, .ref a1), (2, .int a2)] []) (k146 : Nat → Int32 → Int32 → Ji → Option (Ji)) (hk146 : ∀ (a1 : Nat) (a2 : Int32) (a3 : Int32) (J : Ji) , k146 a1 a2 a3 J = some out → Wk X 0 0 (VP D v J T) 146 [(0, .ref (v + 0)), (1, .ref a1), (2, .int a2), (3, .int a3)] []) (a1 : Nat) (a2 : Int32) (a3 : Int32) (J : Ji) (hE : V_begins_B146 F k103 k146 T a1 a2 a3 J = some out) : Wk X 0 0 (VP D v J T) 146 [(0, .ref (v + 0)), (1, .ref a1), (2, .int a2), (3, .int a3)] [] := by
  have hC := hM.1
  have hnL := hM.2.2.1
  have hrm := hM.2.2.2
  have hDy : ∀ {J : Ji} (H : Heap), VP D v J T H → Dy D T H := fun _ h => h.2.1
  unfold V_begins_B146 at hE
  refine k_iload_n (pc := 146) hC dX5_begins_146 rfl 3 rfl ?_
  refine k_bipush (pc := 147) (v := 6) hC dX5_begins_147 (by decide) ?_
  refine k_icmp_ge (pc := 149) (tgt := 167) hC dX5_begins_149 (by decide) hE (fun hE => ?_) (fun hE => ?_)
  · refine k_iincE (pc := 167) (k := 2) (d := 1) (lv' := fun x32 => [(2, .int x32), (0, .ref (v + 0)), (1, .ref a1), (3, .int a3)]) hC dX5_begins_167 rfl (by decide) (by rw [hnL]; decide) hE (fun _ => rfl) (fun x32 hE => ?_)
    refine k_goto (pc := 170) (tgt := 103) hC dX5_begins_170 (by decide) ?_
    refine k_sub [1, 2, 0] rfl ?_
    exact hk103 _ _ _  hE
  · refine k_aload_n (pc := 152) hC dX5_begins_152 rfl 0 rfl ?_
    refine gV_X5_11 (pc := 153) 0 lv_0 hM dX5_begins_153 ?_
    refine k_iload_n (pc := 156) hC dX5_begins_156 rfl 2 rfl ?_
    refine v_aald (pc := 157) 1 lv_1 (by simp [arTy]) rfl hM dX5_begins_157 hE (fun q33 hq33 hE => ?_)
    refine k_iload_n (pc := 158) hC dX5_begins_158 rfl 3 rfl ?_
    refine k_iconst (pc := 159) (v := 0) hC dX5_begins_159 (by decide) ?_
    refine v_iast (pc := 160) (2 + q33) (lv_done hq33) hM dX5_begins_160 hE (fun J34 hE => ?_)
    refine k_iincE (pc := 161) (k := 3) (d := 1) (lv' := fun x35 => [(3, .int x35), (0, .ref (v + 0)), (1, .ref a1), (2, .int a2)]) hC dX5_begins_161 rfl (by decide) (by rw [hnL]; decide) hE (fun _ => rfl) (fun x35 hE => ?_)
    refine k_goto (pc := 164) (tgt := 146) hC dX5_begins_164 (by decide) ?_
    refine k_sub [1, 2, 3, 0] rfl ?_
    exact hk146 _ _ _ _  hE
theorem w_V_begins_L146 {X : Ctx} {D : Dd} {v : Nat} {T : Th} {out : Ji} (hM : Vx X cX5_begins RX5 D v 4 rmV_begins) (hR : Rt X none (VP D v out T) none 0 0) (F : Nat) (k103 : Nat → Int32 → Ji → Option (Ji)) (hk103 : ∀ (a1 : Nat) (a2 : Int32) (J : Ji) , k103 a1 a2 J = some out → Wk X 0 0 (VP D v J T) 103 [(0, .ref (v + 0)), (1, .ref a1), (2, .int a2)] []) (n : Nat) : ∀ (a1 : Nat) (a2 : Int32) (a3 : Int32) (J : Ji) , V_begins_L146 F k103 T n a1 a2 a3 J = some out → Wk X 0 0 (VP D v J T) 146 [(0, .ref (v + 0)), (1, .ref a1), (2, .int a2), (3, .int a3)] [] := by
  induction n with
  | zero => intro a1 a2 a3 J h; cases h
  | succ n ih => intro a1 a2 a3 J h; exact w_V_begins_B146 hM hR F k103 hk103 (V_begins_L146 F k103 T n) ih a1 a2 a3 J h
set_option maxHeartbeats 4000000 in
theorem w_V_begins_B143 {X : Ctx} {D : Dd} {v : Nat} {T : Th} {out : Ji} (hM : Vx X cX5_begins RX5 D v 4 rmV_begins) (hR : Rt X none (VP D v out T) none 0 0) (F : Nat) (k103 : Nat → Int32 → Ji → Option (Ji)) (hk103 : ∀ (a1 : Nat) (a2 : Int32) (J : Ji) , k103 a1 a2 J = some out → Wk X 0 0 (VP D v J T) 103 [(0, .ref (v + 0)), (1, .ref a1), (2, .int a2)] []) (a1 : Nat) (a2 : Int32) (s0 : Int32) (s1 : Int32) (J : Ji) (hE : V_begins_B143 F k103 T a1 a2 s0 s1 J = some out) : Wk X 0 0 (VP D v J T) 143 [(0, .ref (v + 0)), (1, .ref a1), (2, .int a2)] [.int s0, .int s1, .ref (v + 8)] := by
  have hC := hM.1
  have hnL := hM.2.2.1
  have hrm := hM.2.2.2
  have hDy : ∀ {J : Ji} (H : Heap), VP D v J T H → Dy D T H := fun _ h => h.2.1
  unfold V_begins_B143 at hE
  refine v_iast (pc := 143) 8 lv_8 hM dX5_begins_143 hE (fun J31 hE => ?_)
  refine k_iconst (pc := 144) (v := 0) hC dX5_begins_144 (by decide) ?_
  refine k_istore_n (pc := 145) (lv' := [(3, .int 0), (0, .ref (v + 0)), (1, .ref a1), (2, .int a2)]) hC dX5_begins_145 rfl (by rw [hnL]; decide) rfl ?_
  refine k_sub [1, 2, 3, 0] rfl ?_
  exact w_V_begins_L146 hM hR F k103 hk103 _ _ _ _ _  hE
set_option maxHeartbeats 4000000 in
theorem w_V_begins_B175 {X : Ctx} {D : Dd} {v : Nat} {T : Th} {out : Ji} (hM : Vx X cX5_begins RX5 D v 4 rmV_begins) (hR : Rt X none (VP D v out T) none 0 0) (F : Nat) (k175 : Nat → Int32 → Ji → Option (Ji)) (hk175 : ∀ (a1 : Nat) (a2 : Int32) (J : Ji) , k175 a1 a2 J = some out → Wk X 0 0 (VP D v J T) 175 [(0, .ref (v + 0)), (1, .ref a1), (2, .int a2)] []) (a1 : Nat) (a2 : Int32) (J : Ji) (hE : V_begins_B175 F k175 T a1 a2 J = some out) : Wk X 0 0 (VP D v J T) 175 [(0, .ref (v + 0)), (1, .ref a1), (2, .int a2)] [] := by
  have hC := hM.1
  have hnL := hM.2.2.1
  have hrm := hM.2.2.2
  have hDy : ∀ {J : Ji} (H : Heap), VP D v J T H → Dy D T H := fun _ h => h.2.1
  unfold V_begins_B175 at hE
  refine k_iload_n (pc := 175) hC dX5_begins_175 rfl 2 rfl ?_
  refine k_aload_n (pc := 176) hC dX5_begins_176 rfl 1 rfl ?_
  refine gD_X5_98_X4 (pc := 177) hC hDy dX5_begins_177 hE (fun x36 hE => ?_)
  refine k_nn (G := fun z => Wk X 0 0 (VP D v J T) 180 [(0, .ref (v + 0)), (1, .ref a1), (2, .int a2)] [z, .int a2]) hE (fun b37 hE => ?_)
  refine t_callVI (pc := 180) (As := []) 19 (fun r => r) hC hDy cl_J5 (cw_L_size_X5 hC hrm (Nat.le_of_ble_eq_true rfl) (Nat.le_of_ble_eq_true rfl)) rfl rfl (Nat.le_of_ble_eq_true rfl) ⟨Nat.zero_le _, Nat.zero_le _⟩ dX5_begins_180 hE (fun r h => ct_L_size _ _ _ _ T hDy b37 r h) (fun r38 hE => ?_)
  refine k_icmp_ge (pc := 183) (tgt := 254) hC dX5_begins_183 (by decide) hE (fun hE => ?_) (fun hE => ?_)
  · exact k_vret (pc := 254) hC hR ⟨Nat.le_refl 0, Nat.le_refl 0⟩ dX5_begins_254 (by cases hE; rfl) (by cases hE; exact fun _ h => h)
  · refine k_aload_n (pc := 186) hC dX5_begins_186 rfl 0 rfl ?_
    refine gV_X5_20 (pc := 187) 0 lv_0 hM dX5_begins_187 ?_
    refine k_iload_n (pc := 190) hC dX5_begins_190 rfl 2 rfl ?_
    refine k_aload_n (pc := 191) hC dX5_begins_191 rfl 1 rfl ?_
    refine gD_X5_98_X4 (pc := 192) hC hDy dX5_begins_192 hE (fun x39 hE => ?_)
    refine k_iload_n (pc := 195) hC dX5_begins_195 rfl 2 rfl ?_
    refine k_nn (G := fun z => Wk X 0 0 (VP D v J T) 196 [(0, .ref (v + 0)), (1, .ref a1), (2, .int a2)] [.int a2, z, .int a2, .ref (v + 9)]) hE (fun b40 hE => ?_)
    refine t_callVR (pc := 196) (As := [.int a2]) 19 (fun r => r) hC hDy cl_J5 (cw_L_get_X5 hC hrm (Nat.le_of_ble_eq_true rfl) (Nat.le_of_ble_eq_true rfl)) rfl rfl (Nat.le_of_ble_eq_true rfl) ⟨Nat.zero_le _, Nat.zero_le _⟩ dX5_begins_196 hE (fun r h => ct_L_get _ _ _ _ T hDy b40 a2 r h) (fun r41 hE => ?_)
    refine k_nn (G := fun z => Wk X 0 0 (VP D v J T) 199 [(0, .ref (v + 0)), (1, .ref a1), (2, .int a2)] [z, .int a2, .ref (v + 9)]) hE (fun b42 hE => ?_)
    refine dy_castS (pc := 199) hC hDy cl_X15 q1248 dX5_begins_199 hE (fun hE => ?_)
    refine gD_X5_103_X15 (pc := 202) hC hDy dX5_begins_202 hE (fun x43 hE => ?_)
    refine v_iast (pc := 205) 9 lv_9 hM dX5_begins_205 hE (fun J44 hE => ?_)
    refine k_aload_n (pc := 206) hC dX5_begins_206 rfl 0 rfl ?_
    refine gV_X5_23 (pc := 207) 0 lv_0 hM dX5_begins_207 ?_
    refine k_iload_n (pc := 210) hC dX5_begins_210 rfl 2 rfl ?_
    refine k_aload_n (pc := 211) hC dX5_begins_211 rfl 1 rfl ?_
    refine gD_X5_98_X4 (pc := 212) hC hDy dX5_begins_212 hE (fun x45 hE => ?_)
    refine k_iload_n (pc := 215) hC dX5_begins_215 rfl 2 rfl ?_
    refine k_nn (G := fun z => Wk X 0 0 (VP D v J44 T) 216 [(0, .ref (v + 0)), (1, .ref a1), (2, .int a2)] [.int a2, z, .int a2, .ref (v + 10)]) hE (fun b46 hE => ?_)
    refine t_callVR (pc := 216) (As := [.int a2]) 19 (fun r => r) hC hDy cl_J5 (cw_L_get_X5 hC hrm (Nat.le_of_ble_eq_true rfl) (Nat.le_of_ble_eq_true rfl)) rfl rfl (Nat.le_of_ble_eq_true rfl) ⟨Nat.zero_le _, Nat.zero_le _⟩ dX5_begins_216 hE (fun r h => ct_L_get _ _ _ _ T hDy b46 a2 r h) (fun r47 hE => ?_)
    refine k_nn (G := fun z => Wk X 0 0 (VP D v J44 T) 219 [(0, .ref (v + 0)), (1, .ref a1), (2, .int a2)] [z, .int a2, .ref (v + 10)]) hE (fun b48 hE => ?_)
    refine dy_castS (pc := 219) hC hDy cl_X15 q1248 dX5_begins_219 hE (fun hE => ?_)
    refine gD_X5_105_X15 (pc := 222) hC hDy dX5_begins_222 hE (fun x49 hE => ?_)
    refine v_iast (pc := 225) 10 lv_10 hM dX5_begins_225 hE (fun J50 hE => ?_)
    refine k_aload_n (pc := 226) hC dX5_begins_226 rfl 0 rfl ?_
    refine gV_X5_29 (pc := 227) 0 lv_0 hM dX5_begins_227 ?_
    refine k_iload_n (pc := 230) hC dX5_begins_230 rfl 2 rfl ?_
    refine k_iconst (pc := 231) (v := 0) hC dX5_begins_231 (by decide) ?_
    refine v_iast (pc := 232) 12 lv_12 hM dX5_begins_232 hE (fun J51 hE => ?_)
    refine k_aload_n (pc := 233) hC dX5_begins_233 rfl 0 rfl ?_
    refine gV_X5_32 (pc := 234) 0 lv_0 hM dX5_begins_234 ?_
    refine k_iload_n (pc := 237) hC dX5_begins_237 rfl 2 rfl ?_
    refine k_iconst (pc := 238) (v := 0) hC dX5_begins_238 (by decide) ?_
    refine v_iast (pc := 239) 13 lv_13 hM dX5_begins_239 hE (fun J52 hE => ?_)
    refine k_aload_n (pc := 240) hC dX5_begins_240 rfl 0 rfl ?_
    refine gV_X5_35 (pc := 241) 0 lv_0 hM dX5_begins_241 ?_
    refine k_iload_n (pc := 244) hC dX5_begins_244 rfl 2 rfl ?_
    refine k_bipush (pc := 245) (v := (-2)) hC dX5_begins_245 (by decide) ?_
    refine v_iast (pc := 247) 14 lv_14 hM dX5_begins_247 hE (fun J53 hE => ?_)
    refine k_iincE (pc := 248) (k := 2) (d := 1) (lv' := fun x54 => [(2, .int x54), (0, .ref (v + 0)), (1, .ref a1)]) hC dX5_begins_248 rfl (by decide) (by rw [hnL]; decide) hE (fun _ => rfl) (fun x54 hE => ?_)
    refine k_goto (pc := 251) (tgt := 175) hC dX5_begins_251 (by decide) ?_
    refine k_sub [1, 2, 0] rfl ?_
    exact hk175 _ _ _  hE
theorem w_V_begins_L175 {X : Ctx} {D : Dd} {v : Nat} {T : Th} {out : Ji} (hM : Vx X cX5_begins RX5 D v 4 rmV_begins) (hR : Rt X none (VP D v out T) none 0 0) (F : Nat) (n : Nat) : ∀ (a1 : Nat) (a2 : Int32) (J : Ji) , V_begins_L175 F T n a1 a2 J = some out → Wk X 0 0 (VP D v J T) 175 [(0, .ref (v + 0)), (1, .ref a1), (2, .int a2)] [] := by
  induction n with
  | zero => intro a1 a2 J h; cases h
  | succ n ih => intro a1 a2 J h; exact w_V_begins_B175 hM hR F (V_begins_L175 F T n) ih a1 a2 J h
set_option maxHeartbeats 4000000 in
theorem w_V_begins_B103 {X : Ctx} {D : Dd} {v : Nat} {T : Th} {out : Ji} (hM : Vx X cX5_begins RX5 D v 4 rmV_begins) (hR : Rt X none (VP D v out T) none 0 0) (F : Nat) (k103 : Nat → Int32 → Ji → Option (Ji)) (hk103 : ∀ (a1 : Nat) (a2 : Int32) (J : Ji) , k103 a1 a2 J = some out → Wk X 0 0 (VP D v J T) 103 [(0, .ref (v + 0)), (1, .ref a1), (2, .int a2)] []) (a1 : Nat) (a2 : Int32) (J : Ji) (hE : V_begins_B103 F k103 T a1 a2 J = some out) : Wk X 0 0 (VP D v J T) 103 [(0, .ref (v + 0)), (1, .ref a1), (2, .int a2)] [] := by
  have hC := hM.1
  have hnL := hM.2.2.1
  have hrm := hM.2.2.2
  have hDy : ∀ {J : Ji} (H : Heap), VP D v J T H → Dy D T H := fun _ h => h.2.1
  unfold V_begins_B103 at hE
  refine k_iload_n (pc := 103) hC dX5_begins_103 rfl 2 rfl ?_
  refine k_bipush (pc := 104) (v := 6) hC dX5_begins_104 (by decide) ?_
  refine k_icmp_ge (pc := 106) (tgt := 173) hC dX5_begins_106 (by decide) hE (fun hE => ?_) (fun hE => ?_)
  · refine k_iconst (pc := 173) (v := 0) hC dX5_begins_173 (by decide) ?_
    refine k_istore_n (pc := 174) (lv' := [(2, .int 0), (0, .ref (v + 0)), (1, .ref a1)]) hC dX5_begins_174 rfl (by rw [hnL]; decide) rfl ?_
    refine k_sub [1, 2, 0] rfl ?_
    exact w_V_begins_L175 hM hR F _ _ _ _  hE
  · refine k_aload_n (pc := 109) hC dX5_begins_109 rfl 0 rfl ?_
    refine gV_X5_16 (pc := 110) 0 lv_0 hM dX5_begins_110 ?_
    refine k_iload_n (pc := 113) hC dX5_begins_113 rfl 2 rfl ?_
    refine k_iload_n (pc := 114) hC dX5_begins_114 rfl 2 rfl ?_
    refine k_aload_n (pc := 115) hC dX5_begins_115 rfl 1 rfl ?_
    refine gD_X5_91_X4 (pc := 116) hC hDy dX5_begins_116 hE (fun x23 hE => ?_)
    refine k_nn (G := fun z => Wk X 0 0 (VP D v J T) 119 [(0, .ref (v + 0)), (1, .ref a1), (2, .int a2)] [z, .int a2, .int a2, .ref (v + 8)]) hE (fun b24 hE => ?_)
    refine t_callVI (pc := 119) (As := []) 19 (fun r => r) hC hDy cl_J5 (cw_L_size_X5 hC hrm (Nat.le_of_ble_eq_true rfl) (Nat.le_of_ble_eq_true rfl)) rfl rfl (Nat.le_of_ble_eq_true rfl) ⟨Nat.zero_le _, Nat.zero_le _⟩ dX5_begins_119 hE (fun r h => ct_L_size _ _ _ _ T hDy b24 r h) (fun r25 hE => ?_)
    refine k_icmp_ge (pc := 122) (tgt := 142) hC dX5_begins_122 (by decide) hE (fun hE => ?_) (fun hE => ?_)
    · refine k_iconst (pc := 142) (v := 0) hC dX5_begins_142 (by decide) ?_
      exact w_V_begins_B143 hM hR F k103 hk103 _ _ _ _ _  hE
    · refine k_aload_n (pc := 125) hC dX5_begins_125 rfl 1 rfl ?_
      refine gD_X5_91_X4 (pc := 126) hC hDy dX5_begins_126 hE (fun x26 hE => ?_)
      refine k_iload_n (pc := 129) hC dX5_begins_129 rfl 2 rfl ?_
      refine k_nn (G := fun z => Wk X 0 0 (VP D v J T) 130 [(0, .ref (v + 0)), (1, .ref a1), (2, .int a2)] [.int a2, z, .int a2, .ref (v + 8)]) hE (fun b27 hE => ?_)
      refine t_callVR (pc := 130) (As := [.int a2]) 19 (fun r => r) hC hDy cl_J5 (cw_L_get_X5 hC hrm (Nat.le_of_ble_eq_true rfl) (Nat.le_of_ble_eq_true rfl)) rfl rfl (Nat.le_of_ble_eq_true rfl) ⟨Nat.zero_le _, Nat.zero_le _⟩ dX5_begins_130 hE (fun r h => ct_L_get _ _ _ _ T hDy b27 a2 r h) (fun r28 hE => ?_)
      refine k_nn (G := fun z => Wk X 0 0 (VP D v J T) 133 [(0, .ref (v + 0)), (1, .ref a1), (2, .int a2)] [z, .int a2, .ref (v + 8)]) hE (fun b29 hE => ?_)
      refine dy_castS (pc := 133) hC hDy cl_X13 q1247 dX5_begins_133 hE (fun hE => ?_)
      refine gD_X5_96_X13 (pc := 136) hC hDy dX5_begins_136 hE (fun x30 hE => ?_)
      refine k_goto (pc := 139) (tgt := 143) hC dX5_begins_139 (by decide) ?_
      exact w_V_begins_B143 hM hR F k103 hk103 _ _ _ _ _  hE
theorem w_V_begins_L103 {X : Ctx} {D : Dd} {v : Nat} {T : Th} {out : Ji} (hM : Vx X cX5_begins RX5 D v 4 rmV_begins) (hR : Rt X none (VP D v out T) none 0 0) (F : Nat) (n : Nat) : ∀ (a1 : Nat) (a2 : Int32) (J : Ji) , V_begins_L103 F T n a1 a2 J = some out → Wk X 0 0 (VP D v J T) 103 [(0, .ref (v + 0)), (1, .ref a1), (2, .int a2)] [] := by
  induction n with
  | zero => intro a1 a2 J h; cases h
  | succ n ih => intro a1 a2 J h; exact w_V_begins_B103 hM hR F (V_begins_L103 F T n) ih a1 a2 J h
set_option maxHeartbeats 4000000 in
theorem w_V_begins_B64 {X : Ctx} {D : Dd} {v : Nat} {T : Th} {out : Ji} (hM : Vx X cX5_begins RX5 D v 4 rmV_begins) (hR : Rt X none (VP D v out T) none 0 0) (F : Nat) (k64 : Nat → Int32 → Ji → Option (Ji)) (hk64 : ∀ (a1 : Nat) (a2 : Int32) (J : Ji) , k64 a1 a2 J = some out → Wk X 0 0 (VP D v J T) 64 [(0, .ref (v + 0)), (1, .ref a1), (2, .int a2)] []) (a1 : Nat) (a2 : Int32) (J : Ji) (hE : V_begins_B64 F k64 T a1 a2 J = some out) : Wk X 0 0 (VP D v J T) 64 [(0, .ref (v + 0)), (1, .ref a1), (2, .int a2)] [] := by
  have hC := hM.1
  have hnL := hM.2.2.1
  have hrm := hM.2.2.2
  have hDy : ∀ {J : Ji} (H : Heap), VP D v J T H → Dy D T H := fun _ h => h.2.1
  unfold V_begins_B64 at hE
  refine k_iload_n (pc := 64) hC dX5_begins_64 rfl 2 rfl ?_
  refine k_aload_n (pc := 65) hC dX5_begins_65 rfl 1 rfl ?_
  refine gD_X5_83_X4 (pc := 66) hC hDy dX5_begins_66 hE (fun x13 hE => ?_)
  refine k_nn (G := fun z => Wk X 0 0 (VP D v J T) 69 [(0, .ref (v + 0)), (1, .ref a1), (2, .int a2)] [z, .int a2]) hE (fun b14 hE => ?_)
  refine t_callVI (pc := 69) (As := []) 19 (fun r => r) hC hDy cl_J5 (cw_L_size_X5 hC hrm (Nat.le_of_ble_eq_true rfl) (Nat.le_of_ble_eq_true rfl)) rfl rfl (Nat.le_of_ble_eq_true rfl) ⟨Nat.zero_le _, Nat.zero_le _⟩ dX5_begins_69 hE (fun r h => ct_L_size _ _ _ _ T hDy b14 r h) (fun r15 hE => ?_)
  refine k_icmp_ge (pc := 72) (tgt := 101) hC dX5_begins_72 (by decide) hE (fun hE => ?_) (fun hE => ?_)
  · refine k_iconst (pc := 101) (v := 0) hC dX5_begins_101 (by decide) ?_
    refine k_istore_n (pc := 102) (lv' := [(2, .int 0), (0, .ref (v + 0)), (1, .ref a1)]) hC dX5_begins_102 rfl (by rw [hnL]; decide) rfl ?_
    refine k_sub [1, 2, 0] rfl ?_
    exact w_V_begins_L103 hM hR F _ _ _ _  hE
  · refine k_aload_n (pc := 75) hC dX5_begins_75 rfl 0 rfl ?_
    refine gV_X5_26 (pc := 76) 0 lv_0 hM dX5_begins_76 ?_
    refine k_iload_n (pc := 79) hC dX5_begins_79 rfl 2 rfl ?_
    refine k_aload_n (pc := 80) hC dX5_begins_80 rfl 1 rfl ?_
    refine gD_X5_83_X4 (pc := 81) hC hDy dX5_begins_81 hE (fun x16 hE => ?_)
    refine k_iload_n (pc := 84) hC dX5_begins_84 rfl 2 rfl ?_
    refine k_nn (G := fun z => Wk X 0 0 (VP D v J T) 85 [(0, .ref (v + 0)), (1, .ref a1), (2, .int a2)] [.int a2, z, .int a2, .ref (v + 11)]) hE (fun b17 hE => ?_)
    refine t_callVR (pc := 85) (As := [.int a2]) 19 (fun r => r) hC hDy cl_J5 (cw_L_get_X5 hC hrm (Nat.le_of_ble_eq_true rfl) (Nat.le_of_ble_eq_true rfl)) rfl rfl (Nat.le_of_ble_eq_true rfl) ⟨Nat.zero_le _, Nat.zero_le _⟩ dX5_begins_85 hE (fun r h => ct_L_get _ _ _ _ T hDy b17 a2 r h) (fun r18 hE => ?_)
    refine k_nn (G := fun z => Wk X 0 0 (VP D v J T) 88 [(0, .ref (v + 0)), (1, .ref a1), (2, .int a2)] [z, .int a2, .ref (v + 11)]) hE (fun b19 hE => ?_)
    refine dy_castS (pc := 88) hC hDy cl_X12 q1246 dX5_begins_88 hE (fun hE => ?_)
    refine gD_X5_88_X12 (pc := 91) hC hDy dX5_begins_91 hE (fun x20 hE => ?_)
    refine v_iast (pc := 94) 11 lv_11 hM dX5_begins_94 hE (fun J21 hE => ?_)
    refine k_iincE (pc := 95) (k := 2) (d := 1) (lv' := fun x22 => [(2, .int x22), (0, .ref (v + 0)), (1, .ref a1)]) hC dX5_begins_95 rfl (by decide) (by rw [hnL]; decide) hE (fun _ => rfl) (fun x22 hE => ?_)
    refine k_goto (pc := 98) (tgt := 64) hC dX5_begins_98 (by decide) ?_
    refine k_sub [1, 2, 0] rfl ?_
    exact hk64 _ _ _  hE
theorem w_V_begins_L64 {X : Ctx} {D : Dd} {v : Nat} {T : Th} {out : Ji} (hM : Vx X cX5_begins RX5 D v 4 rmV_begins) (hR : Rt X none (VP D v out T) none 0 0) (F : Nat) (n : Nat) : ∀ (a1 : Nat) (a2 : Int32) (J : Ji) , V_begins_L64 F T n a1 a2 J = some out → Wk X 0 0 (VP D v J T) 64 [(0, .ref (v + 0)), (1, .ref a1), (2, .int a2)] [] := by
  induction n with
  | zero => intro a1 a2 J h; cases h
  | succ n ih => intro a1 a2 J h; exact w_V_begins_B64 hM hR F (V_begins_L64 F T n) ih a1 a2 J h
set_option maxHeartbeats 4000000 in
theorem w_V_begins_B12 {X : Ctx} {D : Dd} {v : Nat} {T : Th} {out : Ji} (hM : Vx X cX5_begins RX5 D v 4 rmV_begins) (hR : Rt X none (VP D v out T) none 0 0) (F : Nat) (k12 : Nat → Int32 → Ji → Option (Ji)) (hk12 : ∀ (a1 : Nat) (a2 : Int32) (J : Ji) , k12 a1 a2 J = some out → Wk X 0 0 (VP D v J T) 12 [(0, .ref (v + 0)), (1, .ref a1), (2, .int a2)] []) (a1 : Nat) (a2 : Int32) (J : Ji) (hE : V_begins_B12 F k12 T a1 a2 J = some out) : Wk X 0 0 (VP D v J T) 12 [(0, .ref (v + 0)), (1, .ref a1), (2, .int a2)] [] := by
  have hC := hM.1
  have hnL := hM.2.2.1
  have hrm := hM.2.2.2
  have hDy : ∀ {J : Ji} (H : Heap), VP D v J T H → Dy D T H := fun _ h => h.2.1
  unfold V_begins_B12 at hE
  refine k_iload_n (pc := 12) hC dX5_begins_12 rfl 2 rfl ?_
  refine k_aload_n (pc := 13) hC dX5_begins_13 rfl 1 rfl ?_
  refine gD_X5_62_X4 (pc := 14) hC hDy dX5_begins_14 hE (fun x3 hE => ?_)
  refine k_nn (G := fun z => Wk X 0 0 (VP D v J T) 17 [(0, .ref (v + 0)), (1, .ref a1), (2, .int a2)] [z, .int a2]) hE (fun b4 hE => ?_)
  refine t_callVI (pc := 17) (As := []) 19 (fun r => r) hC hDy cl_J5 (cw_L_size_X5 hC hrm (Nat.le_of_ble_eq_true rfl) (Nat.le_of_ble_eq_true rfl)) rfl rfl (Nat.le_of_ble_eq_true rfl) ⟨Nat.zero_le _, Nat.zero_le _⟩ dX5_begins_17 hE (fun r h => ct_L_size _ _ _ _ T hDy b4 r h) (fun r5 hE => ?_)
  refine k_icmp_ge (pc := 20) (tgt := 62) hC dX5_begins_20 (by decide) hE (fun hE => ?_) (fun hE => ?_)
  · refine k_iconst (pc := 62) (v := 0) hC dX5_begins_62 (by decide) ?_
    refine k_istore_n (pc := 63) (lv' := [(2, .int 0), (0, .ref (v + 0)), (1, .ref a1)]) hC dX5_begins_63 rfl (by rw [hnL]; decide) rfl ?_
    refine k_sub [1, 2, 0] rfl ?_
    exact w_V_begins_L64 hM hR F _ _ _ _  hE
  · refine k_aload_n (pc := 23) hC dX5_begins_23 rfl 0 rfl ?_
    refine k_dup (pc := 24) hC dX5_begins_24 rfl ?_
    refine gV_X5_55 (pc := 25) 0 lv_0 hM dX5_begins_25 ?_
    refine k_aload_n (pc := 28) hC dX5_begins_28 rfl 1 rfl ?_
    refine gD_X5_62_X4 (pc := 29) hC hDy dX5_begins_29 hE (fun x6 hE => ?_)
    refine k_iload_n (pc := 32) hC dX5_begins_32 rfl 2 rfl ?_
    refine k_nn (G := fun z => Wk X 0 0 (VP D v J T) 33 [(0, .ref (v + 0)), (1, .ref a1), (2, .int a2)] [.int a2, z, .int (J 0 8), .ref (v + 0)]) hE (fun b7 hE => ?_)
    refine t_callVR (pc := 33) (As := [.int a2]) 19 (fun r => r) hC hDy cl_J5 (cw_L_get_X5 hC hrm (Nat.le_of_ble_eq_true rfl) (Nat.le_of_ble_eq_true rfl)) rfl rfl (Nat.le_of_ble_eq_true rfl) ⟨Nat.zero_le _, Nat.zero_le _⟩ dX5_begins_33 hE (fun r h => ct_L_get _ _ _ _ T hDy b7 a2 r h) (fun r8 hE => ?_)
    refine k_nn (G := fun z => Wk X 0 0 (VP D v J T) 36 [(0, .ref (v + 0)), (1, .ref a1), (2, .int a2)] [z, .int (J 0 8), .ref (v + 0)]) hE (fun b9 hE => ?_)
    refine dy_castS (pc := 36) hC hDy cl_X11 q1245 dX5_begins_36 hE (fun hE => ?_)
    refine gD_X5_80_X11 (pc := 39) hC hDy dX5_begins_39 hE (fun x10 hE => ?_)
    refine k_if_eq (pc := 42) (tgt := 51) hC dX5_begins_42 (by decide) hE (fun hE => ?_) (fun hE => ?_)
    · refine k_iconst (pc := 51) (v := 0) hC dX5_begins_51 (by decide) ?_
      exact w_V_begins_B52 hM hR F k12 hk12 _ _ _ _ _  hE
    · refine k_iconst (pc := 45) (v := 1) hC dX5_begins_45 (by decide) ?_
      refine k_iload_n (pc := 46) hC dX5_begins_46 rfl 2 rfl ?_
      refine k_ishl (pc := 47) hC dX5_begins_47 ?_
      refine k_goto (pc := 48) (tgt := 52) hC dX5_begins_48 (by decide) ?_
      exact w_V_begins_B52 hM hR F k12 hk12 _ _ _ _ _  hE
theorem w_V_begins_L12 {X : Ctx} {D : Dd} {v : Nat} {T : Th} {out : Ji} (hM : Vx X cX5_begins RX5 D v 4 rmV_begins) (hR : Rt X none (VP D v out T) none 0 0) (F : Nat) (n : Nat) : ∀ (a1 : Nat) (a2 : Int32) (J : Ji) , V_begins_L12 F T n a1 a2 J = some out → Wk X 0 0 (VP D v J T) 12 [(0, .ref (v + 0)), (1, .ref a1), (2, .int a2)] [] := by
  induction n with
  | zero => intro a1 a2 J h; cases h
  | succ n ih => intro a1 a2 J h; exact w_V_begins_B12 hM hR F (V_begins_L12 F T n) ih a1 a2 J h
set_option maxHeartbeats 4000000 in
theorem w_V_begins {X : Ctx} {D : Dd} {v : Nat} {T : Th} {out : Ji} (hM : Vx X cX5_begins RX5 D v 4 rmV_begins) (hR : Rt X none (VP D v out T) none 0 0) (F : Nat) (a1 : Nat) (J : Ji) (hE : V_begins F T a1 J = some out) : Wk X 0 0 (VP D v J T) 0 [(0, .ref (v + 0)), (1, .ref a1)] [] := by
  have hC := hM.1
  have hnL := hM.2.2.1
  have hrm := hM.2.2.2
  have hDy : ∀ {J : Ji} (H : Heap), VP D v J T H → Dy D T H := fun _ h => h.2.1
  unfold V_begins at hE
  refine k_aload_n (pc := 0) hC dX5_begins_0 rfl 0 rfl ?_
  refine k_iconst (pc := 1) (v := 0) hC dX5_begins_1 (by decide) ?_
  refine pV_X5_55 (pc := 2) 0 lv_0 hM dX5_begins_2 hE (fun J1 hE => ?_)
  refine k_aload_n (pc := 5) hC dX5_begins_5 rfl 0 rfl ?_
  refine k_iconst (pc := 6) (v := 0) hC dX5_begins_6 (by decide) ?_
  refine pV_X5_59 (pc := 7) 0 lv_0 hM dX5_begins_7 hE (fun J2 hE => ?_)
  refine k_iconst (pc := 10) (v := 0) hC dX5_begins_10 (by decide) ?_
  refine k_istore_n (pc := 11) (lv' := [(2, .int 0), (0, .ref (v + 0)), (1, .ref a1)]) hC dX5_begins_11 rfl (by rw [hnL]; decide) rfl ?_
  refine k_sub [1, 2, 0] rfl ?_
  exact w_V_begins_L12 hM hR F _ _ _ _  hE
theorem ct_V_begins (l : Launch) (D : Dd) (A : Nat → Prop) (v : Nat) (T : Th) (hA : ∀ (off : Nat) (kd : Kd), layV off = some kd → A (v + off)) (F : Nat) (a1 : Nat) (J : Ji) (out : Ji) (hE : V_begins F T a1 J = some out) : Ct l yX5_begins (ws_ yX5_begins cX5_begins 4 none) rmV_begins vwCl arTy D A [.ref (v + 0), .ref a1] (VP D v J T) (VP D v out T) none 0 0 := by
  refine Ct.of (by decide) (Nat.le_of_ble_eq_true rfl) rfl ?_
  intro X hl hrm hC hR hXA hnL _
  exact w_V_begins ⟨hC, by unfold Ft; rw [hXA]; exact hA, hnL, hrm⟩ hR F a1 J hE
theorem cw_V_begins_X0 {X : Ctx} {cc : ByteArray} {D : Dd} {rm : Room} (hC : Cx X cc RX0 vwCl arTy D) (hrm : X.2.2.2.1 = rm) (h1 : rmV_begins.frames + 1 ≤ rm.frames) (h2 : 8 + (4 + 11) + rmV_begins.locals ≤ rm.locals) : CallW X.2.2.2.1 X.2.2.2.2.1 X.2.2.2.2.2.2.1 RX0 RX5 89 yX5_begins cX5_begins 4 none (ws_ yX5_begins cX5_begins 4 none) rmV_begins 0 0 1 := cwV 1 (cx_w hC) (lw_V q1239 q1240 q1241 q125 q1242) rfl rfl rfl (by decide +kernel) (by rw [hrm]; exact ⟨h1, h2⟩)
abbrev rmP_liesDown : Room := { frames := 0, cells := 0, slots := 0, locals := 0 }
set_option maxHeartbeats 4000000 in
theorem w_P_liesDown {X : Ctx} {i : Nat} {D : Dd} {v : Nat} {T : Th} {out : Ji} (hM : Vx X cX6_liesDown RX6 D v 4 rmP_liesDown) (hR : Rt X none (VP D v out T) none 0 0) (hi : i < 6) (a2 : Int32) (a3 : Int32) (J : Ji) (hE : P_liesDown T i a2 a3 J = some out) : Wk X 0 0 (VP D v J T) 0 [(0, .ref (v + (25 + i))), (1, .ref (v + 0)), (2, .int a2), (3, .int a3)] [] := by
  have hC := hM.1
  have hnL := hM.2.2.1
  have hrm := hM.2.2.2
  have hDy : ∀ {J : Ji} (H : Heap), VP D v J T H → Dy D T H := fun _ h => h.2.1
  unfold P_liesDown at hE
  refine k_aload_n (pc := 0) hC dX6_liesDown_0 rfl 0 rfl ?_
  refine k_iconst (pc := 1) (v := 0) hC dX6_liesDown_1 (by decide) ?_
  refine pV_X6_24 (pc := 2) (25 + i) (lv_slp hi) hM dX6_liesDown_2 hE (fun J1 hE => ?_)
  refine k_aload_n (pc := 5) hC dX6_liesDown_5 rfl 1 rfl ?_
  refine gV_X6_15 (pc := 6) 0 lv_0 hM dX6_liesDown_6 ?_
  refine k_iload_n (pc := 9) hC dX6_liesDown_9 rfl 2 rfl ?_
  refine k_iload_n (pc := 10) hC dX6_liesDown_10 rfl 3 rfl ?_
  refine v_iast (pc := 11) 14 lv_14 hM dX6_liesDown_11 hE (fun J2 hE => ?_)
  exact k_vret (pc := 12) hC hR ⟨Nat.le_refl 0, Nat.le_refl 0⟩ dX6_liesDown_12 (by cases hE; rfl) (by cases hE; exact fun _ h => h)
theorem ct_P_liesDown (l : Launch) (D : Dd) (A : Nat → Prop) (v : Nat) (T : Th) (hA : ∀ (off : Nat) (kd : Kd), layV off = some kd → A (v + off)) {i : Nat} (hi : i < 6) (_ : Nat) (a2 : Int32) (a3 : Int32) (J : Ji) (out : Ji) (hE : P_liesDown T i a2 a3 J = some out) : Ct l yX6_liesDown (ws_ yX6_liesDown cX6_liesDown 4 none) rmP_liesDown vwCl arTy D A [.ref (v + (25 + i)), .ref (v + 0), .int a2, .int a3] (VP D v J T) (VP D v out T) none 0 0 := by
  refine Ct.of (by decide) (Nat.le_of_ble_eq_true rfl) rfl ?_
  intro X hl hrm hC hR hXA hnL _
  exact w_P_liesDown ⟨hC, by unfold Ft; rw [hXA]; exact hA, hnL, hrm⟩ hR hi a2 a3 J hE
theorem cw_P_liesDown_X6 {X : Ctx} {cc : ByteArray} {D : Dd} {rm : Room} (hC : Cx X cc RX6 vwCl arTy D) (hrm : X.2.2.2.1 = rm) (h1 : rmP_liesDown.frames + 1 ≤ rm.frames) (h2 : 8 + (4 + 11) + rmP_liesDown.locals ≤ rm.locals) : CallW X.2.2.2.1 X.2.2.2.2.1 X.2.2.2.2.2.2.1 RX6 RX6 73 yX6_liesDown cX6_liesDown 4 none (ws_ yX6_liesDown cX6_liesDown 4 none) rmP_liesDown 0 0 3 := cwV 3 (cx_w hC) (lw_V q1374 q1376 qs38 q126 q1377) rfl rfl rfl (by decide +kernel) (by rw [hrm]; exact ⟨h1, h2⟩)
abbrev rmP_getsUp : Room := { frames := 3, cells := 0, slots := 0, locals := 64 }
set_option maxHeartbeats 4000000 in
theorem w_P_getsUp {X : Ctx} {i : Nat} {D : Dd} {v : Nat} {T : Th} {out : Ji} (hM : Vx X cX6_getsUp RX6 D v 4 rmP_getsUp) (hR : Rt X none (VP D v out T) none 0 0) (hi : i < 6) (a1 : Nat) (a3 : Int32) (J : Ji) (hE : P_getsUp T i a1 a3 J = some out) : Wk X 0 0 (VP D v J T) 0 [(0, .ref (v + (25 + i))), (1, .ref a1), (2, .ref (v + 0)), (3, .int a3)] [] := by
  have hC := hM.1
  have hnL := hM.2.2.1
  have hrm := hM.2.2.2
  have hDy : ∀ {J : Ji} (H : Heap), VP D v J T H → Dy D T H := fun _ h => h.2.1
  unfold P_getsUp at hE
  refine k_aload_n (pc := 0) hC dX6_getsUp_0 rfl 2 rfl ?_
  refine gV_X6_9 (pc := 1) 0 lv_0 hM dX6_getsUp_1 ?_
  refine k_iload_n (pc := 4) hC dX6_getsUp_4 rfl 3 rfl ?_
  refine k_iconst (pc := 5) (v := 0) hC dX6_getsUp_5 (by decide) ?_
  refine v_iast (pc := 6) 12 lv_12 hM dX6_getsUp_6 hE (fun J1 hE => ?_)
  refine k_aload_n (pc := 7) hC dX6_getsUp_7 rfl 2 rfl ?_
  refine gV_X6_15 (pc := 8) 0 lv_0 hM dX6_getsUp_8 ?_
  refine k_iload_n (pc := 11) hC dX6_getsUp_11 rfl 3 rfl ?_
  refine k_bipush (pc := 12) (v := (-2)) hC dX6_getsUp_12 (by decide) ?_
  refine v_iast (pc := 14) 14 lv_14 hM dX6_getsUp_14 hE (fun J2 hE => ?_)
  refine k_aload_n (pc := 15) hC dX6_getsUp_15 rfl 0 rfl ?_
  refine k_iconst (pc := 16) (v := 0) hC dX6_getsUp_16 (by decide) ?_
  refine pV_X6_18 (pc := 17) (25 + i) (lv_slp hi) (by decide) hM dX6_getsUp_17 hE (fun J3 hE => ?_)
  refine k_aload_n (pc := 20) hC dX6_getsUp_20 rfl 0 rfl ?_
  refine k_iconst (pc := 21) (v := 0) hC dX6_getsUp_21 (by decide) ?_
  refine pV_X6_24 (pc := 22) (25 + i) (lv_slp hi) hM dX6_getsUp_22 hE (fun J4 hE => ?_)
  refine k_aload_n (pc := 25) hC dX6_getsUp_25 rfl 0 rfl ?_
  refine k_aload_n (pc := 26) hC dX6_getsUp_26 rfl 2 rfl ?_
  refine gV_X6_28 (pc := 27) 0 lv_0 hM dX6_getsUp_27 ?_
  refine k_iload_n (pc := 30) hC dX6_getsUp_30 rfl 3 rfl ?_
  refine v_iald (pc := 31) 9 lv_9 hM dX6_getsUp_31 hE (fun x5 hE => ?_)
  refine pV_X6_31 (pc := 32) (25 + i) (lv_slp hi) hM dX6_getsUp_32 hE (fun J6 hE => ?_)
  refine k_aload_n (pc := 35) hC dX6_getsUp_35 rfl 0 rfl ?_
  refine k_aload_n (pc := 36) hC dX6_getsUp_36 rfl 2 rfl ?_
  refine gV_X6_34 (pc := 37) 0 lv_0 hM dX6_getsUp_37 ?_
  refine k_iload_n (pc := 40) hC dX6_getsUp_40 rfl 3 rfl ?_
  refine v_iald (pc := 41) 10 lv_10 hM dX6_getsUp_41 hE (fun x7 hE => ?_)
  refine pV_X6_37 (pc := 42) (25 + i) (lv_slp hi) hM dX6_getsUp_42 hE (fun J8 hE => ?_)
  refine k_aload_n (pc := 45) hC dX6_getsUp_45 rfl 0 rfl ?_
  refine gV_X6_31 (pc := 46) (25 + i) (lv_slp hi) hM dX6_getsUp_46 ?_
  refine k_if_ge (pc := 49) (tgt := 53) hC dX6_getsUp_49 (by decide) hE (fun hE => ?_) (fun hE => ?_)
  · refine k_aload_n (pc := 53) hC dX6_getsUp_53 rfl 0 rfl ?_
    refine k_aload_n (pc := 54) hC dX6_getsUp_54 rfl 2 rfl ?_
    refine gV_X6_40 (pc := 55) 0 lv_0 hM dX6_getsUp_55 ?_
    refine k_aload_n (pc := 58) hC dX6_getsUp_58 rfl 1 rfl ?_
    refine gD_X6_44_X4 (pc := 59) hC hDy dX6_getsUp_59 hE (fun x9 hE => ?_)
    refine k_iload_n (pc := 62) hC dX6_getsUp_62 rfl 3 rfl ?_
    refine k_nn (G := fun z => Wk X 0 0 (VP D v J8 T) 63 [(0, .ref (v + (25 + i))), (1, .ref a1), (2, .ref (v + 0)), (3, .int a3)] [.int a3, z, .ref (v + 15), .ref (v + (25 + i))]) hE (fun b10 hE => ?_)
    refine t_callVR (pc := 63) (As := [.int a3]) 19 (fun r => r) hC hDy cl_J5 (cw_L_get_X6 hC hrm (Nat.le_of_ble_eq_true rfl) (Nat.le_of_ble_eq_true rfl)) rfl rfl (Nat.le_of_ble_eq_true rfl) ⟨Nat.zero_le _, Nat.zero_le _⟩ dX6_getsUp_63 hE (fun r h => ct_L_get _ _ _ _ T hDy b10 a3 r h) (fun r11 hE => ?_)
    refine k_nn (G := fun z => Wk X 0 0 (VP D v J8 T) 66 [(0, .ref (v + (25 + i))), (1, .ref a1), (2, .ref (v + 0)), (3, .int a3)] [z, .ref (v + 15), .ref (v + (25 + i))]) hE (fun b12 hE => ?_)
    refine dy_castS (pc := 66) hC hDy cl_X15 q1371 dX6_getsUp_66 hE (fun hE => ?_)
    refine gD_X6_58_X15 (pc := 69) hC hDy dX6_getsUp_69 hE (fun x13 hE => ?_)
    refine v_aald (pc := 72) 15 lv_15 (by simp [arTy]) rfl hM dX6_getsUp_72 hE (fun q14 hq14 hE => ?_)
    refine k_aload_n (pc := 73) hC dX6_getsUp_73 rfl 1 rfl ?_
    refine gD_X6_61_X4 (pc := 74) hC hDy dX6_getsUp_74 hE (fun x15 hE => ?_)
    refine k_aload_n (pc := 77) hC dX6_getsUp_77 rfl 0 rfl ?_
    refine gV_X6_31 (pc := 78) (25 + i) (lv_slp hi) hM dX6_getsUp_78 ?_
    refine k_nn (G := fun z => Wk X 0 0 (VP D v J8 T) 81 [(0, .ref (v + (25 + i))), (1, .ref a1), (2, .ref (v + 0)), (3, .int a3)] [.int (J8 (25 + i) 1), z, .ref (v + (16 + q14)), .ref (v + (25 + i))]) hE (fun b16 hE => ?_)
    refine t_callVR (pc := 81) (As := [.int (J8 (25 + i) 1)]) 19 (fun r => r) hC hDy cl_J5 (cw_L_get_X6 hC hrm (Nat.le_of_ble_eq_true rfl) (Nat.le_of_ble_eq_true rfl)) rfl rfl (Nat.le_of_ble_eq_true rfl) ⟨Nat.zero_le _, Nat.zero_le _⟩ dX6_getsUp_81 hE (fun r h => ct_L_get _ _ _ _ T hDy b16 (J8 (25 + i) 1) r h) (fun r17 hE => ?_)
    refine k_nn (G := fun z => Wk X 0 0 (VP D v J8 T) 84 [(0, .ref (v + (25 + i))), (1, .ref a1), (2, .ref (v + 0)), (3, .int a3)] [z, .ref (v + (16 + q14)), .ref (v + (25 + i))]) hE (fun b18 hE => ?_)
    refine dy_castS (pc := 84) hC hDy cl_X13 q1372 dX6_getsUp_84 hE (fun hE => ?_)
    refine gD_X6_66_X13 (pc := 87) hC hDy dX6_getsUp_87 hE (fun x19 hE => ?_)
    refine v_iald (pc := 90) (16 + q14) (lv_apart hq14) hM dX6_getsUp_90 hE (fun x20 hE => ?_)
    refine pV_X6_69 (pc := 91) (25 + i) (lv_slp hi) hM dX6_getsUp_91 hE (fun J21 hE => ?_)
    refine k_aload_n (pc := 94) hC dX6_getsUp_94 rfl 0 rfl ?_
    refine k_iconst (pc := 95) (v := 1) hC dX6_getsUp_95 (by decide) ?_
    refine pV_X6_24 (pc := 96) (25 + i) (lv_slp hi) hM dX6_getsUp_96 hE (fun J22 hE => ?_)
    refine k_aload_n (pc := 99) hC dX6_getsUp_99 rfl 0 rfl ?_
    refine gV_X6_69 (pc := 100) (25 + i) (lv_slp hi) hM dX6_getsUp_100 ?_
    refine k_ldc (pc := 103) (v := 1000000) hC q1373 dX6_getsUp_103 ?_
    refine k_icmp_lt (pc := 105) (tgt := 115) hC dX6_getsUp_105 (by decide) hE (fun hE => ?_) (fun hE => ?_)
    · exact k_vret (pc := 115) hC hR ⟨Nat.le_refl 0, Nat.le_refl 0⟩ dX6_getsUp_115 (by cases hE; rfl) (by cases hE; exact fun _ h => h)
    · refine k_aload_n (pc := 108) hC dX6_getsUp_108 rfl 0 rfl ?_
      refine k_aload_n (pc := 109) hC dX6_getsUp_109 rfl 2 rfl ?_
      refine k_iload_n (pc := 110) hC dX6_getsUp_110 rfl 3 rfl ?_
      refine k_iconst (pc := 111) (v := 0) hC dX6_getsUp_111 (by decide) ?_
      refine v_callV (pc := 112) (As := [.ref (v + 0), .int a3, .int 0]) (fun r => r) (25 + i) (lv_slp hi) cl_X6 hM (cw_P_liesDown_X6 hC hrm (Nat.le_of_ble_eq_true rfl) (Nat.le_of_ble_eq_true rfl)) rfl rfl (Nat.le_of_ble_eq_true rfl) dX6_getsUp_112 hE (fun r h => ct_P_liesDown _ _ _ _ _ hM.2.1 hi i a3 0 J22 r h) (fun r23 hE => ?_)
      exact k_vret (pc := 115) hC hR ⟨Nat.le_refl 0, Nat.le_refl 0⟩ dX6_getsUp_115 (by cases hE; rfl) (by cases hE; exact fun _ h => h)
  · exact k_vret (pc := 52) hC hR ⟨Nat.le_refl 0, Nat.le_refl 0⟩ dX6_getsUp_52 (by cases hE; rfl) (by cases hE; exact fun _ h => h)
theorem ct_P_getsUp (l : Launch) (D : Dd) (A : Nat → Prop) (v : Nat) (T : Th) (hA : ∀ (off : Nat) (kd : Kd), layV off = some kd → A (v + off)) {i : Nat} (hi : i < 6) (_ : Nat) (a1 : Nat) (a3 : Int32) (J : Ji) (out : Ji) (hE : P_getsUp T i a1 a3 J = some out) : Ct l yX6_getsUp (ws_ yX6_getsUp cX6_getsUp 4 none) rmP_getsUp vwCl arTy D A [.ref (v + (25 + i)), .ref a1, .ref (v + 0), .int a3] (VP D v J T) (VP D v out T) none 0 0 := by
  refine Ct.of (by decide) (Nat.le_of_ble_eq_true rfl) rfl ?_
  intro X hl hrm hC hR hXA hnL _
  exact w_P_getsUp ⟨hC, by unfold Ft; rw [hXA]; exact hA, hnL, hrm⟩ hR hi a1 a3 J hE
theorem cw_P_getsUp_X5 {X : Ctx} {cc : ByteArray} {D : Dd} {rm : Room} (hC : Cx X cc RX5 vwCl arTy D) (hrm : X.2.2.2.1 = rm) (h1 : rmP_getsUp.frames + 1 ≤ rm.frames) (h2 : 8 + (4 + 11) + rmP_getsUp.locals ≤ rm.locals) : CallW X.2.2.2.1 X.2.2.2.2.1 X.2.2.2.2.2.2.1 RX5 RX6 170 yX6_getsUp cX6_getsUp 4 none (ws_ yX6_getsUp cX6_getsUp 4 none) rmP_getsUp 0 0 3 := cwV 3 (cx_w hC) (lw_V q1366 q1367 q1368 q126 q1369) rfl rfl rfl (by decide +kernel) (by rw [hrm]; exact ⟨h1, h2⟩)
abbrev rmP_ends : Room := { frames := 4, cells := 0, slots := 0, locals := 88 }
set_option maxHeartbeats 4000000 in
theorem w_P_ends_B111 {X : Ctx} {D : Dd} {v : Nat} {T : Th} {out : Ji} (hM : Vx X cX6_ends RX6 D v 6 rmP_ends) (hR : Rt X none (VP D v out T) none 0 0) (qa0 : Nat) (J : Ji) (hqa0 : qa0 < 6) (hE : P_ends_B111 T qa0 J = some out) : Wk X 0 0 (VP D v J T) 111 [(0, .ref (v + (25 + qa0)))] [] := by
  have hC := hM.1
  have hnL := hM.2.2.1
  have hrm := hM.2.2.2
  have hDy : ∀ {J : Ji} (H : Heap), VP D v J T H → Dy D T H := fun _ h => h.2.1
  unfold P_ends_B111 at hE
  refine k_aload_n (pc := 111) hC dX6_ends_111 rfl 0 rfl ?_
  refine k_iconst (pc := 112) (v := 1) hC dX6_ends_112 (by decide) ?_
  refine pV_X6_24 (pc := 113) (25 + qa0) (lv_slp hqa0) hM dX6_ends_113 hE (fun J17 hE => ?_)
  exact k_vret (pc := 116) hC hR ⟨Nat.le_refl 0, Nat.le_refl 0⟩ dX6_ends_116 (by cases hE; rfl) (by cases hE; exact fun _ h => h)
set_option maxHeartbeats 4000000 in
theorem w_P_ends {X : Ctx} {i : Nat} {D : Dd} {v : Nat} {T : Th} {out : Ji} (hM : Vx X cX6_ends RX6 D v 6 rmP_ends) (hR : Rt X none (VP D v out T) none 0 0) (hi : i < 6) (a1 : Nat) (a3 : Int32) (a4 : Int32) (J : Ji) (hE : P_ends T i a1 a3 a4 J = some out) : Wk X 0 0 (VP D v J T) 0 [(0, .ref (v + (25 + i))), (1, .ref a1), (2, .ref (v + 0)), (3, .int a3), (4, .int a4)] [] := by
  have hC := hM.1
  have hnL := hM.2.2.1
  have hrm := hM.2.2.2
  have hDy : ∀ {J : Ji} (H : Heap), VP D v J T H → Dy D T H := fun _ h => h.2.1
  unfold P_ends at hE
  refine k_aload_n (pc := 0) hC dX6_ends_0 rfl 0 rfl ?_
  refine gV_X6_24 (pc := 1) (25 + i) (lv_slp hi) hM dX6_ends_1 ?_
  refine k_iconst (pc := 4) (v := 2) hC dX6_ends_4 (by decide) ?_
  refine k_icmp_ne (pc := 5) (tgt := 17) hC dX6_ends_5 (by decide) hE (fun hE => ?_) (fun hE => ?_)
  · refine k_aload_n (pc := 8) hC dX6_ends_8 rfl 0 rfl ?_
    refine gV_X6_77 (pc := 9) (25 + i) (lv_slp hi) hM dX6_ends_9 ?_
    refine k_iload (pc := 12) hC dX6_ends_12 4 rfl ?_
    refine k_icmp_eq (pc := 14) (tgt := 18) hC dX6_ends_14 (by decide) hE (fun hE => ?_) (fun hE => ?_)
    · refine k_aload_n (pc := 18) hC dX6_ends_18 rfl 2 rfl ?_
      refine k_aload_n (pc := 19) hC dX6_ends_19 rfl 1 rfl ?_
      refine k_aload_n (pc := 20) hC dX6_ends_20 rfl 0 rfl ?_
      refine gV_X6_31 (pc := 21) (25 + i) (lv_slp hi) hM dX6_ends_21 ?_
      refine k_aload_n (pc := 24) hC dX6_ends_24 rfl 0 rfl ?_
      refine gV_X6_80 (pc := 25) (25 + i) (lv_slp hi) hM dX6_ends_25 ?_
      refine v_callV (pc := 28) (As := [.ref a1, .int (J (25 + i) 1), .int (J (25 + i) 3)]) (fun r => r) 0 lv_0 cl_X5 hM (cw_V_does_X6 hC hrm (Nat.le_of_ble_eq_true rfl) (Nat.le_of_ble_eq_true rfl)) rfl rfl (Nat.le_of_ble_eq_true rfl) dX6_ends_28 hE (fun r h => ct_V_does _ _ _ _ _ hM.2.1 a1 (J (25 + i) 1) (J (25 + i) 3) J r h) (fun r1 hE => ?_)
      refine k_aload_n (pc := 31) hC dX6_ends_31 rfl 0 rfl ?_
      refine k_aload_n (pc := 32) hC dX6_ends_32 rfl 0 rfl ?_
      refine gV_X6_80 (pc := 33) (25 + i) (lv_slp hi) hM dX6_ends_33 ?_
      refine pV_X6_37 (pc := 36) (25 + i) (lv_slp hi) hM dX6_ends_36 hE (fun J2 hE => ?_)
      refine k_aload_n (pc := 39) hC dX6_ends_39 rfl 2 rfl ?_
      refine gV_X6_9 (pc := 40) 0 lv_0 hM dX6_ends_40 ?_
      refine k_iload_n (pc := 43) hC dX6_ends_43 rfl 3 rfl ?_
      refine k_dup2 (pc := 44) hC dX6_ends_44 rfl rfl ?_
      refine v_iald (pc := 45) 12 lv_12 hM dX6_ends_45 hE (fun x3 hE => ?_)
      refine k_iconst (pc := 46) (v := 1) hC dX6_ends_46 (by decide) ?_
      refine k_iadd (pc := 47) hC dX6_ends_47 ?_
      refine v_iast (pc := 48) 12 lv_12 hM dX6_ends_48 hE (fun J4 hE => ?_)
      refine k_aload_n (pc := 49) hC dX6_ends_49 rfl 2 rfl ?_
      refine gV_X6_87 (pc := 50) 0 lv_0 hM dX6_ends_50 ?_
      refine k_iload_n (pc := 53) hC dX6_ends_53 rfl 3 rfl ?_
      refine k_dup2 (pc := 54) hC dX6_ends_54 rfl rfl ?_
      refine v_iald (pc := 55) 13 lv_13 hM dX6_ends_55 hE (fun x5 hE => ?_)
      refine k_iconst (pc := 56) (v := 1) hC dX6_ends_56 (by decide) ?_
      refine k_iadd (pc := 57) hC dX6_ends_57 ?_
      refine v_iast (pc := 58) 13 lv_13 hM dX6_ends_58 hE (fun J6 hE => ?_)
      refine k_aload_n (pc := 59) hC dX6_ends_59 rfl 1 rfl ?_
      refine gD_X6_61_X4 (pc := 60) hC hDy dX6_ends_60 hE (fun x7 hE => ?_)
      refine k_aload_n (pc := 63) hC dX6_ends_63 rfl 0 rfl ?_
      refine gV_X6_31 (pc := 64) (25 + i) (lv_slp hi) hM dX6_ends_64 ?_
      refine k_nn (G := fun z => Wk X 0 0 (VP D v J6 T) 67 [(0, .ref (v + (25 + i))), (1, .ref a1), (2, .ref (v + 0)), (3, .int a3), (4, .int a4)] [.int (J6 (25 + i) 1), z]) hE (fun b8 hE => ?_)
      refine t_callVR (pc := 67) (As := [.int (J6 (25 + i) 1)]) 19 (fun r => r) hC hDy cl_J5 (cw_L_get_X6 hC hrm (Nat.le_of_ble_eq_true rfl) (Nat.le_of_ble_eq_true rfl)) rfl rfl (Nat.le_of_ble_eq_true rfl) ⟨Nat.zero_le _, Nat.zero_le _⟩ dX6_ends_67 hE (fun r h => ct_L_get _ _ _ _ T hDy b8 (J6 (25 + i) 1) r h) (fun r9 hE => ?_)
      refine k_nn (G := fun z => Wk X 0 0 (VP D v J6 T) 70 [(0, .ref (v + (25 + i))), (1, .ref a1), (2, .ref (v + 0)), (3, .int a3), (4, .int a4)] [z]) hE (fun b10 hE => ?_)
      refine dy_castS (pc := 70) hC hDy cl_X13 q1372 dX6_ends_70 hE (fun hE => ?_)
      refine gD_X6_90_X13 (pc := 73) hC hDy dX6_ends_73 hE (fun x11 hE => ?_)
      refine k_aload_n (pc := 76) hC dX6_ends_76 rfl 0 rfl ?_
      refine gV_X6_80 (pc := 77) (25 + i) (lv_slp hi) hM dX6_ends_77 ?_
      refine k_nn (G := fun z => Wk X 0 0 (VP D v J6 T) 80 [(0, .ref (v + (25 + i))), (1, .ref a1), (2, .ref (v + 0)), (3, .int a3), (4, .int a4)] [.int (J6 (25 + i) 3), z]) hE (fun b12 hE => ?_)
      refine t_callVR (pc := 80) (As := [.int (J6 (25 + i) 3)]) 19 (fun r => r) hC hDy cl_J5 (cw_L_get_X6 hC hrm (Nat.le_of_ble_eq_true rfl) (Nat.le_of_ble_eq_true rfl)) rfl rfl (Nat.le_of_ble_eq_true rfl) ⟨Nat.zero_le _, Nat.zero_le _⟩ dX6_ends_80 hE (fun r h => ct_L_get _ _ _ _ T hDy b12 (J6 (25 + i) 3) r h) (fun r13 hE => ?_)
      refine k_nn (G := fun z => Wk X 0 0 (VP D v J6 T) 83 [(0, .ref (v + (25 + i))), (1, .ref a1), (2, .ref (v + 0)), (3, .int a3), (4, .int a4)] [z]) hE (fun b14 hE => ?_)
      refine dy_castS (pc := 83) hC hDy cl_X14 q1383 dX6_ends_83 hE (fun hE => ?_)
      refine gD_X6_95_X14 (pc := 86) hC hDy dX6_ends_86 hE (fun x15 hE => ?_)
      refine k_istore (pc := 89) (lv' := [(5, .int x15), (0, .ref (v + (25 + i))), (1, .ref a1), (2, .ref (v + 0)), (3, .int a3), (4, .int a4)]) hC dX6_ends_89 (by rw [hnL]; decide) rfl ?_
      refine k_iload (pc := 91) hC dX6_ends_91 0 rfl ?_
      refine k_if_lt (pc := 93) (tgt := 111) hC dX6_ends_93 (by decide) hE (fun hE => ?_) (fun hE => ?_)
      · refine k_sub [1] rfl ?_
        exact w_P_ends_B111 hM hR  _ _ hi hE
      · refine k_aload_n (pc := 96) hC dX6_ends_96 rfl 3 rfl ?_
        refine k_dup (pc := 97) hC dX6_ends_97 rfl ?_
        refine gV_X6_98 (pc := 98) 0 lv_0 hM dX6_ends_98 ?_
        refine k_iconst (pc := 101) (v := 1) hC dX6_ends_101 (by decide) ?_
        refine k_iload (pc := 102) hC dX6_ends_102 0 rfl ?_
        refine k_ishl (pc := 104) hC dX6_ends_104 ?_
        refine k_iconst (pc := 105) (v := (-1)) hC dX6_ends_105 (by decide) ?_
        refine k_ixor (pc := 106) hC dX6_ends_106 ?_
        refine k_iand (pc := 107) hC dX6_ends_107 ?_
        refine pV_X6_98 (pc := 108) 0 lv_0 hM dX6_ends_108 hE (fun J16 hE => ?_)
        refine k_sub [1] rfl ?_
        exact w_P_ends_B111 hM hR  _ _ hi hE
    · exact k_vret (pc := 17) hC hR ⟨Nat.le_refl 0, Nat.le_refl 0⟩ dX6_ends_17 (by cases hE; rfl) (by cases hE; exact fun _ h => h)
  · exact k_vret (pc := 17) hC hR ⟨Nat.le_refl 0, Nat.le_refl 0⟩ dX6_ends_17 (by cases hE; rfl) (by cases hE; exact fun _ h => h)
theorem ct_P_ends (l : Launch) (D : Dd) (A : Nat → Prop) (v : Nat) (T : Th) (hA : ∀ (off : Nat) (kd : Kd), layV off = some kd → A (v + off)) {i : Nat} (hi : i < 6) (_ : Nat) (a1 : Nat) (a3 : Int32) (a4 : Int32) (J : Ji) (out : Ji) (hE : P_ends T i a1 a3 a4 J = some out) : Ct l yX6_ends (ws_ yX6_ends cX6_ends 6 none) rmP_ends vwCl arTy D A [.ref (v + (25 + i)), .ref a1, .ref (v + 0), .int a3, .int a4] (VP D v J T) (VP D v out T) none 0 0 := by
  refine Ct.of (by decide) (Nat.le_of_ble_eq_true rfl) rfl ?_
  intro X hl hrm hC hR hXA hnL _
  exact w_P_ends ⟨hC, by unfold Ft; rw [hXA]; exact hA, hnL, hrm⟩ hR hi a1 a3 a4 J hE
theorem cw_P_ends_X5 {X : Ctx} {cc : ByteArray} {D : Dd} {rm : Room} (hC : Cx X cc RX5 vwCl arTy D) (hrm : X.2.2.2.1 = rm) (h1 : rmP_ends.frames + 1 ≤ rm.frames) (h2 : 8 + (6 + 11) + rmP_ends.locals ≤ rm.locals) : CallW X.2.2.2.1 X.2.2.2.2.1 X.2.2.2.2.2.2.1 RX5 RX6 174 yX6_ends cX6_ends 6 none (ws_ yX6_ends cX6_ends 6 none) rmP_ends 0 0 4 := cwV 4 (cx_w hC) (lw_V q1378 q1379 q1380 q126 q1381) rfl rfl rfl (by decide +kernel) (by rw [hrm]; exact ⟨h1, h2⟩)
abbrev rmP_leaves : Room := { frames := 0, cells := 0, slots := 0, locals := 0 }
set_option maxHeartbeats 4000000 in
theorem w_P_leaves_B65 {X : Ctx} {D : Dd} {v : Nat} {T : Th} {out : Ji} (hM : Vx X cX6_leaves RX6 D v 3 rmP_leaves) (hR : Rt X none (VP D v out T) none 0 0) (s0 : Int32) (s1 : Int32) (J : Ji) (hE : P_leaves_B65 T s0 s1 J = some out) : Wk X 0 0 (VP D v J T) 65 [] [.int s0, .int s1, .ref (v + 10)] := by
  have hC := hM.1
  have hnL := hM.2.2.1
  have hrm := hM.2.2.2
  have hDy : ∀ {J : Ji} (H : Heap), VP D v J T H → Dy D T H := fun _ h => h.2.1
  unfold P_leaves_B65 at hE
  refine v_iast (pc := 65) 10 lv_10 hM dX6_leaves_65 hE (fun J2 hE => ?_)
  exact k_vret (pc := 66) hC hR ⟨Nat.le_refl 0, Nat.le_refl 0⟩ dX6_leaves_66 (by cases hE; rfl) (by cases hE; exact fun _ h => h)
set_option maxHeartbeats 4000000 in
theorem w_P_leaves_B61 {X : Ctx} {D : Dd} {v : Nat} {T : Th} {out : Ji} (hM : Vx X cX6_leaves RX6 D v 3 rmP_leaves) (hR : Rt X none (VP D v out T) none 0 0) (qa0 : Nat) (s0 : Int32) (J : Ji) (hqa0 : qa0 < 6) (hE : P_leaves_B61 T qa0 s0 J = some out) : Wk X 0 0 (VP D v J T) 61 [(0, .ref (v + (25 + qa0)))] [.int s0, .ref (v + 10)] := by
  have hC := hM.1
  have hnL := hM.2.2.1
  have hrm := hM.2.2.2
  have hDy : ∀ {J : Ji} (H : Heap), VP D v J T H → Dy D T H := fun _ h => h.2.1
  unfold P_leaves_B61 at hE
  refine k_aload_n (pc := 61) hC dX6_leaves_61 rfl 0 rfl ?_
  refine gV_X6_37 (pc := 62) (25 + qa0) (lv_slp hqa0) hM dX6_leaves_62 ?_
  refine k_sub [] rfl ?_
  exact w_P_leaves_B65 hM hR  _ _ _  hE
set_option maxHeartbeats 4000000 in
theorem w_P_leaves_B36 {X : Ctx} {D : Dd} {v : Nat} {T : Th} {out : Ji} (hM : Vx X cX6_leaves RX6 D v 3 rmP_leaves) (hR : Rt X none (VP D v out T) none 0 0) (qa0 : Nat) (a2 : Int32) (s0 : Int32) (s1 : Int32) (J : Ji) (hqa0 : qa0 < 6) (hE : P_leaves_B36 T qa0 a2 s0 s1 J = some out) : Wk X 0 0 (VP D v J T) 36 [(0, .ref (v + (25 + qa0))), (1, .ref (v + 0)), (2, .int a2)] [.int s0, .int s1, .ref (v + 9)] := by
  have hC := hM.1
  have hnL := hM.2.2.1
  have hrm := hM.2.2.2
  have hDy : ∀ {J : Ji} (H : Heap), VP D v J T H → Dy D T H := fun _ h => h.2.1
  unfold P_leaves_B36 at hE
  refine v_iast (pc := 36) 9 lv_9 hM dX6_leaves_36 hE (fun J1 hE => ?_)
  refine k_aload_n (pc := 37) hC dX6_leaves_37 rfl 1 rfl ?_
  refine gV_X6_34 (pc := 38) 0 lv_0 hM dX6_leaves_38 ?_
  refine k_iload_n (pc := 41) hC dX6_leaves_41 rfl 2 rfl ?_
  refine k_aload_n (pc := 42) hC dX6_leaves_42 rfl 0 rfl ?_
  refine gV_X6_18 (pc := 43) (25 + qa0) (lv_slp hqa0) hM dX6_leaves_43 ?_
  refine k_if_eq (pc := 46) (tgt := 61) hC dX6_leaves_46 (by decide) hE (fun hE => ?_) (fun hE => ?_)
  · refine k_sub [0] rfl ?_
    exact w_P_leaves_B61 hM hR  _ _ _ hqa0 hE
  · refine k_aload_n (pc := 49) hC dX6_leaves_49 rfl 0 rfl ?_
    refine gV_X6_24 (pc := 50) (25 + qa0) (lv_slp hqa0) hM dX6_leaves_50 ?_
    refine k_if_ne (pc := 53) (tgt := 61) hC dX6_leaves_53 (by decide) hE (fun hE => ?_) (fun hE => ?_)
    · refine k_bipush (pc := 56) (v := (-2)) hC dX6_leaves_56 (by decide) ?_
      refine k_goto (pc := 58) (tgt := 65) hC dX6_leaves_58 (by decide) ?_
      refine k_sub [] rfl ?_
      exact w_P_leaves_B65 hM hR  _ _ _  hE
    · refine k_sub [0] rfl ?_
      exact w_P_leaves_B61 hM hR  _ _ _ hqa0 hE
set_option maxHeartbeats 4000000 in
theorem w_P_leaves_B32 {X : Ctx} {D : Dd} {v : Nat} {T : Th} {out : Ji} (hM : Vx X cX6_leaves RX6 D v 3 rmP_leaves) (hR : Rt X none (VP D v out T) none 0 0) (qa0 : Nat) (a2 : Int32) (s0 : Int32) (J : Ji) (hqa0 : qa0 < 6) (hE : P_leaves_B32 T qa0 a2 s0 J = some out) : Wk X 0 0 (VP D v J T) 32 [(0, .ref (v + (25 + qa0))), (1, .ref (v + 0)), (2, .int a2)] [.int s0, .ref (v + 9)] := by
  have hC := hM.1
  have hnL := hM.2.2.1
  have hrm := hM.2.2.2
  have hDy : ∀ {J : Ji} (H : Heap), VP D v J T H → Dy D T H := fun _ h => h.2.1
  unfold P_leaves_B32 at hE
  refine k_aload_n (pc := 32) hC dX6_leaves_32 rfl 0 rfl ?_
  refine gV_X6_31 (pc := 33) (25 + qa0) (lv_slp hqa0) hM dX6_leaves_33 ?_
  exact w_P_leaves_B36 hM hR  _ _ _ _ _ hqa0 hE
set_option maxHeartbeats 4000000 in
theorem w_P_leaves {X : Ctx} {i : Nat} {D : Dd} {v : Nat} {T : Th} {out : Ji} (hM : Vx X cX6_leaves RX6 D v 3 rmP_leaves) (hR : Rt X none (VP D v out T) none 0 0) (hi : i < 6) (a2 : Int32) (J : Ji) (hE : P_leaves T i a2 J = some out) : Wk X 0 0 (VP D v J T) 0 [(0, .ref (v + (25 + i))), (1, .ref (v + 0)), (2, .int a2)] [] := by
  have hC := hM.1
  have hnL := hM.2.2.1
  have hrm := hM.2.2.2
  have hDy : ∀ {J : Ji} (H : Heap), VP D v J T H → Dy D T H := fun _ h => h.2.1
  unfold P_leaves at hE
  refine k_aload_n (pc := 0) hC dX6_leaves_0 rfl 0 rfl ?_
  refine gV_X6_31 (pc := 1) (25 + i) (lv_slp hi) hM dX6_leaves_1 ?_
  refine k_if_ge (pc := 4) (tgt := 8) hC dX6_leaves_4 (by decide) hE (fun hE => ?_) (fun hE => ?_)
  · refine k_aload_n (pc := 8) hC dX6_leaves_8 rfl 1 rfl ?_
    refine gV_X6_28 (pc := 9) 0 lv_0 hM dX6_leaves_9 ?_
    refine k_iload_n (pc := 12) hC dX6_leaves_12 rfl 2 rfl ?_
    refine k_aload_n (pc := 13) hC dX6_leaves_13 rfl 0 rfl ?_
    refine gV_X6_18 (pc := 14) (25 + i) (lv_slp hi) hM dX6_leaves_14 ?_
    refine k_if_eq (pc := 17) (tgt := 32) hC dX6_leaves_17 (by decide) hE (fun hE => ?_) (fun hE => ?_)
    · exact w_P_leaves_B32 hM hR  _ _ _ _ hi hE
    · refine k_aload_n (pc := 20) hC dX6_leaves_20 rfl 0 rfl ?_
      refine gV_X6_24 (pc := 21) (25 + i) (lv_slp hi) hM dX6_leaves_21 ?_
      refine k_if_ne (pc := 24) (tgt := 32) hC dX6_leaves_24 (by decide) hE (fun hE => ?_) (fun hE => ?_)
      · refine k_bipush (pc := 27) (v := (-2)) hC dX6_leaves_27 (by decide) ?_
        refine k_goto (pc := 29) (tgt := 36) hC dX6_leaves_29 (by decide) ?_
        exact w_P_leaves_B36 hM hR  _ _ _ _ _ hi hE
      · exact w_P_leaves_B32 hM hR  _ _ _ _ hi hE
  · exact k_vret (pc := 7) hC hR ⟨Nat.le_refl 0, Nat.le_refl 0⟩ dX6_leaves_7 (by cases hE; rfl) (by cases hE; exact fun _ h => h)
theorem ct_P_leaves (l : Launch) (D : Dd) (A : Nat → Prop) (v : Nat) (T : Th) (hA : ∀ (off : Nat) (kd : Kd), layV off = some kd → A (v + off)) {i : Nat} (hi : i < 6) (_ : Nat) (a2 : Int32) (J : Ji) (out : Ji) (hE : P_leaves T i a2 J = some out) : Ct l yX6_leaves (ws_ yX6_leaves cX6_leaves 3 none) rmP_leaves vwCl arTy D A [.ref (v + (25 + i)), .ref (v + 0), .int a2] (VP D v J T) (VP D v out T) none 0 0 := by
  refine Ct.of (by decide) (Nat.le_of_ble_eq_true rfl) rfl ?_
  intro X hl hrm hC hR hXA hnL _
  exact w_P_leaves ⟨hC, by unfold Ft; rw [hXA]; exact hA, hnL, hrm⟩ hR hi a2 J hE
theorem cw_P_leaves_X5 {X : Ctx} {cc : ByteArray} {D : Dd} {rm : Room} (hC : Cx X cc RX5 vwCl arTy D) (hrm : X.2.2.2.1 = rm) (h1 : rmP_leaves.frames + 1 ≤ rm.frames) (h2 : 8 + (3 + 11) + rmP_leaves.locals ≤ rm.locals) : CallW X.2.2.2.1 X.2.2.2.2.1 X.2.2.2.2.2.2.1 RX5 RX6 181 yX6_leaves cX6_leaves 3 none (ws_ yX6_leaves cX6_leaves 3 none) rmP_leaves 0 0 2 := cwV 2 (cx_w hC) (lw_V q1417 q1418 q1419 q126 q1420) rfl rfl rfl (by decide +kernel) (by rw [hrm]; exact ⟨h1, h2⟩)
abbrev rmC_Number_of : Room := { frames := 0, cells := 0, slots := 0, locals := 0 }
set_option maxHeartbeats 4000000 in
theorem w_C_Number_of {X : Ctx} {D : Dd} {v : Nat} {T : Th} {rm : Room} {J : Ji} {out : Int32} (hM : Vx X cX18_of RX18 D v 2 rm) (hR : Rt X (some .int) (VP D v J T) (some (.int out)) 0 0) (a0 : Nat) (hE : C_Number_of T J a0 = some out) : Wk X 0 0 (VP D v J T) 0 [(0, .ref a0), (1, .ref (v + 31))] [] := by
  have hC := hM.1
  have hnL := hM.2.2.1
  have hrm := hM.2.2.2
  have hDy : ∀ {J : Ji} (H : Heap), VP D v J T H → Dy D T H := fun _ h => h.2.1
  unfold C_Number_of at hE
  refine k_aload_n (pc := 0) hC dX18_of_0 rfl 0 rfl ?_
  refine gD_X18_7_X18 (pc := 1) hC hDy dX18_of_1 hE (fun x1 hE => ?_)
  exact k_iret (pc := 4) hC hR ⟨Nat.le_refl 0, Nat.le_refl 0⟩ dX18_of_4 (by cases hE; rfl) (by cases hE; exact fun _ h => h)
theorem ct_C_Number_of (l : Launch) (D : Dd) (A : Nat → Prop) (rm : Room) (v : Nat) (T : Th) (hA : ∀ (off : Nat) (kd : Kd), layV off = some kd → A (v + off)) (a0 : Nat) (J : Ji) (out : Int32) (hE : C_Number_of T J a0 = some out) : Ct l yX18_of (ws_ yX18_of cX18_of 2 (some .int)) rm vwCl arTy D A [.ref a0, .ref (v + 31)] (VP D v J T) (VP D v J T) (some (.int out)) 0 0 := by
  refine Ct.of (by decide) (Nat.le_of_ble_eq_true rfl) rfl ?_
  intro X hl hrm hC hR hXA hnL _
  exact w_C_Number_of ⟨hC, by unfold Ft; rw [hXA]; exact hA, hnL, hrm⟩ hR a0 hE
abbrev rmC_Var_of : Room := { frames := 0, cells := 0, slots := 0, locals := 0 }
set_option maxHeartbeats 4000000 in
theorem w_C_Var_of {X : Ctx} {D : Dd} {v : Nat} {T : Th} {rm : Room} {J : Ji} {out : Int32} (hM : Vx X cX19_of RX19 D v 2 rm) (hR : Rt X (some .int) (VP D v J T) (some (.int out)) 0 0) (a0 : Nat) (hE : C_Var_of T J a0 = some out) : Wk X 0 0 (VP D v J T) 0 [(0, .ref a0), (1, .ref (v + 31))] [] := by
  have hC := hM.1
  have hnL := hM.2.2.1
  have hrm := hM.2.2.2
  have hDy : ∀ {J : Ji} (H : Heap), VP D v J T H → Dy D T H := fun _ h => h.2.1
  unfold C_Var_of at hE
  refine k_aload_n (pc := 0) hC dX19_of_0 rfl 1 rfl ?_
  refine gV_X19_13 (pc := 1) 31 lv_31 hM dX19_of_1 ?_
  refine k_aload_n (pc := 4) hC dX19_of_4 rfl 0 rfl ?_
  refine gD_X19_7_X19 (pc := 5) hC hDy dX19_of_5 hE (fun x1 hE => ?_)
  refine v_iald (pc := 8) 32 lv_32 hM dX19_of_8 hE (fun x2 hE => ?_)
  exact k_iret (pc := 9) hC hR ⟨Nat.le_refl 0, Nat.le_refl 0⟩ dX19_of_9 (by cases hE; rfl) (by cases hE; exact fun _ h => h)
theorem ct_C_Var_of (l : Launch) (D : Dd) (A : Nat → Prop) (rm : Room) (v : Nat) (T : Th) (hA : ∀ (off : Nat) (kd : Kd), layV off = some kd → A (v + off)) (a0 : Nat) (J : Ji) (out : Int32) (hE : C_Var_of T J a0 = some out) : Ct l yX19_of (ws_ yX19_of cX19_of 2 (some .int)) rm vwCl arTy D A [.ref a0, .ref (v + 31)] (VP D v J T) (VP D v J T) (some (.int out)) 0 0 := by
  refine Ct.of (by decide) (Nat.le_of_ble_eq_true rfl) rfl ?_
  intro X hl hrm hC hR hXA hnL _
  exact w_C_Var_of ⟨hC, by unfold Ft; rw [hXA]; exact hA, hnL, hrm⟩ hR a0 hE
abbrev rmC_Joined_of : Room := { frames := 0, cells := 0, slots := 0, locals := 0 }
set_option maxHeartbeats 4000000 in
theorem w_C_Joined_of {X : Ctx} {D : Dd} {v : Nat} {T : Th} {rm : Room} {rm1 : Room} {sof : Nat → Ji → Option (Int32 × Ji)} {out : Int32 × Ji} (hM : Vx X cX20_of RX20 D v 4 rm) (hS : SofH X.2.1 D (cxA X) v T sof rm1) (hrl : rm1.cells = 0 ∧ rm1.slots = 0 ∧ rm1.frames + 1 ≤ rm.frames ∧ 8 + (4 + 11) + rm1.locals ≤ rm.locals) (hR : Rt X (some .int) (VP D v out.2 T) (some (.int out.1)) 0 0) (a0 : Nat) (J : Ji) (hE : C_Joined_of T sof a0 J = some out) : Wk X 0 0 (VP D v J T) 0 [(0, .ref a0), (1, .ref (v + 31))] [] := by
  have hC := hM.1
  have hnL := hM.2.2.1
  have hrm := hM.2.2.2
  have hDy : ∀ {J : Ji} (H : Heap), VP D v J T H → Dy D T H := fun _ h => h.2.1
  unfold C_Joined_of at hE
  refine k_aload_n (pc := 0) hC dX20_of_0 rfl 0 rfl ?_
  refine gD_X20_13_X20 (pc := 1) hC hDy dX20_of_1 hE (fun x1 hE => ?_)
  refine k_aload_n (pc := 4) hC dX20_of_4 rfl 1 rfl ?_
  refine k_nn (G := fun z => Wk X 0 0 (VP D v J T) 5 [(0, .ref a0), (1, .ref (v + 31))] [.ref (v + 31), z]) hE (fun b2 hE => ?_)
  refine v_callSum (pc := 5) hM q1404 hS hrl.1 hrl.2.1 hrl.2.2.1 hrl.2.2.2 (Nat.le_of_ble_eq_true rfl) dX20_of_5 hE (fun r3 hE => ?_)
  refine k_istore_n (pc := 8) (lv' := [(2, .int r3.1), (0, .ref a0), (1, .ref (v + 31))]) hC dX20_of_8 rfl (by rw [hnL]; decide) rfl ?_
  refine k_aload_n (pc := 9) hC dX20_of_9 rfl 1 rfl ?_
  refine gD_X20_17_X20 (pc := 10) hC hDy dX20_of_10 hE (fun x4 hE => ?_)
  refine k_aload_n (pc := 13) hC dX20_of_13 rfl 2 rfl ?_
  refine k_nn (G := fun z => Wk X 0 0 (VP D v r3.2 T) 14 [(2, .int r3.1), (0, .ref a0), (1, .ref (v + 31))] [.ref (v + 31), z]) hE (fun b5 hE => ?_)
  refine v_callSum (pc := 14) hM q1404 hS hrl.1 hrl.2.1 hrl.2.2.1 hrl.2.2.2 (Nat.le_of_ble_eq_true rfl) dX20_of_14 hE (fun r6 hE => ?_)
  refine k_istore_n (pc := 17) (lv' := [(3, .int r6.1), (2, .int r3.1), (0, .ref a0), (1, .ref (v + 31))]) hC dX20_of_17 rfl (by rw [hnL]; decide) rfl ?_
  refine k_aload_n (pc := 18) hC dX20_of_18 rfl 2 rfl ?_
  refine gD_X20_7_X20 (pc := 19) hC hDy dX20_of_19 hE (fun x7 hE => ?_)
  refine sw_E hE (fun hx hE => ?_) (fun n42 hE => ?_)
  · refine k_tswI (pc := 22) (k := 42) (tgt := 60) hC dX20_of_22 hx (by decide) (by decide) rfl (by decide) ?_
    refine k_iload_n (pc := 60) hC dX20_of_60 rfl 1 rfl ?_
    refine k_iload_n (pc := 61) hC dX20_of_61 rfl 0 rfl ?_
    refine k_imul (pc := 62) hC dX20_of_62 ?_
    exact k_iret (pc := 63) hC hR ⟨Nat.le_refl 0, Nat.le_refl 0⟩ dX20_of_63 (by cases hE; rfl) (by cases hE; exact fun _ h => h)
  refine sw_E hE (fun hx hE => ?_) (fun n43 hE => ?_)
  · refine k_tswI (pc := 22) (k := 43) (tgt := 52) hC dX20_of_22 hx (by decide) (by decide) rfl (by decide) ?_
    refine k_iload_n (pc := 52) hC dX20_of_52 rfl 1 rfl ?_
    refine k_iload_n (pc := 53) hC dX20_of_53 rfl 0 rfl ?_
    refine k_iadd (pc := 54) hC dX20_of_54 ?_
    exact k_iret (pc := 55) hC hR ⟨Nat.le_refl 0, Nat.le_refl 0⟩ dX20_of_55 (by cases hE; rfl) (by cases hE; exact fun _ h => h)
  refine sw_E hE (fun hx hE => ?_) (fun n45 hE => ?_)
  · refine k_tswI (pc := 22) (k := 45) (tgt := 56) hC dX20_of_22 hx (by decide) (by decide) rfl (by decide) ?_
    refine k_iload_n (pc := 56) hC dX20_of_56 rfl 1 rfl ?_
    refine k_iload_n (pc := 57) hC dX20_of_57 rfl 0 rfl ?_
    refine k_isub (pc := 58) hC dX20_of_58 ?_
    exact k_iret (pc := 59) hC hR ⟨Nat.le_refl 0, Nat.le_refl 0⟩ dX20_of_59 (by cases hE; rfl) (by cases hE; exact fun _ h => h)
  refine sw_C (x7 = 44) (fun hx => ?_) (fun n44 => ?_)
  · refine k_tswI (pc := 22) (k := 44) (tgt := 64) hC dX20_of_22 hx (by decide) (by decide) rfl (by decide) ?_
    refine k_iload_n (pc := 64) hC dX20_of_64 rfl 0 rfl ?_
    refine k_if_eq (pc := 65) (tgt := 72) hC dX20_of_65 (by decide) hE (fun hE => ?_) (fun hE => ?_)
    · refine k_aload_n (pc := 72) hC dX20_of_72 rfl 3 rfl ?_
      refine k_iconst (pc := 73) (v := 1) hC dX20_of_73 (by decide) ?_
      refine pV_X20_24 (pc := 74) 31 lv_31 (by decide) hM dX20_of_74 hE (fun J8 hE => ?_)
      refine k_iconst (pc := 77) (v := 0) hC dX20_of_77 (by decide) ?_
      exact k_iret (pc := 78) hC hR ⟨Nat.le_refl 0, Nat.le_refl 0⟩ dX20_of_78 (by cases hE; rfl) (by cases hE; exact fun _ h => h)
    · refine k_iload_n (pc := 68) hC dX20_of_68 rfl 1 rfl ?_
      refine k_iload_n (pc := 69) hC dX20_of_69 rfl 0 rfl ?_
      refine k_idiv (pc := 70) hC dX20_of_70 hE (fun hE => ?_)
      exact k_iret (pc := 71) hC hR ⟨Nat.le_refl 0, Nat.le_refl 0⟩ dX20_of_71 (by cases hE; rfl) (by cases hE; exact fun _ h => h)
  have z42 := sw_ne (z := 42) n42 rfl
  have z43 := sw_ne (z := 43) n43 rfl
  have z44 := sw_ne (z := 44) n44 rfl
  have z45 := sw_ne (z := 45) n45 rfl
  refine k_tswO (pc := 22) (tgt := 64) hC dX20_of_22 (by omega) (by decide) ?_
  refine k_iload_n (pc := 64) hC dX20_of_64 rfl 0 rfl ?_
  refine k_if_eq (pc := 65) (tgt := 72) hC dX20_of_65 (by decide) hE (fun hE => ?_) (fun hE => ?_)
  · refine k_aload_n (pc := 72) hC dX20_of_72 rfl 3 rfl ?_
    refine k_iconst (pc := 73) (v := 1) hC dX20_of_73 (by decide) ?_
    refine pV_X20_24 (pc := 74) 31 lv_31 (by decide) hM dX20_of_74 hE (fun J8 hE => ?_)
    refine k_iconst (pc := 77) (v := 0) hC dX20_of_77 (by decide) ?_
    exact k_iret (pc := 78) hC hR ⟨Nat.le_refl 0, Nat.le_refl 0⟩ dX20_of_78 (by cases hE; rfl) (by cases hE; exact fun _ h => h)
  · refine k_iload_n (pc := 68) hC dX20_of_68 rfl 1 rfl ?_
    refine k_iload_n (pc := 69) hC dX20_of_69 rfl 0 rfl ?_
    refine k_idiv (pc := 70) hC dX20_of_70 hE (fun hE => ?_)
    exact k_iret (pc := 71) hC hR ⟨Nat.le_refl 0, Nat.le_refl 0⟩ dX20_of_71 (by cases hE; rfl) (by cases hE; exact fun _ h => h)
theorem ct_C_Joined_of (l : Launch) (D : Dd) (A : Nat → Prop) (rm : Room) (v : Nat) (T : Th) (hA : ∀ (off : Nat) (kd : Kd), layV off = some kd → A (v + off)) (rm1 : Room) (sof : Nat → Ji → Option (Int32 × Ji)) (hS : SofH l D A v T sof rm1) (hrl : rm1.cells = 0 ∧ rm1.slots = 0 ∧ rm1.frames + 1 ≤ rm.frames ∧ 8 + (4 + 11) + rm1.locals ≤ rm.locals) (a0 : Nat) (J : Ji) (out : Int32 × Ji) (hE : C_Joined_of T sof a0 J = some out) : Ct l yX20_of (ws_ yX20_of cX20_of 4 (some .int)) rm vwCl arTy D A [.ref a0, .ref (v + 31)] (VP D v J T) (VP D v out.2 T) (some (.int out.1)) 0 0 := by
  refine Ct.of (by decide) (Nat.le_of_ble_eq_true rfl) rfl ?_
  intro X hl hrm hC hR hXA hnL _
  exact w_C_Joined_of ⟨hC, by unfold Ft; rw [hXA]; exact hA, hnL, hrm⟩ (by subst hl; subst hXA; exact hS) hrl hR a0 J hE
theorem sofH (l : Launch) (D : Dd) (A : Nat → Prop) (v : Nat) (T : Th) (hA : ∀ (off : Nat) (kd : Kd), layV off = some kd → A (v + off)) (n : Nat) : SofH l D A v T (C_sof T n) (rmS n) := by
  induction n with
  | zero => intro a J r h; cases h
  | succ n ih =>
    intro a J r h
    rw [C_sof] at h
    split at h
    · rename_i ha
      obtain ⟨x, h1, h2⟩ := ob_ h
      cases h2
      exact Or.inl ⟨ha, ct_C_Number_of l D A (rmS (n + 1)) v T hA a J x h1⟩
    · split at h
      · rename_i ha
        obtain ⟨x, h1, h2⟩ := ob_ h
        cases h2
        exact Or.inr (Or.inl ⟨ha, ct_C_Var_of l D A (rmS (n + 1)) v T hA a J x h1⟩)
      · split at h
        · rename_i ha
          exact Or.inr (Or.inr ⟨ha, ct_C_Joined_of l D A (rmS (n + 1)) v T hA (rmS n) (C_sof T n) ih ⟨rfl, rfl, Nat.le_refl _, by show 8 + (4 + 11) + 24 * n ≤ 24 * (n + 1); omega⟩ a J r h⟩)
        · cases h
abbrev rmC_Law_of : Room := { frames := 501, cells := 0, slots := 0, locals := 12023 }
set_option maxHeartbeats 4000000 in
theorem w_C_Law_of_B81 {X : Ctx} {D : Dd} {v : Nat} {T : Th} {out : Int32 × Ji} (hM : Vx X cX16_of RX16 D v 4 rmC_Law_of) (hR : Rt X (some .int) (VP D v out.2 T) (some (.int out.1)) 0 0) (F : Nat) (s0 : Int32) (s1 : Int32) (s2 : Int32) (J : Ji) (hE : C_Law_of_B81 F T s0 s1 s2 J = some out) : Wk X 0 0 (VP D v J T) 81 [] [.int s0, .int s1, .int s2] := by
  have hC := hM.1
  have hnL := hM.2.2.1
  have hrm := hM.2.2.2
  have hDy : ∀ {J : Ji} (H : Heap), VP D v J T H → Dy D T H := fun _ h => h.2.1
  unfold C_Law_of_B81 at hE
  refine k_mmin (pc := 81) hC q1411 hrm (Nat.le_of_ble_eq_true rfl) (Nat.le_of_ble_eq_true rfl) ⟨Nat.zero_le _, Nat.zero_le _⟩ dX16_of_81 ?_
  refine k_mmax (pc := 84) hC q1412 hrm (Nat.le_of_ble_eq_true rfl) (Nat.le_of_ble_eq_true rfl) ⟨Nat.zero_le _, Nat.zero_le _⟩ dX16_of_84 ?_
  exact k_iret (pc := 87) hC hR ⟨Nat.le_refl 0, Nat.le_refl 0⟩ dX16_of_87 (by cases hE; rfl) (by cases hE; exact fun _ h => h)
set_option maxHeartbeats 4000000 in
theorem w_C_Law_of_B44 {X : Ctx} {D : Dd} {v : Nat} {T : Th} {out : Int32 × Ji} (hM : Vx X cX16_of RX16 D v 4 rmC_Law_of) (hR : Rt X (some .int) (VP D v out.2 T) (some (.int out.1)) 0 0) (F : Nat) (a0 : Nat) (a2 : Int32) (J : Ji) (hE : C_Law_of_B44 F T a0 a2 J = some out) : Wk X 0 0 (VP D v J T) 44 [(0, .ref a0), (1, .ref (v + 31)), (2, .int a2)] [] := by
  have hC := hM.1
  have hnL := hM.2.2.1
  have hrm := hM.2.2.2
  have hDy : ∀ {J : Ji} (H : Heap), VP D v J T H → Dy D T H := fun _ h => h.2.1
  unfold C_Law_of_B44 at hE
  refine k_aload_n (pc := 44) hC dX16_of_44 rfl 0 rfl ?_
  refine gD_X16_20_X16 (pc := 45) hC hDy dX16_of_45 hE (fun x14 hE => ?_)
  refine k_iload_n (pc := 48) hC dX16_of_48 rfl 2 rfl ?_
  refine k_nn (G := fun z => Wk X 0 0 (VP D v J T) 49 [(0, .ref a0), (1, .ref (v + 31)), (2, .int a2)] [.int a2, z]) hE (fun b15 hE => ?_)
  refine dy_aald (pc := 49) (ty := .object "SleepWork$Sum") hC hDy (by simp [arTy]) rfl dX16_of_49 hE (fun x16 hE => ?_)
  refine k_aload_n (pc := 50) hC dX16_of_50 rfl 1 rfl ?_
  refine k_nn (G := fun z => Wk X 0 0 (VP D v J T) 51 [(0, .ref a0), (1, .ref (v + 31)), (2, .int a2)] [.ref (v + 31), z]) hE (fun b17 hE => ?_)
  refine v_callSum (pc := 51) hM q1398 (sofH X.2.1 D (cxA X) v T hM.2.1 dSum) rfl rfl (Nat.le_of_ble_eq_true rfl) (Nat.le_of_ble_eq_true rfl) (Nat.le_of_ble_eq_true rfl) dX16_of_51 hE (fun r18 hE => ?_)
  refine k_istore_n (pc := 54) (lv' := [(3, .int r18.1), (0, .ref a0), (1, .ref (v + 31)), (2, .int a2)]) hC dX16_of_54 rfl (by rw [hnL]; decide) rfl ?_
  refine k_iconst (pc := 55) (v := 0) hC dX16_of_55 (by decide) ?_
  refine k_aload_n (pc := 56) hC dX16_of_56 rfl 2 rfl ?_
  refine gV_X16_37 (pc := 57) 31 lv_31 hM dX16_of_57 ?_
  refine k_iconst (pc := 60) (v := 2) hC dX16_of_60 (by decide) ?_
  refine v_iald (pc := 61) 32 lv_32 hM dX16_of_61 hE (fun x19 hE => ?_)
  refine k_iconst (pc := 62) (v := 1) hC dX16_of_62 (by decide) ?_
  refine k_isub (pc := 63) hC dX16_of_63 ?_
  refine k_aload_n (pc := 64) hC dX16_of_64 rfl 2 rfl ?_
  refine gV_X16_23 (pc := 65) 31 lv_31 hM dX16_of_65 ?_
  refine k_if_eq (pc := 68) (tgt := 80) hC dX16_of_68 (by decide) hE (fun hE => ?_) (fun hE => ?_)
  · refine k_iload_n (pc := 80) hC dX16_of_80 rfl 0 rfl ?_
    refine k_sub [] rfl ?_
    exact w_C_Law_of_B81 hM hR F _ _ _ _  hE
  · refine k_aload_n (pc := 71) hC dX16_of_71 rfl 2 rfl ?_
    refine gV_X16_37 (pc := 72) 31 lv_31 hM dX16_of_72 ?_
    refine k_iconst (pc := 75) (v := 0) hC dX16_of_75 (by decide) ?_
    refine v_iald (pc := 76) 32 lv_32 hM dX16_of_76 hE (fun x20 hE => ?_)
    refine k_goto (pc := 77) (tgt := 81) hC dX16_of_77 (by decide) ?_
    refine k_sub [] rfl ?_
    exact w_C_Law_of_B81 hM hR F _ _ _ _  hE
set_option maxHeartbeats 4000000 in
theorem w_C_Law_of_B7 {X : Ctx} {D : Dd} {v : Nat} {T : Th} {out : Int32 × Ji} (hM : Vx X cX16_of RX16 D v 4 rmC_Law_of) (hR : Rt X (some .int) (VP D v out.2 T) (some (.int out.1)) 0 0) (F : Nat) (k7 : Nat → Int32 → Ji → Option (Int32 × Ji)) (hk7 : ∀ (a0 : Nat) (a2 : Int32) (J : Ji) , k7 a0 a2 J = some out → Wk X 0 0 (VP D v J T) 7 [(0, .ref a0), (1, .ref (v + 31)), (2, .int a2)] []) (a0 : Nat) (a2 : Int32) (J : Ji) (hE : C_Law_of_B7 F k7 T a0 a2 J = some out) : Wk X 0 0 (VP D v J T) 7 [(0, .ref a0), (1, .ref (v + 31)), (2, .int a2)] [] := by
  have hC := hM.1
  have hnL := hM.2.2.1
  have hrm := hM.2.2.2
  have hDy : ∀ {J : Ji} (H : Heap), VP D v J T H → Dy D T H := fun _ h => h.2.1
  unfold C_Law_of_B7 at hE
  refine k_iload_n (pc := 7) hC dX16_of_7 rfl 2 rfl ?_
  refine k_aload_n (pc := 8) hC dX16_of_8 rfl 0 rfl ?_
  refine gD_X16_29_X16 (pc := 9) hC hDy dX16_of_9 hE (fun x2 hE => ?_)
  refine k_icmp_ge (pc := 12) (tgt := 44) hC dX16_of_12 (by decide) hE (fun hE => ?_) (fun hE => ?_)
  · exact w_C_Law_of_B44 hM hR F _ _ _  hE
  · refine k_aload_n (pc := 15) hC dX16_of_15 rfl 0 rfl ?_
    refine gD_X16_11_X16 (pc := 16) hC hDy dX16_of_16 hE (fun x3 hE => ?_)
    refine k_iload_n (pc := 19) hC dX16_of_19 rfl 2 rfl ?_
    refine k_nn (G := fun z => Wk X 0 0 (VP D v J T) 20 [(0, .ref a0), (1, .ref (v + 31)), (2, .int a2)] [.int a2, z]) hE (fun b4 hE => ?_)
    refine dy_aald (pc := 20) (ty := .object "SleepWork$Sum") hC hDy (by simp [arTy]) rfl dX16_of_20 hE (fun x5 hE => ?_)
    refine k_aload_n (pc := 21) hC dX16_of_21 rfl 1 rfl ?_
    refine k_nn (G := fun z => Wk X 0 0 (VP D v J T) 22 [(0, .ref a0), (1, .ref (v + 31)), (2, .int a2)] [.ref (v + 31), z]) hE (fun b6 hE => ?_)
    refine v_callSum (pc := 22) hM q1398 (sofH X.2.1 D (cxA X) v T hM.2.1 dSum) rfl rfl (Nat.le_of_ble_eq_true rfl) (Nat.le_of_ble_eq_true rfl) (Nat.le_of_ble_eq_true rfl) dX16_of_22 hE (fun r7 hE => ?_)
    refine k_aload_n (pc := 25) hC dX16_of_25 rfl 0 rfl ?_
    refine gD_X16_17_X16 (pc := 26) hC hDy dX16_of_26 hE (fun x8 hE => ?_)
    refine k_iload_n (pc := 29) hC dX16_of_29 rfl 2 rfl ?_
    refine k_nn (G := fun z => Wk X 0 0 (VP D v r7.2 T) 30 [(0, .ref a0), (1, .ref (v + 31)), (2, .int a2)] [.int a2, z, .int r7.1]) hE (fun b9 hE => ?_)
    refine dy_aald (pc := 30) (ty := .object "SleepWork$Sum") hC hDy (by simp [arTy]) rfl dX16_of_30 hE (fun x10 hE => ?_)
    refine k_aload_n (pc := 31) hC dX16_of_31 rfl 1 rfl ?_
    refine k_nn (G := fun z => Wk X 0 0 (VP D v r7.2 T) 32 [(0, .ref a0), (1, .ref (v + 31)), (2, .int a2)] [.ref (v + 31), z, .int r7.1]) hE (fun b11 hE => ?_)
    refine v_callSum (pc := 32) hM q1398 (sofH X.2.1 D (cxA X) v T hM.2.1 dSum) rfl rfl (Nat.le_of_ble_eq_true rfl) (Nat.le_of_ble_eq_true rfl) (Nat.le_of_ble_eq_true rfl) dX16_of_32 hE (fun r12 hE => ?_)
    refine k_icmp_lt (pc := 35) (tgt := 44) hC dX16_of_35 (by decide) hE (fun hE => ?_) (fun hE => ?_)
    · exact w_C_Law_of_B44 hM hR F _ _ _  hE
    · refine k_iincE (pc := 38) (k := 2) (d := 1) (lv' := fun x13 => [(2, .int x13), (0, .ref a0), (1, .ref (v + 31))]) hC dX16_of_38 rfl (by decide) (by rw [hnL]; decide) hE (fun _ => rfl) (fun x13 hE => ?_)
      refine k_goto (pc := 41) (tgt := 7) hC dX16_of_41 (by decide) ?_
      refine k_sub [1, 2, 0] rfl ?_
      exact hk7 _ _ _  hE
theorem w_C_Law_of_L7 {X : Ctx} {D : Dd} {v : Nat} {T : Th} {out : Int32 × Ji} (hM : Vx X cX16_of RX16 D v 4 rmC_Law_of) (hR : Rt X (some .int) (VP D v out.2 T) (some (.int out.1)) 0 0) (F : Nat) (n : Nat) : ∀ (a0 : Nat) (a2 : Int32) (J : Ji) , C_Law_of_L7 F T n a0 a2 J = some out → Wk X 0 0 (VP D v J T) 7 [(0, .ref a0), (1, .ref (v + 31)), (2, .int a2)] [] := by
  induction n with
  | zero => intro a0 a2 J h; cases h
  | succ n ih => intro a0 a2 J h; exact w_C_Law_of_B7 hM hR F (C_Law_of_L7 F T n) ih a0 a2 J h
set_option maxHeartbeats 4000000 in
theorem w_C_Law_of {X : Ctx} {D : Dd} {v : Nat} {T : Th} {out : Int32 × Ji} (hM : Vx X cX16_of RX16 D v 4 rmC_Law_of) (hR : Rt X (some .int) (VP D v out.2 T) (some (.int out.1)) 0 0) (F : Nat) (a0 : Nat) (J : Ji) (hE : C_Law_of F T a0 J = some out) : Wk X 0 0 (VP D v J T) 0 [(0, .ref a0), (1, .ref (v + 31))] [] := by
  have hC := hM.1
  have hnL := hM.2.2.1
  have hrm := hM.2.2.2
  have hDy : ∀ {J : Ji} (H : Heap), VP D v J T H → Dy D T H := fun _ h => h.2.1
  unfold C_Law_of at hE
  refine k_aload_n (pc := 0) hC dX16_of_0 rfl 1 rfl ?_
  refine k_iconst (pc := 1) (v := 0) hC dX16_of_1 (by decide) ?_
  refine pV_X16_23 (pc := 2) 31 lv_31 (by decide) hM dX16_of_2 hE (fun J1 hE => ?_)
  refine k_iconst (pc := 5) (v := 0) hC dX16_of_5 (by decide) ?_
  refine k_istore_n (pc := 6) (lv' := [(2, .int 0), (0, .ref a0), (1, .ref (v + 31))]) hC dX16_of_6 rfl (by rw [hnL]; decide) rfl ?_
  refine k_sub [1, 2, 0] rfl ?_
  exact w_C_Law_of_L7 hM hR F _ _ _ _  hE
theorem ct_C_Law_of (l : Launch) (D : Dd) (A : Nat → Prop) (v : Nat) (T : Th) (hA : ∀ (off : Nat) (kd : Kd), layV off = some kd → A (v + off)) (F : Nat) (a0 : Nat) (J : Ji) (out : Int32 × Ji) (hE : C_Law_of F T a0 J = some out) : Ct l yX16_of (ws_ yX16_of cX16_of 4 (some .int)) rmC_Law_of vwCl arTy D A [.ref a0, .ref (v + 31)] (VP D v J T) (VP D v out.2 T) (some (.int out.1)) 0 0 := by
  refine Ct.of (by decide) (Nat.le_of_ble_eq_true rfl) rfl ?_
  intro X hl hrm hC hR hXA hnL _
  exact w_C_Law_of ⟨hC, by unfold Ft; rw [hXA]; exact hA, hnL, hrm⟩ hR F a0 J hE
theorem cw_C_Law_of_X6 {X : Ctx} {cc : ByteArray} {D : Dd} {rm : Room} (hC : Cx X cc RX6 vwCl arTy D) (hrm : X.2.2.2.1 = rm) (h1 : rmC_Law_of.frames + 1 ≤ rm.frames) (h2 : 8 + (4 + 11) + rmC_Law_of.locals ≤ rm.locals) : CallW X.2.2.2.1 X.2.2.2.2.1 X.2.2.2.2.2.2.1 RX6 RX16 139 yX16_of cX16_of 4 (some .int) (ws_ yX16_of cX16_of 4 (some .int)) rmC_Law_of 0 0 1 := cwV 1 (cx_w hC) (lw_V q1394 q1395 q1396 q147 q1397) rfl rfl rfl (by decide +kernel) (by rw [hrm]; exact ⟨h1, h2⟩)
abbrev rmP_next : Room := { frames := 502, cells := 0, slots := 0, locals := 12046 }
set_option maxHeartbeats 4000000 in
theorem w_P_next {X : Ctx} {i : Nat} {D : Dd} {v : Nat} {T : Th} {out : Int32 × Ji} (hM : Vx X cX6_next RX6 D v 7 rmP_next) (hR : Rt X (some .int) (VP D v out.2 T) (some (.int out.1)) 0 0) (hi : i < 6) (F : Nat) (a1 : Nat) (a3 : Int32) (a4 : Int32) (J : Ji) (hE : P_next F T i a1 a3 a4 J = some out) : Wk X 0 0 (VP D v J T) 0 [(0, .ref (v + (25 + i))), (1, .ref a1), (2, .ref (v + 0)), (3, .int a3), (4, .int a4)] [] := by
  have hC := hM.1
  have hnL := hM.2.2.1
  have hrm := hM.2.2.2
  have hDy : ∀ {J : Ji} (H : Heap), VP D v J T H → Dy D T H := fun _ h => h.2.1
  unfold P_next at hE
  refine k_aload_n (pc := 0) hC dX6_next_0 rfl 1 rfl ?_
  refine gD_X6_44_X4 (pc := 1) hC hDy dX6_next_1 hE (fun x1 hE => ?_)
  refine k_iload_n (pc := 4) hC dX6_next_4 rfl 3 rfl ?_
  refine k_nn (G := fun z => Wk X 0 0 (VP D v J T) 5 [(0, .ref (v + (25 + i))), (1, .ref a1), (2, .ref (v + 0)), (3, .int a3), (4, .int a4)] [.int a3, z]) hE (fun b2 hE => ?_)
  refine t_callVR (pc := 5) (As := [.int a3]) 19 (fun r => r) hC hDy cl_J5 (cw_L_get_X6 hC hrm (Nat.le_of_ble_eq_true rfl) (Nat.le_of_ble_eq_true rfl)) rfl rfl (Nat.le_of_ble_eq_true rfl) ⟨Nat.zero_le _, Nat.zero_le _⟩ dX6_next_5 hE (fun r h => ct_L_get _ _ _ _ T hDy b2 a3 r h) (fun r3 hE => ?_)
  refine k_nn (G := fun z => Wk X 0 0 (VP D v J T) 8 [(0, .ref (v + (25 + i))), (1, .ref a1), (2, .ref (v + 0)), (3, .int a3), (4, .int a4)] [z]) hE (fun b4 hE => ?_)
  refine dy_castS (pc := 8) hC hDy cl_X15 q1371 dX6_next_8 hE (fun hE => ?_)
  refine gD_X6_119_X15 (pc := 11) hC hDy dX6_next_11 hE (fun x5 hE => ?_)
  refine k_astoreR (pc := 14) (lv' := [(5, va_rf x5), (0, .ref (v + (25 + i))), (1, .ref a1), (2, .ref (v + 0)), (3, .int a3), (4, .int a4)]) hC dX6_next_14 (by rw [hnL]; decide) rfl ?_
  refine k_aloadR (pc := 16) hC dX6_next_16 0 rfl ?_
  refine k_rc (G := fun z => Wk X 0 0 (VP D v J T) 18 [(5, z), (0, .ref (v + (25 + i))), (1, .ref a1), (2, .ref (v + 0)), (3, .int a3), (4, .int a4)] [z]) hE (fun hE => ?_) (fun b6 hE => ?_)
  · refine k_ifnonnullN (pc := 18) hC dX6_next_18 ?_
    refine k_aload_n (pc := 21) hC dX6_next_21 rfl 1 rfl ?_
    refine gV_X6_37 (pc := 22) (25 + i) (lv_slp hi) hM dX6_next_22 ?_
    exact k_iret (pc := 25) hC hR ⟨Nat.le_refl 0, Nat.le_refl 0⟩ dX6_next_25 (by cases hE; rfl) (by cases hE; exact fun _ h => h)
  · refine k_ifnonnull (pc := 18) (tgt := 26) hC dX6_next_18 (by decide) ?_
    refine k_aload_n (pc := 26) hC dX6_next_26 rfl 3 rfl ?_
    refine gV_X6_123 (pc := 27) 0 lv_0 hM dX6_next_27 ?_
    refine k_astore (pc := 30) (lv' := [(6, .ref (v + 31)), (5, .ref b6), (0, .ref (v + (25 + i))), (1, .ref a1), (2, .ref (v + 0)), (3, .int a3), (4, .int a4)]) hC dX6_next_30 (by rw [hnL]; decide) rfl ?_
    refine k_aload (pc := 32) hC dX6_next_32 0 rfl ?_
    refine gV_X6_127 (pc := 34) 31 lv_31 hM dX6_next_34 ?_
    refine k_iconst (pc := 37) (v := 0) hC dX6_next_37 (by decide) ?_
    refine k_aload_n (pc := 38) hC dX6_next_38 rfl 2 rfl ?_
    refine gV_X6_37 (pc := 39) (25 + i) (lv_slp hi) hM dX6_next_39 ?_
    refine v_iast (pc := 42) 32 lv_32 hM dX6_next_42 hE (fun J7 hE => ?_)
    refine k_aload (pc := 43) hC dX6_next_43 0 rfl ?_
    refine gV_X6_127 (pc := 45) 31 lv_31 hM dX6_next_45 ?_
    refine k_iconst (pc := 48) (v := 1) hC dX6_next_48 (by decide) ?_
    refine k_aload_n (pc := 49) hC dX6_next_49 rfl 4 rfl ?_
    refine gV_X6_132 (pc := 50) 0 lv_0 hM dX6_next_50 ?_
    refine k_aload_n (pc := 53) hC dX6_next_53 rfl 2 rfl ?_
    refine gV_X6_31 (pc := 54) (25 + i) (lv_slp hi) hM dX6_next_54 ?_
    refine v_aald (pc := 57) 1 lv_1 (by simp [arTy]) rfl hM dX6_next_57 hE (fun q8 hq8 hE => ?_)
    refine k_aload_n (pc := 58) hC dX6_next_58 rfl 2 rfl ?_
    refine gV_X6_37 (pc := 59) (25 + i) (lv_slp hi) hM dX6_next_59 ?_
    refine v_iald (pc := 62) (2 + q8) (lv_done hq8) hM dX6_next_62 hE (fun x9 hE => ?_)
    refine v_iast (pc := 63) 32 lv_32 hM dX6_next_63 hE (fun J10 hE => ?_)
    refine k_aload (pc := 64) hC dX6_next_64 0 rfl ?_
    refine gV_X6_127 (pc := 66) 31 lv_31 hM dX6_next_66 ?_
    refine k_iconst (pc := 69) (v := 2) hC dX6_next_69 (by decide) ?_
    refine k_aload_n (pc := 70) hC dX6_next_70 rfl 3 rfl ?_
    refine gD_X6_61_X4 (pc := 71) hC hDy dX6_next_71 hE (fun x11 hE => ?_)
    refine k_aload_n (pc := 74) hC dX6_next_74 rfl 2 rfl ?_
    refine gV_X6_31 (pc := 75) (25 + i) (lv_slp hi) hM dX6_next_75 ?_
    refine k_nn (G := fun z => Wk X 0 0 (VP D v J10 T) 78 [(6, .ref (v + 31)), (5, .ref b6), (0, .ref (v + (25 + i))), (1, .ref a1), (2, .ref (v + 0)), (3, .int a3), (4, .int a4)] [.int (J10 (25 + i) 1), z, .int 2, .ref (v + 32)]) hE (fun b12 hE => ?_)
    refine t_callVR (pc := 78) (As := [.int (J10 (25 + i) 1)]) 19 (fun r => r) hC hDy cl_J5 (cw_L_get_X6 hC hrm (Nat.le_of_ble_eq_true rfl) (Nat.le_of_ble_eq_true rfl)) rfl rfl (Nat.le_of_ble_eq_true rfl) ⟨Nat.zero_le _, Nat.zero_le _⟩ dX6_next_78 hE (fun r h => ct_L_get _ _ _ _ T hDy b12 (J10 (25 + i) 1) r h) (fun r13 hE => ?_)
    refine k_nn (G := fun z => Wk X 0 0 (VP D v J10 T) 81 [(6, .ref (v + 31)), (5, .ref b6), (0, .ref (v + (25 + i))), (1, .ref a1), (2, .ref (v + 0)), (3, .int a3), (4, .int a4)] [z, .int 2, .ref (v + 32)]) hE (fun b14 hE => ?_)
    refine dy_castS (pc := 81) hC hDy cl_X13 q1372 dX6_next_81 hE (fun hE => ?_)
    refine gD_X6_90_X13 (pc := 84) hC hDy dX6_next_84 hE (fun x15 hE => ?_)
    refine k_nn (G := fun z => Wk X 0 0 (VP D v J10 T) 87 [(6, .ref (v + 31)), (5, .ref b6), (0, .ref (v + (25 + i))), (1, .ref a1), (2, .ref (v + 0)), (3, .int a3), (4, .int a4)] [z, .int 2, .ref (v + 32)]) hE (fun b16 hE => ?_)
    refine t_callVI (pc := 87) (As := []) 19 (fun r => r) hC hDy cl_J5 (cw_L_size_X6 hC hrm (Nat.le_of_ble_eq_true rfl) (Nat.le_of_ble_eq_true rfl)) rfl rfl (Nat.le_of_ble_eq_true rfl) ⟨Nat.zero_le _, Nat.zero_le _⟩ dX6_next_87 hE (fun r h => ct_L_size _ _ _ _ T hDy b16 r h) (fun r17 hE => ?_)
    refine v_iast (pc := 90) 32 lv_32 hM dX6_next_90 hE (fun J18 hE => ?_)
    refine k_aload (pc := 91) hC dX6_next_91 0 rfl ?_
    refine gV_X6_127 (pc := 93) 31 lv_31 hM dX6_next_93 ?_
    refine k_iconst (pc := 96) (v := 3) hC dX6_next_96 (by decide) ?_
    refine k_iload (pc := 97) hC dX6_next_97 6 rfl ?_
    refine v_iast (pc := 99) 32 lv_32 hM dX6_next_99 hE (fun J19 hE => ?_)
    refine k_aload (pc := 100) hC dX6_next_100 0 rfl ?_
    refine gV_X6_127 (pc := 102) 31 lv_31 hM dX6_next_102 ?_
    refine k_iconst (pc := 105) (v := 4) hC dX6_next_105 (by decide) ?_
    refine k_aload_n (pc := 106) hC dX6_next_106 rfl 4 rfl ?_
    refine gV_X6_109 (pc := 107) 0 lv_0 hM dX6_next_107 ?_
    refine k_aload_n (pc := 110) hC dX6_next_110 rfl 2 rfl ?_
    refine gV_X6_31 (pc := 111) (25 + i) (lv_slp hi) hM dX6_next_111 ?_
    refine v_iald (pc := 114) 8 lv_8 hM dX6_next_114 hE (fun x20 hE => ?_)
    refine v_iast (pc := 115) 32 lv_32 hM dX6_next_115 hE (fun J21 hE => ?_)
    refine k_aload (pc := 116) hC dX6_next_116 0 rfl ?_
    refine gV_X6_127 (pc := 118) 31 lv_31 hM dX6_next_118 ?_
    refine k_iconst (pc := 121) (v := 5) hC dX6_next_121 (by decide) ?_
    refine k_aload_n (pc := 122) hC dX6_next_122 rfl 4 rfl ?_
    refine gV_X6_9 (pc := 123) 0 lv_0 hM dX6_next_123 ?_
    refine k_iload_n (pc := 126) hC dX6_next_126 rfl 5 rfl ?_
    refine v_iald (pc := 127) 12 lv_12 hM dX6_next_127 hE (fun x22 hE => ?_)
    refine v_iast (pc := 128) 32 lv_32 hM dX6_next_128 hE (fun J23 hE => ?_)
    refine k_aload (pc := 129) hC dX6_next_129 1 rfl ?_
    refine k_aload (pc := 131) hC dX6_next_131 0 rfl ?_
    refine vt_callI (pc := 133) (As := [.ref (v + 31)]) 15 (fun r => r.1) (fun r => r.2) cl_X16 hM (cw_C_Law_of_X6 hC hrm (Nat.le_of_ble_eq_true rfl) (Nat.le_of_ble_eq_true rfl)) rfl rfl (Nat.le_of_ble_eq_true rfl) dX6_next_133 hE (fun r h => ct_C_Law_of _ _ _ _ _ hM.2.1 F b6 J23 r h) (fun r24 hE => ?_)
    exact k_iret (pc := 136) hC hR ⟨Nat.le_refl 0, Nat.le_refl 0⟩ dX6_next_136 (by cases hE; rfl) (by cases hE; exact fun _ h => h)
theorem ct_P_next (l : Launch) (D : Dd) (A : Nat → Prop) (v : Nat) (T : Th) (hA : ∀ (off : Nat) (kd : Kd), layV off = some kd → A (v + off)) {i : Nat} (hi : i < 6) (F : Nat) (_ : Nat) (a1 : Nat) (a3 : Int32) (a4 : Int32) (J : Ji) (out : Int32 × Ji) (hE : P_next F T i a1 a3 a4 J = some out) : Ct l yX6_next (ws_ yX6_next cX6_next 7 (some .int)) rmP_next vwCl arTy D A [.ref (v + (25 + i)), .ref a1, .ref (v + 0), .int a3, .int a4] (VP D v J T) (VP D v out.2 T) (some (.int out.1)) 0 0 := by
  refine Ct.of (by decide) (Nat.le_of_ble_eq_true rfl) rfl ?_
  intro X hl hrm hC hR hXA hnL _
  exact w_P_next ⟨hC, by unfold Ft; rw [hXA]; exact hA, hnL, hrm⟩ hR hi F a1 a3 a4 J hE
theorem cw_P_next_X6 {X : Ctx} {cc : ByteArray} {D : Dd} {rm : Room} (hC : Cx X cc RX6 vwCl arTy D) (hrm : X.2.2.2.1 = rm) (h1 : rmP_next.frames + 1 ≤ rm.frames) (h2 : 8 + (7 + 11) + rmP_next.locals ≤ rm.locals) : CallW X.2.2.2.1 X.2.2.2.2.1 X.2.2.2.2.2.2.1 RX6 RX6 105 yX6_next cX6_next 7 (some .int) (ws_ yX6_next cX6_next 7 (some .int)) rmP_next 0 0 4 := cwV 4 (cx_w hC) (lw_V q1389 q1391 qs39 q126 q1392) rfl rfl rfl (by decide +kernel) (by rw [hrm]; exact ⟨h1, h2⟩)
abbrev rmP_begins : Room := { frames := 503, cells := 0, slots := 0, locals := 12072 }
set_option maxHeartbeats 4000000 in
theorem w_P_begins_B115 {X : Ctx} {D : Dd} {v : Nat} {T : Th} {out : Ji} (hM : Vx X cX6_begins RX6 D v 8 rmP_begins) (hR : Rt X none (VP D v out T) none 0 0) (F : Nat) (qa0 : Nat) (a3 : Int32) (a4 : Int32) (J : Ji) (hqa0 : qa0 < 6) (hE : P_begins_B115 F T qa0 a3 a4 J = some out) : Wk X 0 0 (VP D v J T) 115 [(0, .ref (v + (25 + qa0))), (2, .ref (v + 0)), (3, .int a3), (4, .int a4)] [] := by
  have hC := hM.1
  have hnL := hM.2.2.1
  have hrm := hM.2.2.2
  have hDy : ∀ {J : Ji} (H : Heap), VP D v J T H → Dy D T H := fun _ h => h.2.1
  unfold P_begins_B115 at hE
  refine k_aload_n (pc := 115) hC dX6_begins_115 rfl 0 rfl ?_
  refine k_aload_n (pc := 116) hC dX6_begins_116 rfl 1 rfl ?_
  refine k_iload_n (pc := 117) hC dX6_begins_117 rfl 2 rfl ?_
  refine k_iload (pc := 118) hC dX6_begins_118 3 rfl ?_
  refine v_callV (pc := 120) (As := [.ref (v + 0), .int a3, .int a4]) (fun r => r) (25 + qa0) (lv_slp hqa0) cl_X6 hM (cw_P_liesDown_X6 hC hrm (Nat.le_of_ble_eq_true rfl) (Nat.le_of_ble_eq_true rfl)) rfl rfl (Nat.le_of_ble_eq_true rfl) dX6_begins_120 hE (fun r h => ct_P_liesDown _ _ _ _ _ hM.2.1 hqa0 qa0 a3 a4 J r h) (fun r28 hE => ?_)
  exact k_vret (pc := 123) hC hR ⟨Nat.le_refl 0, Nat.le_refl 0⟩ dX6_begins_123 (by cases hE; rfl) (by cases hE; exact fun _ h => h)
set_option maxHeartbeats 4000000 in
theorem w_P_begins_B174 {X : Ctx} {D : Dd} {v : Nat} {T : Th} {out : Ji} (hM : Vx X cX6_begins RX6 D v 8 rmP_begins) (hR : Rt X none (VP D v out T) none 0 0) (F : Nat) (qa0 : Nat) (a4 : Int32) (a5 : Nat) (a6 : Int32) (J : Ji) (hqa0 : qa0 < 6) (hE : P_begins_B174 F T qa0 a4 a5 a6 J = some out) : Wk X 0 0 (VP D v J T) 174 [(0, .ref (v + (25 + qa0))), (4, .int a4), (5, .ref a5), (6, .int a6)] [] := by
  have hC := hM.1
  have hnL := hM.2.2.1
  have hrm := hM.2.2.2
  have hDy : ∀ {J : Ji} (H : Heap), VP D v J T H → Dy D T H := fun _ h => h.2.1
  unfold P_begins_B174 at hE
  refine k_aload_n (pc := 174) hC dX6_begins_174 rfl 0 rfl ?_
  refine k_iload (pc := 175) hC dX6_begins_175 3 rfl ?_
  refine pV_X6_80 (pc := 177) (25 + qa0) (lv_slp hqa0) hM dX6_begins_177 hE (fun J20 hE => ?_)
  refine k_aload_n (pc := 180) hC dX6_begins_180 rfl 0 rfl ?_
  refine k_iload (pc := 181) hC dX6_begins_181 1 rfl ?_
  refine k_aload (pc := 183) hC dX6_begins_183 2 rfl ?_
  refine gD_X6_90_X13 (pc := 185) hC hDy dX6_begins_185 hE (fun x21 hE => ?_)
  refine k_iload (pc := 188) hC dX6_begins_188 3 rfl ?_
  refine k_nn (G := fun z => Wk X 0 0 (VP D v J20 T) 190 [(0, .ref (v + (25 + qa0))), (4, .int a4), (5, .ref a5), (6, .int a6)] [.int a6, z, .int a4, .ref (v + (25 + qa0))]) hE (fun b22 hE => ?_)
  refine t_callVR (pc := 190) (As := [.int a6]) 19 (fun r => r) hC hDy cl_J5 (cw_L_get_X6 hC hrm (Nat.le_of_ble_eq_true rfl) (Nat.le_of_ble_eq_true rfl)) rfl rfl (Nat.le_of_ble_eq_true rfl) ⟨Nat.zero_le _, Nat.zero_le _⟩ dX6_begins_190 hE (fun r h => ct_L_get _ _ _ _ T hDy b22 a6 r h) (fun r23 hE => ?_)
  refine k_nn (G := fun z => Wk X 0 0 (VP D v J20 T) 193 [(0, .ref (v + (25 + qa0))), (4, .int a4), (5, .ref a5), (6, .int a6)] [z, .int a4, .ref (v + (25 + qa0))]) hE (fun b24 hE => ?_)
  refine dy_castS (pc := 193) hC hDy cl_X14 q1383 dX6_begins_193 hE (fun hE => ?_)
  refine gD_X6_116_X14 (pc := 196) hC hDy dX6_begins_196 hE (fun x25 hE => ?_)
  refine k_iadd (pc := 199) hC dX6_begins_199 ?_
  refine pV_X6_77 (pc := 200) (25 + qa0) (lv_slp hqa0) hM dX6_begins_200 hE (fun J26 hE => ?_)
  refine k_aload_n (pc := 203) hC dX6_begins_203 rfl 0 rfl ?_
  refine k_iconst (pc := 204) (v := 2) hC dX6_begins_204 (by decide) ?_
  refine pV_X6_24 (pc := 205) (25 + qa0) (lv_slp hqa0) hM dX6_begins_205 hE (fun J27 hE => ?_)
  exact k_vret (pc := 208) hC hR ⟨Nat.le_refl 0, Nat.le_refl 0⟩ dX6_begins_208 (by cases hE; rfl) (by cases hE; exact fun _ h => h)
set_option maxHeartbeats 4000000 in
theorem w_P_begins_B143 {X : Ctx} {D : Dd} {v : Nat} {T : Th} {out : Ji} (hM : Vx X cX6_begins RX6 D v 8 rmP_begins) (hR : Rt X none (VP D v out T) none 0 0) (F : Nat) (qa0 : Nat) (a4 : Int32) (a5 : Nat) (a6 : Int32) (a7 : Int32) (J : Ji) (hqa0 : qa0 < 6) (hE : P_begins_B143 F T qa0 a4 a5 a6 a7 J = some out) : Wk X 0 0 (VP D v J T) 143 [(0, .ref (v + (25 + qa0))), (2, .ref (v + 0)), (4, .int a4), (5, .ref a5), (6, .int a6), (7, .int a7)] [] := by
  have hC := hM.1
  have hnL := hM.2.2.1
  have hrm := hM.2.2.2
  have hDy : ∀ {J : Ji} (H : Heap), VP D v J T H → Dy D T H := fun _ h => h.2.1
  unfold P_begins_B143 at hE
  refine k_aload_n (pc := 143) hC dX6_begins_143 rfl 1 rfl ?_
  refine gV_X6_109 (pc := 144) 0 lv_0 hM dX6_begins_144 ?_
  refine k_aload_n (pc := 147) hC dX6_begins_147 rfl 0 rfl ?_
  refine gV_X6_31 (pc := 148) (25 + qa0) (lv_slp hqa0) hM dX6_begins_148 ?_
  refine k_dup2 (pc := 151) hC dX6_begins_151 rfl rfl ?_
  refine v_iald (pc := 152) 8 lv_8 hM dX6_begins_152 hE (fun x17 hE => ?_)
  refine k_iconst (pc := 153) (v := 1) hC dX6_begins_153 (by decide) ?_
  refine k_isub (pc := 154) hC dX6_begins_154 ?_
  refine v_iast (pc := 155) 8 lv_8 hM dX6_begins_155 hE (fun J18 hE => ?_)
  refine k_iload (pc := 156) hC dX6_begins_156 5 rfl ?_
  refine k_if_lt (pc := 158) (tgt := 174) hC dX6_begins_158 (by decide) hE (fun hE => ?_) (fun hE => ?_)
  · refine k_sub [0, 2, 3, 4] rfl ?_
    exact w_P_begins_B174 hM hR F _ _ _ _ _ hqa0 hE
  · refine k_aload_n (pc := 161) hC dX6_begins_161 rfl 1 rfl ?_
    refine k_dup (pc := 162) hC dX6_begins_162 rfl ?_
    refine gV_X6_98 (pc := 163) 0 lv_0 hM dX6_begins_163 ?_
    refine k_iconst (pc := 166) (v := 1) hC dX6_begins_166 (by decide) ?_
    refine k_iload (pc := 167) hC dX6_begins_167 5 rfl ?_
    refine k_ishl (pc := 169) hC dX6_begins_169 ?_
    refine k_ior (pc := 170) hC dX6_begins_170 ?_
    refine pV_X6_98 (pc := 171) 0 lv_0 hM dX6_begins_171 hE (fun J19 hE => ?_)
    refine k_sub [0, 2, 3, 4] rfl ?_
    exact w_P_begins_B174 hM hR F _ _ _ _ _ hqa0 hE
set_option maxHeartbeats 4000000 in
theorem w_P_begins_B124 {X : Ctx} {D : Dd} {v : Nat} {T : Th} {out : Ji} (hM : Vx X cX6_begins RX6 D v 8 rmP_begins) (hR : Rt X none (VP D v out T) none 0 0) (F : Nat) (qa0 : Nat) (a4 : Int32) (a5 : Nat) (a6 : Int32) (a7 : Int32) (J : Ji) (hqa0 : qa0 < 6) (hE : P_begins_B124 F T qa0 a4 a5 a6 a7 J = some out) : Wk X 0 0 (VP D v J T) 124 [(0, .ref (v + (25 + qa0))), (2, .ref (v + 0)), (4, .int a4), (5, .ref a5), (6, .int a6), (7, .int a7)] [] := by
  have hC := hM.1
  have hnL := hM.2.2.1
  have hrm := hM.2.2.2
  have hDy : ∀ {J : Ji} (H : Heap), VP D v J T H → Dy D T H := fun _ h => h.2.1
  unfold P_begins_B124 at hE
  refine k_iload (pc := 124) hC dX6_begins_124 5 rfl ?_
  refine k_if_lt (pc := 126) (tgt := 143) hC dX6_begins_126 (by decide) hE (fun hE => ?_) (fun hE => ?_)
  · exact w_P_begins_B143 hM hR F _ _ _ _ _ _ hqa0 hE
  · refine k_aload_n (pc := 129) hC dX6_begins_129 rfl 1 rfl ?_
    refine gV_X6_98 (pc := 130) 0 lv_0 hM dX6_begins_130 ?_
    refine k_iload (pc := 133) hC dX6_begins_133 5 rfl ?_
    refine k_ishr (pc := 135) hC dX6_begins_135 ?_
    refine k_iconst (pc := 136) (v := 1) hC dX6_begins_136 (by decide) ?_
    refine k_iand (pc := 137) hC dX6_begins_137 ?_
    refine k_iconst (pc := 138) (v := 1) hC dX6_begins_138 (by decide) ?_
    refine k_icmp_ne (pc := 139) (tgt := 143) hC dX6_begins_139 (by decide) hE (fun hE => ?_) (fun hE => ?_)
    · exact k_vret (pc := 142) hC hR ⟨Nat.le_refl 0, Nat.le_refl 0⟩ dX6_begins_142 (by cases hE; rfl) (by cases hE; exact fun _ h => h)
    · exact w_P_begins_B143 hM hR F _ _ _ _ _ _ hqa0 hE
set_option maxHeartbeats 4000000 in
theorem w_P_begins {X : Ctx} {i : Nat} {D : Dd} {v : Nat} {T : Th} {out : Ji} (hM : Vx X cX6_begins RX6 D v 8 rmP_begins) (hR : Rt X none (VP D v out T) none 0 0) (hi : i < 6) (F : Nat) (a1 : Nat) (a3 : Int32) (a4 : Int32) (J : Ji) (hE : P_begins F T i a1 a3 a4 J = some out) : Wk X 0 0 (VP D v J T) 0 [(0, .ref (v + (25 + i))), (1, .ref a1), (2, .ref (v + 0)), (3, .int a3), (4, .int a4)] [] := by
  have hC := hM.1
  have hnL := hM.2.2.1
  have hrm := hM.2.2.2
  have hDy : ∀ {J : Ji} (H : Heap), VP D v J T H → Dy D T H := fun _ h => h.2.1
  unfold P_begins at hE
  refine k_aload_n (pc := 0) hC dX6_begins_0 rfl 0 rfl ?_
  refine gV_X6_24 (pc := 1) (25 + i) (lv_slp hi) hM dX6_begins_1 ?_
  refine k_iconst (pc := 4) (v := 1) hC dX6_begins_4 (by decide) ?_
  refine k_icmp_ne (pc := 5) (tgt := 17) hC dX6_begins_5 (by decide) hE (fun hE => ?_) (fun hE => ?_)
  · refine k_iload (pc := 8) hC dX6_begins_8 4 rfl ?_
    refine k_aload_n (pc := 10) hC dX6_begins_10 rfl 0 rfl ?_
    refine gV_X6_69 (pc := 11) (25 + i) (lv_slp hi) hM dX6_begins_11 ?_
    refine k_icmp_ge (pc := 14) (tgt := 18) hC dX6_begins_14 (by decide) hE (fun hE => ?_) (fun hE => ?_)
    · refine k_aload_n (pc := 18) hC dX6_begins_18 rfl 1 rfl ?_
      refine gD_X6_61_X4 (pc := 19) hC hDy dX6_begins_19 hE (fun x1 hE => ?_)
      refine k_aload_n (pc := 22) hC dX6_begins_22 rfl 0 rfl ?_
      refine gV_X6_31 (pc := 23) (25 + i) (lv_slp hi) hM dX6_begins_23 ?_
      refine k_nn (G := fun z => Wk X 0 0 (VP D v J T) 26 [(0, .ref (v + (25 + i))), (1, .ref a1), (2, .ref (v + 0)), (3, .int a3), (4, .int a4)] [.int (J (25 + i) 1), z]) hE (fun b2 hE => ?_)
      refine t_callVR (pc := 26) (As := [.int (J (25 + i) 1)]) 19 (fun r => r) hC hDy cl_J5 (cw_L_get_X6 hC hrm (Nat.le_of_ble_eq_true rfl) (Nat.le_of_ble_eq_true rfl)) rfl rfl (Nat.le_of_ble_eq_true rfl) ⟨Nat.zero_le _, Nat.zero_le _⟩ dX6_begins_26 hE (fun r h => ct_L_get _ _ _ _ T hDy b2 (J (25 + i) 1) r h) (fun r3 hE => ?_)
      refine k_nn (G := fun z => Wk X 0 0 (VP D v J T) 29 [(0, .ref (v + (25 + i))), (1, .ref a1), (2, .ref (v + 0)), (3, .int a3), (4, .int a4)] [z]) hE (fun b4 hE => ?_)
      refine dy_castS (pc := 29) hC hDy cl_X13 q1372 dX6_begins_29 hE (fun hE => ?_)
      refine k_astore (pc := 32) (lv' := [(5, .ref b4), (0, .ref (v + (25 + i))), (1, .ref a1), (2, .ref (v + 0)), (3, .int a3), (4, .int a4)]) hC dX6_begins_32 (by rw [hnL]; decide) rfl ?_
      refine k_aload_n (pc := 34) hC dX6_begins_34 rfl 1 rfl ?_
      refine k_aload_n (pc := 35) hC dX6_begins_35 rfl 3 rfl ?_
      refine k_aload_n (pc := 36) hC dX6_begins_36 rfl 2 rfl ?_
      refine k_aload_n (pc := 37) hC dX6_begins_37 rfl 1 rfl ?_
      refine gV_X6_31 (pc := 38) (25 + i) (lv_slp hi) hM dX6_begins_38 ?_
      refine v_callI (pc := 41) (As := [.ref a1, .int (J (25 + i) 1)]) (fun r => r) (fun r => J) 0 lv_0 cl_X5 hM (cw_V_isEnded_X6 hC hrm (Nat.le_of_ble_eq_true rfl) (Nat.le_of_ble_eq_true rfl)) rfl rfl (Nat.le_of_ble_eq_true rfl) dX6_begins_41 hE (fun r h => ct_V_isEnded _ _ _ _ _ hM.2.1 F a1 (J (25 + i) 1) J r h) (fun r5 hE => ?_)
      obtain ⟨z7, hz, hE⟩ := ob_ hE
      obtain ⟨hz1, hz⟩ := bz_some hz
      rw [hz1]
      refine pV_X6_18 (pc := 44) (25 + i) (lv_slp hi) hz hM dX6_begins_44 hE (fun J6 hE => ?_)
      refine k_aload_n (pc := 47) hC dX6_begins_47 rfl 1 rfl ?_
      refine k_aload_n (pc := 48) hC dX6_begins_48 rfl 2 rfl ?_
      refine k_aload_n (pc := 49) hC dX6_begins_49 rfl 3 rfl ?_
      refine k_iload_n (pc := 50) hC dX6_begins_50 rfl 4 rfl ?_
      refine k_iload (pc := 51) hC dX6_begins_51 5 rfl ?_
      refine v_callI (pc := 53) (As := [.ref a1, .ref (v + 0), .int a3, .int a4]) (fun r => r.1) (fun r => r.2) (25 + i) (lv_slp hi) cl_X6 hM (cw_P_next_X6 hC hrm (Nat.le_of_ble_eq_true rfl) (Nat.le_of_ble_eq_true rfl)) rfl rfl (Nat.le_of_ble_eq_true rfl) dX6_begins_53 hE (fun r h => ct_P_next _ _ _ _ _ hM.2.1 hi F i a1 a3 a4 J6 r h) (fun r8 hE => ?_)
      refine k_istore (pc := 56) (lv' := [(6, .int r8.1), (5, .ref b4), (0, .ref (v + (25 + i))), (1, .ref a1), (2, .ref (v + 0)), (3, .int a3), (4, .int a4)]) hC dX6_begins_56 (by rw [hnL]; decide) rfl ?_
      refine k_aload (pc := 58) hC dX6_begins_58 1 rfl ?_
      refine gD_X6_90_X13 (pc := 60) hC hDy dX6_begins_60 hE (fun x9 hE => ?_)
      refine k_iload (pc := 63) hC dX6_begins_63 0 rfl ?_
      refine k_nn (G := fun z => Wk X 0 0 (VP D v r8.2 T) 65 [(6, .int r8.1), (5, .ref b4), (0, .ref (v + (25 + i))), (1, .ref a1), (2, .ref (v + 0)), (3, .int a3), (4, .int a4)] [.int r8.1, z]) hE (fun b10 hE => ?_)
      refine t_callVR (pc := 65) (As := [.int r8.1]) 19 (fun r => r) hC hDy cl_J5 (cw_L_get_X6 hC hrm (Nat.le_of_ble_eq_true rfl) (Nat.le_of_ble_eq_true rfl)) rfl rfl (Nat.le_of_ble_eq_true rfl) ⟨Nat.zero_le _, Nat.zero_le _⟩ dX6_begins_65 hE (fun r h => ct_L_get _ _ _ _ T hDy b10 r8.1 r h) (fun r11 hE => ?_)
      refine k_nn (G := fun z => Wk X 0 0 (VP D v r8.2 T) 68 [(6, .int r8.1), (5, .ref b4), (0, .ref (v + (25 + i))), (1, .ref a1), (2, .ref (v + 0)), (3, .int a3), (4, .int a4)] [z]) hE (fun b12 hE => ?_)
      refine dy_castS (pc := 68) hC hDy cl_X14 q1383 dX6_begins_68 hE (fun hE => ?_)
      refine gD_X6_95_X14 (pc := 71) hC hDy dX6_begins_71 hE (fun x13 hE => ?_)
      refine k_istore (pc := 74) (lv' := [(7, .int x13), (6, .int r8.1), (5, .ref b4), (0, .ref (v + (25 + i))), (1, .ref a1), (2, .ref (v + 0)), (3, .int a3), (4, .int a4)]) hC dX6_begins_74 (by rw [hnL]; decide) rfl ?_
      refine k_aload_n (pc := 76) hC dX6_begins_76 rfl 3 rfl ?_
      refine gV_X6_18 (pc := 77) (25 + i) (lv_slp hi) hM dX6_begins_77 ?_
      refine k_if_ne (pc := 80) (tgt := 115) hC dX6_begins_80 (by decide) hE (fun hE => ?_) (fun hE => ?_)
      · refine k_aload_n (pc := 83) hC dX6_begins_83 rfl 5 rfl ?_
        refine gV_X6_109 (pc := 84) 0 lv_0 hM dX6_begins_84 ?_
        refine k_aload_n (pc := 87) hC dX6_begins_87 rfl 3 rfl ?_
        refine gV_X6_31 (pc := 88) (25 + i) (lv_slp hi) hM dX6_begins_88 ?_
        refine v_iald (pc := 91) 8 lv_8 hM dX6_begins_91 hE (fun x14 hE => ?_)
        refine k_if_eq (pc := 92) (tgt := 115) hC dX6_begins_92 (by decide) hE (fun hE => ?_) (fun hE => ?_)
        · refine k_sub [3, 5, 6, 7] rfl ?_
          exact w_P_begins_B115 hM hR F _ _ _ _ hi hE
        · refine k_iload (pc := 95) hC dX6_begins_95 0 rfl ?_
          refine k_if_lt (pc := 97) (tgt := 124) hC dX6_begins_97 (by decide) hE (fun hE => ?_) (fun hE => ?_)
          · refine k_sub [3, 5, 7, 2, 1, 0] rfl ?_
            exact w_P_begins_B124 hM hR F _ _ _ _ _ _ hi hE
          · refine k_aload_n (pc := 100) hC dX6_begins_100 rfl 5 rfl ?_
            refine k_iload (pc := 101) hC dX6_begins_101 0 rfl ?_
            refine k_aload (pc := 103) hC dX6_begins_103 2 rfl ?_
            refine gD_X6_66_X13 (pc := 105) hC hDy dX6_begins_105 hE (fun x15 hE => ?_)
            refine k_iload_n (pc := 108) hC dX6_begins_108 rfl 6 rfl ?_
            refine v_callI (pc := 109) (As := [.int x13, .int x15, .int a3]) (fun r => r) (fun r => r8.2) 0 lv_0 cl_X5 hM (cw_V_isToolThere_X6 hC hrm (Nat.le_of_ble_eq_true rfl) (Nat.le_of_ble_eq_true rfl)) rfl rfl (Nat.le_of_ble_eq_true rfl) dX6_begins_109 hE (fun r h => ct_V_isToolThere _ _ _ _ _ hM.2.1 x13 x15 a3 r8.2 r h) (fun r16 hE => ?_)
            refine k_if_ne (pc := 112) (tgt := 124) hC dX6_begins_112 (by decide) hE (fun hE => ?_) (fun hE => ?_)
            · refine k_sub [3, 5, 6, 7] rfl ?_
              exact w_P_begins_B115 hM hR F _ _ _ _ hi hE
            · refine k_sub [3, 5, 7, 2, 1, 0] rfl ?_
              exact w_P_begins_B124 hM hR F _ _ _ _ _ _ hi hE
      · refine k_sub [3, 5, 6, 7] rfl ?_
        exact w_P_begins_B115 hM hR F _ _ _ _ hi hE
    · exact k_vret (pc := 17) hC hR ⟨Nat.le_refl 0, Nat.le_refl 0⟩ dX6_begins_17 (by cases hE; rfl) (by cases hE; exact fun _ h => h)
  · exact k_vret (pc := 17) hC hR ⟨Nat.le_refl 0, Nat.le_refl 0⟩ dX6_begins_17 (by cases hE; rfl) (by cases hE; exact fun _ h => h)
theorem ct_P_begins (l : Launch) (D : Dd) (A : Nat → Prop) (v : Nat) (T : Th) (hA : ∀ (off : Nat) (kd : Kd), layV off = some kd → A (v + off)) {i : Nat} (hi : i < 6) (F : Nat) (_ : Nat) (a1 : Nat) (a3 : Int32) (a4 : Int32) (J : Ji) (out : Ji) (hE : P_begins F T i a1 a3 a4 J = some out) : Ct l yX6_begins (ws_ yX6_begins cX6_begins 8 none) rmP_begins vwCl arTy D A [.ref (v + (25 + i)), .ref a1, .ref (v + 0), .int a3, .int a4] (VP D v J T) (VP D v out T) none 0 0 := by
  refine Ct.of (by decide) (Nat.le_of_ble_eq_true rfl) rfl ?_
  intro X hl hrm hC hR hXA hnL _
  exact w_P_begins ⟨hC, by unfold Ft; rw [hXA]; exact hA, hnL, hrm⟩ hR hi F a1 a3 a4 J hE
theorem cw_P_begins_X5 {X : Ctx} {cc : ByteArray} {D : Dd} {rm : Room} (hC : Cx X cc RX5 vwCl arTy D) (hrm : X.2.2.2.1 = rm) (h1 : rmP_begins.frames + 1 ≤ rm.frames) (h2 : 8 + (8 + 11) + rmP_begins.locals ≤ rm.locals) : CallW X.2.2.2.1 X.2.2.2.2.1 X.2.2.2.2.2.2.1 RX5 RX6 178 yX6_begins cX6_begins 8 none (ws_ yX6_begins cX6_begins 8 none) rmP_begins 0 0 4 := cwV 4 (cx_w hC) (lw_V q1384 q1385 q1386 q126 q1387) rfl rfl rfl (by decide +kernel) (by rw [hrm]; exact ⟨h1, h2⟩)
abbrev rmV_nightTill : Room := { frames := 504, cells := 0, slots := 0, locals := 12099 }
set_option maxHeartbeats 4000000 in
theorem w_V_nightTill_B139 {X : Ctx} {D : Dd} {v : Nat} {T : Th} {out : Ji} (hM : Vx X cX5_nightTill RX5 D v 5 rmV_nightTill) (hR : Rt X none (VP D v out T) none 0 0) (F : Nat) (k139 : Nat → Int32 → Ji → Option (Ji)) (hk139 : ∀ (a1 : Nat) (a3 : Int32) (J : Ji) , k139 a1 a3 J = some out → Wk X 0 0 (VP D v J T) 139 [(0, .ref (v + 0)), (1, .ref a1), (3, .int a3)] []) (a1 : Nat) (a3 : Int32) (J : Ji) (hE : V_nightTill_B139 F k139 T a1 a3 J = some out) : Wk X 0 0 (VP D v J T) 139 [(0, .ref (v + 0)), (1, .ref a1), (3, .int a3)] [] := by
  have hC := hM.1
  have hnL := hM.2.2.1
  have hrm := hM.2.2.2
  have hDy : ∀ {J : Ji} (H : Heap), VP D v J T H → Dy D T H := fun _ h => h.2.1
  unfold V_nightTill_B139 at hE
  refine k_iload_n (pc := 139) hC dX5_nightTill_139 rfl 2 rfl ?_
  refine k_aload_n (pc := 140) hC dX5_nightTill_140 rfl 1 rfl ?_
  refine gD_X5_98_X4 (pc := 141) hC hDy dX5_nightTill_141 hE (fun x24 hE => ?_)
  refine k_nn (G := fun z => Wk X 0 0 (VP D v J T) 144 [(0, .ref (v + 0)), (1, .ref a1), (3, .int a3)] [z, .int a3]) hE (fun b25 hE => ?_)
  refine t_callVI (pc := 144) (As := []) 19 (fun r => r) hC hDy cl_J5 (cw_L_size_X5 hC hrm (Nat.le_of_ble_eq_true rfl) (Nat.le_of_ble_eq_true rfl)) rfl rfl (Nat.le_of_ble_eq_true rfl) ⟨Nat.zero_le _, Nat.zero_le _⟩ dX5_nightTill_144 hE (fun r h => ct_L_size _ _ _ _ T hDy b25 r h) (fun r26 hE => ?_)
  refine k_icmp_ge (pc := 147) (tgt := 167) hC dX5_nightTill_147 (by decide) hE (fun hE => ?_) (fun hE => ?_)
  · refine k_aload_n (pc := 167) hC dX5_nightTill_167 rfl 0 rfl ?_
    refine k_dup (pc := 168) hC dX5_nightTill_168 rfl ?_
    refine gV_X5_59 (pc := 169) 0 lv_0 hM dX5_nightTill_169 ?_
    refine k_iconst (pc := 172) (v := 1) hC dX5_nightTill_172 (by decide) ?_
    refine k_iadd (pc := 173) hC dX5_nightTill_173 ?_
    refine pV_X5_59 (pc := 174) 0 lv_0 hM dX5_nightTill_174 hE (fun J27 hE => ?_)
    exact k_vret (pc := 177) hC hR ⟨Nat.le_refl 0, Nat.le_refl 0⟩ dX5_nightTill_177 (by cases hE; rfl) (by cases hE; exact fun _ h => h)
  · refine k_aload_n (pc := 150) hC dX5_nightTill_150 rfl 0 rfl ?_
    refine gV_X5_44 (pc := 151) 0 lv_0 hM dX5_nightTill_151 ?_
    refine k_iload_n (pc := 154) hC dX5_nightTill_154 rfl 2 rfl ?_
    refine v_aald (pc := 155) 24 lv_24 (by simp [arTy]) rfl hM dX5_nightTill_155 hE (fun q28 hq28 hE => ?_)
    refine k_aload_n (pc := 156) hC dX5_nightTill_156 rfl 0 rfl ?_
    refine k_iload_n (pc := 157) hC dX5_nightTill_157 rfl 2 rfl ?_
    refine v_callV (pc := 158) (As := [.ref (v + 0), .int a3]) (fun r => r) (25 + q28) (lv_slp hq28) cl_X6 hM (cw_P_leaves_X5 hC hrm (Nat.le_of_ble_eq_true rfl) (Nat.le_of_ble_eq_true rfl)) rfl rfl (Nat.le_of_ble_eq_true rfl) dX5_nightTill_158 hE (fun r h => ct_P_leaves _ _ _ _ _ hM.2.1 hq28 q28 a3 J r h) (fun r29 hE => ?_)
    refine k_iincE (pc := 161) (k := 2) (d := 1) (lv' := fun x30 => [(3, .int x30), (0, .ref (v + 0)), (1, .ref a1)]) hC dX5_nightTill_161 rfl (by decide) (by rw [hnL]; decide) hE (fun _ => rfl) (fun x30 hE => ?_)
    refine k_goto (pc := 164) (tgt := 139) hC dX5_nightTill_164 (by decide) ?_
    refine k_sub [1, 2, 0] rfl ?_
    exact hk139 _ _ _  hE
theorem w_V_nightTill_L139 {X : Ctx} {D : Dd} {v : Nat} {T : Th} {out : Ji} (hM : Vx X cX5_nightTill RX5 D v 5 rmV_nightTill) (hR : Rt X none (VP D v out T) none 0 0) (F : Nat) (n : Nat) : ∀ (a1 : Nat) (a3 : Int32) (J : Ji) , V_nightTill_L139 F T n a1 a3 J = some out → Wk X 0 0 (VP D v J T) 139 [(0, .ref (v + 0)), (1, .ref a1), (3, .int a3)] [] := by
  induction n with
  | zero => intro a1 a3 J h; cases h
  | succ n ih => intro a1 a3 J h; exact w_V_nightTill_B139 hM hR F (V_nightTill_L139 F T n) ih a1 a3 J h
set_option maxHeartbeats 4000000 in
theorem w_V_nightTill_B98 {X : Ctx} {D : Dd} {v : Nat} {T : Th} {out : Ji} (hM : Vx X cX5_nightTill RX5 D v 5 rmV_nightTill) (hR : Rt X none (VP D v out T) none 0 0) (F : Nat) (k43 : Nat → Int32 → Int32 → Ji → Option (Ji)) (hk43 : ∀ (a1 : Nat) (a2 : Int32) (a3 : Int32) (J : Ji) , k43 a1 a2 a3 J = some out → Wk X 0 0 (VP D v J T) 43 [(0, .ref (v + 0)), (1, .ref a1), (2, .int a2), (3, .int a3)] []) (k98 : Nat → Int32 → Int32 → Int32 → Ji → Option (Ji)) (hk98 : ∀ (a1 : Nat) (a2 : Int32) (a3 : Int32) (a4 : Int32) (J : Ji) , k98 a1 a2 a3 a4 J = some out → Wk X 0 0 (VP D v J T) 98 [(0, .ref (v + 0)), (1, .ref a1), (2, .int a2), (3, .int a3), (4, .int a4)] []) (a1 : Nat) (a2 : Int32) (a3 : Int32) (a4 : Int32) (J : Ji) (hE : V_nightTill_B98 F k43 k98 T a1 a2 a3 a4 J = some out) : Wk X 0 0 (VP D v J T) 98 [(0, .ref (v + 0)), (1, .ref a1), (2, .int a2), (3, .int a3), (4, .int a4)] [] := by
  have hC := hM.1
  have hnL := hM.2.2.1
  have hrm := hM.2.2.2
  have hDy : ∀ {J : Ji} (H : Heap), VP D v J T H → Dy D T H := fun _ h => h.2.1
  unfold V_nightTill_B98 at hE
  refine k_iload (pc := 98) hC dX5_nightTill_98 4 rfl ?_
  refine k_aload_n (pc := 100) hC dX5_nightTill_100 rfl 1 rfl ?_
  refine gD_X5_98_X4 (pc := 101) hC hDy dX5_nightTill_101 hE (fun x17 hE => ?_)
  refine k_nn (G := fun z => Wk X 0 0 (VP D v J T) 104 [(0, .ref (v + 0)), (1, .ref a1), (2, .int a2), (3, .int a3), (4, .int a4)] [z, .int a4]) hE (fun b18 hE => ?_)
  refine t_callVI (pc := 104) (As := []) 19 (fun r => r) hC hDy cl_J5 (cw_L_size_X5 hC hrm (Nat.le_of_ble_eq_true rfl) (Nat.le_of_ble_eq_true rfl)) rfl rfl (Nat.le_of_ble_eq_true rfl) ⟨Nat.zero_le _, Nat.zero_le _⟩ dX5_nightTill_104 hE (fun r h => ct_L_size _ _ _ _ T hDy b18 r h) (fun r19 hE => ?_)
  refine k_icmp_ge (pc := 107) (tgt := 131) hC dX5_nightTill_107 (by decide) hE (fun hE => ?_) (fun hE => ?_)
  · refine k_iincE (pc := 131) (k := 3) (d := 1) (lv' := fun x20 => [(3, .int x20), (0, .ref (v + 0)), (1, .ref a1), (2, .int a2), (4, .int a4)]) hC dX5_nightTill_131 rfl (by decide) (by rw [hnL]; decide) hE (fun _ => rfl) (fun x20 hE => ?_)
    refine k_goto (pc := 134) (tgt := 43) hC dX5_nightTill_134 (by decide) ?_
    refine k_sub [1, 2, 3, 0] rfl ?_
    exact hk43 _ _ _ _  hE
  · refine k_aload_n (pc := 110) hC dX5_nightTill_110 rfl 0 rfl ?_
    refine gV_X5_44 (pc := 111) 0 lv_0 hM dX5_nightTill_111 ?_
    refine k_iload (pc := 114) hC dX5_nightTill_114 4 rfl ?_
    refine v_aald (pc := 116) 24 lv_24 (by simp [arTy]) rfl hM dX5_nightTill_116 hE (fun q21 hq21 hE => ?_)
    refine k_aload_n (pc := 117) hC dX5_nightTill_117 rfl 1 rfl ?_
    refine k_aload_n (pc := 118) hC dX5_nightTill_118 rfl 0 rfl ?_
    refine k_iload (pc := 119) hC dX5_nightTill_119 4 rfl ?_
    refine k_iload_n (pc := 121) hC dX5_nightTill_121 rfl 3 rfl ?_
    refine v_callV (pc := 122) (As := [.ref a1, .ref (v + 0), .int a4, .int a3]) (fun r => r) (25 + q21) (lv_slp hq21) cl_X6 hM (cw_P_begins_X5 hC hrm (Nat.le_of_ble_eq_true rfl) (Nat.le_of_ble_eq_true rfl)) rfl rfl (Nat.le_of_ble_eq_true rfl) dX5_nightTill_122 hE (fun r h => ct_P_begins _ _ _ _ _ hM.2.1 hq21 F q21 a1 a4 a3 J r h) (fun r22 hE => ?_)
    refine k_iincE (pc := 125) (k := 4) (d := 1) (lv' := fun x23 => [(4, .int x23), (0, .ref (v + 0)), (1, .ref a1), (2, .int a2), (3, .int a3)]) hC dX5_nightTill_125 rfl (by decide) (by rw [hnL]; decide) hE (fun _ => rfl) (fun x23 hE => ?_)
    refine k_goto (pc := 128) (tgt := 98) hC dX5_nightTill_128 (by decide) ?_
    refine k_sub [1, 2, 3, 4, 0] rfl ?_
    exact hk98 _ _ _ _ _  hE
theorem w_V_nightTill_L98 {X : Ctx} {D : Dd} {v : Nat} {T : Th} {out : Ji} (hM : Vx X cX5_nightTill RX5 D v 5 rmV_nightTill) (hR : Rt X none (VP D v out T) none 0 0) (F : Nat) (k43 : Nat → Int32 → Int32 → Ji → Option (Ji)) (hk43 : ∀ (a1 : Nat) (a2 : Int32) (a3 : Int32) (J : Ji) , k43 a1 a2 a3 J = some out → Wk X 0 0 (VP D v J T) 43 [(0, .ref (v + 0)), (1, .ref a1), (2, .int a2), (3, .int a3)] []) (n : Nat) : ∀ (a1 : Nat) (a2 : Int32) (a3 : Int32) (a4 : Int32) (J : Ji) , V_nightTill_L98 F k43 T n a1 a2 a3 a4 J = some out → Wk X 0 0 (VP D v J T) 98 [(0, .ref (v + 0)), (1, .ref a1), (2, .int a2), (3, .int a3), (4, .int a4)] [] := by
  induction n with
  | zero => intro a1 a2 a3 a4 J h; cases h
  | succ n ih => intro a1 a2 a3 a4 J h; exact w_V_nightTill_B98 hM hR F k43 hk43 (V_nightTill_L98 F k43 T n) ih a1 a2 a3 a4 J h
set_option maxHeartbeats 4000000 in
theorem w_V_nightTill_B51 {X : Ctx} {D : Dd} {v : Nat} {T : Th} {out : Ji} (hM : Vx X cX5_nightTill RX5 D v 5 rmV_nightTill) (hR : Rt X none (VP D v out T) none 0 0) (F : Nat) (k43 : Nat → Int32 → Int32 → Ji → Option (Ji)) (hk43 : ∀ (a1 : Nat) (a2 : Int32) (a3 : Int32) (J : Ji) , k43 a1 a2 a3 J = some out → Wk X 0 0 (VP D v J T) 43 [(0, .ref (v + 0)), (1, .ref a1), (2, .int a2), (3, .int a3)] []) (k51 : Nat → Int32 → Int32 → Int32 → Ji → Option (Ji)) (hk51 : ∀ (a1 : Nat) (a2 : Int32) (a3 : Int32) (a4 : Int32) (J : Ji) , k51 a1 a2 a3 a4 J = some out → Wk X 0 0 (VP D v J T) 51 [(0, .ref (v + 0)), (1, .ref a1), (2, .int a2), (3, .int a3), (4, .int a4)] []) (a1 : Nat) (a2 : Int32) (a3 : Int32) (a4 : Int32) (J : Ji) (hE : V_nightTill_B51 F k43 k51 T a1 a2 a3 a4 J = some out) : Wk X 0 0 (VP D v J T) 51 [(0, .ref (v + 0)), (1, .ref a1), (2, .int a2), (3, .int a3), (4, .int a4)] [] := by
  have hC := hM.1
  have hnL := hM.2.2.1
  have hrm := hM.2.2.2
  have hDy : ∀ {J : Ji} (H : Heap), VP D v J T H → Dy D T H := fun _ h => h.2.1
  unfold V_nightTill_B51 at hE
  refine k_iload (pc := 51) hC dX5_nightTill_51 4 rfl ?_
  refine k_aload_n (pc := 53) hC dX5_nightTill_53 rfl 1 rfl ?_
  refine gD_X5_98_X4 (pc := 54) hC hDy dX5_nightTill_54 hE (fun x9 hE => ?_)
  refine k_nn (G := fun z => Wk X 0 0 (VP D v J T) 57 [(0, .ref (v + 0)), (1, .ref a1), (2, .int a2), (3, .int a3), (4, .int a4)] [z, .int a4]) hE (fun b10 hE => ?_)
  refine t_callVI (pc := 57) (As := []) 19 (fun r => r) hC hDy cl_J5 (cw_L_size_X5 hC hrm (Nat.le_of_ble_eq_true rfl) (Nat.le_of_ble_eq_true rfl)) rfl rfl (Nat.le_of_ble_eq_true rfl) ⟨Nat.zero_le _, Nat.zero_le _⟩ dX5_nightTill_57 hE (fun r h => ct_L_size _ _ _ _ T hDy b10 r h) (fun r11 hE => ?_)
  refine k_icmp_ge (pc := 60) (tgt := 84) hC dX5_nightTill_60 (by decide) hE (fun hE => ?_) (fun hE => ?_)
  · refine k_iload_n (pc := 84) hC dX5_nightTill_84 rfl 3 rfl ?_
    refine k_aload_n (pc := 85) hC dX5_nightTill_85 rfl 1 rfl ?_
    refine gD_X5_156_X4 (pc := 86) hC hDy dX5_nightTill_86 hE (fun x12 hE => ?_)
    refine k_icmp_ne (pc := 89) (tgt := 95) hC dX5_nightTill_89 (by decide) hE (fun hE => ?_) (fun hE => ?_)
    · refine k_goto (pc := 92) (tgt := 131) hC dX5_nightTill_92 (by decide) ?_
      refine k_iincE (pc := 131) (k := 3) (d := 1) (lv' := fun x13 => [(3, .int x13), (0, .ref (v + 0)), (1, .ref a1), (2, .int a2), (4, .int a4)]) hC dX5_nightTill_131 rfl (by decide) (by rw [hnL]; decide) hE (fun _ => rfl) (fun x13 hE => ?_)
      refine k_goto (pc := 134) (tgt := 43) hC dX5_nightTill_134 (by decide) ?_
      refine k_sub [1, 2, 3, 0] rfl ?_
      exact hk43 _ _ _ _  hE
    · refine k_iconst (pc := 95) (v := 0) hC dX5_nightTill_95 (by decide) ?_
      refine k_istore (pc := 96) (lv' := [(4, .int 0), (0, .ref (v + 0)), (1, .ref a1), (2, .int a2), (3, .int a3)]) hC dX5_nightTill_96 (by rw [hnL]; decide) rfl ?_
      refine k_sub [1, 2, 3, 4, 0] rfl ?_
      exact w_V_nightTill_L98 hM hR F k43 hk43 _ _ _ _ _ _  hE
  · refine k_aload_n (pc := 63) hC dX5_nightTill_63 rfl 0 rfl ?_
    refine gV_X5_44 (pc := 64) 0 lv_0 hM dX5_nightTill_64 ?_
    refine k_iload (pc := 67) hC dX5_nightTill_67 4 rfl ?_
    refine v_aald (pc := 69) 24 lv_24 (by simp [arTy]) rfl hM dX5_nightTill_69 hE (fun q14 hq14 hE => ?_)
    refine k_aload_n (pc := 70) hC dX5_nightTill_70 rfl 1 rfl ?_
    refine k_aload_n (pc := 71) hC dX5_nightTill_71 rfl 0 rfl ?_
    refine k_iload (pc := 72) hC dX5_nightTill_72 4 rfl ?_
    refine k_iload_n (pc := 74) hC dX5_nightTill_74 rfl 3 rfl ?_
    refine v_callV (pc := 75) (As := [.ref a1, .ref (v + 0), .int a4, .int a3]) (fun r => r) (25 + q14) (lv_slp hq14) cl_X6 hM (cw_P_ends_X5 hC hrm (Nat.le_of_ble_eq_true rfl) (Nat.le_of_ble_eq_true rfl)) rfl rfl (Nat.le_of_ble_eq_true rfl) dX5_nightTill_75 hE (fun r h => ct_P_ends _ _ _ _ _ hM.2.1 hq14 q14 a1 a4 a3 J r h) (fun r15 hE => ?_)
    refine k_iincE (pc := 78) (k := 4) (d := 1) (lv' := fun x16 => [(4, .int x16), (0, .ref (v + 0)), (1, .ref a1), (2, .int a2), (3, .int a3)]) hC dX5_nightTill_78 rfl (by decide) (by rw [hnL]; decide) hE (fun _ => rfl) (fun x16 hE => ?_)
    refine k_goto (pc := 81) (tgt := 51) hC dX5_nightTill_81 (by decide) ?_
    refine k_sub [1, 2, 3, 4, 0] rfl ?_
    exact hk51 _ _ _ _ _  hE
theorem w_V_nightTill_L51 {X : Ctx} {D : Dd} {v : Nat} {T : Th} {out : Ji} (hM : Vx X cX5_nightTill RX5 D v 5 rmV_nightTill) (hR : Rt X none (VP D v out T) none 0 0) (F : Nat) (k43 : Nat → Int32 → Int32 → Ji → Option (Ji)) (hk43 : ∀ (a1 : Nat) (a2 : Int32) (a3 : Int32) (J : Ji) , k43 a1 a2 a3 J = some out → Wk X 0 0 (VP D v J T) 43 [(0, .ref (v + 0)), (1, .ref a1), (2, .int a2), (3, .int a3)] []) (n : Nat) : ∀ (a1 : Nat) (a2 : Int32) (a3 : Int32) (a4 : Int32) (J : Ji) , V_nightTill_L51 F k43 T n a1 a2 a3 a4 J = some out → Wk X 0 0 (VP D v J T) 51 [(0, .ref (v + 0)), (1, .ref a1), (2, .int a2), (3, .int a3), (4, .int a4)] [] := by
  induction n with
  | zero => intro a1 a2 a3 a4 J h; cases h
  | succ n ih => intro a1 a2 a3 a4 J h; exact w_V_nightTill_B51 hM hR F k43 hk43 (V_nightTill_L51 F k43 T n) ih a1 a2 a3 a4 J h
set_option maxHeartbeats 4000000 in
theorem w_V_nightTill_B43 {X : Ctx} {D : Dd} {v : Nat} {T : Th} {out : Ji} (hM : Vx X cX5_nightTill RX5 D v 5 rmV_nightTill) (hR : Rt X none (VP D v out T) none 0 0) (F : Nat) (k43 : Nat → Int32 → Int32 → Ji → Option (Ji)) (hk43 : ∀ (a1 : Nat) (a2 : Int32) (a3 : Int32) (J : Ji) , k43 a1 a2 a3 J = some out → Wk X 0 0 (VP D v J T) 43 [(0, .ref (v + 0)), (1, .ref a1), (2, .int a2), (3, .int a3)] []) (a1 : Nat) (a2 : Int32) (a3 : Int32) (J : Ji) (hE : V_nightTill_B43 F k43 T a1 a2 a3 J = some out) : Wk X 0 0 (VP D v J T) 43 [(0, .ref (v + 0)), (1, .ref a1), (2, .int a2), (3, .int a3)] [] := by
  have hC := hM.1
  have hnL := hM.2.2.1
  have hrm := hM.2.2.2
  have hDy : ∀ {J : Ji} (H : Heap), VP D v J T H → Dy D T H := fun _ h => h.2.1
  unfold V_nightTill_B43 at hE
  refine k_iload_n (pc := 43) hC dX5_nightTill_43 rfl 3 rfl ?_
  refine k_iload_n (pc := 44) hC dX5_nightTill_44 rfl 2 rfl ?_
  refine k_icmp_gt (pc := 45) (tgt := 137) hC dX5_nightTill_45 (by decide) hE (fun hE => ?_) (fun hE => ?_)
  · refine k_iconst (pc := 137) (v := 0) hC dX5_nightTill_137 (by decide) ?_
    refine k_istore_n (pc := 138) (lv' := [(3, .int 0), (0, .ref (v + 0)), (1, .ref a1), (2, .int a2)]) hC dX5_nightTill_138 rfl (by rw [hnL]; decide) rfl ?_
    refine k_sub [1, 2, 0] rfl ?_
    exact w_V_nightTill_L139 hM hR F _ _ _ _  hE
  · refine k_iconst (pc := 48) (v := 0) hC dX5_nightTill_48 (by decide) ?_
    refine k_istore (pc := 49) (lv' := [(4, .int 0), (0, .ref (v + 0)), (1, .ref a1), (2, .int a2), (3, .int a3)]) hC dX5_nightTill_49 (by rw [hnL]; decide) rfl ?_
    refine k_sub [1, 2, 3, 4, 0] rfl ?_
    exact w_V_nightTill_L51 hM hR F k43 hk43 _ _ _ _ _ _  hE
theorem w_V_nightTill_L43 {X : Ctx} {D : Dd} {v : Nat} {T : Th} {out : Ji} (hM : Vx X cX5_nightTill RX5 D v 5 rmV_nightTill) (hR : Rt X none (VP D v out T) none 0 0) (F : Nat) (n : Nat) : ∀ (a1 : Nat) (a2 : Int32) (a3 : Int32) (J : Ji) , V_nightTill_L43 F T n a1 a2 a3 J = some out → Wk X 0 0 (VP D v J T) 43 [(0, .ref (v + 0)), (1, .ref a1), (2, .int a2), (3, .int a3)] [] := by
  induction n with
  | zero => intro a1 a2 a3 J h; cases h
  | succ n ih => intro a1 a2 a3 J h; exact w_V_nightTill_B43 hM hR F (V_nightTill_L43 F T n) ih a1 a2 a3 J h
set_option maxHeartbeats 4000000 in
theorem w_V_nightTill_B12 {X : Ctx} {D : Dd} {v : Nat} {T : Th} {out : Ji} (hM : Vx X cX5_nightTill RX5 D v 5 rmV_nightTill) (hR : Rt X none (VP D v out T) none 0 0) (F : Nat) (k12 : Nat → Int32 → Int32 → Ji → Option (Ji)) (hk12 : ∀ (a1 : Nat) (a2 : Int32) (a3 : Int32) (J : Ji) , k12 a1 a2 a3 J = some out → Wk X 0 0 (VP D v J T) 12 [(0, .ref (v + 0)), (1, .ref a1), (2, .int a2), (3, .int a3)] []) (a1 : Nat) (a2 : Int32) (a3 : Int32) (J : Ji) (hE : V_nightTill_B12 F k12 T a1 a2 a3 J = some out) : Wk X 0 0 (VP D v J T) 12 [(0, .ref (v + 0)), (1, .ref a1), (2, .int a2), (3, .int a3)] [] := by
  have hC := hM.1
  have hnL := hM.2.2.1
  have hrm := hM.2.2.2
  have hDy : ∀ {J : Ji} (H : Heap), VP D v J T H → Dy D T H := fun _ h => h.2.1
  unfold V_nightTill_B12 at hE
  refine k_iload_n (pc := 12) hC dX5_nightTill_12 rfl 3 rfl ?_
  refine k_aload_n (pc := 13) hC dX5_nightTill_13 rfl 1 rfl ?_
  refine gD_X5_98_X4 (pc := 14) hC hDy dX5_nightTill_14 hE (fun x3 hE => ?_)
  refine k_nn (G := fun z => Wk X 0 0 (VP D v J T) 17 [(0, .ref (v + 0)), (1, .ref a1), (2, .int a2), (3, .int a3)] [z, .int a3]) hE (fun b4 hE => ?_)
  refine t_callVI (pc := 17) (As := []) 19 (fun r => r) hC hDy cl_J5 (cw_L_size_X5 hC hrm (Nat.le_of_ble_eq_true rfl) (Nat.le_of_ble_eq_true rfl)) rfl rfl (Nat.le_of_ble_eq_true rfl) ⟨Nat.zero_le _, Nat.zero_le _⟩ dX5_nightTill_17 hE (fun r h => ct_L_size _ _ _ _ T hDy b4 r h) (fun r5 hE => ?_)
  refine k_icmp_ge (pc := 20) (tgt := 41) hC dX5_nightTill_20 (by decide) hE (fun hE => ?_) (fun hE => ?_)
  · refine k_iconst (pc := 41) (v := 0) hC dX5_nightTill_41 (by decide) ?_
    refine k_istore_n (pc := 42) (lv' := [(3, .int 0), (0, .ref (v + 0)), (1, .ref a1), (2, .int a2)]) hC dX5_nightTill_42 rfl (by rw [hnL]; decide) rfl ?_
    refine k_sub [1, 2, 3, 0] rfl ?_
    exact w_V_nightTill_L43 hM hR F _ _ _ _ _  hE
  · refine k_aload_n (pc := 23) hC dX5_nightTill_23 rfl 0 rfl ?_
    refine gV_X5_44 (pc := 24) 0 lv_0 hM dX5_nightTill_24 ?_
    refine k_iload_n (pc := 27) hC dX5_nightTill_27 rfl 3 rfl ?_
    refine v_aald (pc := 28) 24 lv_24 (by simp [arTy]) rfl hM dX5_nightTill_28 hE (fun q6 hq6 hE => ?_)
    refine k_aload_n (pc := 29) hC dX5_nightTill_29 rfl 1 rfl ?_
    refine k_aload_n (pc := 30) hC dX5_nightTill_30 rfl 0 rfl ?_
    refine k_iload_n (pc := 31) hC dX5_nightTill_31 rfl 3 rfl ?_
    refine v_callV (pc := 32) (As := [.ref a1, .ref (v + 0), .int a3]) (fun r => r) (25 + q6) (lv_slp hq6) cl_X6 hM (cw_P_getsUp_X5 hC hrm (Nat.le_of_ble_eq_true rfl) (Nat.le_of_ble_eq_true rfl)) rfl rfl (Nat.le_of_ble_eq_true rfl) dX5_nightTill_32 hE (fun r h => ct_P_getsUp _ _ _ _ _ hM.2.1 hq6 q6 a1 a3 J r h) (fun r7 hE => ?_)
    refine k_iincE (pc := 35) (k := 3) (d := 1) (lv' := fun x8 => [(3, .int x8), (0, .ref (v + 0)), (1, .ref a1), (2, .int a2)]) hC dX5_nightTill_35 rfl (by decide) (by rw [hnL]; decide) hE (fun _ => rfl) (fun x8 hE => ?_)
    refine k_goto (pc := 38) (tgt := 12) hC dX5_nightTill_38 (by decide) ?_
    refine k_sub [1, 2, 3, 0] rfl ?_
    exact hk12 _ _ _ _  hE
theorem w_V_nightTill_L12 {X : Ctx} {D : Dd} {v : Nat} {T : Th} {out : Ji} (hM : Vx X cX5_nightTill RX5 D v 5 rmV_nightTill) (hR : Rt X none (VP D v out T) none 0 0) (F : Nat) (n : Nat) : ∀ (a1 : Nat) (a2 : Int32) (a3 : Int32) (J : Ji) , V_nightTill_L12 F T n a1 a2 a3 J = some out → Wk X 0 0 (VP D v J T) 12 [(0, .ref (v + 0)), (1, .ref a1), (2, .int a2), (3, .int a3)] [] := by
  induction n with
  | zero => intro a1 a2 a3 J h; cases h
  | succ n ih => intro a1 a2 a3 J h; exact w_V_nightTill_B12 hM hR F (V_nightTill_L12 F T n) ih a1 a2 a3 J h
set_option maxHeartbeats 4000000 in
theorem w_V_nightTill {X : Ctx} {D : Dd} {v : Nat} {T : Th} {out : Ji} (hM : Vx X cX5_nightTill RX5 D v 5 rmV_nightTill) (hR : Rt X none (VP D v out T) none 0 0) (F : Nat) (a1 : Nat) (a2 : Int32) (J : Ji) (hE : V_nightTill F T a1 a2 J = some out) : Wk X 0 0 (VP D v J T) 0 [(0, .ref (v + 0)), (1, .ref a1), (2, .int a2)] [] := by
  have hC := hM.1
  have hnL := hM.2.2.1
  have hrm := hM.2.2.2
  have hDy : ∀ {J : Ji} (H : Heap), VP D v J T H → Dy D T H := fun _ h => h.2.1
  unfold V_nightTill at hE
  refine k_aload_n (pc := 0) hC dX5_nightTill_0 rfl 0 rfl ?_
  refine k_aload_n (pc := 1) hC dX5_nightTill_1 rfl 1 rfl ?_
  refine v_callV (pc := 2) (As := [.ref a1]) (fun r => r) 0 lv_0 cl_X5 hM (cw_V_laysWays_X5 hC hrm (Nat.le_of_ble_eq_true rfl) (Nat.le_of_ble_eq_true rfl)) rfl rfl (Nat.le_of_ble_eq_true rfl) dX5_nightTill_2 hE (fun r h => ct_V_laysWays _ _ _ _ _ hM.2.1 F a1 J r h) (fun r1 hE => ?_)
  refine k_aload_n (pc := 5) hC dX5_nightTill_5 rfl 0 rfl ?_
  refine k_iconst (pc := 6) (v := 0) hC dX5_nightTill_6 (by decide) ?_
  refine pV_X5_167 (pc := 7) 0 lv_0 hM dX5_nightTill_7 hE (fun J2 hE => ?_)
  refine k_iconst (pc := 10) (v := 0) hC dX5_nightTill_10 (by decide) ?_
  refine k_istore_n (pc := 11) (lv' := [(3, .int 0), (0, .ref (v + 0)), (1, .ref a1), (2, .int a2)]) hC dX5_nightTill_11 rfl (by rw [hnL]; decide) rfl ?_
  refine k_sub [1, 2, 3, 0] rfl ?_
  exact w_V_nightTill_L12 hM hR F _ _ _ _ _  hE
theorem ct_V_nightTill (l : Launch) (D : Dd) (A : Nat → Prop) (v : Nat) (T : Th) (hA : ∀ (off : Nat) (kd : Kd), layV off = some kd → A (v + off)) (F : Nat) (a1 : Nat) (a2 : Int32) (J : Ji) (out : Ji) (hE : V_nightTill F T a1 a2 J = some out) : Ct l yX5_nightTill (ws_ yX5_nightTill cX5_nightTill 5 none) rmV_nightTill vwCl arTy D A [.ref (v + 0), .ref a1, .int a2] (VP D v J T) (VP D v out T) none 0 0 := by
  refine Ct.of (by decide) (Nat.le_of_ble_eq_true rfl) rfl ?_
  intro X hl hrm hC hR hXA hnL _
  exact w_V_nightTill ⟨hC, by unfold Ft; rw [hXA]; exact hA, hnL, hrm⟩ hR F a1 a2 J hE
theorem cw_V_nightTill_X0 {X : Ctx} {cc : ByteArray} {D : Dd} {rm : Room} (hC : Cx X cc RX0 vwCl arTy D) (hrm : X.2.2.2.1 = rm) (h1 : rmV_nightTill.frames + 1 ≤ rm.frames) (h2 : 8 + (5 + 11) + rmV_nightTill.locals ≤ rm.locals) : CallW X.2.2.2.1 X.2.2.2.2.1 X.2.2.2.2.2.2.1 RX0 RX5 292 yX5_nightTill cX5_nightTill 5 none (ws_ yX5_nightTill cX5_nightTill 5 none) rmV_nightTill 0 0 2 := cwV 2 (cx_w hC) (lw_V q1492 q1362 q1363 q125 q1364) rfl rfl rfl (by decide +kernel) (by rw [hrm]; exact ⟨h1, h2⟩)
theorem cw_V_nightTill_X5 {X : Ctx} {cc : ByteArray} {D : Dd} {rm : Room} (hC : Cx X cc RX5 vwCl arTy D) (hrm : X.2.2.2.1 = rm) (h1 : rmV_nightTill.frames + 1 ≤ rm.frames) (h2 : 8 + (5 + 11) + rmV_nightTill.locals ≤ rm.locals) : CallW X.2.2.2.1 X.2.2.2.2.1 X.2.2.2.2.2.2.1 RX5 RX5 159 yX5_nightTill cX5_nightTill 5 none (ws_ yX5_nightTill cX5_nightTill 5 none) rmV_nightTill 0 0 2 := cwV 2 (cx_w hC) (lw_V q1361 q1362 q1363 q125 q1364) rfl rfl rfl (by decide +kernel) (by rw [hrm]; exact ⟨h1, h2⟩)
abbrev rmV_night : Room := { frames := 505, cells := 0, slots := 0, locals := 12123 }
set_option maxHeartbeats 4000000 in
theorem w_V_night {X : Ctx} {D : Dd} {v : Nat} {T : Th} {out : Ji} (hM : Vx X cX5_night RX5 D v 2 rmV_night) (hR : Rt X none (VP D v out T) none 0 0) (F : Nat) (a1 : Nat) (J : Ji) (hE : V_night F T a1 J = some out) : Wk X 0 0 (VP D v J T) 0 [(0, .ref (v + 0)), (1, .ref a1)] [] := by
  have hC := hM.1
  have hnL := hM.2.2.1
  have hrm := hM.2.2.2
  have hDy : ∀ {J : Ji} (H : Heap), VP D v J T H → Dy D T H := fun _ h => h.2.1
  unfold V_night at hE
  refine k_aload_n (pc := 0) hC dX5_night_0 rfl 0 rfl ?_
  refine k_aload_n (pc := 1) hC dX5_night_1 rfl 1 rfl ?_
  refine k_aload_n (pc := 2) hC dX5_night_2 rfl 1 rfl ?_
  refine gD_X5_156_X4 (pc := 3) hC hDy dX5_night_3 hE (fun x1 hE => ?_)
  refine v_callV (pc := 6) (As := [.ref a1, .int x1]) (fun r => r) 0 lv_0 cl_X5 hM (cw_V_nightTill_X5 hC hrm (Nat.le_of_ble_eq_true rfl) (Nat.le_of_ble_eq_true rfl)) rfl rfl (Nat.le_of_ble_eq_true rfl) dX5_night_6 hE (fun r h => ct_V_nightTill _ _ _ _ _ hM.2.1 F a1 x1 J r h) (fun r2 hE => ?_)
  exact k_vret (pc := 9) hC hR ⟨Nat.le_refl 0, Nat.le_refl 0⟩ dX5_night_9 (by cases hE; rfl) (by cases hE; exact fun _ h => h)
theorem ct_V_night (l : Launch) (D : Dd) (A : Nat → Prop) (v : Nat) (T : Th) (hA : ∀ (off : Nat) (kd : Kd), layV off = some kd → A (v + off)) (F : Nat) (a1 : Nat) (J : Ji) (out : Ji) (hE : V_night F T a1 J = some out) : Ct l yX5_night (ws_ yX5_night cX5_night 2 none) rmV_night vwCl arTy D A [.ref (v + 0), .ref a1] (VP D v J T) (VP D v out T) none 0 0 := by
  refine Ct.of (by decide) (Nat.le_of_ble_eq_true rfl) rfl ?_
  intro X hl hrm hC hR hXA hnL _
  exact w_V_night ⟨hC, by unfold Ft; rw [hXA]; exact hA, hnL, hrm⟩ hR F a1 J hE
theorem cw_V_night_X0 {X : Ctx} {cc : ByteArray} {D : Dd} {rm : Room} (hC : Cx X cc RX0 vwCl arTy D) (hrm : X.2.2.2.1 = rm) (h1 : rmV_night.frames + 1 ≤ rm.frames) (h2 : 8 + (2 + 11) + rmV_night.locals ≤ rm.locals) : CallW X.2.2.2.1 X.2.2.2.2.1 X.2.2.2.2.2.2.1 RX0 RX5 249 yX5_night cX5_night 2 none (ws_ yX5_night cX5_night 2 none) rmV_night 0 0 1 := cwV 1 (cx_w hC) (lw_V q1357 q1358 q1359 q125 q1360) rfl rfl rfl (by decide +kernel) (by rw [hrm]; exact ⟨h1, h2⟩)
