set_option maxRecDepth 100000
abbrev rmM_pairs : Room := { frames := 6, cells := 0, slots := 0, locals := 148 }
set_option maxHeartbeats 4000000 in
theorem w_M_pairs_B53 {X : Ctx} {D : Dd} {th : Nat} {K : Jl} {out : Int32 × Ji} (hM : Mx X cX8_pairs D th 7 rmM_pairs) (hR : Rt X (some .int) (RM D th out.2 K) (some (.int out.1)) 0 0) (F : Nat) (k41 : Int32 → Int32 → Int32 → Int32 → Int32 → Ji → Option (Int32 × Ji)) (hk41 : ∀ (a1 : Int32) (a2 : Int32) (a3 : Int32) (a4 : Int32) (a5 : Int32) (J : Ji) , k41 a1 a2 a3 a4 a5 J = some out → Wk X 0 0 (RM D th J K) 41 [(0, .ref th), (1, .int a1), (2, .int a2), (3, .int a3), (4, .int a4), (5, .int a5)] []) (k53 : Int32 → Int32 → Int32 → Int32 → Int32 → Int32 → Ji → Option (Int32 × Ji)) (hk53 : ∀ (a1 : Int32) (a2 : Int32) (a3 : Int32) (a4 : Int32) (a5 : Int32) (a6 : Int32) (J : Ji) , k53 a1 a2 a3 a4 a5 a6 J = some out → Wk X 0 0 (RM D th J K) 53 [(0, .ref th), (1, .int a1), (2, .int a2), (3, .int a3), (4, .int a4), (5, .int a5), (6, .int a6)] []) (a1 : Int32) (a2 : Int32) (a3 : Int32) (a4 : Int32) (a5 : Int32) (a6 : Int32) (J : Ji) (hE : M_pairs_B53 F k41 k53 a1 a2 a3 a4 a5 a6 J = some out) : Wk X 0 0 (RM D th J K) 53 [(0, .ref th), (1, .int a1), (2, .int a2), (3, .int a3), (4, .int a4), (5, .int a5), (6, .int a6)] [] := by
  have hC := hM.1
  have hnL := hM.2.2.1
  have hrm := hM.2.2.2
  unfold M_pairs_B53 at hE
  refine k_iload (pc := 53) hC dX8_pairs_53 6 rfl ?_
  refine k_aload_n (pc := 55) hC dX8_pairs_55 rfl 0 rfl ?_
  refine m_clI (pc := 56) (As := []) hM (cw_M_options hM (Nat.le_of_ble_eq_true rfl) (Nat.le_of_ble_eq_true rfl)) rfl rfl (Nat.le_of_ble_eq_true rfl) dX8_pairs_56 hE (fun r h => ct_M_options _ _ _ _ hM.2.1 F J K r h) (fun r5 hE => ?_)
  refine k_icmp_ge (pc := 59) (tgt := 99) hC dX8_pairs_59 (by decide) hE (fun hE => ?_) (fun hE => ?_)
  · refine k_iincE (pc := 99) (k := 5) (d := 1) (lv' := fun x6 => [(5, .int x6), (0, .ref th), (1, .int a1), (2, .int a2), (3, .int a3), (4, .int a4), (6, .int a6)]) hC dX8_pairs_99 rfl (by decide) (by rw [hnL]; decide) hE (fun _ => rfl) (fun x6 hE => ?_)
    refine k_goto (pc := 102) (tgt := 41) hC dX8_pairs_102 (by decide) ?_
    refine k_sub [1, 2, 3, 4, 5, 0] rfl ?_
    exact hk41 _ _ _ _ _ _ hE
  · refine k_aload_n (pc := 62) hC dX8_pairs_62 rfl 0 rfl ?_
    refine m_clVj (pc := 63) (As := []) hM (cw_M_takes hM (Nat.le_of_ble_eq_true rfl) (Nat.le_of_ble_eq_true rfl)) rfl rfl (Nat.le_of_ble_eq_true rfl) dX8_pairs_63 hE (fun r h => ct_M_takes _ _ _ _ hM.2.1 F J K r h) (fun r7 hE => ?_)
    refine k_aload_n (pc := 66) hC dX8_pairs_66 rfl 0 rfl ?_
    refine k_iload_n (pc := 67) hC dX8_pairs_67 rfl 1 rfl ?_
    refine k_iload (pc := 68) hC dX8_pairs_68 5 rfl ?_
    refine m_clIj (pc := 70) (As := [.int a1, .int a5]) hM (cw_M_leaves hM (Nat.le_of_ble_eq_true rfl) (Nat.le_of_ble_eq_true rfl)) rfl rfl (Nat.le_of_ble_eq_true rfl) dX8_pairs_70 hE (fun r h => ct_M_leaves _ _ _ _ hM.2.1 F a1 a5 r7 K r h) (fun r8 hE => ?_)
    refine k_pop (pc := 73) hC dX8_pairs_73 rfl ?_
    refine k_aload_n (pc := 74) hC dX8_pairs_74 rfl 0 rfl ?_
    refine k_iload_n (pc := 75) hC dX8_pairs_75 rfl 2 rfl ?_
    refine k_iload (pc := 76) hC dX8_pairs_76 6 rfl ?_
    refine m_clIj (pc := 78) (As := [.int a2, .int a6]) hM (cw_M_leaves hM (Nat.le_of_ble_eq_true rfl) (Nat.le_of_ble_eq_true rfl)) rfl rfl (Nat.le_of_ble_eq_true rfl) dX8_pairs_78 hE (fun r h => ct_M_leaves _ _ _ _ hM.2.1 F a2 a6 r8.2 K r h) (fun r9 hE => ?_)
    refine k_pop (pc := 81) hC dX8_pairs_81 rfl ?_
    refine k_aload_n (pc := 82) hC dX8_pairs_82 rfl 0 rfl ?_
    refine k_iload_n (pc := 83) hC dX8_pairs_83 rfl 3 rfl ?_
    refine m_clIj (pc := 84) (As := [.int a3]) hM (cw_M_isSo hM (Nat.le_of_ble_eq_true rfl) (Nat.le_of_ble_eq_true rfl)) rfl rfl (Nat.le_of_ble_eq_true rfl) dX8_pairs_84 hE (fun r h => ct_M_isSo _ _ _ _ hM.2.1 F a3 r9.2 K r h) (fun r10 hE => ?_)
    refine k_if_eq (pc := 87) (tgt := 93) hC dX8_pairs_87 (by decide) hE (fun hE => ?_) (fun hE => ?_)
    · refine k_iincE (pc := 93) (k := 6) (d := 1) (lv' := fun x11 => [(6, .int x11), (0, .ref th), (1, .int a1), (2, .int a2), (3, .int a3), (4, .int a4), (5, .int a5)]) hC dX8_pairs_93 rfl (by decide) (by rw [hnL]; decide) hE (fun _ => rfl) (fun x11 hE => ?_)
      refine k_goto (pc := 96) (tgt := 53) hC dX8_pairs_96 (by decide) ?_
      refine k_sub [1, 2, 3, 4, 5, 6, 0] rfl ?_
      exact hk53 _ _ _ _ _ _ _ hE
    · refine k_iincE (pc := 90) (k := 4) (d := 1) (lv' := fun x12 => [(4, .int x12), (0, .ref th), (1, .int a1), (2, .int a2), (3, .int a3), (5, .int a5), (6, .int a6)]) hC dX8_pairs_90 rfl (by decide) (by rw [hnL]; decide) hE (fun _ => rfl) (fun x12 hE => ?_)
      refine k_iincE (pc := 93) (k := 6) (d := 1) (lv' := fun x13 => [(6, .int x13), (4, .int x12), (0, .ref th), (1, .int a1), (2, .int a2), (3, .int a3), (5, .int a5)]) hC dX8_pairs_93 rfl (by decide) (by rw [hnL]; decide) hE (fun _ => rfl) (fun x13 hE => ?_)
      refine k_goto (pc := 96) (tgt := 53) hC dX8_pairs_96 (by decide) ?_
      refine k_sub [2, 3, 4, 5, 1, 6, 0] rfl ?_
      exact hk53 _ _ _ _ _ _ _ hE
theorem w_M_pairs_L53 {X : Ctx} {D : Dd} {th : Nat} {K : Jl} {out : Int32 × Ji} (hM : Mx X cX8_pairs D th 7 rmM_pairs) (hR : Rt X (some .int) (RM D th out.2 K) (some (.int out.1)) 0 0) (F : Nat) (k41 : Int32 → Int32 → Int32 → Int32 → Int32 → Ji → Option (Int32 × Ji)) (hk41 : ∀ (a1 : Int32) (a2 : Int32) (a3 : Int32) (a4 : Int32) (a5 : Int32) (J : Ji) , k41 a1 a2 a3 a4 a5 J = some out → Wk X 0 0 (RM D th J K) 41 [(0, .ref th), (1, .int a1), (2, .int a2), (3, .int a3), (4, .int a4), (5, .int a5)] []) (n : Nat) : ∀ (a1 : Int32) (a2 : Int32) (a3 : Int32) (a4 : Int32) (a5 : Int32) (a6 : Int32) (J : Ji) , M_pairs_L53 F k41 n a1 a2 a3 a4 a5 a6 J = some out → Wk X 0 0 (RM D th J K) 53 [(0, .ref th), (1, .int a1), (2, .int a2), (3, .int a3), (4, .int a4), (5, .int a5), (6, .int a6)] [] := by
  induction n with
  | zero => intro a1 a2 a3 a4 a5 a6 J h; cases h
  | succ n ih => intro a1 a2 a3 a4 a5 a6 J h; exact w_M_pairs_B53 hM hR F k41 hk41 (M_pairs_L53 F k41 n) ih a1 a2 a3 a4 a5 a6 J h
set_option maxHeartbeats 4000000 in
theorem w_M_pairs_B41 {X : Ctx} {D : Dd} {th : Nat} {K : Jl} {out : Int32 × Ji} (hM : Mx X cX8_pairs D th 7 rmM_pairs) (hR : Rt X (some .int) (RM D th out.2 K) (some (.int out.1)) 0 0) (F : Nat) (k41 : Int32 → Int32 → Int32 → Int32 → Int32 → Ji → Option (Int32 × Ji)) (hk41 : ∀ (a1 : Int32) (a2 : Int32) (a3 : Int32) (a4 : Int32) (a5 : Int32) (J : Ji) , k41 a1 a2 a3 a4 a5 J = some out → Wk X 0 0 (RM D th J K) 41 [(0, .ref th), (1, .int a1), (2, .int a2), (3, .int a3), (4, .int a4), (5, .int a5)] []) (a1 : Int32) (a2 : Int32) (a3 : Int32) (a4 : Int32) (a5 : Int32) (J : Ji) (hE : M_pairs_B41 F k41 a1 a2 a3 a4 a5 J = some out) : Wk X 0 0 (RM D th J K) 41 [(0, .ref th), (1, .int a1), (2, .int a2), (3, .int a3), (4, .int a4), (5, .int a5)] [] := by
  have hC := hM.1
  have hnL := hM.2.2.1
  have hrm := hM.2.2.2
  unfold M_pairs_B41 at hE
  refine k_iload (pc := 41) hC dX8_pairs_41 5 rfl ?_
  refine k_aload_n (pc := 43) hC dX8_pairs_43 rfl 0 rfl ?_
  refine m_clI (pc := 44) (As := []) hM (cw_M_options hM (Nat.le_of_ble_eq_true rfl) (Nat.le_of_ble_eq_true rfl)) rfl rfl (Nat.le_of_ble_eq_true rfl) dX8_pairs_44 hE (fun r h => ct_M_options _ _ _ _ hM.2.1 F J K r h) (fun r4 hE => ?_)
  refine k_icmp_ge (pc := 47) (tgt := 105) hC dX8_pairs_47 (by decide) hE (fun hE => ?_) (fun hE => ?_)
  · refine k_iload (pc := 105) hC dX8_pairs_105 4 rfl ?_
    exact k_iret (pc := 107) hC hR ⟨Nat.le_refl 0, Nat.le_refl 0⟩ dX8_pairs_107 (by cases hE; rfl) (by cases hE; exact fun _ h => h)
  · refine k_iconst (pc := 50) (v := 0) hC dX8_pairs_50 (by decide) ?_
    refine k_istore (pc := 51) (lv' := [(6, .int 0), (0, .ref th), (1, .int a1), (2, .int a2), (3, .int a3), (4, .int a4), (5, .int a5)]) hC dX8_pairs_51 (by rw [hnL]; decide) rfl ?_
    refine k_sub [1, 2, 3, 4, 5, 6, 0] rfl ?_
    exact w_M_pairs_L53 hM hR F k41 hk41 _ _ _ _ _ _ _ _ hE
theorem w_M_pairs_L41 {X : Ctx} {D : Dd} {th : Nat} {K : Jl} {out : Int32 × Ji} (hM : Mx X cX8_pairs D th 7 rmM_pairs) (hR : Rt X (some .int) (RM D th out.2 K) (some (.int out.1)) 0 0) (F : Nat) (n : Nat) : ∀ (a1 : Int32) (a2 : Int32) (a3 : Int32) (a4 : Int32) (a5 : Int32) (J : Ji) , M_pairs_L41 F n a1 a2 a3 a4 a5 J = some out → Wk X 0 0 (RM D th J K) 41 [(0, .ref th), (1, .int a1), (2, .int a2), (3, .int a3), (4, .int a4), (5, .int a5)] [] := by
  induction n with
  | zero => intro a1 a2 a3 a4 a5 J h; cases h
  | succ n ih => intro a1 a2 a3 a4 a5 J h; exact w_M_pairs_B41 hM hR F (M_pairs_L41 F n) ih a1 a2 a3 a4 a5 J h
set_option maxHeartbeats 4000000 in
theorem w_M_pairs {X : Ctx} {D : Dd} {th : Nat} {K : Jl} {out : Int32 × Ji} (hM : Mx X cX8_pairs D th 7 rmM_pairs) (hR : Rt X (some .int) (RM D th out.2 K) (some (.int out.1)) 0 0) (F : Nat) (a1 : Int32) (a2 : Int32) (a3 : Int32) (J : Ji) (hE : M_pairs F a1 a2 a3 J = some out) : Wk X 0 0 (RM D th J K) 0 [(0, .ref th), (1, .int a1), (2, .int a2), (3, .int a3)] [] := by
  have hC := hM.1
  have hnL := hM.2.2.1
  have hrm := hM.2.2.2
  unfold M_pairs at hE
  refine k_aload_n (pc := 0) hC dX8_pairs_0 rfl 0 rfl ?_
  refine k_iload_n (pc := 1) hC dX8_pairs_1 rfl 1 rfl ?_
  refine m_clI (pc := 2) (As := [.int a1]) hM (cw_M_isMan hM (Nat.le_of_ble_eq_true rfl) (Nat.le_of_ble_eq_true rfl)) rfl rfl (Nat.le_of_ble_eq_true rfl) dX8_pairs_2 hE (fun r h => ct_M_isMan _ _ _ _ hM.2.1 a1 J K r h) (fun r1 hE => ?_)
  refine k_if_eq (pc := 5) (tgt := 33) hC dX8_pairs_5 (by decide) hE (fun hE => ?_) (fun hE => ?_)
  · refine k_iconst (pc := 33) (v := (-1)) hC dX8_pairs_33 (by decide) ?_
    exact k_iret (pc := 34) hC hR ⟨Nat.le_refl 0, Nat.le_refl 0⟩ dX8_pairs_34 (by cases hE; rfl) (by cases hE; exact fun _ h => h)
  · refine k_aload_n (pc := 8) hC dX8_pairs_8 rfl 0 rfl ?_
    refine k_iload_n (pc := 9) hC dX8_pairs_9 rfl 2 rfl ?_
    refine m_clI (pc := 10) (As := [.int a2]) hM (cw_M_isMan hM (Nat.le_of_ble_eq_true rfl) (Nat.le_of_ble_eq_true rfl)) rfl rfl (Nat.le_of_ble_eq_true rfl) dX8_pairs_10 hE (fun r h => ct_M_isMan _ _ _ _ hM.2.1 a2 J K r h) (fun r2 hE => ?_)
    refine k_if_eq (pc := 13) (tgt := 33) hC dX8_pairs_13 (by decide) hE (fun hE => ?_) (fun hE => ?_)
    · refine k_iconst (pc := 33) (v := (-1)) hC dX8_pairs_33 (by decide) ?_
      exact k_iret (pc := 34) hC hR ⟨Nat.le_refl 0, Nat.le_refl 0⟩ dX8_pairs_34 (by cases hE; rfl) (by cases hE; exact fun _ h => h)
    · refine k_iload_n (pc := 16) hC dX8_pairs_16 rfl 1 rfl ?_
      refine k_iload_n (pc := 17) hC dX8_pairs_17 rfl 2 rfl ?_
      refine k_icmp_eq (pc := 18) (tgt := 33) hC dX8_pairs_18 (by decide) hE (fun hE => ?_) (fun hE => ?_)
      · refine k_iconst (pc := 33) (v := (-1)) hC dX8_pairs_33 (by decide) ?_
        exact k_iret (pc := 34) hC hR ⟨Nat.le_refl 0, Nat.le_refl 0⟩ dX8_pairs_34 (by cases hE; rfl) (by cases hE; exact fun _ h => h)
      · refine k_iload_n (pc := 21) hC dX8_pairs_21 rfl 3 rfl ?_
        refine k_iconst (pc := 22) (v := 0) hC dX8_pairs_22 (by decide) ?_
        refine k_aload_n (pc := 23) hC dX8_pairs_23 rfl 0 rfl ?_
        refine gM_77 (pc := 24) hM dX8_pairs_24 ?_
        refine m_callSI (pc := 27) (As := [.int a3, .int 0, .int (J 0 77)]) (fun r => r) hC (cw_M_in hC hrm (Nat.le_of_ble_eq_true rfl) (Nat.le_of_ble_eq_true rfl)) rfl rfl (Nat.le_of_ble_eq_true rfl) ⟨Nat.zero_le _, Nat.zero_le _⟩ dX8_pairs_27 hE (fun r h => ct_M_in _ _ _ _ a3 0 (J 0 77) r h) (fun r3 hE => ?_)
        refine k_if_ne (pc := 30) (tgt := 35) hC dX8_pairs_30 (by decide) hE (fun hE => ?_) (fun hE => ?_)
        · refine k_iconst (pc := 33) (v := (-1)) hC dX8_pairs_33 (by decide) ?_
          exact k_iret (pc := 34) hC hR ⟨Nat.le_refl 0, Nat.le_refl 0⟩ dX8_pairs_34 (by cases hE; rfl) (by cases hE; exact fun _ h => h)
        · refine k_iconst (pc := 35) (v := 0) hC dX8_pairs_35 (by decide) ?_
          refine k_istore (pc := 36) (lv' := [(4, .int 0), (0, .ref th), (1, .int a1), (2, .int a2), (3, .int a3)]) hC dX8_pairs_36 (by rw [hnL]; decide) rfl ?_
          refine k_iconst (pc := 38) (v := 0) hC dX8_pairs_38 (by decide) ?_
          refine k_istore (pc := 39) (lv' := [(5, .int 0), (4, .int 0), (0, .ref th), (1, .int a1), (2, .int a2), (3, .int a3)]) hC dX8_pairs_39 (by rw [hnL]; decide) rfl ?_
          refine k_sub [2, 3, 4, 5, 1, 0] rfl ?_
          exact w_M_pairs_L41 hM hR F _ _ _ _ _ _ _ hE
theorem ct_M_pairs (l : Launch) (D : Dd) (A : Nat → Prop) (th : Nat) (hA : ∀ (off : Nat) (kd : Kd), layM off = some kd → A (th + off)) (F : Nat) (a1 : Int32) (a2 : Int32) (a3 : Int32) (J : Ji) (K : Jl) (out : Int32 × Ji) (hE : M_pairs F a1 a2 a3 J = some out) : Ct l yX8_pairs (ws_ yX8_pairs cX8_pairs 7 (some .int)) rmM_pairs vwCl arTy D A [.ref th, .int a1, .int a2, .int a3] (RM D th J K) (RM D th out.2 K) (some (.int out.1)) 0 0 := by
  refine Ct.of (by decide) (Nat.le_of_ble_eq_true rfl) rfl ?_
  intro X hl hrm hC hR hXA hnL _
  exact w_M_pairs ⟨hC, by unfold Ft; rw [hXA]; exact hA, hnL, hrm⟩ hR F a1 a2 a3 J hE
abbrev rmM_hold : Room := { frames := 1, cells := 0, slots := 0, locals := 22 }
set_option maxHeartbeats 4000000 in
theorem w_M_hold_B20 {X : Ctx} {D : Dd} {th : Nat} {K : Jl} {out : Int32 × Ji} (hM : Mx X cX8_hold D th 3 rmM_hold) (hR : Rt X (some .boolean) (RM D th out.2 K) (some (.int out.1)) 0 0) (F : Nat) (k20 : Int32 → Int32 → Ji → Option (Int32 × Ji)) (hk20 : ∀ (a1 : Int32) (a2 : Int32) (J : Ji) , k20 a1 a2 J = some out → Wk X 0 0 (RM D th J K) 20 [(0, .ref th), (1, .int a1), (2, .int a2)] []) (a1 : Int32) (a2 : Int32) (J : Ji) (hE : M_hold_B20 F k20 a1 a2 J = some out) : Wk X 0 0 (RM D th J K) 20 [(0, .ref th), (1, .int a1), (2, .int a2)] [] := by
  have hC := hM.1
  have hnL := hM.2.2.1
  have hrm := hM.2.2.2
  unfold M_hold_B20 at hE
  refine k_iload_n (pc := 20) hC dX8_hold_20 rfl 2 rfl ?_
  refine k_bipush (pc := 21) (v := 100) hC dX8_hold_21 (by decide) ?_
  refine k_icmp_ge (pc := 23) (tgt := 49) hC dX8_hold_23 (by decide) hE (fun hE => ?_) (fun hE => ?_)
  · refine k_iconst (pc := 49) (v := 1) hC dX8_hold_49 (by decide) ?_
    exact k_zret (pc := 50) (by decide) hC hR ⟨Nat.le_refl 0, Nat.le_refl 0⟩ dX8_hold_50 (by cases hE; rfl) (by cases hE; exact fun _ h => h)
  · refine k_aload_n (pc := 26) hC dX8_hold_26 rfl 0 rfl ?_
    refine gM_82 (pc := 27) hM dX8_hold_27 ?_
    refine k_bipush (pc := 30) (v := 100) hC dX8_hold_30 (by decide) ?_
    refine k_iload_n (pc := 32) hC dX8_hold_32 rfl 1 rfl ?_
    refine k_imul (pc := 33) hC dX8_hold_33 ?_
    refine k_iload_n (pc := 34) hC dX8_hold_34 rfl 2 rfl ?_
    refine k_iadd (pc := 35) hC dX8_hold_35 ?_
    refine k_aload_n (pc := 36) hC dX8_hold_36 rfl 0 rfl ?_
    refine gM_64 (pc := 37) hM dX8_hold_37 ?_
    refine k_iload_n (pc := 40) hC dX8_hold_40 rfl 2 rfl ?_
    refine m_iald (pc := 41) 47 ly_47 hM dX8_hold_41 hE (fun x3 hE => ?_)
    refine m_iast (pc := 42) 62 ly_62 hM dX8_hold_42 hE (fun J4 hE => ?_)
    refine k_iincE (pc := 43) (k := 2) (d := 1) (lv' := fun x5 => [(2, .int x5), (0, .ref th), (1, .int a1)]) hC dX8_hold_43 rfl (by decide) (by rw [hnL]; decide) hE (fun _ => rfl) (fun x5 hE => ?_)
    refine k_goto (pc := 46) (tgt := 20) hC dX8_hold_46 (by decide) ?_
    refine k_sub [1, 2, 0] rfl ?_
    exact hk20 _ _ _ hE
theorem w_M_hold_L20 {X : Ctx} {D : Dd} {th : Nat} {K : Jl} {out : Int32 × Ji} (hM : Mx X cX8_hold D th 3 rmM_hold) (hR : Rt X (some .boolean) (RM D th out.2 K) (some (.int out.1)) 0 0) (F : Nat) (n : Nat) : ∀ (a1 : Int32) (a2 : Int32) (J : Ji) , M_hold_L20 F n a1 a2 J = some out → Wk X 0 0 (RM D th J K) 20 [(0, .ref th), (1, .int a1), (2, .int a2)] [] := by
  induction n with
  | zero => intro a1 a2 J h; cases h
  | succ n ih => intro a1 a2 J h; exact w_M_hold_B20 hM hR F (M_hold_L20 F n) ih a1 a2 J h
set_option maxHeartbeats 4000000 in
theorem w_M_hold {X : Ctx} {D : Dd} {th : Nat} {K : Jl} {out : Int32 × Ji} (hM : Mx X cX8_hold D th 3 rmM_hold) (hR : Rt X (some .boolean) (RM D th out.2 K) (some (.int out.1)) 0 0) (F : Nat) (a1 : Int32) (J : Ji) (hE : M_hold F a1 J = some out) : Wk X 0 0 (RM D th J K) 0 [(0, .ref th), (1, .int a1)] [] := by
  have hC := hM.1
  have hnL := hM.2.2.1
  have hrm := hM.2.2.2
  unfold M_hold at hE
  refine k_iload_n (pc := 0) hC dX8_hold_0 rfl 1 rfl ?_
  refine k_iconst (pc := 1) (v := 0) hC dX8_hold_1 (by decide) ?_
  refine k_iconst (pc := 2) (v := 2) hC dX8_hold_2 (by decide) ?_
  refine m_callSI (pc := 3) (As := [.int a1, .int 0, .int 2]) (fun r => r) hC (cw_M_in hC hrm (Nat.le_of_ble_eq_true rfl) (Nat.le_of_ble_eq_true rfl)) rfl rfl (Nat.le_of_ble_eq_true rfl) ⟨Nat.zero_le _, Nat.zero_le _⟩ dX8_hold_3 hE (fun r h => ct_M_in _ _ _ _ a1 0 2 r h) (fun r1 hE => ?_)
  refine k_if_ne (pc := 6) (tgt := 11) hC dX8_hold_6 (by decide) hE (fun hE => ?_) (fun hE => ?_)
  · refine k_iconst (pc := 9) (v := 0) hC dX8_hold_9 (by decide) ?_
    exact k_zret (pc := 10) (by decide) hC hR ⟨Nat.le_refl 0, Nat.le_refl 0⟩ dX8_hold_10 (by cases hE; rfl) (by cases hE; exact fun _ h => h)
  · refine k_aload_n (pc := 11) hC dX8_hold_11 rfl 0 rfl ?_
    refine gM_81 (pc := 12) hM dX8_hold_12 ?_
    refine k_iload_n (pc := 15) hC dX8_hold_15 rfl 1 rfl ?_
    refine k_iconst (pc := 16) (v := 1) hC dX8_hold_16 (by decide) ?_
    refine m_zast (pc := 17) 61 ly_61 hM dX8_hold_17 hE (fun J2 hE => ?_)
    refine k_iconst (pc := 18) (v := 0) hC dX8_hold_18 (by decide) ?_
    refine k_istore_n (pc := 19) (lv' := [(2, .int 0), (0, .ref th), (1, .int a1)]) hC dX8_hold_19 rfl (by rw [hnL]; decide) rfl ?_
    refine k_sub [1, 2, 0] rfl ?_
    exact w_M_hold_L20 hM hR F _ _ _ _ hE
theorem ct_M_hold (l : Launch) (D : Dd) (A : Nat → Prop) (th : Nat) (hA : ∀ (off : Nat) (kd : Kd), layM off = some kd → A (th + off)) (F : Nat) (a1 : Int32) (J : Ji) (K : Jl) (out : Int32 × Ji) (hE : M_hold F a1 J = some out) : Ct l yX8_hold (ws_ yX8_hold cX8_hold 3 (some .boolean)) rmM_hold vwCl arTy D A [.ref th, .int a1] (RM D th J K) (RM D th out.2 K) (some (.int out.1)) 0 0 := by
  refine Ct.of (by decide) (Nat.le_of_ble_eq_true rfl) rfl ?_
  intro X hl hrm hC hR hXA hnL _
  exact w_M_hold ⟨hC, by unfold Ft; rw [hXA]; exact hA, hnL, hrm⟩ hR F a1 J hE
abbrev rmM_restore : Room := { frames := 1, cells := 0, slots := 0, locals := 22 }
set_option maxHeartbeats 4000000 in
theorem w_M_restore_B22 {X : Ctx} {D : Dd} {th : Nat} {K : Jl} {out : Int32 × Ji} (hM : Mx X cX8_restore D th 3 rmM_restore) (hR : Rt X (some .boolean) (RM D th out.2 K) (some (.int out.1)) 0 0) (F : Nat) (k22 : Int32 → Int32 → Ji → Option (Int32 × Ji)) (hk22 : ∀ (a1 : Int32) (a2 : Int32) (J : Ji) , k22 a1 a2 J = some out → Wk X 0 0 (RM D th J K) 22 [(0, .ref th), (1, .int a1), (2, .int a2)] []) (a1 : Int32) (a2 : Int32) (J : Ji) (hE : M_restore_B22 F k22 a1 a2 J = some out) : Wk X 0 0 (RM D th J K) 22 [(0, .ref th), (1, .int a1), (2, .int a2)] [] := by
  have hC := hM.1
  have hnL := hM.2.2.1
  have hrm := hM.2.2.2
  unfold M_restore_B22 at hE
  refine k_iload_n (pc := 22) hC dX8_restore_22 rfl 2 rfl ?_
  refine k_bipush (pc := 23) (v := 100) hC dX8_restore_23 (by decide) ?_
  refine k_icmp_ge (pc := 25) (tgt := 51) hC dX8_restore_25 (by decide) hE (fun hE => ?_) (fun hE => ?_)
  · refine k_aload_n (pc := 51) hC dX8_restore_51 rfl 0 rfl ?_
    refine k_iconst (pc := 52) (v := 0) hC dX8_restore_52 (by decide) ?_
    refine pM_74 (pc := 53) hM dX8_restore_53 hE (fun J3 hE => ?_)
    refine k_iconst (pc := 56) (v := 1) hC dX8_restore_56 (by decide) ?_
    exact k_zret (pc := 57) (by decide) hC hR ⟨Nat.le_refl 0, Nat.le_refl 0⟩ dX8_restore_57 (by cases hE; rfl) (by cases hE; exact fun _ h => h)
  · refine k_aload_n (pc := 28) hC dX8_restore_28 rfl 0 rfl ?_
    refine gM_64 (pc := 29) hM dX8_restore_29 ?_
    refine k_iload_n (pc := 32) hC dX8_restore_32 rfl 2 rfl ?_
    refine k_aload_n (pc := 33) hC dX8_restore_33 rfl 0 rfl ?_
    refine gM_82 (pc := 34) hM dX8_restore_34 ?_
    refine k_bipush (pc := 37) (v := 100) hC dX8_restore_37 (by decide) ?_
    refine k_iload_n (pc := 39) hC dX8_restore_39 rfl 1 rfl ?_
    refine k_imul (pc := 40) hC dX8_restore_40 ?_
    refine k_iload_n (pc := 41) hC dX8_restore_41 rfl 2 rfl ?_
    refine k_iadd (pc := 42) hC dX8_restore_42 ?_
    refine m_iald (pc := 43) 62 ly_62 hM dX8_restore_43 hE (fun x4 hE => ?_)
    refine m_iast (pc := 44) 47 ly_47 hM dX8_restore_44 hE (fun J5 hE => ?_)
    refine k_iincE (pc := 45) (k := 2) (d := 1) (lv' := fun x6 => [(2, .int x6), (0, .ref th), (1, .int a1)]) hC dX8_restore_45 rfl (by decide) (by rw [hnL]; decide) hE (fun _ => rfl) (fun x6 hE => ?_)
    refine k_goto (pc := 48) (tgt := 22) hC dX8_restore_48 (by decide) ?_
    refine k_sub [1, 2, 0] rfl ?_
    exact hk22 _ _ _ hE
theorem w_M_restore_L22 {X : Ctx} {D : Dd} {th : Nat} {K : Jl} {out : Int32 × Ji} (hM : Mx X cX8_restore D th 3 rmM_restore) (hR : Rt X (some .boolean) (RM D th out.2 K) (some (.int out.1)) 0 0) (F : Nat) (n : Nat) : ∀ (a1 : Int32) (a2 : Int32) (J : Ji) , M_restore_L22 F n a1 a2 J = some out → Wk X 0 0 (RM D th J K) 22 [(0, .ref th), (1, .int a1), (2, .int a2)] [] := by
  induction n with
  | zero => intro a1 a2 J h; cases h
  | succ n ih => intro a1 a2 J h; exact w_M_restore_B22 hM hR F (M_restore_L22 F n) ih a1 a2 J h
set_option maxHeartbeats 4000000 in
theorem w_M_restore {X : Ctx} {D : Dd} {th : Nat} {K : Jl} {out : Int32 × Ji} (hM : Mx X cX8_restore D th 3 rmM_restore) (hR : Rt X (some .boolean) (RM D th out.2 K) (some (.int out.1)) 0 0) (F : Nat) (a1 : Int32) (J : Ji) (hE : M_restore F a1 J = some out) : Wk X 0 0 (RM D th J K) 0 [(0, .ref th), (1, .int a1)] [] := by
  have hC := hM.1
  have hnL := hM.2.2.1
  have hrm := hM.2.2.2
  unfold M_restore at hE
  refine k_iload_n (pc := 0) hC dX8_restore_0 rfl 1 rfl ?_
  refine k_iconst (pc := 1) (v := 0) hC dX8_restore_1 (by decide) ?_
  refine k_iconst (pc := 2) (v := 2) hC dX8_restore_2 (by decide) ?_
  refine m_callSI (pc := 3) (As := [.int a1, .int 0, .int 2]) (fun r => r) hC (cw_M_in hC hrm (Nat.le_of_ble_eq_true rfl) (Nat.le_of_ble_eq_true rfl)) rfl rfl (Nat.le_of_ble_eq_true rfl) ⟨Nat.zero_le _, Nat.zero_le _⟩ dX8_restore_3 hE (fun r h => ct_M_in _ _ _ _ a1 0 2 r h) (fun r1 hE => ?_)
  refine k_if_eq (pc := 6) (tgt := 18) hC dX8_restore_6 (by decide) hE (fun hE => ?_) (fun hE => ?_)
  · refine k_iconst (pc := 18) (v := 0) hC dX8_restore_18 (by decide) ?_
    exact k_zret (pc := 19) (by decide) hC hR ⟨Nat.le_refl 0, Nat.le_refl 0⟩ dX8_restore_19 (by cases hE; rfl) (by cases hE; exact fun _ h => h)
  · refine k_aload_n (pc := 9) hC dX8_restore_9 rfl 0 rfl ?_
    refine gM_81 (pc := 10) hM dX8_restore_10 ?_
    refine k_iload_n (pc := 13) hC dX8_restore_13 rfl 1 rfl ?_
    refine m_zald (pc := 14) 61 ly_61 hM dX8_restore_14 hE (fun x2 hE => ?_)
    refine k_if_ne (pc := 15) (tgt := 20) hC dX8_restore_15 (by decide) hE (fun hE => ?_) (fun hE => ?_)
    · refine k_iconst (pc := 18) (v := 0) hC dX8_restore_18 (by decide) ?_
      exact k_zret (pc := 19) (by decide) hC hR ⟨Nat.le_refl 0, Nat.le_refl 0⟩ dX8_restore_19 (by cases hE; rfl) (by cases hE; exact fun _ h => h)
    · refine k_iconst (pc := 20) (v := 0) hC dX8_restore_20 (by decide) ?_
      refine k_istore_n (pc := 21) (lv' := [(2, .int 0), (0, .ref th), (1, .int a1)]) hC dX8_restore_21 rfl (by rw [hnL]; decide) rfl ?_
      refine k_sub [1, 2, 0] rfl ?_
      exact w_M_restore_L22 hM hR F _ _ _ _ hE
theorem ct_M_restore (l : Launch) (D : Dd) (A : Nat → Prop) (th : Nat) (hA : ∀ (off : Nat) (kd : Kd), layM off = some kd → A (th + off)) (F : Nat) (a1 : Int32) (J : Ji) (K : Jl) (out : Int32 × Ji) (hE : M_restore F a1 J = some out) : Ct l yX8_restore (ws_ yX8_restore cX8_restore 3 (some .boolean)) rmM_restore vwCl arTy D A [.ref th, .int a1] (RM D th J K) (RM D th out.2 K) (some (.int out.1)) 0 0 := by
  refine Ct.of (by decide) (Nat.le_of_ble_eq_true rfl) rfl ?_
  intro X hl hrm hC hR hXA hnL _
  exact w_M_restore ⟨hC, by unfold Ft; rw [hXA]; exact hA, hnL, hrm⟩ hR F a1 J hE
abbrev rmM_count : Room := { frames := 3, cells := 0, slots := 0, locals := 70 }
set_option maxHeartbeats 4000000 in
theorem w_M_count_B189 {X : Ctx} {D : Dd} {th : Nat} {K : Jl} {out : Int32 × Ji} (hM : Mx X cX8_count D th 2 rmM_count) (hR : Rt X (some .int) (RM D th out.2 K) (some (.int out.1)) 0 0) (F : Nat) (s0 : Int32) (s1 : Int32) (J : Ji) (hE : M_count_B189 F s0 s1 J = some out) : Wk X 0 0 (RM D th J K) 189 [(0, .ref th)] [.int s0, .int s1] := by
  have hC := hM.1
  have hnL := hM.2.2.1
  have hrm := hM.2.2.2
  unfold M_count_B189 at hE
  refine k_iadd (pc := 189) hC dX8_count_189 ?_
  refine k_aload_n (pc := 190) hC dX8_count_190 rfl 0 rfl ?_
  refine gM_81 (pc := 191) hM dX8_count_191 ?_
  refine k_iconst (pc := 194) (v := 2) hC dX8_count_194 (by decide) ?_
  refine m_zald (pc := 195) 61 ly_61 hM dX8_count_195 hE (fun x14 hE => ?_)
  refine k_if_eq (pc := 196) (tgt := 203) hC dX8_count_196 (by decide) hE (fun hE => ?_) (fun hE => ?_)
  · refine k_iconst (pc := 203) (v := 0) hC dX8_count_203 (by decide) ?_
    refine k_iadd (pc := 204) hC dX8_count_204 ?_
    exact k_iret (pc := 205) hC hR ⟨Nat.le_refl 0, Nat.le_refl 0⟩ dX8_count_205 (by cases hE; rfl) (by cases hE; exact fun _ h => h)
  · refine k_iconst (pc := 199) (v := 1) hC dX8_count_199 (by decide) ?_
    refine k_goto (pc := 200) (tgt := 204) hC dX8_count_200 (by decide) ?_
    refine k_iadd (pc := 204) hC dX8_count_204 ?_
    exact k_iret (pc := 205) hC hR ⟨Nat.le_refl 0, Nat.le_refl 0⟩ dX8_count_205 (by cases hE; rfl) (by cases hE; exact fun _ h => h)
set_option maxHeartbeats 4000000 in
theorem w_M_count_B175 {X : Ctx} {D : Dd} {th : Nat} {K : Jl} {out : Int32 × Ji} (hM : Mx X cX8_count D th 2 rmM_count) (hR : Rt X (some .int) (RM D th out.2 K) (some (.int out.1)) 0 0) (F : Nat) (s0 : Int32) (J : Ji) (hE : M_count_B175 F s0 J = some out) : Wk X 0 0 (RM D th J K) 175 [(0, .ref th)] [.int s0] := by
  have hC := hM.1
  have hnL := hM.2.2.1
  have hrm := hM.2.2.2
  unfold M_count_B175 at hE
  refine k_aload_n (pc := 175) hC dX8_count_175 rfl 0 rfl ?_
  refine gM_81 (pc := 176) hM dX8_count_176 ?_
  refine k_iconst (pc := 179) (v := 1) hC dX8_count_179 (by decide) ?_
  refine m_zald (pc := 180) 61 ly_61 hM dX8_count_180 hE (fun x13 hE => ?_)
  refine k_if_eq (pc := 181) (tgt := 188) hC dX8_count_181 (by decide) hE (fun hE => ?_) (fun hE => ?_)
  · refine k_iconst (pc := 188) (v := 0) hC dX8_count_188 (by decide) ?_
    exact w_M_count_B189 hM hR F _ _ _ hE
  · refine k_iconst (pc := 184) (v := 1) hC dX8_count_184 (by decide) ?_
    refine k_goto (pc := 185) (tgt := 189) hC dX8_count_185 (by decide) ?_
    exact w_M_count_B189 hM hR F _ _ _ hE
set_option maxHeartbeats 4000000 in
theorem w_M_count {X : Ctx} {D : Dd} {th : Nat} {K : Jl} {out : Int32 × Ji} (hM : Mx X cX8_count D th 2 rmM_count) (hR : Rt X (some .int) (RM D th out.2 K) (some (.int out.1)) 0 0) (F : Nat) (a1 : Int32) (J : Ji) (hE : M_count F a1 J = some out) : Wk X 0 0 (RM D th J K) 0 [(0, .ref th), (1, .int a1)] [] := by
  have hC := hM.1
  have hnL := hM.2.2.1
  have hrm := hM.2.2.2
  unfold M_count at hE
  refine k_iload_n (pc := 0) hC dX8_count_0 rfl 1 rfl ?_
  refine sw_E hE (fun hx hE => ?_) (fun n0 hE => ?_)
  · refine k_tswI (pc := 1) (k := 0) (tgt := 68) hC dX8_count_1 hx (by decide) (by decide) rfl (by decide) ?_
    refine k_aload_n (pc := 68) hC dX8_count_68 rfl 0 rfl ?_
    refine gM_24 (pc := 69) hM dX8_count_69 ?_
    refine k_aload_n (pc := 72) hC dX8_count_72 rfl 0 rfl ?_
    refine gM_18 (pc := 73) hM dX8_count_73 ?_
    refine m_iald (pc := 76) 11 ly_11 hM dX8_count_76 hE (fun x1 hE => ?_)
    exact k_iret (pc := 77) hC hR ⟨Nat.le_refl 0, Nat.le_refl 0⟩ dX8_count_77 (by cases hE; rfl) (by cases hE; exact fun _ h => h)
  refine sw_E hE (fun hx hE => ?_) (fun n1 hE => ?_)
  · refine k_tswI (pc := 1) (k := 1) (tgt := 78) hC dX8_count_1 hx (by decide) (by decide) rfl (by decide) ?_
    refine k_aload_n (pc := 78) hC dX8_count_78 rfl 0 rfl ?_
    refine gM_25 (pc := 79) hM dX8_count_79 ?_
    refine k_aload_n (pc := 82) hC dX8_count_82 rfl 0 rfl ?_
    refine gM_18 (pc := 83) hM dX8_count_83 ?_
    refine m_iald (pc := 86) 12 ly_12 hM dX8_count_86 hE (fun x2 hE => ?_)
    exact k_iret (pc := 87) hC hR ⟨Nat.le_refl 0, Nat.le_refl 0⟩ dX8_count_87 (by cases hE; rfl) (by cases hE; exact fun _ h => h)
  refine sw_E hE (fun hx hE => ?_) (fun n2 hE => ?_)
  · refine k_tswI (pc := 1) (k := 2) (tgt := 88) hC dX8_count_1 hx (by decide) (by decide) rfl (by decide) ?_
    refine k_aload_n (pc := 88) hC dX8_count_88 rfl 0 rfl ?_
    refine gM_30 (pc := 89) hM dX8_count_89 ?_
    refine k_aload_n (pc := 92) hC dX8_count_92 rfl 0 rfl ?_
    refine gM_18 (pc := 93) hM dX8_count_93 ?_
    refine m_iald (pc := 96) 17 ly_17 hM dX8_count_96 hE (fun x3 hE => ?_)
    exact k_iret (pc := 97) hC hR ⟨Nat.le_refl 0, Nat.le_refl 0⟩ dX8_count_97 (by cases hE; rfl) (by cases hE; exact fun _ h => h)
  refine sw_E hE (fun hx hE => ?_) (fun n3 hE => ?_)
  · refine k_tswI (pc := 1) (k := 3) (tgt := 98) hC dX8_count_1 hx (by decide) (by decide) rfl (by decide) ?_
    refine k_aload_n (pc := 98) hC dX8_count_98 rfl 0 rfl ?_
    refine m_clI (pc := 99) (As := []) hM (cw_M_tasksNow hM (Nat.le_of_ble_eq_true rfl) (Nat.le_of_ble_eq_true rfl)) rfl rfl (Nat.le_of_ble_eq_true rfl) dX8_count_99 hE (fun r h => ct_M_tasksNow _ _ _ _ hM.2.1  J K r h) (fun r4 hE => ?_)
    exact k_iret (pc := 102) hC hR ⟨Nat.le_refl 0, Nat.le_refl 0⟩ dX8_count_102 (by cases hE; rfl) (by cases hE; exact fun _ h => h)
  refine sw_E hE (fun hx hE => ?_) (fun n4 hE => ?_)
  · refine k_tswI (pc := 1) (k := 4) (tgt := 103) hC dX8_count_1 hx (by decide) (by decide) rfl (by decide) ?_
    refine k_aload_n (pc := 103) hC dX8_count_103 rfl 0 rfl ?_
    refine m_clI (pc := 104) (As := []) hM (cw_M_menNow hM (Nat.le_of_ble_eq_true rfl) (Nat.le_of_ble_eq_true rfl)) rfl rfl (Nat.le_of_ble_eq_true rfl) dX8_count_104 hE (fun r h => ct_M_menNow _ _ _ _ hM.2.1  J K r h) (fun r5 hE => ?_)
    exact k_iret (pc := 107) hC hR ⟨Nat.le_refl 0, Nat.le_refl 0⟩ dX8_count_107 (by cases hE; rfl) (by cases hE; exact fun _ h => h)
  refine sw_E hE (fun hx hE => ?_) (fun n5 hE => ?_)
  · refine k_tswI (pc := 1) (k := 5) (tgt := 108) hC dX8_count_1 hx (by decide) (by decide) rfl (by decide) ?_
    refine k_aload_n (pc := 108) hC dX8_count_108 rfl 0 rfl ?_
    refine gM_55 (pc := 109) hM dX8_count_109 ?_
    refine k_aload_n (pc := 112) hC dX8_count_112 rfl 0 rfl ?_
    refine gM_18 (pc := 113) hM dX8_count_113 ?_
    refine m_iald (pc := 116) 41 ly_41 hM dX8_count_116 hE (fun x6 hE => ?_)
    exact k_iret (pc := 117) hC hR ⟨Nat.le_refl 0, Nat.le_refl 0⟩ dX8_count_117 (by cases hE; rfl) (by cases hE; exact fun _ h => h)
  refine sw_E hE (fun hx hE => ?_) (fun n6 hE => ?_)
  · refine k_tswI (pc := 1) (k := 6) (tgt := 118) hC dX8_count_1 hx (by decide) (by decide) rfl (by decide) ?_
    refine k_aload_n (pc := 118) hC dX8_count_118 rfl 0 rfl ?_
    refine gM_64 (pc := 119) hM dX8_count_119 ?_
    refine k_bipush (pc := 122) (v := 79) hC dX8_count_122 (by decide) ?_
    refine m_iald (pc := 124) 47 ly_47 hM dX8_count_124 hE (fun x7 hE => ?_)
    exact k_iret (pc := 125) hC hR ⟨Nat.le_refl 0, Nat.le_refl 0⟩ dX8_count_125 (by cases hE; rfl) (by cases hE; exact fun _ h => h)
  refine sw_E hE (fun hx hE => ?_) (fun n7 hE => ?_)
  · refine k_tswI (pc := 1) (k := 7) (tgt := 126) hC dX8_count_1 hx (by decide) (by decide) rfl (by decide) ?_
    refine k_aload_n (pc := 126) hC dX8_count_126 rfl 0 rfl ?_
    refine gM_64 (pc := 127) hM dX8_count_127 ?_
    refine k_bipush (pc := 130) (v := 78) hC dX8_count_130 (by decide) ?_
    refine m_iald (pc := 132) 47 ly_47 hM dX8_count_132 hE (fun x8 hE => ?_)
    refine m_callSI (pc := 133) (As := [.int x8]) (fun r => r) hC (cw_M_bits hC hrm (Nat.le_of_ble_eq_true rfl) (Nat.le_of_ble_eq_true rfl)) rfl rfl (Nat.le_of_ble_eq_true rfl) ⟨Nat.zero_le _, Nat.zero_le _⟩ dX8_count_133 hE (fun r h => ct_M_bits _ _ _ _ F x8 r h) (fun r9 hE => ?_)
    exact k_iret (pc := 136) hC hR ⟨Nat.le_refl 0, Nat.le_refl 0⟩ dX8_count_136 (by cases hE; rfl) (by cases hE; exact fun _ h => h)
  refine sw_E hE (fun hx hE => ?_) (fun n8 hE => ?_)
  · refine k_tswI (pc := 1) (k := 8) (tgt := 137) hC dX8_count_1 hx (by decide) (by decide) rfl (by decide) ?_
    refine k_aload_n (pc := 137) hC dX8_count_137 rfl 0 rfl ?_
    refine m_clVj (pc := 138) (As := []) hM (cw_M_takes hM (Nat.le_of_ble_eq_true rfl) (Nat.le_of_ble_eq_true rfl)) rfl rfl (Nat.le_of_ble_eq_true rfl) dX8_count_138 hE (fun r h => ct_M_takes _ _ _ _ hM.2.1 F J K r h) (fun r10 hE => ?_)
    refine k_aload_n (pc := 141) hC dX8_count_141 rfl 0 rfl ?_
    refine m_clI (pc := 142) (As := []) hM (cw_M_worthNow hM (Nat.le_of_ble_eq_true rfl) (Nat.le_of_ble_eq_true rfl)) rfl rfl (Nat.le_of_ble_eq_true rfl) dX8_count_142 hE (fun r h => ct_M_worthNow _ _ _ _ hM.2.1 F r10 K r h) (fun r11 hE => ?_)
    exact k_iret (pc := 145) hC hR ⟨Nat.le_refl 0, Nat.le_refl 0⟩ dX8_count_145 (by cases hE; rfl) (by cases hE; exact fun _ h => h)
  refine sw_E hE (fun hx hE => ?_) (fun n9 hE => ?_)
  · refine k_tswI (pc := 1) (k := 9) (tgt := 146) hC dX8_count_1 hx (by decide) (by decide) rfl (by decide) ?_
    refine k_aload_n (pc := 146) hC dX8_count_146 rfl 0 rfl ?_
    refine gM_2 (pc := 147) hM dX8_count_147 ?_
    exact k_iret (pc := 150) hC hR ⟨Nat.le_refl 0, Nat.le_refl 0⟩ dX8_count_150 (by cases hE; rfl) (by cases hE; exact fun _ h => h)
  refine sw_E hE (fun hx hE => ?_) (fun n10 hE => ?_)
  · refine k_tswI (pc := 1) (k := 10) (tgt := 151) hC dX8_count_1 hx (by decide) (by decide) rfl (by decide) ?_
    refine k_aload_n (pc := 151) hC dX8_count_151 rfl 0 rfl ?_
    refine gM_74 (pc := 152) hM dX8_count_152 ?_
    exact k_iret (pc := 155) hC hR ⟨Nat.le_refl 0, Nat.le_refl 0⟩ dX8_count_155 (by cases hE; rfl) (by cases hE; exact fun _ h => h)
  refine sw_E hE (fun hx hE => ?_) (fun n11 hE => ?_)
  · refine k_tswI (pc := 1) (k := 11) (tgt := 156) hC dX8_count_1 hx (by decide) (by decide) rfl (by decide) ?_
    refine k_aload_n (pc := 156) hC dX8_count_156 rfl 0 rfl ?_
    refine gM_77 (pc := 157) hM dX8_count_157 ?_
    exact k_iret (pc := 160) hC hR ⟨Nat.le_refl 0, Nat.le_refl 0⟩ dX8_count_160 (by cases hE; rfl) (by cases hE; exact fun _ h => h)
  refine sw_E hE (fun hx hE => ?_) (fun n12 hE => ?_)
  · refine k_tswI (pc := 1) (k := 12) (tgt := 161) hC dX8_count_1 hx (by decide) (by decide) rfl (by decide) ?_
    refine k_aload_n (pc := 161) hC dX8_count_161 rfl 0 rfl ?_
    refine gM_81 (pc := 162) hM dX8_count_162 ?_
    refine k_iconst (pc := 165) (v := 0) hC dX8_count_165 (by decide) ?_
    refine m_zald (pc := 166) 61 ly_61 hM dX8_count_166 hE (fun x12 hE => ?_)
    refine k_if_eq (pc := 167) (tgt := 174) hC dX8_count_167 (by decide) hE (fun hE => ?_) (fun hE => ?_)
    · refine k_iconst (pc := 174) (v := 0) hC dX8_count_174 (by decide) ?_
      refine k_sub [0] rfl ?_
      exact w_M_count_B175 hM hR F _ _ hE
    · refine k_iconst (pc := 170) (v := 1) hC dX8_count_170 (by decide) ?_
      refine k_goto (pc := 171) (tgt := 175) hC dX8_count_171 (by decide) ?_
      refine k_sub [0] rfl ?_
      exact w_M_count_B175 hM hR F _ _ hE
  have z0 := sw_ne (z := 0) n0 rfl
  have z1 := sw_ne (z := 1) n1 rfl
  have z2 := sw_ne (z := 2) n2 rfl
  have z3 := sw_ne (z := 3) n3 rfl
  have z4 := sw_ne (z := 4) n4 rfl
  have z5 := sw_ne (z := 5) n5 rfl
  have z6 := sw_ne (z := 6) n6 rfl
  have z7 := sw_ne (z := 7) n7 rfl
  have z8 := sw_ne (z := 8) n8 rfl
  have z9 := sw_ne (z := 9) n9 rfl
  have z10 := sw_ne (z := 10) n10 rfl
  have z11 := sw_ne (z := 11) n11 rfl
  have z12 := sw_ne (z := 12) n12 rfl
  refine k_tswO (pc := 1) (tgt := 206) hC dX8_count_1 (by omega) (by decide) ?_
  refine k_iconst (pc := 206) (v := (-1)) hC dX8_count_206 (by decide) ?_
  exact k_iret (pc := 207) hC hR ⟨Nat.le_refl 0, Nat.le_refl 0⟩ dX8_count_207 (by cases hE; rfl) (by cases hE; exact fun _ h => h)
theorem ct_M_count (l : Launch) (D : Dd) (A : Nat → Prop) (th : Nat) (hA : ∀ (off : Nat) (kd : Kd), layM off = some kd → A (th + off)) (F : Nat) (a1 : Int32) (J : Ji) (K : Jl) (out : Int32 × Ji) (hE : M_count F a1 J = some out) : Ct l yX8_count (ws_ yX8_count cX8_count 2 (some .int)) rmM_count vwCl arTy D A [.ref th, .int a1] (RM D th J K) (RM D th out.2 K) (some (.int out.1)) 0 0 := by
  refine Ct.of (by decide) (Nat.le_of_ble_eq_true rfl) rfl ?_
  intro X hl hrm hC hR hXA hnL _
  exact w_M_count ⟨hC, by unfold Ft; rw [hXA]; exact hA, hnL, hrm⟩ hR F a1 J hE
