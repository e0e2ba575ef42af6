set_option maxRecDepth 100000
abbrev rmM_appends : Room := { frames := 0, cells := 0, slots := 0, locals := 0 }
set_option maxHeartbeats 4000000 in
theorem w_M_appends {X : Ctx} {D : Dd} {P : Heap → Prop} {out : Int64} (hM : Sx X cX8_appends D 3 rmM_appends) (hR : Rt X (some .long) P (some (.long out)) 0 0) (a0 : Int64) (a2 : Int32) (hE : M_appends a0 a2 = some out) : Wk X 0 0 P 0 [(0, .long a0), (2, .int a2)] [] := by
  have hC := hM.1
  have hnL := hM.2.1
  have hrm := hM.2.2
  unfold M_appends at hE
  refine k_iload_n (pc := 0) hC dX8_appends_0 rfl 1 rfl ?_
  refine k_if_ne (pc := 1) (tgt := 8) hC dX8_appends_1 (by decide) hE (fun hE => ?_) (fun hE => ?_)
  · refine k_lload_n (pc := 4) hC dX8_appends_4 rfl 0 rfl ?_
    refine k_goto (pc := 5) (tgt := 21) hC dX8_appends_5 (by decide) ?_
    exact k_lret (pc := 21) hC hR ⟨Nat.le_refl 0, Nat.le_refl 0⟩ dX8_appends_21 (by cases hE; rfl) (by cases hE; exact fun _ h => h)
  · refine k_ldc2 (pc := 8) (v := 27) hC q1553 dX8_appends_8 ?_
    refine k_lload_n (pc := 11) hC dX8_appends_11 rfl 0 rfl ?_
    refine k_lmul (pc := 12) hC dX8_appends_12 ?_
    refine k_iload_n (pc := 13) hC dX8_appends_13 rfl 1 rfl ?_
    refine k_bipush (pc := 14) (v := 97) hC dX8_appends_14 (by decide) ?_
    refine k_isub (pc := 16) hC dX8_appends_16 ?_
    refine k_iconst (pc := 17) (v := 1) hC dX8_appends_17 (by decide) ?_
    refine k_iadd (pc := 18) hC dX8_appends_18 ?_
    refine k_i2l (pc := 19) hC dX8_appends_19 ?_
    refine k_ladd (pc := 20) hC dX8_appends_20 ?_
    exact k_lret (pc := 21) hC hR ⟨Nat.le_refl 0, Nat.le_refl 0⟩ dX8_appends_21 (by cases hE; rfl) (by cases hE; exact fun _ h => h)
theorem ct_M_appends (l : Launch) (D : Dd) (A : Nat → Prop) (P : Heap → Prop) (a0 : Int64) (a2 : Int32) (out : Int64) (hE : M_appends a0 a2 = some out) : Ct l yX8_appends (ws_ yX8_appends cX8_appends 3 (some .long)) rmM_appends vwCl arTy D A [.long a0, .int a2] P P (some (.long out)) 0 0 := by
  refine Ct.of (by decide) (Nat.le_of_ble_eq_true rfl) rfl ?_
  intro X hl hrm hC hR hA hnL _
  exact w_M_appends ⟨hC, hnL, hrm⟩ hR a0 a2 hE
theorem cw_M_appends {X : Ctx} {cc : ByteArray} {D : Dd} {rm : Room} (hC : Cx X cc RX8 vwCl arTy D) (hrm : X.2.2.2.1 = rm) (h1 : rmM_appends.frames + 1 ≤ rm.frames) (h2 : 8 + (3 + 11) + rmM_appends.locals ≤ rm.locals) : CallB X.2.2.2.1 X.2.2.2.2.1 X.2.2.2.2.2.2.1 RX8 222 yX8_appends cX8_appends 3 (some .long) (ws_ yX8_appends cX8_appends 3 (some .long)) rmM_appends 0 0 2 ∧ (Cond.static yX8_appends).before X.2.2.2.2.2.2.1 X.2.2.2.2.1 = true := va_cwS 2 (cx_w hC) (lw_S q1550 q1551 q128 q1552) rfl rfl rfl (by decide +kernel) (by rw [hrm]; exact ⟨h1, h2⟩)
abbrev rmM_word : Room := { frames := 1, cells := 0, slots := 0, locals := 22 }
set_option maxHeartbeats 4000000 in
theorem w_M_word {X : Ctx} {D : Dd} {P : Heap → Prop} {out : Int64} (hM : Sx X cX8_word D 7 rmM_word) (hR : Rt X (some .long) P (some (.long out)) 0 0) (a0 : Int32) (a1 : Int32) (a2 : Int32) (a3 : Int32) (a4 : Int32) (a5 : Int32) (a6 : Int32) (hE : M_word a0 a1 a2 a3 a4 a5 a6 = some out) : Wk X 0 0 P 0 [(0, .int a0), (1, .int a1), (2, .int a2), (3, .int a3), (4, .int a4), (5, .int a5), (6, .int a6)] [] := by
  have hC := hM.1
  have hnL := hM.2.1
  have hrm := hM.2.2
  unfold M_word at hE
  refine k_lconst (pc := 0) (v := 0) hC dX8_word_0 (by decide) ?_
  refine k_iload_n (pc := 1) hC dX8_word_1 rfl 0 rfl ?_
  refine m_callSL (pc := 2) (As := [.long 0, .int a0]) (fun r => r) hC (cw_M_appends hC hrm (Nat.le_of_ble_eq_true rfl) (Nat.le_of_ble_eq_true rfl)) rfl rfl (Nat.le_of_ble_eq_true rfl) ⟨Nat.zero_le _, Nat.zero_le _⟩ dX8_word_2 hE (fun r h => ct_M_appends _ _ _ _ 0 a0 r h) (fun r1 hE => ?_)
  refine k_iload_n (pc := 5) hC dX8_word_5 rfl 1 rfl ?_
  refine m_callSL (pc := 6) (As := [.long r1, .int a1]) (fun r => r) hC (cw_M_appends hC hrm (Nat.le_of_ble_eq_true rfl) (Nat.le_of_ble_eq_true rfl)) rfl rfl (Nat.le_of_ble_eq_true rfl) ⟨Nat.zero_le _, Nat.zero_le _⟩ dX8_word_6 hE (fun r h => ct_M_appends _ _ _ _ r1 a1 r h) (fun r2 hE => ?_)
  refine k_iload_n (pc := 9) hC dX8_word_9 rfl 2 rfl ?_
  refine m_callSL (pc := 10) (As := [.long r2, .int a2]) (fun r => r) hC (cw_M_appends hC hrm (Nat.le_of_ble_eq_true rfl) (Nat.le_of_ble_eq_true rfl)) rfl rfl (Nat.le_of_ble_eq_true rfl) ⟨Nat.zero_le _, Nat.zero_le _⟩ dX8_word_10 hE (fun r h => ct_M_appends _ _ _ _ r2 a2 r h) (fun r3 hE => ?_)
  refine k_iload_n (pc := 13) hC dX8_word_13 rfl 3 rfl ?_
  refine m_callSL (pc := 14) (As := [.long r3, .int a3]) (fun r => r) hC (cw_M_appends hC hrm (Nat.le_of_ble_eq_true rfl) (Nat.le_of_ble_eq_true rfl)) rfl rfl (Nat.le_of_ble_eq_true rfl) ⟨Nat.zero_le _, Nat.zero_le _⟩ dX8_word_14 hE (fun r h => ct_M_appends _ _ _ _ r3 a3 r h) (fun r4 hE => ?_)
  refine k_iload (pc := 17) hC dX8_word_17 4 rfl ?_
  refine m_callSL (pc := 19) (As := [.long r4, .int a4]) (fun r => r) hC (cw_M_appends hC hrm (Nat.le_of_ble_eq_true rfl) (Nat.le_of_ble_eq_true rfl)) rfl rfl (Nat.le_of_ble_eq_true rfl) ⟨Nat.zero_le _, Nat.zero_le _⟩ dX8_word_19 hE (fun r h => ct_M_appends _ _ _ _ r4 a4 r h) (fun r5 hE => ?_)
  refine k_iload (pc := 22) hC dX8_word_22 5 rfl ?_
  refine m_callSL (pc := 24) (As := [.long r5, .int a5]) (fun r => r) hC (cw_M_appends hC hrm (Nat.le_of_ble_eq_true rfl) (Nat.le_of_ble_eq_true rfl)) rfl rfl (Nat.le_of_ble_eq_true rfl) ⟨Nat.zero_le _, Nat.zero_le _⟩ dX8_word_24 hE (fun r h => ct_M_appends _ _ _ _ r5 a5 r h) (fun r6 hE => ?_)
  refine k_iload (pc := 27) hC dX8_word_27 6 rfl ?_
  refine m_callSL (pc := 29) (As := [.long r6, .int a6]) (fun r => r) hC (cw_M_appends hC hrm (Nat.le_of_ble_eq_true rfl) (Nat.le_of_ble_eq_true rfl)) rfl rfl (Nat.le_of_ble_eq_true rfl) ⟨Nat.zero_le _, Nat.zero_le _⟩ dX8_word_29 hE (fun r h => ct_M_appends _ _ _ _ r6 a6 r h) (fun r7 hE => ?_)
  exact k_lret (pc := 32) hC hR ⟨Nat.le_refl 0, Nat.le_refl 0⟩ dX8_word_32 (by cases hE; rfl) (by cases hE; exact fun _ h => h)
theorem ct_M_word (l : Launch) (D : Dd) (A : Nat → Prop) (P : Heap → Prop) (a0 : Int32) (a1 : Int32) (a2 : Int32) (a3 : Int32) (a4 : Int32) (a5 : Int32) (a6 : Int32) (out : Int64) (hE : M_word a0 a1 a2 a3 a4 a5 a6 = some out) : Ct l yX8_word (ws_ yX8_word cX8_word 7 (some .long)) rmM_word vwCl arTy D A [.int a0, .int a1, .int a2, .int a3, .int a4, .int a5, .int a6] P P (some (.long out)) 0 0 := by
  refine Ct.of (by decide) (Nat.le_of_ble_eq_true rfl) rfl ?_
  intro X hl hrm hC hR hA hnL _
  exact w_M_word ⟨hC, hnL, hrm⟩ hR a0 a1 a2 a3 a4 a5 a6 hE
theorem cw_M_word {X : Ctx} {cc : ByteArray} {D : Dd} {rm : Room} (hC : Cx X cc RX8 vwCl arTy D) (hrm : X.2.2.2.1 = rm) (h1 : rmM_word.frames + 1 ≤ rm.frames) (h2 : 8 + (7 + 11) + rmM_word.locals ≤ rm.locals) : CallB X.2.2.2.1 X.2.2.2.2.1 X.2.2.2.2.2.2.1 RX8 206 yX8_word cX8_word 7 (some .long) (ws_ yX8_word cX8_word 7 (some .long)) rmM_word 0 0 7 ∧ (Cond.static yX8_word).before X.2.2.2.2.2.2.1 X.2.2.2.2.1 = true := va_cwS 7 (cx_w hC) (lw_S q1547 q1548 q128 q1549) rfl rfl rfl (by decide +kernel) (by rw [hrm]; exact ⟨h1, h2⟩)
abbrev rmM_put : Room := { frames := 0, cells := 0, slots := 0, locals := 0 }
set_option maxHeartbeats 4000000 in
theorem w_M_put_B3 {X : Ctx} {D : Dd} {th : Nat} {K : Jl} {out : Ji} (hM : Mx X cX8_put D th 3 rmM_put) (hR : Rt X none (RM D th out K) none 0 0) (F : Nat) (k3 : Int32 → Int32 → Ji → Option (Ji)) (hk3 : ∀ (a1 : Int32) (a2 : Int32) (J : Ji) , k3 a1 a2 J = some out → Wk X 0 0 (RM D th J K) 3 [(0, .ref th), (1, .int a1), (2, .int a2)] []) (a1 : Int32) (a2 : Int32) (J : Ji) (hE : M_put_B3 F k3 a1 a2 J = some out) : Wk X 0 0 (RM D th J K) 3 [(0, .ref th), (1, .int a1), (2, .int a2)] [] := by
  have hC := hM.1
  have hnL := hM.2.2.1
  have hrm := hM.2.2.2
  unfold M_put_B3 at hE
  refine k_iload_n (pc := 3) hC dX8_put_3 rfl 2 rfl ?_
  refine k_if_lt (pc := 4) (tgt := 36) hC dX8_put_4 (by decide) hE (fun hE => ?_) (fun hE => ?_)
  · exact k_vret (pc := 36) hC hR ⟨Nat.le_refl 0, Nat.le_refl 0⟩ dX8_put_36 (by cases hE; rfl) (by cases hE; exact fun _ h => h)
  · refine k_aload_n (pc := 7) hC dX8_put_7 rfl 0 rfl ?_
    refine gM_1 (pc := 8) hM dX8_put_8 ?_
    refine k_aload_n (pc := 11) hC dX8_put_11 rfl 0 rfl ?_
    refine gM_2 (pc := 12) hM dX8_put_12 ?_
    refine k_iload_n (pc := 15) hC dX8_put_15 rfl 1 rfl ?_
    refine k_iload_n (pc := 16) hC dX8_put_16 rfl 2 rfl ?_
    refine k_ishr (pc := 17) hC dX8_put_17 ?_
    refine k_i2b (pc := 18) hC dX8_put_18 ?_
    refine m_bast (pc := 19) 1 ly_1 hM dX8_put_19 hE (fun J1 hE => ?_)
    refine k_aload_n (pc := 20) hC dX8_put_20 rfl 0 rfl ?_
    refine k_dup (pc := 21) hC dX8_put_21 rfl ?_
    refine gM_2 (pc := 22) hM dX8_put_22 ?_
    refine k_iconst (pc := 25) (v := 1) hC dX8_put_25 (by decide) ?_
    refine k_iadd (pc := 26) hC dX8_put_26 ?_
    refine pM_2 (pc := 27) hM dX8_put_27 hE (fun J2 hE => ?_)
    refine k_iincE (pc := 30) (k := 2) (d := (-8)) (lv' := fun x3 => [(2, .int x3), (0, .ref th), (1, .int a1)]) hC dX8_put_30 rfl (by decide) (by rw [hnL]; decide) hE (fun _ => rfl) (fun x3 hE => ?_)
    refine k_goto (pc := 33) (tgt := 3) hC dX8_put_33 (by decide) ?_
    refine k_sub [1, 2, 0] rfl ?_
    exact hk3 _ _ _ hE
theorem w_M_put_L3 {X : Ctx} {D : Dd} {th : Nat} {K : Jl} {out : Ji} (hM : Mx X cX8_put D th 3 rmM_put) (hR : Rt X none (RM D th out K) none 0 0) (F : Nat) (n : Nat) : ∀ (a1 : Int32) (a2 : Int32) (J : Ji) , M_put_L3 F n a1 a2 J = some out → Wk X 0 0 (RM D th J K) 3 [(0, .ref th), (1, .int a1), (2, .int a2)] [] := by
  induction n with
  | zero => intro a1 a2 J h; cases h
  | succ n ih => intro a1 a2 J h; exact w_M_put_B3 hM hR F (M_put_L3 F n) ih a1 a2 J h
set_option maxHeartbeats 4000000 in
theorem w_M_put {X : Ctx} {D : Dd} {th : Nat} {K : Jl} {out : Ji} (hM : Mx X cX8_put D th 3 rmM_put) (hR : Rt X none (RM D th out K) none 0 0) (F : Nat) (a1 : Int32) (J : Ji) (hE : M_put F a1 J = some out) : Wk X 0 0 (RM D th J K) 0 [(0, .ref th), (1, .int a1)] [] := by
  have hC := hM.1
  have hnL := hM.2.2.1
  have hrm := hM.2.2.2
  unfold M_put at hE
  refine k_bipush (pc := 0) (v := 24) hC dX8_put_0 (by decide) ?_
  refine k_istore_n (pc := 2) (lv' := [(2, .int 24), (0, .ref th), (1, .int a1)]) hC dX8_put_2 rfl (by rw [hnL]; decide) rfl ?_
  refine k_sub [1, 2, 0] rfl ?_
  exact w_M_put_L3 hM hR F _ _ _ _ hE
theorem ct_M_put (l : Launch) (D : Dd) (A : Nat → Prop) (th : Nat) (hA : ∀ (off : Nat) (kd : Kd), layM off = some kd → A (th + off)) (F : Nat) (a1 : Int32) (J : Ji) (K : Jl) (out : Ji) (hE : M_put F a1 J = some out) : Ct l yX8_put (ws_ yX8_put cX8_put 3 none) rmM_put vwCl arTy D A [.ref th, .int a1] (RM D th J K) (RM D th out K) none 0 0 := by
  refine Ct.of (by decide) (Nat.le_of_ble_eq_true rfl) rfl ?_
  intro X hl hrm hC hR hXA hnL _
  exact w_M_put ⟨hC, by unfold Ft; rw [hXA]; exact hA, hnL, hrm⟩ hR F a1 J hE
theorem cw_M_put {X : Ctx} {cc : ByteArray} {D : Dd} {th mL : Nat} {rm : Room} (hM : Mx X cc D th mL rm) (h1 : rmM_put.frames + 1 ≤ rm.frames) (h2 : 8 + (3 + 11) + rmM_put.locals ≤ rm.locals) : CallW X.2.2.2.1 X.2.2.2.2.1 X.2.2.2.2.2.2.1 RX8 RX8 213 yX8_put cX8_put 3 none (ws_ yX8_put cX8_put 3 none) rmM_put 0 0 1 := cwV 1 (cx_w hM.1) (lw_V q1808 q1810 qs51 q128 q1811) rfl rfl rfl (by decide +kernel) (by rw [hM.2.2.2]; exact ⟨h1, h2⟩)
abbrev rmM_feed : Room := { frames := 1, cells := 0, slots := 0, locals := 22 }
set_option maxHeartbeats 4000000 in
theorem w_M_feed {X : Ctx} {D : Dd} {th : Nat} {K : Jl} {out : Int32 × Ji} (hM : Mx X cX8_feed D th 6 rmM_feed) (hR : Rt X (some .int) (RM D th out.2 K) (some (.int out.1)) 0 0) (F : Nat) (a1 : Int32) (a2 : Int32) (a3 : Int32) (a4 : Int32) (a5 : Int32) (J : Ji) (hE : M_feed F a1 a2 a3 a4 a5 J = some out) : Wk X 0 0 (RM D th J K) 0 [(0, .ref th), (1, .int a1), (2, .int a2), (3, .int a3), (4, .int a4), (5, .int a5)] [] := by
  have hC := hM.1
  have hnL := hM.2.2.1
  have hrm := hM.2.2.2
  unfold M_feed at hE
  refine k_aload_n (pc := 0) hC dX8_feed_0 rfl 0 rfl ?_
  refine gM_2 (pc := 1) hM dX8_feed_1 ?_
  refine k_bipush (pc := 4) (v := 20) hC dX8_feed_4 (by decide) ?_
  refine k_iadd (pc := 6) hC dX8_feed_6 ?_
  refine k_sipush (pc := 7) (v := 2000) hC dX8_feed_7 (by decide) ?_
  refine k_icmp_le (pc := 10) (tgt := 15) hC dX8_feed_10 (by decide) hE (fun hE => ?_) (fun hE => ?_)
  · refine k_aload_n (pc := 15) hC dX8_feed_15 rfl 0 rfl ?_
    refine k_iload_n (pc := 16) hC dX8_feed_16 rfl 1 rfl ?_
    refine m_clVj (pc := 17) (As := [.int a1]) hM (cw_M_put hM (Nat.le_of_ble_eq_true rfl) (Nat.le_of_ble_eq_true rfl)) rfl rfl (Nat.le_of_ble_eq_true rfl) dX8_feed_17 hE (fun r h => ct_M_put _ _ _ _ hM.2.1 F a1 J K r h) (fun r1 hE => ?_)
    refine k_aload_n (pc := 20) hC dX8_feed_20 rfl 0 rfl ?_
    refine k_iload_n (pc := 21) hC dX8_feed_21 rfl 2 rfl ?_
    refine m_clVj (pc := 22) (As := [.int a2]) hM (cw_M_put hM (Nat.le_of_ble_eq_true rfl) (Nat.le_of_ble_eq_true rfl)) rfl rfl (Nat.le_of_ble_eq_true rfl) dX8_feed_22 hE (fun r h => ct_M_put _ _ _ _ hM.2.1 F a2 r1 K r h) (fun r2 hE => ?_)
    refine k_aload_n (pc := 25) hC dX8_feed_25 rfl 0 rfl ?_
    refine k_iload_n (pc := 26) hC dX8_feed_26 rfl 3 rfl ?_
    refine m_clVj (pc := 27) (As := [.int a3]) hM (cw_M_put hM (Nat.le_of_ble_eq_true rfl) (Nat.le_of_ble_eq_true rfl)) rfl rfl (Nat.le_of_ble_eq_true rfl) dX8_feed_27 hE (fun r h => ct_M_put _ _ _ _ hM.2.1 F a3 r2 K r h) (fun r3 hE => ?_)
    refine k_aload_n (pc := 30) hC dX8_feed_30 rfl 0 rfl ?_
    refine k_iload (pc := 31) hC dX8_feed_31 4 rfl ?_
    refine m_clVj (pc := 33) (As := [.int a4]) hM (cw_M_put hM (Nat.le_of_ble_eq_true rfl) (Nat.le_of_ble_eq_true rfl)) rfl rfl (Nat.le_of_ble_eq_true rfl) dX8_feed_33 hE (fun r h => ct_M_put _ _ _ _ hM.2.1 F a4 r3 K r h) (fun r4 hE => ?_)
    refine k_aload_n (pc := 36) hC dX8_feed_36 rfl 0 rfl ?_
    refine k_iload (pc := 37) hC dX8_feed_37 5 rfl ?_
    refine m_clVj (pc := 39) (As := [.int a5]) hM (cw_M_put hM (Nat.le_of_ble_eq_true rfl) (Nat.le_of_ble_eq_true rfl)) rfl rfl (Nat.le_of_ble_eq_true rfl) dX8_feed_39 hE (fun r h => ct_M_put _ _ _ _ hM.2.1 F a5 r4 K r h) (fun r5 hE => ?_)
    refine k_aload_n (pc := 42) hC dX8_feed_42 rfl 0 rfl ?_
    refine gM_2 (pc := 43) hM dX8_feed_43 ?_
    exact k_iret (pc := 46) hC hR ⟨Nat.le_refl 0, Nat.le_refl 0⟩ dX8_feed_46 (by cases hE; rfl) (by cases hE; exact fun _ h => h)
  · refine k_iconst (pc := 13) (v := (-1)) hC dX8_feed_13 (by decide) ?_
    exact k_iret (pc := 14) hC hR ⟨Nat.le_refl 0, Nat.le_refl 0⟩ dX8_feed_14 (by cases hE; rfl) (by cases hE; exact fun _ h => h)
theorem ct_M_feed (l : Launch) (D : Dd) (A : Nat → Prop) (th : Nat) (hA : ∀ (off : Nat) (kd : Kd), layM off = some kd → A (th + off)) (F : Nat) (a1 : Int32) (a2 : Int32) (a3 : Int32) (a4 : Int32) (a5 : Int32) (J : Ji) (K : Jl) (out : Int32 × Ji) (hE : M_feed F a1 a2 a3 a4 a5 J = some out) : Ct l yX8_feed (ws_ yX8_feed cX8_feed 6 (some .int)) rmM_feed vwCl arTy D A [.ref th, .int a1, .int a2, .int a3, .int a4, .int a5] (RM D th J K) (RM D th out.2 K) (some (.int out.1)) 0 0 := by
  refine Ct.of (by decide) (Nat.le_of_ble_eq_true rfl) rfl ?_
  intro X hl hrm hC hR hXA hnL _
  exact w_M_feed ⟨hC, by unfold Ft; rw [hXA]; exact hA, hnL, hrm⟩ hR F a1 a2 a3 a4 a5 J hE
abbrev rmM_back : Room := { frames := 0, cells := 0, slots := 0, locals := 0 }
set_option maxHeartbeats 4000000 in
theorem w_M_back {X : Ctx} {D : Dd} {th : Nat} {K : Jl} {out : Int32 × Ji} (hM : Mx X cX8_back D th 2 rmM_back) (hR : Rt X (some .int) (RM D th out.2 K) (some (.int out.1)) 0 0) (a1 : Int32) (J : Ji) (hE : M_back a1 J = some out) : Wk X 0 0 (RM D th J K) 0 [(0, .ref th), (1, .int a1)] [] := by
  have hC := hM.1
  have hnL := hM.2.2.1
  have hrm := hM.2.2.2
  unfold M_back at hE
  refine k_iload_n (pc := 0) hC dX8_back_0 rfl 1 rfl ?_
  refine k_if_lt (pc := 1) (tgt := 12) hC dX8_back_1 (by decide) hE (fun hE => ?_) (fun hE => ?_)
  · refine k_iconst (pc := 12) (v := (-1)) hC dX8_back_12 (by decide) ?_
    exact k_iret (pc := 13) hC hR ⟨Nat.le_refl 0, Nat.le_refl 0⟩ dX8_back_13 (by cases hE; rfl) (by cases hE; exact fun _ h => h)
  · refine k_iload_n (pc := 4) hC dX8_back_4 rfl 1 rfl ?_
    refine k_aload_n (pc := 5) hC dX8_back_5 rfl 0 rfl ?_
    refine gM_2 (pc := 6) hM dX8_back_6 ?_
    refine k_icmp_le (pc := 9) (tgt := 14) hC dX8_back_9 (by decide) hE (fun hE => ?_) (fun hE => ?_)
    · refine k_aload_n (pc := 14) hC dX8_back_14 rfl 0 rfl ?_
      refine k_dup (pc := 15) hC dX8_back_15 rfl ?_
      refine gM_2 (pc := 16) hM dX8_back_16 ?_
      refine k_iload_n (pc := 19) hC dX8_back_19 rfl 1 rfl ?_
      refine k_isub (pc := 20) hC dX8_back_20 ?_
      refine pM_2 (pc := 21) hM dX8_back_21 hE (fun J1 hE => ?_)
      refine k_aload_n (pc := 24) hC dX8_back_24 rfl 0 rfl ?_
      refine gM_2 (pc := 25) hM dX8_back_25 ?_
      exact k_iret (pc := 28) hC hR ⟨Nat.le_refl 0, Nat.le_refl 0⟩ dX8_back_28 (by cases hE; rfl) (by cases hE; exact fun _ h => h)
    · refine k_iconst (pc := 12) (v := (-1)) hC dX8_back_12 (by decide) ?_
      exact k_iret (pc := 13) hC hR ⟨Nat.le_refl 0, Nat.le_refl 0⟩ dX8_back_13 (by cases hE; rfl) (by cases hE; exact fun _ h => h)
theorem ct_M_back (l : Launch) (D : Dd) (A : Nat → Prop) (th : Nat) (hA : ∀ (off : Nat) (kd : Kd), layM off = some kd → A (th + off)) (a1 : Int32) (J : Ji) (K : Jl) (out : Int32 × Ji) (hE : M_back a1 J = some out) : Ct l yX8_back (ws_ yX8_back cX8_back 2 (some .int)) rmM_back vwCl arTy D A [.ref th, .int a1] (RM D th J K) (RM D th out.2 K) (some (.int out.1)) 0 0 := by
  refine Ct.of (by decide) (Nat.le_of_ble_eq_true rfl) rfl ?_
  intro X hl hrm hC hR hXA hnL _
  exact w_M_back ⟨hC, by unfold Ft; rw [hXA]; exact hA, hnL, hrm⟩ hR a1 J hE
abbrev rmM_menNow : Room := { frames := 0, cells := 0, slots := 0, locals := 0 }
set_option maxHeartbeats 4000000 in
theorem w_M_menNow {X : Ctx} {D : Dd} {th : Nat} {J : Ji} {K : Jl} {out : Int32} (hM : Mx X cX8_menNow D th 1 rmM_menNow) (hR : Rt X (some .int) (RM D th J K) (some (.int out)) 0 0) (hE : M_menNow J = some out) : Wk X 0 0 (RM D th J K) 0 [(0, .ref th)] [] := by
  have hC := hM.1
  have hnL := hM.2.2.1
  have hrm := hM.2.2.2
  unfold M_menNow at hE
  refine k_aload_n (pc := 0) hC dX8_menNow_0 rfl 0 rfl ?_
  refine gM_42 (pc := 1) hM dX8_menNow_1 ?_
  refine k_aload_n (pc := 4) hC dX8_menNow_4 rfl 0 rfl ?_
  refine gM_18 (pc := 5) hM dX8_menNow_5 ?_
  refine m_iald (pc := 8) 29 ly_29 hM dX8_menNow_8 hE (fun x1 hE => ?_)
  exact k_iret (pc := 9) hC hR ⟨Nat.le_refl 0, Nat.le_refl 0⟩ dX8_menNow_9 (by cases hE; rfl) (by cases hE; exact fun _ h => h)
theorem ct_M_menNow (l : Launch) (D : Dd) (A : Nat → Prop) (th : Nat) (hA : ∀ (off : Nat) (kd : Kd), layM off = some kd → A (th + off)) (J : Ji) (K : Jl) (out : Int32) (hE : M_menNow J = some out) : Ct l yX8_menNow (ws_ yX8_menNow cX8_menNow 1 (some .int)) rmM_menNow vwCl arTy D A [.ref th] (RM D th J K) (RM D th J K) (some (.int out)) 0 0 := by
  refine Ct.of (by decide) (Nat.le_of_ble_eq_true rfl) rfl ?_
  intro X hl hrm hC hR hXA hnL _
  exact w_M_menNow ⟨hC, by unfold Ft; rw [hXA]; exact hA, hnL, hrm⟩ hR  hE
theorem cw_M_menNow {X : Ctx} {cc : ByteArray} {D : Dd} {th mL : Nat} {rm : Room} (hM : Mx X cc D th mL rm) (h1 : rmM_menNow.frames + 1 ≤ rm.frames) (h2 : 8 + (1 + 11) + rmM_menNow.locals ≤ rm.locals) : CallW X.2.2.2.1 X.2.2.2.2.1 X.2.2.2.2.2.2.1 RX8 RX8 390 yX8_menNow cX8_menNow 1 (some .int) (ws_ yX8_menNow cX8_menNow 1 (some .int)) rmM_menNow 0 0 0 := cwV 0 (cx_w hM.1) (lw_V q1946 q1948 qs82 q128 q1949) rfl rfl rfl (by decide +kernel) (by rw [hM.2.2.2]; exact ⟨h1, h2⟩)
abbrev rmM_tasksNow : Room := { frames := 0, cells := 0, slots := 0, locals := 0 }
set_option maxHeartbeats 4000000 in
theorem w_M_tasksNow {X : Ctx} {D : Dd} {th : Nat} {J : Ji} {K : Jl} {out : Int32} (hM : Mx X cX8_tasksNow D th 1 rmM_tasksNow) (hR : Rt X (some .int) (RM D th J K) (some (.int out)) 0 0) (hE : M_tasksNow J = some out) : Wk X 0 0 (RM D th J K) 0 [(0, .ref th)] [] := by
  have hC := hM.1
  have hnL := hM.2.2.1
  have hrm := hM.2.2.2
  unfold M_tasksNow at hE
  refine k_aload_n (pc := 0) hC dX8_tasksNow_0 rfl 0 rfl ?_
  refine gM_32 (pc := 1) hM dX8_tasksNow_1 ?_
  refine k_aload_n (pc := 4) hC dX8_tasksNow_4 rfl 0 rfl ?_
  refine gM_18 (pc := 5) hM dX8_tasksNow_5 ?_
  refine m_iald (pc := 8) 19 ly_19 hM dX8_tasksNow_8 hE (fun x1 hE => ?_)
  exact k_iret (pc := 9) hC hR ⟨Nat.le_refl 0, Nat.le_refl 0⟩ dX8_tasksNow_9 (by cases hE; rfl) (by cases hE; exact fun _ h => h)
theorem ct_M_tasksNow (l : Launch) (D : Dd) (A : Nat → Prop) (th : Nat) (hA : ∀ (off : Nat) (kd : Kd), layM off = some kd → A (th + off)) (J : Ji) (K : Jl) (out : Int32) (hE : M_tasksNow J = some out) : Ct l yX8_tasksNow (ws_ yX8_tasksNow cX8_tasksNow 1 (some .int)) rmM_tasksNow vwCl arTy D A [.ref th] (RM D th J K) (RM D th J K) (some (.int out)) 0 0 := by
  refine Ct.of (by decide) (Nat.le_of_ble_eq_true rfl) rfl ?_
  intro X hl hrm hC hR hXA hnL _
  exact w_M_tasksNow ⟨hC, by unfold Ft; rw [hXA]; exact hA, hnL, hrm⟩ hR  hE
theorem cw_M_tasksNow {X : Ctx} {cc : ByteArray} {D : Dd} {th mL : Nat} {rm : Room} (hM : Mx X cc D th mL rm) (h1 : rmM_tasksNow.frames + 1 ≤ rm.frames) (h2 : 8 + (1 + 11) + rmM_tasksNow.locals ≤ rm.locals) : CallW X.2.2.2.1 X.2.2.2.2.1 X.2.2.2.2.2.2.1 RX8 RX8 377 yX8_tasksNow cX8_tasksNow 1 (some .int) (ws_ yX8_tasksNow cX8_tasksNow 1 (some .int)) rmM_tasksNow 0 0 0 := cwV 0 (cx_w hM.1) (lw_V q1942 q1944 qs81 q128 q1945) rfl rfl rfl (by decide +kernel) (by rw [hM.2.2.2]; exact ⟨h1, h2⟩)
abbrev rmM_begins : Room := { frames := 1, cells := 0, slots := 0, locals := 20 }
set_option maxHeartbeats 4000000 in
theorem w_M_begins_B176 {X : Ctx} {D : Dd} {th : Nat} {K : Jl} {out : Ji} (hM : Mx X cX8_begins D th 2 rmM_begins) (hR : Rt X none (RM D th out K) none 0 0) (F : Nat) (k176 : Int32 → Ji → Option (Ji)) (hk176 : ∀ (a1 : Int32) (J : Ji) , k176 a1 J = some out → Wk X 0 0 (RM D th J K) 176 [(0, .ref th), (1, .int a1)] []) (a1 : Int32) (J : Ji) (hE : M_begins_B176 F k176 a1 J = some out) : Wk X 0 0 (RM D th J K) 176 [(0, .ref th), (1, .int a1)] [] := by
  have hC := hM.1
  have hnL := hM.2.2.1
  have hrm := hM.2.2.2
  unfold M_begins_B176 at hE
  refine k_iload_n (pc := 176) hC dX8_begins_176 rfl 1 rfl ?_
  refine k_aload_n (pc := 177) hC dX8_begins_177 rfl 0 rfl ?_
  refine gM_25 (pc := 178) hM dX8_begins_178 ?_
  refine k_aload_n (pc := 181) hC dX8_begins_181 rfl 0 rfl ?_
  refine gM_18 (pc := 182) hM dX8_begins_182 ?_
  refine m_iald (pc := 185) 12 ly_12 hM dX8_begins_185 hE (fun x18 hE => ?_)
  refine k_icmp_ge (pc := 186) (tgt := 225) hC dX8_begins_186 (by decide) hE (fun hE => ?_) (fun hE => ?_)
  · exact k_vret (pc := 225) hC hR ⟨Nat.le_refl 0, Nat.le_refl 0⟩ dX8_begins_225 (by cases hE; rfl) (by cases hE; exact fun _ h => h)
  · refine k_aload_n (pc := 189) hC dX8_begins_189 rfl 0 rfl ?_
    refine gM_29 (pc := 190) hM dX8_begins_190 ?_
    refine k_bipush (pc := 193) (v := 12) hC dX8_begins_193 (by decide) ?_
    refine k_aload_n (pc := 195) hC dX8_begins_195 rfl 0 rfl ?_
    refine gM_18 (pc := 196) hM dX8_begins_196 ?_
    refine k_imul (pc := 199) hC dX8_begins_199 ?_
    refine k_iload_n (pc := 200) hC dX8_begins_200 rfl 1 rfl ?_
    refine k_iadd (pc := 201) hC dX8_begins_201 ?_
    refine m_zald (pc := 202) 16 ly_16 hM dX8_begins_202 hE (fun x19 hE => ?_)
    refine k_if_eq (pc := 203) (tgt := 219) hC dX8_begins_203 (by decide) hE (fun hE => ?_) (fun hE => ?_)
    · refine k_iincE (pc := 219) (k := 1) (d := 1) (lv' := fun x20 => [(1, .int x20), (0, .ref th)]) hC dX8_begins_219 rfl (by decide) (by rw [hnL]; decide) hE (fun _ => rfl) (fun x20 hE => ?_)
      refine k_goto (pc := 222) (tgt := 176) hC dX8_begins_222 (by decide) ?_
      refine k_sub [1, 0] rfl ?_
      exact hk176 _ _ hE
    · refine k_aload_n (pc := 206) hC dX8_begins_206 rfl 0 rfl ?_
      refine gM_64 (pc := 207) hM dX8_begins_207 ?_
      refine k_bipush (pc := 210) (v := 78) hC dX8_begins_210 (by decide) ?_
      refine k_dup2 (pc := 212) hC dX8_begins_212 rfl rfl ?_
      refine m_iald (pc := 213) 47 ly_47 hM dX8_begins_213 hE (fun x21 hE => ?_)
      refine k_iconst (pc := 214) (v := 1) hC dX8_begins_214 (by decide) ?_
      refine k_iload_n (pc := 215) hC dX8_begins_215 rfl 1 rfl ?_
      refine k_ishl (pc := 216) hC dX8_begins_216 ?_
      refine k_ior (pc := 217) hC dX8_begins_217 ?_
      refine m_iast (pc := 218) 47 ly_47 hM dX8_begins_218 hE (fun J22 hE => ?_)
      refine k_iincE (pc := 219) (k := 1) (d := 1) (lv' := fun x23 => [(1, .int x23), (0, .ref th)]) hC dX8_begins_219 rfl (by decide) (by rw [hnL]; decide) hE (fun _ => rfl) (fun x23 hE => ?_)
      refine k_goto (pc := 222) (tgt := 176) hC dX8_begins_222 (by decide) ?_
      refine k_sub [1, 0] rfl ?_
      exact hk176 _ _ hE
theorem w_M_begins_L176 {X : Ctx} {D : Dd} {th : Nat} {K : Jl} {out : Ji} (hM : Mx X cX8_begins D th 2 rmM_begins) (hR : Rt X none (RM D th out K) none 0 0) (F : Nat) (n : Nat) : ∀ (a1 : Int32) (J : Ji) , M_begins_L176 F n a1 J = some out → Wk X 0 0 (RM D th J K) 176 [(0, .ref th), (1, .int a1)] [] := by
  induction n with
  | zero => intro a1 J h; cases h
  | succ n ih => intro a1 J h; exact w_M_begins_B176 hM hR F (M_begins_L176 F n) ih a1 J h
set_option maxHeartbeats 4000000 in
theorem w_M_begins_B132 {X : Ctx} {D : Dd} {th : Nat} {K : Jl} {out : Ji} (hM : Mx X cX8_begins D th 2 rmM_begins) (hR : Rt X none (RM D th out K) none 0 0) (F : Nat) (k132 : Int32 → Ji → Option (Ji)) (hk132 : ∀ (a1 : Int32) (J : Ji) , k132 a1 J = some out → Wk X 0 0 (RM D th J K) 132 [(0, .ref th), (1, .int a1)] []) (a1 : Int32) (J : Ji) (hE : M_begins_B132 F k132 a1 J = some out) : Wk X 0 0 (RM D th J K) 132 [(0, .ref th), (1, .int a1)] [] := by
  have hC := hM.1
  have hnL := hM.2.2.1
  have hrm := hM.2.2.2
  unfold M_begins_B132 at hE
  refine k_iload_n (pc := 132) hC dX8_begins_132 rfl 1 rfl ?_
  refine k_aload_n (pc := 133) hC dX8_begins_133 rfl 0 rfl ?_
  refine gM_30 (pc := 134) hM dX8_begins_134 ?_
  refine k_aload_n (pc := 137) hC dX8_begins_137 rfl 0 rfl ?_
  refine gM_18 (pc := 138) hM dX8_begins_138 ?_
  refine m_iald (pc := 141) 17 ly_17 hM dX8_begins_141 hE (fun x14 hE => ?_)
  refine k_icmp_ge (pc := 142) (tgt := 174) hC dX8_begins_142 (by decide) hE (fun hE => ?_) (fun hE => ?_)
  · refine k_iconst (pc := 174) (v := 0) hC dX8_begins_174 (by decide) ?_
    refine k_istore_n (pc := 175) (lv' := [(1, .int 0), (0, .ref th)]) hC dX8_begins_175 rfl (by rw [hnL]; decide) rfl ?_
    refine k_sub [1, 0] rfl ?_
    exact w_M_begins_L176 hM hR F _ _ _ hE
  · refine k_aload_n (pc := 145) hC dX8_begins_145 rfl 0 rfl ?_
    refine gM_64 (pc := 146) hM dX8_begins_146 ?_
    refine k_bipush (pc := 149) (v := 72) hC dX8_begins_149 (by decide) ?_
    refine k_iload_n (pc := 151) hC dX8_begins_151 rfl 1 rfl ?_
    refine k_iadd (pc := 152) hC dX8_begins_152 ?_
    refine k_aload_n (pc := 153) hC dX8_begins_153 rfl 0 rfl ?_
    refine gM_31 (pc := 154) hM dX8_begins_154 ?_
    refine k_bipush (pc := 157) (v := 6) hC dX8_begins_157 (by decide) ?_
    refine k_aload_n (pc := 159) hC dX8_begins_159 rfl 0 rfl ?_
    refine gM_18 (pc := 160) hM dX8_begins_160 ?_
    refine k_imul (pc := 163) hC dX8_begins_163 ?_
    refine k_iload_n (pc := 164) hC dX8_begins_164 rfl 1 rfl ?_
    refine k_iadd (pc := 165) hC dX8_begins_165 ?_
    refine m_iald (pc := 166) 18 ly_18 hM dX8_begins_166 hE (fun x15 hE => ?_)
    refine m_iast (pc := 167) 47 ly_47 hM dX8_begins_167 hE (fun J16 hE => ?_)
    refine k_iincE (pc := 168) (k := 1) (d := 1) (lv' := fun x17 => [(1, .int x17), (0, .ref th)]) hC dX8_begins_168 rfl (by decide) (by rw [hnL]; decide) hE (fun _ => rfl) (fun x17 hE => ?_)
    refine k_goto (pc := 171) (tgt := 132) hC dX8_begins_171 (by decide) ?_
    refine k_sub [1, 0] rfl ?_
    exact hk132 _ _ hE
theorem w_M_begins_L132 {X : Ctx} {D : Dd} {th : Nat} {K : Jl} {out : Ji} (hM : Mx X cX8_begins D th 2 rmM_begins) (hR : Rt X none (RM D th out K) none 0 0) (F : Nat) (n : Nat) : ∀ (a1 : Int32) (J : Ji) , M_begins_L132 F n a1 J = some out → Wk X 0 0 (RM D th J K) 132 [(0, .ref th), (1, .int a1)] [] := by
  induction n with
  | zero => intro a1 J h; cases h
  | succ n ih => intro a1 J h; exact w_M_begins_B132 hM hR F (M_begins_L132 F n) ih a1 J h
set_option maxHeartbeats 4000000 in
theorem w_M_begins_B59 {X : Ctx} {D : Dd} {th : Nat} {K : Jl} {out : Ji} (hM : Mx X cX8_begins D th 2 rmM_begins) (hR : Rt X none (RM D th out K) none 0 0) (F : Nat) (k59 : Int32 → Ji → Option (Ji)) (hk59 : ∀ (a1 : Int32) (J : Ji) , k59 a1 J = some out → Wk X 0 0 (RM D th J K) 59 [(0, .ref th), (1, .int a1)] []) (a1 : Int32) (J : Ji) (hE : M_begins_B59 F k59 a1 J = some out) : Wk X 0 0 (RM D th J K) 59 [(0, .ref th), (1, .int a1)] [] := by
  have hC := hM.1
  have hnL := hM.2.2.1
  have hrm := hM.2.2.2
  unfold M_begins_B59 at hE
  refine k_iload_n (pc := 59) hC dX8_begins_59 rfl 1 rfl ?_
  refine k_aload_n (pc := 60) hC dX8_begins_60 rfl 0 rfl ?_
  refine m_clI (pc := 61) (As := []) hM (cw_M_menNow hM (Nat.le_of_ble_eq_true rfl) (Nat.le_of_ble_eq_true rfl)) rfl rfl (Nat.le_of_ble_eq_true rfl) dX8_begins_61 hE (fun r h => ct_M_menNow _ _ _ _ hM.2.1  J K r h) (fun r7 hE => ?_)
  refine k_icmp_ge (pc := 64) (tgt := 130) hC dX8_begins_64 (by decide) hE (fun hE => ?_) (fun hE => ?_)
  · refine k_iconst (pc := 130) (v := 0) hC dX8_begins_130 (by decide) ?_
    refine k_istore_n (pc := 131) (lv' := [(1, .int 0), (0, .ref th)]) hC dX8_begins_131 rfl (by rw [hnL]; decide) rfl ?_
    refine k_sub [1, 0] rfl ?_
    exact w_M_begins_L132 hM hR F _ _ _ hE
  · refine k_aload_n (pc := 67) hC dX8_begins_67 rfl 0 rfl ?_
    refine gM_64 (pc := 68) hM dX8_begins_68 ?_
    refine k_bipush (pc := 71) (v := 42) hC dX8_begins_71 (by decide) ?_
    refine k_iload_n (pc := 73) hC dX8_begins_73 rfl 1 rfl ?_
    refine k_iadd (pc := 74) hC dX8_begins_74 ?_
    refine k_aload_n (pc := 75) hC dX8_begins_75 rfl 0 rfl ?_
    refine gM_44 (pc := 76) hM dX8_begins_76 ?_
    refine k_bipush (pc := 79) (v := 6) hC dX8_begins_79 (by decide) ?_
    refine k_aload_n (pc := 81) hC dX8_begins_81 rfl 0 rfl ?_
    refine gM_18 (pc := 82) hM dX8_begins_82 ?_
    refine k_imul (pc := 85) hC dX8_begins_85 ?_
    refine k_iload_n (pc := 86) hC dX8_begins_86 rfl 1 rfl ?_
    refine k_iadd (pc := 87) hC dX8_begins_87 ?_
    refine m_iald (pc := 88) 31 ly_31 hM dX8_begins_88 hE (fun x8 hE => ?_)
    refine m_iast (pc := 89) 47 ly_47 hM dX8_begins_89 hE (fun J9 hE => ?_)
    refine k_aload_n (pc := 90) hC dX8_begins_90 rfl 0 rfl ?_
    refine gM_64 (pc := 91) hM dX8_begins_91 ?_
    refine k_bipush (pc := 94) (v := 48) hC dX8_begins_94 (by decide) ?_
    refine k_iload_n (pc := 96) hC dX8_begins_96 rfl 1 rfl ?_
    refine k_iadd (pc := 97) hC dX8_begins_97 ?_
    refine k_aload_n (pc := 98) hC dX8_begins_98 rfl 0 rfl ?_
    refine gM_45 (pc := 99) hM dX8_begins_99 ?_
    refine k_bipush (pc := 102) (v := 6) hC dX8_begins_102 (by decide) ?_
    refine k_aload_n (pc := 104) hC dX8_begins_104 rfl 0 rfl ?_
    refine gM_18 (pc := 105) hM dX8_begins_105 ?_
    refine k_imul (pc := 108) hC dX8_begins_108 ?_
    refine k_iload_n (pc := 109) hC dX8_begins_109 rfl 1 rfl ?_
    refine k_iadd (pc := 110) hC dX8_begins_110 ?_
    refine m_iald (pc := 111) 32 ly_32 hM dX8_begins_111 hE (fun x10 hE => ?_)
    refine m_iast (pc := 112) 47 ly_47 hM dX8_begins_112 hE (fun J11 hE => ?_)
    refine k_aload_n (pc := 113) hC dX8_begins_113 rfl 0 rfl ?_
    refine gM_64 (pc := 114) hM dX8_begins_114 ?_
    refine k_bipush (pc := 117) (v := 66) hC dX8_begins_117 (by decide) ?_
    refine k_iload_n (pc := 119) hC dX8_begins_119 rfl 1 rfl ?_
    refine k_iadd (pc := 120) hC dX8_begins_120 ?_
    refine k_bipush (pc := 121) (v := (-2)) hC dX8_begins_121 (by decide) ?_
    refine m_iast (pc := 123) 47 ly_47 hM dX8_begins_123 hE (fun J12 hE => ?_)
    refine k_iincE (pc := 124) (k := 1) (d := 1) (lv' := fun x13 => [(1, .int x13), (0, .ref th)]) hC dX8_begins_124 rfl (by decide) (by rw [hnL]; decide) hE (fun _ => rfl) (fun x13 hE => ?_)
    refine k_goto (pc := 127) (tgt := 59) hC dX8_begins_127 (by decide) ?_
    refine k_sub [1, 0] rfl ?_
    exact hk59 _ _ hE
theorem w_M_begins_L59 {X : Ctx} {D : Dd} {th : Nat} {K : Jl} {out : Ji} (hM : Mx X cX8_begins D th 2 rmM_begins) (hR : Rt X none (RM D th out K) none 0 0) (F : Nat) (n : Nat) : ∀ (a1 : Int32) (J : Ji) , M_begins_L59 F n a1 J = some out → Wk X 0 0 (RM D th J K) 59 [(0, .ref th), (1, .int a1)] [] := by
  induction n with
  | zero => intro a1 J h; cases h
  | succ n ih => intro a1 J h; exact w_M_begins_B59 hM hR F (M_begins_L59 F n) ih a1 J h
set_option maxHeartbeats 4000000 in
theorem w_M_begins_B23 {X : Ctx} {D : Dd} {th : Nat} {K : Jl} {out : Ji} (hM : Mx X cX8_begins D th 2 rmM_begins) (hR : Rt X none (RM D th out K) none 0 0) (F : Nat) (k23 : Int32 → Ji → Option (Ji)) (hk23 : ∀ (a1 : Int32) (J : Ji) , k23 a1 J = some out → Wk X 0 0 (RM D th J K) 23 [(0, .ref th), (1, .int a1)] []) (a1 : Int32) (J : Ji) (hE : M_begins_B23 F k23 a1 J = some out) : Wk X 0 0 (RM D th J K) 23 [(0, .ref th), (1, .int a1)] [] := by
  have hC := hM.1
  have hnL := hM.2.2.1
  have hrm := hM.2.2.2
  unfold M_begins_B23 at hE
  refine k_iload_n (pc := 23) hC dX8_begins_23 rfl 1 rfl ?_
  refine k_aload_n (pc := 24) hC dX8_begins_24 rfl 0 rfl ?_
  refine m_clI (pc := 25) (As := []) hM (cw_M_tasksNow hM (Nat.le_of_ble_eq_true rfl) (Nat.le_of_ble_eq_true rfl)) rfl rfl (Nat.le_of_ble_eq_true rfl) dX8_begins_25 hE (fun r h => ct_M_tasksNow _ _ _ _ hM.2.1  J K r h) (fun r3 hE => ?_)
  refine k_icmp_ge (pc := 28) (tgt := 57) hC dX8_begins_28 (by decide) hE (fun hE => ?_) (fun hE => ?_)
  · refine k_iconst (pc := 57) (v := 0) hC dX8_begins_57 (by decide) ?_
    refine k_istore_n (pc := 58) (lv' := [(1, .int 0), (0, .ref th)]) hC dX8_begins_58 rfl (by rw [hnL]; decide) rfl ?_
    refine k_sub [1, 0] rfl ?_
    exact w_M_begins_L59 hM hR F _ _ _ hE
  · refine k_aload_n (pc := 31) hC dX8_begins_31 rfl 0 rfl ?_
    refine gM_64 (pc := 32) hM dX8_begins_32 ?_
    refine k_iload_n (pc := 35) hC dX8_begins_35 rfl 1 rfl ?_
    refine k_aload_n (pc := 36) hC dX8_begins_36 rfl 0 rfl ?_
    refine gM_34 (pc := 37) hM dX8_begins_37 ?_
    refine k_bipush (pc := 40) (v := 6) hC dX8_begins_40 (by decide) ?_
    refine k_aload_n (pc := 42) hC dX8_begins_42 rfl 0 rfl ?_
    refine gM_18 (pc := 43) hM dX8_begins_43 ?_
    refine k_imul (pc := 46) hC dX8_begins_46 ?_
    refine k_iload_n (pc := 47) hC dX8_begins_47 rfl 1 rfl ?_
    refine k_iadd (pc := 48) hC dX8_begins_48 ?_
    refine m_iald (pc := 49) 21 ly_21 hM dX8_begins_49 hE (fun x4 hE => ?_)
    refine m_iast (pc := 50) 47 ly_47 hM dX8_begins_50 hE (fun J5 hE => ?_)
    refine k_iincE (pc := 51) (k := 1) (d := 1) (lv' := fun x6 => [(1, .int x6), (0, .ref th)]) hC dX8_begins_51 rfl (by decide) (by rw [hnL]; decide) hE (fun _ => rfl) (fun x6 hE => ?_)
    refine k_goto (pc := 54) (tgt := 23) hC dX8_begins_54 (by decide) ?_
    refine k_sub [1, 0] rfl ?_
    exact hk23 _ _ hE
theorem w_M_begins_L23 {X : Ctx} {D : Dd} {th : Nat} {K : Jl} {out : Ji} (hM : Mx X cX8_begins D th 2 rmM_begins) (hR : Rt X none (RM D th out K) none 0 0) (F : Nat) (n : Nat) : ∀ (a1 : Int32) (J : Ji) , M_begins_L23 F n a1 J = some out → Wk X 0 0 (RM D th J K) 23 [(0, .ref th), (1, .int a1)] [] := by
  induction n with
  | zero => intro a1 J h; cases h
  | succ n ih => intro a1 J h; exact w_M_begins_B23 hM hR F (M_begins_L23 F n) ih a1 J h
set_option maxHeartbeats 4000000 in
theorem w_M_begins_B2 {X : Ctx} {D : Dd} {th : Nat} {K : Jl} {out : Ji} (hM : Mx X cX8_begins D th 2 rmM_begins) (hR : Rt X none (RM D th out K) none 0 0) (F : Nat) (k2 : Int32 → Ji → Option (Ji)) (hk2 : ∀ (a1 : Int32) (J : Ji) , k2 a1 J = some out → Wk X 0 0 (RM D th J K) 2 [(0, .ref th), (1, .int a1)] []) (a1 : Int32) (J : Ji) (hE : M_begins_B2 F k2 a1 J = some out) : Wk X 0 0 (RM D th J K) 2 [(0, .ref th), (1, .int a1)] [] := by
  have hC := hM.1
  have hnL := hM.2.2.1
  have hrm := hM.2.2.2
  unfold M_begins_B2 at hE
  refine k_iload_n (pc := 2) hC dX8_begins_2 rfl 1 rfl ?_
  refine k_bipush (pc := 3) (v := 100) hC dX8_begins_3 (by decide) ?_
  refine k_icmp_ge (pc := 5) (tgt := 21) hC dX8_begins_5 (by decide) hE (fun hE => ?_) (fun hE => ?_)
  · refine k_iconst (pc := 21) (v := 0) hC dX8_begins_21 (by decide) ?_
    refine k_istore_n (pc := 22) (lv' := [(1, .int 0), (0, .ref th)]) hC dX8_begins_22 rfl (by rw [hnL]; decide) rfl ?_
    refine k_sub [1, 0] rfl ?_
    exact w_M_begins_L23 hM hR F _ _ _ hE
  · refine k_aload_n (pc := 8) hC dX8_begins_8 rfl 0 rfl ?_
    refine gM_64 (pc := 9) hM dX8_begins_9 ?_
    refine k_iload_n (pc := 12) hC dX8_begins_12 rfl 1 rfl ?_
    refine k_iconst (pc := 13) (v := 0) hC dX8_begins_13 (by decide) ?_
    refine m_iast (pc := 14) 47 ly_47 hM dX8_begins_14 hE (fun J1 hE => ?_)
    refine k_iincE (pc := 15) (k := 1) (d := 1) (lv' := fun x2 => [(1, .int x2), (0, .ref th)]) hC dX8_begins_15 rfl (by decide) (by rw [hnL]; decide) hE (fun _ => rfl) (fun x2 hE => ?_)
    refine k_goto (pc := 18) (tgt := 2) hC dX8_begins_18 (by decide) ?_
    refine k_sub [1, 0] rfl ?_
    exact hk2 _ _ hE
theorem w_M_begins_L2 {X : Ctx} {D : Dd} {th : Nat} {K : Jl} {out : Ji} (hM : Mx X cX8_begins D th 2 rmM_begins) (hR : Rt X none (RM D th out K) none 0 0) (F : Nat) (n : Nat) : ∀ (a1 : Int32) (J : Ji) , M_begins_L2 F n a1 J = some out → Wk X 0 0 (RM D th J K) 2 [(0, .ref th), (1, .int a1)] [] := by
  induction n with
  | zero => intro a1 J h; cases h
  | succ n ih => intro a1 J h; exact w_M_begins_B2 hM hR F (M_begins_L2 F n) ih a1 J h
set_option maxHeartbeats 4000000 in
theorem w_M_begins {X : Ctx} {D : Dd} {th : Nat} {K : Jl} {out : Ji} (hM : Mx X cX8_begins D th 2 rmM_begins) (hR : Rt X none (RM D th out K) none 0 0) (F : Nat) (J : Ji) (hE : M_begins F J = some out) : Wk X 0 0 (RM D th J K) 0 [(0, .ref th)] [] := by
  have hC := hM.1
  have hnL := hM.2.2.1
  have hrm := hM.2.2.2
  unfold M_begins at hE
  refine k_iconst (pc := 0) (v := 0) hC dX8_begins_0 (by decide) ?_
  refine k_istore_n (pc := 1) (lv' := [(1, .int 0), (0, .ref th)]) hC dX8_begins_1 rfl (by rw [hnL]; decide) rfl ?_
  refine k_sub [1, 0] rfl ?_
  exact w_M_begins_L2 hM hR F _ _ _ hE
theorem ct_M_begins (l : Launch) (D : Dd) (A : Nat → Prop) (th : Nat) (hA : ∀ (off : Nat) (kd : Kd), layM off = some kd → A (th + off)) (F : Nat) (J : Ji) (K : Jl) (out : Ji) (hE : M_begins F J = some out) : Ct l yX8_begins (ws_ yX8_begins cX8_begins 2 none) rmM_begins vwCl arTy D A [.ref th] (RM D th J K) (RM D th out K) none 0 0 := by
  refine Ct.of (by decide) (Nat.le_of_ble_eq_true rfl) rfl ?_
  intro X hl hrm hC hR hXA hnL _
  exact w_M_begins ⟨hC, by unfold Ft; rw [hXA]; exact hA, hnL, hrm⟩ hR F J hE
theorem cw_M_begins {X : Ctx} {cc : ByteArray} {D : Dd} {th mL : Nat} {rm : Room} (hM : Mx X cc D th mL rm) (h1 : rmM_begins.frames + 1 ≤ rm.frames) (h2 : 8 + (2 + 11) + rmM_begins.locals ≤ rm.locals) : CallW X.2.2.2.1 X.2.2.2.2.1 X.2.2.2.2.2.2.1 RX8 RX8 296 yX8_begins cX8_begins 2 none (ws_ yX8_begins cX8_begins 2 none) rmM_begins 0 0 0 := cwV 0 (cx_w hM.1) (lw_V q1938 q1940 qs80 q128 q1941) rfl rfl rfl (by decide +kernel) (by rw [hM.2.2.2]; exact ⟨h1, h2⟩)
abbrev rmM_byteAt : Room := { frames := 0, cells := 0, slots := 0, locals := 0 }
set_option maxHeartbeats 4000000 in
theorem w_M_byteAt {X : Ctx} {D : Dd} {th : Nat} {J : Ji} {K : Jl} {out : Int32} (hM : Mx X cX8_byteAt D th 2 rmM_byteAt) (hR : Rt X (some .int) (RM D th J K) (some (.int out)) 0 0) (a1 : Int32) (hE : M_byteAt J a1 = some out) : Wk X 0 0 (RM D th J K) 0 [(0, .ref th), (1, .int a1)] [] := by
  have hC := hM.1
  have hnL := hM.2.2.1
  have hrm := hM.2.2.2
  unfold M_byteAt at hE
  refine k_iload_n (pc := 0) hC dX8_byteAt_0 rfl 1 rfl ?_
  refine k_aload_n (pc := 1) hC dX8_byteAt_1 rfl 0 rfl ?_
  refine gM_4 (pc := 2) hM dX8_byteAt_2 ?_
  refine k_icmp_ge (pc := 5) (tgt := 21) hC dX8_byteAt_5 (by decide) hE (fun hE => ?_) (fun hE => ?_)
  · refine k_iconst (pc := 21) (v := 0) hC dX8_byteAt_21 (by decide) ?_
    exact k_iret (pc := 22) hC hR ⟨Nat.le_refl 0, Nat.le_refl 0⟩ dX8_byteAt_22 (by cases hE; rfl) (by cases hE; exact fun _ h => h)
  · refine k_aload_n (pc := 8) hC dX8_byteAt_8 rfl 0 rfl ?_
    refine gM_3 (pc := 9) hM dX8_byteAt_9 ?_
    refine k_iload_n (pc := 12) hC dX8_byteAt_12 rfl 1 rfl ?_
    refine m_bald (pc := 13) 2 ly_2 hM dX8_byteAt_13 hE (fun x1 hE => ?_)
    refine k_sipush (pc := 14) (v := 255) hC dX8_byteAt_14 (by decide) ?_
    refine k_iand (pc := 17) hC dX8_byteAt_17 ?_
    refine k_goto (pc := 18) (tgt := 22) hC dX8_byteAt_18 (by decide) ?_
    exact k_iret (pc := 22) hC hR ⟨Nat.le_refl 0, Nat.le_refl 0⟩ dX8_byteAt_22 (by cases hE; rfl) (by cases hE; exact fun _ h => h)
theorem ct_M_byteAt (l : Launch) (D : Dd) (A : Nat → Prop) (th : Nat) (hA : ∀ (off : Nat) (kd : Kd), layM off = some kd → A (th + off)) (a1 : Int32) (J : Ji) (K : Jl) (out : Int32) (hE : M_byteAt J a1 = some out) : Ct l yX8_byteAt (ws_ yX8_byteAt cX8_byteAt 2 (some .int)) rmM_byteAt vwCl arTy D A [.ref th, .int a1] (RM D th J K) (RM D th J K) (some (.int out)) 0 0 := by
  refine Ct.of (by decide) (Nat.le_of_ble_eq_true rfl) rfl ?_
  intro X hl hrm hC hR hXA hnL _
  exact w_M_byteAt ⟨hC, by unfold Ft; rw [hXA]; exact hA, hnL, hrm⟩ hR a1 hE
theorem cw_M_byteAt {X : Ctx} {cc : ByteArray} {D : Dd} {th mL : Nat} {rm : Room} (hM : Mx X cc D th mL rm) (h1 : rmM_byteAt.frames + 1 ≤ rm.frames) (h2 : 8 + (2 + 11) + rmM_byteAt.locals ≤ rm.locals) : CallW X.2.2.2.1 X.2.2.2.2.1 X.2.2.2.2.2.2.1 RX8 RX8 229 yX8_byteAt cX8_byteAt 2 (some .int) (ws_ yX8_byteAt cX8_byteAt 2 (some .int)) rmM_byteAt 0 0 1 := cwV 1 (cx_w hM.1) (lw_V q1824 q1826 qs53 q128 q1827) rfl rfl rfl (by decide +kernel) (by rw [hM.2.2.2]; exact ⟨h1, h2⟩)
abbrev rmM_isDigit : Room := { frames := 0, cells := 0, slots := 0, locals := 0 }
set_option maxHeartbeats 4000000 in
theorem w_M_isDigit {X : Ctx} {D : Dd} {P : Heap → Prop} {out : Int32} (hM : Sx X cX8_isDigit D 1 rmM_isDigit) (hR : Rt X (some .boolean) P (some (.int out)) 0 0) (a0 : Int32) (hE : M_isDigit a0 = some out) : Wk X 0 0 P 0 [(0, .int a0)] [] := by
  have hC := hM.1
  have hnL := hM.2.1
  have hrm := hM.2.2
  unfold M_isDigit at hE
  refine k_iload_n (pc := 0) hC dX8_isDigit_0 rfl 0 rfl ?_
  refine k_bipush (pc := 1) (v := 48) hC dX8_isDigit_1 (by decide) ?_
  refine k_icmp_lt (pc := 3) (tgt := 16) hC dX8_isDigit_3 (by decide) hE (fun hE => ?_) (fun hE => ?_)
  · refine k_iconst (pc := 16) (v := 0) hC dX8_isDigit_16 (by decide) ?_
    exact k_zret (pc := 17) (by decide) hC hR ⟨Nat.le_refl 0, Nat.le_refl 0⟩ dX8_isDigit_17 (by cases hE; rfl) (by cases hE; exact fun _ h => h)
  · refine k_iload_n (pc := 6) hC dX8_isDigit_6 rfl 0 rfl ?_
    refine k_bipush (pc := 7) (v := 57) hC dX8_isDigit_7 (by decide) ?_
    refine k_icmp_gt (pc := 9) (tgt := 16) hC dX8_isDigit_9 (by decide) hE (fun hE => ?_) (fun hE => ?_)
    · refine k_iconst (pc := 16) (v := 0) hC dX8_isDigit_16 (by decide) ?_
      exact k_zret (pc := 17) (by decide) hC hR ⟨Nat.le_refl 0, Nat.le_refl 0⟩ dX8_isDigit_17 (by cases hE; rfl) (by cases hE; exact fun _ h => h)
    · refine k_iconst (pc := 12) (v := 1) hC dX8_isDigit_12 (by decide) ?_
      refine k_goto (pc := 13) (tgt := 17) hC dX8_isDigit_13 (by decide) ?_
      exact k_zret (pc := 17) (by decide) hC hR ⟨Nat.le_refl 0, Nat.le_refl 0⟩ dX8_isDigit_17 (by cases hE; rfl) (by cases hE; exact fun _ h => h)
theorem ct_M_isDigit (l : Launch) (D : Dd) (A : Nat → Prop) (P : Heap → Prop) (a0 : Int32) (out : Int32) (hE : M_isDigit a0 = some out) : Ct l yX8_isDigit (ws_ yX8_isDigit cX8_isDigit 1 (some .boolean)) rmM_isDigit vwCl arTy D A [.int a0] P P (some (.int out)) 0 0 := by
  refine Ct.of (by decide) (Nat.le_of_ble_eq_true rfl) rfl ?_
  intro X hl hrm hC hR hA hnL _
  exact w_M_isDigit ⟨hC, hnL, hrm⟩ hR a0 hE
theorem cw_M_isDigit {X : Ctx} {cc : ByteArray} {D : Dd} {rm : Room} (hC : Cx X cc RX8 vwCl arTy D) (hrm : X.2.2.2.1 = rm) (h1 : rmM_isDigit.frames + 1 ≤ rm.frames) (h2 : 8 + (1 + 11) + rmM_isDigit.locals ≤ rm.locals) : CallB X.2.2.2.1 X.2.2.2.2.1 X.2.2.2.2.2.2.1 RX8 241 yX8_isDigit cX8_isDigit 1 (some .boolean) (ws_ yX8_isDigit cX8_isDigit 1 (some .boolean)) rmM_isDigit 0 0 1 ∧ (Cond.static yX8_isDigit).before X.2.2.2.2.2.2.1 X.2.2.2.2.1 = true := va_cwS 1 (cx_w hC) (lw_S q1835 q1836 q128 q1837) rfl rfl rfl (by decide +kernel) (by rw [hrm]; exact ⟨h1, h2⟩)
abbrev rmM_isLetter : Room := { frames := 0, cells := 0, slots := 0, locals := 0 }
set_option maxHeartbeats 4000000 in
theorem w_M_isLetter {X : Ctx} {D : Dd} {P : Heap → Prop} {out : Int32} (hM : Sx X cX8_isLetter D 1 rmM_isLetter) (hR : Rt X (some .boolean) P (some (.int out)) 0 0) (a0 : Int32) (hE : M_isLetter a0 = some out) : Wk X 0 0 P 0 [(0, .int a0)] [] := by
  have hC := hM.1
  have hnL := hM.2.1
  have hrm := hM.2.2
  unfold M_isLetter at hE
  refine k_iload_n (pc := 0) hC dX8_isLetter_0 rfl 0 rfl ?_
  refine k_bipush (pc := 1) (v := 97) hC dX8_isLetter_1 (by decide) ?_
  refine k_icmp_lt (pc := 3) (tgt := 16) hC dX8_isLetter_3 (by decide) hE (fun hE => ?_) (fun hE => ?_)
  · refine k_iconst (pc := 16) (v := 0) hC dX8_isLetter_16 (by decide) ?_
    exact k_zret (pc := 17) (by decide) hC hR ⟨Nat.le_refl 0, Nat.le_refl 0⟩ dX8_isLetter_17 (by cases hE; rfl) (by cases hE; exact fun _ h => h)
  · refine k_iload_n (pc := 6) hC dX8_isLetter_6 rfl 0 rfl ?_
    refine k_bipush (pc := 7) (v := 122) hC dX8_isLetter_7 (by decide) ?_
    refine k_icmp_gt (pc := 9) (tgt := 16) hC dX8_isLetter_9 (by decide) hE (fun hE => ?_) (fun hE => ?_)
    · refine k_iconst (pc := 16) (v := 0) hC dX8_isLetter_16 (by decide) ?_
      exact k_zret (pc := 17) (by decide) hC hR ⟨Nat.le_refl 0, Nat.le_refl 0⟩ dX8_isLetter_17 (by cases hE; rfl) (by cases hE; exact fun _ h => h)
    · refine k_iconst (pc := 12) (v := 1) hC dX8_isLetter_12 (by decide) ?_
      refine k_goto (pc := 13) (tgt := 17) hC dX8_isLetter_13 (by decide) ?_
      exact k_zret (pc := 17) (by decide) hC hR ⟨Nat.le_refl 0, Nat.le_refl 0⟩ dX8_isLetter_17 (by cases hE; rfl) (by cases hE; exact fun _ h => h)
theorem ct_M_isLetter (l : Launch) (D : Dd) (A : Nat → Prop) (P : Heap → Prop) (a0 : Int32) (out : Int32) (hE : M_isLetter a0 = some out) : Ct l yX8_isLetter (ws_ yX8_isLetter cX8_isLetter 1 (some .boolean)) rmM_isLetter vwCl arTy D A [.int a0] P P (some (.int out)) 0 0 := by
  refine Ct.of (by decide) (Nat.le_of_ble_eq_true rfl) rfl ?_
  intro X hl hrm hC hR hA hnL _
  exact w_M_isLetter ⟨hC, hnL, hrm⟩ hR a0 hE
theorem cw_M_isLetter {X : Ctx} {cc : ByteArray} {D : Dd} {rm : Room} (hC : Cx X cc RX8 vwCl arTy D) (hrm : X.2.2.2.1 = rm) (h1 : rmM_isLetter.frames + 1 ≤ rm.frames) (h2 : 8 + (1 + 11) + rmM_isLetter.locals ≤ rm.locals) : CallB X.2.2.2.1 X.2.2.2.2.1 X.2.2.2.2.2.2.1 RX8 237 yX8_isLetter cX8_isLetter 1 (some .boolean) (ws_ yX8_isLetter cX8_isLetter 1 (some .boolean)) rmM_isLetter 0 0 1 ∧ (Cond.static yX8_isLetter).before X.2.2.2.2.2.2.1 X.2.2.2.2.1 = true := va_cwS 1 (cx_w hC) (lw_S q1832 q1833 q128 q1834) rfl rfl rfl (by decide +kernel) (by rw [hrm]; exact ⟨h1, h2⟩)
abbrev rmM_token : Room := { frames := 0, cells := 0, slots := 0, locals := 0 }
set_option maxHeartbeats 4000000 in
theorem w_M_token {X : Ctx} {D : Dd} {th : Nat} {out : Ji × Jl} (hM : Mx X cX8_token D th 6 rmM_token) (hR : Rt X none (RM D th out.1 out.2) none 0 0) (a1 : Int32) (a2 : Int32) (a3 : Int32) (a4 : Int64) (J : Ji) (K : Jl) (hE : M_token a1 a2 a3 a4 J K = some out) : Wk X 0 0 (RM D th J K) 0 [(0, .ref th), (1, .int a1), (2, .int a2), (3, .int a3), (4, .long a4)] [] := by
  have hC := hM.1
  have hnL := hM.2.2.1
  have hrm := hM.2.2.2
  unfold M_token at hE
  refine k_aload_n (pc := 0) hC dX8_token_0 rfl 0 rfl ?_
  refine gM_5 (pc := 1) hM dX8_token_1 ?_
  refine k_aload_n (pc := 4) hC dX8_token_4 rfl 0 rfl ?_
  refine gM_10 (pc := 5) hM dX8_token_5 ?_
  refine k_iload_n (pc := 8) hC dX8_token_8 rfl 1 rfl ?_
  refine m_iast (pc := 9) 3 ly_3 hM dX8_token_9 hE (fun J1 hE => ?_)
  refine k_aload_n (pc := 10) hC dX8_token_10 rfl 0 rfl ?_
  refine gM_6 (pc := 11) hM dX8_token_11 ?_
  refine k_aload_n (pc := 14) hC dX8_token_14 rfl 0 rfl ?_
  refine gM_10 (pc := 15) hM dX8_token_15 ?_
  refine k_iload_n (pc := 18) hC dX8_token_18 rfl 2 rfl ?_
  refine m_iast (pc := 19) 4 ly_4 hM dX8_token_19 hE (fun J2 hE => ?_)
  refine k_aload_n (pc := 20) hC dX8_token_20 rfl 0 rfl ?_
  refine gM_7 (pc := 21) hM dX8_token_21 ?_
  refine k_aload_n (pc := 24) hC dX8_token_24 rfl 0 rfl ?_
  refine gM_10 (pc := 25) hM dX8_token_25 ?_
  refine k_iload_n (pc := 28) hC dX8_token_28 rfl 3 rfl ?_
  refine m_iast (pc := 29) 5 ly_5 hM dX8_token_29 hE (fun J3 hE => ?_)
  refine k_aload_n (pc := 30) hC dX8_token_30 rfl 0 rfl ?_
  refine gM_8 (pc := 31) hM dX8_token_31 ?_
  refine k_aload_n (pc := 34) hC dX8_token_34 rfl 0 rfl ?_
  refine gM_10 (pc := 35) hM dX8_token_35 ?_
  refine k_lload (pc := 38) hC dX8_token_38 4 rfl ?_
  refine m_last (pc := 40) 6 ly_6 hM dX8_token_40 hE (fun K4 hE => ?_)
  refine k_aload_n (pc := 41) hC dX8_token_41 rfl 0 rfl ?_
  refine k_dup (pc := 42) hC dX8_token_42 rfl ?_
  refine gM_10 (pc := 43) hM dX8_token_43 ?_
  refine k_iconst (pc := 46) (v := 1) hC dX8_token_46 (by decide) ?_
  refine k_iadd (pc := 47) hC dX8_token_47 ?_
  refine pM_10 (pc := 48) hM dX8_token_48 hE (fun J5 hE => ?_)
  exact k_vret (pc := 51) hC hR ⟨Nat.le_refl 0, Nat.le_refl 0⟩ dX8_token_51 (by cases hE; rfl) (by cases hE; exact fun _ h => h)
theorem ct_M_token (l : Launch) (D : Dd) (A : Nat → Prop) (th : Nat) (hA : ∀ (off : Nat) (kd : Kd), layM off = some kd → A (th + off)) (a1 : Int32) (a2 : Int32) (a3 : Int32) (a4 : Int64) (J : Ji) (K : Jl) (out : Ji × Jl) (hE : M_token a1 a2 a3 a4 J K = some out) : Ct l yX8_token (ws_ yX8_token cX8_token 6 none) rmM_token vwCl arTy D A [.ref th, .int a1, .int a2, .int a3, .long a4] (RM D th J K) (RM D th out.1 out.2) none 0 0 := by
  refine Ct.of (by decide) (Nat.le_of_ble_eq_true rfl) rfl ?_
  intro X hl hrm hC hR hXA hnL _
  exact w_M_token ⟨hC, by unfold Ft; rw [hXA]; exact hA, hnL, hrm⟩ hR a1 a2 a3 a4 J K hE
theorem cw_M_token {X : Ctx} {cc : ByteArray} {D : Dd} {th mL : Nat} {rm : Room} (hM : Mx X cc D th mL rm) (h1 : rmM_token.frames + 1 ≤ rm.frames) (h2 : 8 + (6 + 11) + rmM_token.locals ≤ rm.locals) : CallW X.2.2.2.1 X.2.2.2.2.1 X.2.2.2.2.2.2.1 RX8 RX8 233 yX8_token cX8_token 6 none (ws_ yX8_token cX8_token 6 none) rmM_token 0 0 4 := cwV 4 (cx_w hM.1) (lw_V q1828 q1830 qs54 q128 q1831) rfl rfl rfl (by decide +kernel) (by rw [hM.2.2.2]; exact ⟨h1, h2⟩)
abbrev rmM_sign : Room := { frames := 1, cells := 0, slots := 0, locals := 25 }
set_option maxHeartbeats 4000000 in
theorem w_M_sign_B95 {X : Ctx} {D : Dd} {th : Nat} {out : Int32 × Ji × Jl} (hM : Mx X cX8_sign D th 5 rmM_sign) (hR : Rt X (some .int) (RM D th out.2.1 out.2.2) (some (.int out.1)) 0 0) (a1 : Int32) (a4 : Int32) (J : Ji) (K : Jl) (hE : M_sign_B95 a1 a4 J K = some out) : Wk X 0 0 (RM D th J K) 95 [(0, .ref th), (1, .int a1), (4, .int a4)] [] := by
  have hC := hM.1
  have hnL := hM.2.2.1
  have hrm := hM.2.2.2
  unfold M_sign_B95 at hE
  refine k_aload_n (pc := 95) hC dX8_sign_95 rfl 0 rfl ?_
  refine k_iload (pc := 96) hC dX8_sign_96 2 rfl ?_
  refine k_iload_n (pc := 98) hC dX8_sign_98 rfl 1 rfl ?_
  refine k_iconst (pc := 99) (v := 0) hC dX8_sign_99 (by decide) ?_
  refine k_lconst (pc := 100) (v := 0) hC dX8_sign_100 (by decide) ?_
  refine m_clVjk (pc := 101) (As := [.int a4, .int a1, .int 0, .long 0]) hM (cw_M_token hM (Nat.le_of_ble_eq_true rfl) (Nat.le_of_ble_eq_true rfl)) rfl rfl (Nat.le_of_ble_eq_true rfl) dX8_sign_101 hE (fun r h => ct_M_token _ _ _ _ hM.2.1 a4 a1 0 0 J K r h) (fun r1 hE => ?_)
  refine k_iconst (pc := 104) (v := 1) hC dX8_sign_104 (by decide) ?_
  exact k_iret (pc := 105) hC hR ⟨Nat.le_refl 0, Nat.le_refl 0⟩ dX8_sign_105 (by cases hE; rfl) (by cases hE; exact fun _ h => h)
set_option maxHeartbeats 4000000 in
theorem w_M_sign_B85 {X : Ctx} {D : Dd} {th : Nat} {out : Int32 × Ji × Jl} (hM : Mx X cX8_sign D th 5 rmM_sign) (hR : Rt X (some .int) (RM D th out.2.1 out.2.2) (some (.int out.1)) 0 0) (a1 : Int32) (a2 : Int32) (a4 : Int32) (J : Ji) (K : Jl) (hE : M_sign_B85 a1 a2 a4 J K = some out) : Wk X 0 0 (RM D th J K) 85 [(0, .ref th), (1, .int a1), (2, .int a2), (4, .int a4)] [] := by
  have hC := hM.1
  have hnL := hM.2.2.1
  have hrm := hM.2.2.2
  unfold M_sign_B85 at hE
  refine k_iload_n (pc := 85) hC dX8_sign_85 rfl 2 rfl ?_
  refine k_bipush (pc := 86) (v := 60) hC dX8_sign_86 (by decide) ?_
  refine k_icmp_ne (pc := 88) (tgt := 95) hC dX8_sign_88 (by decide) hE (fun hE => ?_) (fun hE => ?_)
  · refine k_bipush (pc := 91) (v := 13) hC dX8_sign_91 (by decide) ?_
    refine k_istore (pc := 93) (lv' := [(4, .int 13), (0, .ref th), (1, .int a1), (2, .int a2)]) hC dX8_sign_93 (by rw [hnL]; decide) rfl ?_
    refine k_sub [1, 2, 0] rfl ?_
    exact w_M_sign_B95 hM hR  _ _ _ _ hE
  · refine k_sub [0, 1, 3] rfl ?_
    exact w_M_sign_B95 hM hR  _ _ _ _ hE
set_option maxHeartbeats 4000000 in
theorem w_M_sign_B75 {X : Ctx} {D : Dd} {th : Nat} {out : Int32 × Ji × Jl} (hM : Mx X cX8_sign D th 5 rmM_sign) (hR : Rt X (some .int) (RM D th out.2.1 out.2.2) (some (.int out.1)) 0 0) (a1 : Int32) (a2 : Int32) (a4 : Int32) (J : Ji) (K : Jl) (hE : M_sign_B75 a1 a2 a4 J K = some out) : Wk X 0 0 (RM D th J K) 75 [(0, .ref th), (1, .int a1), (2, .int a2), (4, .int a4)] [] := by
  have hC := hM.1
  have hnL := hM.2.2.1
  have hrm := hM.2.2.2
  unfold M_sign_B75 at hE
  refine k_iload_n (pc := 75) hC dX8_sign_75 rfl 2 rfl ?_
  refine k_bipush (pc := 76) (v := 47) hC dX8_sign_76 (by decide) ?_
  refine k_icmp_ne (pc := 78) (tgt := 85) hC dX8_sign_78 (by decide) hE (fun hE => ?_) (fun hE => ?_)
  · refine k_bipush (pc := 81) (v := 15) hC dX8_sign_81 (by decide) ?_
    refine k_istore (pc := 83) (lv' := [(4, .int 15), (0, .ref th), (1, .int a1), (2, .int a2)]) hC dX8_sign_83 (by rw [hnL]; decide) rfl ?_
    refine k_sub [1, 2, 3, 0] rfl ?_
    exact w_M_sign_B85 hM hR  _ _ _ _ _ hE
  · exact w_M_sign_B85 hM hR  _ _ _ _ _ hE
set_option maxHeartbeats 4000000 in
theorem w_M_sign_B65 {X : Ctx} {D : Dd} {th : Nat} {out : Int32 × Ji × Jl} (hM : Mx X cX8_sign D th 5 rmM_sign) (hR : Rt X (some .int) (RM D th out.2.1 out.2.2) (some (.int out.1)) 0 0) (a1 : Int32) (a2 : Int32) (a4 : Int32) (J : Ji) (K : Jl) (hE : M_sign_B65 a1 a2 a4 J K = some out) : Wk X 0 0 (RM D th J K) 65 [(0, .ref th), (1, .int a1), (2, .int a2), (4, .int a4)] [] := by
  have hC := hM.1
  have hnL := hM.2.2.1
  have hrm := hM.2.2.2
  unfold M_sign_B65 at hE
  refine k_iload_n (pc := 65) hC dX8_sign_65 rfl 2 rfl ?_
  refine k_bipush (pc := 66) (v := 42) hC dX8_sign_66 (by decide) ?_
  refine k_icmp_ne (pc := 68) (tgt := 75) hC dX8_sign_68 (by decide) hE (fun hE => ?_) (fun hE => ?_)
  · refine k_bipush (pc := 71) (v := 10) hC dX8_sign_71 (by decide) ?_
    refine k_istore (pc := 73) (lv' := [(4, .int 10), (0, .ref th), (1, .int a1), (2, .int a2)]) hC dX8_sign_73 (by rw [hnL]; decide) rfl ?_
    refine k_sub [1, 2, 3, 0] rfl ?_
    exact w_M_sign_B75 hM hR  _ _ _ _ _ hE
  · exact w_M_sign_B75 hM hR  _ _ _ _ _ hE
set_option maxHeartbeats 4000000 in
theorem w_M_sign_B55 {X : Ctx} {D : Dd} {th : Nat} {out : Int32 × Ji × Jl} (hM : Mx X cX8_sign D th 5 rmM_sign) (hR : Rt X (some .int) (RM D th out.2.1 out.2.2) (some (.int out.1)) 0 0) (a1 : Int32) (a2 : Int32) (a4 : Int32) (J : Ji) (K : Jl) (hE : M_sign_B55 a1 a2 a4 J K = some out) : Wk X 0 0 (RM D th J K) 55 [(0, .ref th), (1, .int a1), (2, .int a2), (4, .int a4)] [] := by
  have hC := hM.1
  have hnL := hM.2.2.1
  have hrm := hM.2.2.2
  unfold M_sign_B55 at hE
  refine k_iload_n (pc := 55) hC dX8_sign_55 rfl 2 rfl ?_
  refine k_bipush (pc := 56) (v := 45) hC dX8_sign_56 (by decide) ?_
  refine k_icmp_ne (pc := 58) (tgt := 65) hC dX8_sign_58 (by decide) hE (fun hE => ?_) (fun hE => ?_)
  · refine k_bipush (pc := 61) (v := 9) hC dX8_sign_61 (by decide) ?_
    refine k_istore (pc := 63) (lv' := [(4, .int 9), (0, .ref th), (1, .int a1), (2, .int a2)]) hC dX8_sign_63 (by rw [hnL]; decide) rfl ?_
    refine k_sub [1, 2, 3, 0] rfl ?_
    exact w_M_sign_B65 hM hR  _ _ _ _ _ hE
  · exact w_M_sign_B65 hM hR  _ _ _ _ _ hE
set_option maxHeartbeats 4000000 in
theorem w_M_sign_B43 {X : Ctx} {D : Dd} {th : Nat} {out : Int32 × Ji × Jl} (hM : Mx X cX8_sign D th 5 rmM_sign) (hR : Rt X (some .int) (RM D th out.2.1 out.2.2) (some (.int out.1)) 0 0) (a1 : Int32) (a2 : Int32) (s0 : Int32) (J : Ji) (K : Jl) (hE : M_sign_B43 a1 a2 s0 J K = some out) : Wk X 0 0 (RM D th J K) 43 [(0, .ref th), (1, .int a1), (2, .int a2)] [.int s0] := by
  have hC := hM.1
  have hnL := hM.2.2.1
  have hrm := hM.2.2.2
  unfold M_sign_B43 at hE
  refine k_istore (pc := 43) (lv' := [(4, .int s0), (0, .ref th), (1, .int a1), (2, .int a2)]) hC dX8_sign_43 (by rw [hnL]; decide) rfl ?_
  refine k_iload_n (pc := 45) hC dX8_sign_45 rfl 3 rfl ?_
  refine k_bipush (pc := 46) (v := 43) hC dX8_sign_46 (by decide) ?_
  refine k_icmp_ne (pc := 48) (tgt := 55) hC dX8_sign_48 (by decide) hE (fun hE => ?_) (fun hE => ?_)
  · refine k_bipush (pc := 51) (v := 8) hC dX8_sign_51 (by decide) ?_
    refine k_istore (pc := 53) (lv' := [(4, .int 8), (0, .ref th), (1, .int a1), (2, .int a2)]) hC dX8_sign_53 (by rw [hnL]; decide) rfl ?_
    refine k_sub [1, 2, 3, 0] rfl ?_
    exact w_M_sign_B55 hM hR  _ _ _ _ _ hE
  · refine k_sub [1, 2, 3, 0] rfl ?_
    exact w_M_sign_B55 hM hR  _ _ _ _ _ hE
set_option maxHeartbeats 4000000 in
theorem w_M_sign {X : Ctx} {D : Dd} {th : Nat} {out : Int32 × Ji × Jl} (hM : Mx X cX8_sign D th 5 rmM_sign) (hR : Rt X (some .int) (RM D th out.2.1 out.2.2) (some (.int out.1)) 0 0) (a1 : Int32) (a2 : Int32) (a3 : Int32) (J : Ji) (K : Jl) (hE : M_sign a1 a2 a3 J K = some out) : Wk X 0 0 (RM D th J K) 0 [(0, .ref th), (1, .int a1), (2, .int a2), (3, .int a3)] [] := by
  have hC := hM.1
  have hnL := hM.2.2.1
  have hrm := hM.2.2.2
  unfold M_sign at hE
  refine k_iload_n (pc := 0) hC dX8_sign_0 rfl 2 rfl ?_
  refine k_bipush (pc := 1) (v := 59) hC dX8_sign_1 (by decide) ?_
  refine k_icmp_ne (pc := 3) (tgt := 10) hC dX8_sign_3 (by decide) hE (fun hE => ?_) (fun hE => ?_)
  · refine k_iconst (pc := 6) (v := 4) hC dX8_sign_6 (by decide) ?_
    refine k_goto (pc := 7) (tgt := 43) hC dX8_sign_7 (by decide) ?_
    refine k_sub [0, 1, 2] rfl ?_
    exact w_M_sign_B43 hM hR  _ _ _ _ _ hE
  · refine k_iload_n (pc := 10) hC dX8_sign_10 rfl 2 rfl ?_
    refine k_bipush (pc := 11) (v := 61) hC dX8_sign_11 (by decide) ?_
    refine k_icmp_ne (pc := 13) (tgt := 20) hC dX8_sign_13 (by decide) hE (fun hE => ?_) (fun hE => ?_)
    · refine k_iconst (pc := 16) (v := 5) hC dX8_sign_16 (by decide) ?_
      refine k_goto (pc := 17) (tgt := 43) hC dX8_sign_17 (by decide) ?_
      refine k_sub [0, 1, 2] rfl ?_
      exact w_M_sign_B43 hM hR  _ _ _ _ _ hE
    · refine k_iload_n (pc := 20) hC dX8_sign_20 rfl 2 rfl ?_
      refine k_bipush (pc := 21) (v := 40) hC dX8_sign_21 (by decide) ?_
      refine k_icmp_ne (pc := 23) (tgt := 31) hC dX8_sign_23 (by decide) hE (fun hE => ?_) (fun hE => ?_)
      · refine k_bipush (pc := 26) (v := 6) hC dX8_sign_26 (by decide) ?_
        refine k_goto (pc := 28) (tgt := 43) hC dX8_sign_28 (by decide) ?_
        refine k_sub [0, 1, 2] rfl ?_
        exact w_M_sign_B43 hM hR  _ _ _ _ _ hE
      · refine k_iload_n (pc := 31) hC dX8_sign_31 rfl 2 rfl ?_
        refine k_bipush (pc := 32) (v := 41) hC dX8_sign_32 (by decide) ?_
        refine k_icmp_ne (pc := 34) (tgt := 42) hC dX8_sign_34 (by decide) hE (fun hE => ?_) (fun hE => ?_)
        · refine k_bipush (pc := 37) (v := 7) hC dX8_sign_37 (by decide) ?_
          refine k_goto (pc := 39) (tgt := 43) hC dX8_sign_39 (by decide) ?_
          refine k_sub [0, 1, 2] rfl ?_
          exact w_M_sign_B43 hM hR  _ _ _ _ _ hE
        · refine k_iconst (pc := 42) (v := 3) hC dX8_sign_42 (by decide) ?_
          refine k_sub [0, 1, 2] rfl ?_
          exact w_M_sign_B43 hM hR  _ _ _ _ _ hE
theorem ct_M_sign (l : Launch) (D : Dd) (A : Nat → Prop) (th : Nat) (hA : ∀ (off : Nat) (kd : Kd), layM off = some kd → A (th + off)) (a1 : Int32) (a2 : Int32) (a3 : Int32) (J : Ji) (K : Jl) (out : Int32 × Ji × Jl) (hE : M_sign a1 a2 a3 J K = some out) : Ct l yX8_sign (ws_ yX8_sign cX8_sign 5 (some .int)) rmM_sign vwCl arTy D A [.ref th, .int a1, .int a2, .int a3] (RM D th J K) (RM D th out.2.1 out.2.2) (some (.int out.1)) 0 0 := by
  refine Ct.of (by decide) (Nat.le_of_ble_eq_true rfl) rfl ?_
  intro X hl hrm hC hR hXA hnL _
  exact w_M_sign ⟨hC, by unfold Ft; rw [hXA]; exact hA, hnL, hrm⟩ hR a1 a2 a3 J K hE
theorem cw_M_sign {X : Ctx} {cc : ByteArray} {D : Dd} {th mL : Nat} {rm : Room} (hM : Mx X cc D th mL rm) (h1 : rmM_sign.frames + 1 ≤ rm.frames) (h2 : 8 + (5 + 11) + rmM_sign.locals ≤ rm.locals) : CallW X.2.2.2.1 X.2.2.2.2.1 X.2.2.2.2.2.2.1 RX8 RX8 244 yX8_sign cX8_sign 5 (some .int) (ws_ yX8_sign cX8_sign 5 (some .int)) rmM_sign 0 0 3 := cwV 3 (cx_w hM.1) (lw_V q1838 q1840 qs55 q128 q1841) rfl rfl rfl (by decide +kernel) (by rw [hM.2.2.2]; exact ⟨h1, h2⟩)
abbrev rmM_cut : Room := { frames := 2, cells := 0, slots := 0, locals := 49 }
set_option maxHeartbeats 4000000 in
theorem w_M_cut_B261 {X : Ctx} {D : Dd} {th : Nat} {out : Ji × Jl} (hM : Mx X cX8_cut D th 8 rmM_cut) (hR : Rt X none (RM D th out.1 out.2) none 0 0) (F : Nat) (k7 : Int32 → Ji → Jl → Option (Ji × Jl)) (hk7 : ∀ (a1 : Int32) (J : Ji) (K : Jl) , k7 a1 J K = some out → Wk X 0 0 (RM D th J K) 7 [(0, .ref th), (1, .int a1)] []) (a1 : Int32) (a3 : Int32) (a4 : Int32) (s0 : Int32) (J : Ji) (K : Jl) (hE : M_cut_B261 F k7 a1 a3 a4 s0 J K = some out) : Wk X 0 0 (RM D th J K) 261 [(0, .ref th), (1, .int a1), (3, .int a3), (4, .int a4)] [.int s0, .ref th] := by
  have hC := hM.1
  have hnL := hM.2.2.1
  have hrm := hM.2.2.2
  unfold M_cut_B261 at hE
  refine k_iload_n (pc := 261) hC dX8_cut_261 rfl 1 rfl ?_
  refine k_iload (pc := 262) hC dX8_cut_262 3 rfl ?_
  refine k_lconst (pc := 264) (v := 0) hC dX8_cut_264 (by decide) ?_
  refine m_clVjk (pc := 265) (As := [.int s0, .int a1, .int a4, .long 0]) hM (cw_M_token hM (Nat.le_of_ble_eq_true rfl) (Nat.le_of_ble_eq_true rfl)) rfl rfl (Nat.le_of_ble_eq_true rfl) dX8_cut_265 hE (fun r h => ct_M_token _ _ _ _ hM.2.1 s0 a1 a4 0 J K r h) (fun r31 hE => ?_)
  refine k_iload_n (pc := 268) hC dX8_cut_268 rfl 1 rfl ?_
  refine k_iload_n (pc := 269) hC dX8_cut_269 rfl 2 rfl ?_
  refine k_iadd (pc := 270) hC dX8_cut_270 ?_
  refine k_istoreE_n (pc := 271) (lv' := fun x32 => [(1, .int x32), (0, .ref th), (3, .int a3), (4, .int a4)]) hC dX8_cut_271 rfl (by rw [hnL]; decide) hE (fun _ => rfl) (fun x32 hE => ?_)
  refine k_goto (pc := 272) (tgt := 291) hC dX8_cut_272 (by decide) ?_
  refine k_goto (pc := 291) (tgt := 7) hC dX8_cut_291 (by decide) ?_
  refine k_sub [1, 0] rfl ?_
  exact hk7 _ _ _ hE
set_option maxHeartbeats 4000000 in
theorem w_M_cut_B208 {X : Ctx} {D : Dd} {th : Nat} {out : Ji × Jl} (hM : Mx X cX8_cut D th 8 rmM_cut) (hR : Rt X none (RM D th out.1 out.2) none 0 0) (F : Nat) (k7 : Int32 → Ji → Jl → Option (Ji × Jl)) (hk7 : ∀ (a1 : Int32) (J : Ji) (K : Jl) , k7 a1 J K = some out → Wk X 0 0 (RM D th J K) 7 [(0, .ref th), (1, .int a1)] []) (k208 : Int32 → Int32 → Int32 → Ji → Jl → Option (Ji × Jl)) (hk208 : ∀ (a1 : Int32) (a3 : Int32) (a4 : Int32) (J : Ji) (K : Jl) , k208 a1 a3 a4 J K = some out → Wk X 0 0 (RM D th J K) 208 [(0, .ref th), (1, .int a1), (3, .int a3), (4, .int a4)] []) (a1 : Int32) (a3 : Int32) (a4 : Int32) (J : Ji) (K : Jl) (hE : M_cut_B208 F k7 k208 a1 a3 a4 J K = some out) : Wk X 0 0 (RM D th J K) 208 [(0, .ref th), (1, .int a1), (3, .int a3), (4, .int a4)] [] := by
  have hC := hM.1
  have hnL := hM.2.2.1
  have hrm := hM.2.2.2
  unfold M_cut_B208 at hE
  refine k_aload_n (pc := 208) hC dX8_cut_208 rfl 0 rfl ?_
  refine k_iload_n (pc := 209) hC dX8_cut_209 rfl 1 rfl ?_
  refine k_iload_n (pc := 210) hC dX8_cut_210 rfl 2 rfl ?_
  refine k_iadd (pc := 211) hC dX8_cut_211 ?_
  refine m_clI (pc := 212) (As := [.int (a1 + a3)]) hM (cw_M_byteAt hM (Nat.le_of_ble_eq_true rfl) (Nat.le_of_ble_eq_true rfl)) rfl rfl (Nat.le_of_ble_eq_true rfl) dX8_cut_212 hE (fun r h => ct_M_byteAt _ _ _ _ hM.2.1 (a1 + a3) J K r h) (fun r25 hE => ?_)
  refine m_callSI (pc := 215) (As := [.int r25]) (fun r => r) hC (cw_M_isDigit hC hrm (Nat.le_of_ble_eq_true rfl) (Nat.le_of_ble_eq_true rfl)) rfl rfl (Nat.le_of_ble_eq_true rfl) ⟨Nat.zero_le _, Nat.zero_le _⟩ dX8_cut_215 hE (fun r h => ct_M_isDigit _ _ _ _ r25 r h) (fun r26 hE => ?_)
  refine k_if_eq (pc := 218) (tgt := 250) hC dX8_cut_218 (by decide) hE (fun hE => ?_) (fun hE => ?_)
  · refine k_aload_n (pc := 250) hC dX8_cut_250 rfl 0 rfl ?_
    refine k_iload_n (pc := 251) hC dX8_cut_251 rfl 2 rfl ?_
    refine k_iconst (pc := 252) (v := 4) hC dX8_cut_252 (by decide) ?_
    refine k_icmp_le (pc := 253) (tgt := 260) hC dX8_cut_253 (by decide) hE (fun hE => ?_) (fun hE => ?_)
    · refine k_iconst (pc := 260) (v := 2) hC dX8_cut_260 (by decide) ?_
      exact w_M_cut_B261 hM hR F k7 hk7 _ _ _ _ _ _ hE
    · refine k_iconst (pc := 256) (v := 3) hC dX8_cut_256 (by decide) ?_
      refine k_goto (pc := 257) (tgt := 261) hC dX8_cut_257 (by decide) ?_
      exact w_M_cut_B261 hM hR F k7 hk7 _ _ _ _ _ _ hE
  · refine k_iload_n (pc := 221) hC dX8_cut_221 rfl 2 rfl ?_
    refine k_iconst (pc := 222) (v := 4) hC dX8_cut_222 (by decide) ?_
    refine k_icmp_ge (pc := 223) (tgt := 244) hC dX8_cut_223 (by decide) hE (fun hE => ?_) (fun hE => ?_)
    · refine k_iincE (pc := 244) (k := 2) (d := 1) (lv' := fun x27 => [(3, .int x27), (0, .ref th), (1, .int a1), (4, .int a4)]) hC dX8_cut_244 rfl (by decide) (by rw [hnL]; decide) hE (fun _ => rfl) (fun x27 hE => ?_)
      refine k_goto (pc := 247) (tgt := 208) hC dX8_cut_247 (by decide) ?_
      refine k_sub [1, 2, 0, 3] rfl ?_
      exact hk208 _ _ _ _ _ hE
    · refine k_bipush (pc := 226) (v := 10) hC dX8_cut_226 (by decide) ?_
      refine k_iload (pc := 228) hC dX8_cut_228 3 rfl ?_
      refine k_imul (pc := 230) hC dX8_cut_230 ?_
      refine k_aload_n (pc := 231) hC dX8_cut_231 rfl 0 rfl ?_
      refine k_iload_n (pc := 232) hC dX8_cut_232 rfl 1 rfl ?_
      refine k_iload_n (pc := 233) hC dX8_cut_233 rfl 2 rfl ?_
      refine k_iadd (pc := 234) hC dX8_cut_234 ?_
      refine m_clI (pc := 235) (As := [.int (a1 + a3)]) hM (cw_M_byteAt hM (Nat.le_of_ble_eq_true rfl) (Nat.le_of_ble_eq_true rfl)) rfl rfl (Nat.le_of_ble_eq_true rfl) dX8_cut_235 hE (fun r h => ct_M_byteAt _ _ _ _ hM.2.1 (a1 + a3) J K r h) (fun r28 hE => ?_)
      refine k_iadd (pc := 238) hC dX8_cut_238 ?_
      refine k_bipush (pc := 239) (v := 48) hC dX8_cut_239 (by decide) ?_
      refine k_isub (pc := 241) hC dX8_cut_241 ?_
      refine k_istoreE (pc := 242) (lv' := fun x29 => [(4, .int x29), (0, .ref th), (1, .int a1), (3, .int a3)]) hC dX8_cut_242 (by rw [hnL]; decide) hE (fun _ => rfl) (fun x29 hE => ?_)
      refine k_iincE (pc := 244) (k := 3) (d := 1) (lv' := fun x30 => [(3, .int x30), (4, .int x29), (0, .ref th), (1, .int a1)]) hC dX8_cut_244 rfl (by decide) (by rw [hnL]; decide) hE (fun _ => rfl) (fun x30 hE => ?_)
      refine k_goto (pc := 247) (tgt := 208) hC dX8_cut_247 (by decide) ?_
      refine k_sub [2, 3, 0, 1] rfl ?_
      exact hk208 _ _ _ _ _ hE
theorem w_M_cut_L208 {X : Ctx} {D : Dd} {th : Nat} {out : Ji × Jl} (hM : Mx X cX8_cut D th 8 rmM_cut) (hR : Rt X none (RM D th out.1 out.2) none 0 0) (F : Nat) (k7 : Int32 → Ji → Jl → Option (Ji × Jl)) (hk7 : ∀ (a1 : Int32) (J : Ji) (K : Jl) , k7 a1 J K = some out → Wk X 0 0 (RM D th J K) 7 [(0, .ref th), (1, .int a1)] []) (n : Nat) : ∀ (a1 : Int32) (a3 : Int32) (a4 : Int32) (J : Ji) (K : Jl) , M_cut_L208 F k7 n a1 a3 a4 J K = some out → Wk X 0 0 (RM D th J K) 208 [(0, .ref th), (1, .int a1), (3, .int a3), (4, .int a4)] [] := by
  induction n with
  | zero => intro a1 a3 a4 J K h; cases h
  | succ n ih => intro a1 a3 a4 J K h; exact w_M_cut_B208 hM hR F k7 hk7 (M_cut_L208 F k7 n) ih a1 a3 a4 J K h
set_option maxHeartbeats 4000000 in
theorem w_M_cut_B179 {X : Ctx} {D : Dd} {th : Nat} {out : Ji × Jl} (hM : Mx X cX8_cut D th 8 rmM_cut) (hR : Rt X none (RM D th out.1 out.2) none 0 0) (F : Nat) (k7 : Int32 → Ji → Jl → Option (Ji × Jl)) (hk7 : ∀ (a1 : Int32) (J : Ji) (K : Jl) , k7 a1 J K = some out → Wk X 0 0 (RM D th J K) 7 [(0, .ref th), (1, .int a1)] []) (a1 : Int32) (a3 : Int32) (a4 : Int64) (a6 : Int32) (J : Ji) (K : Jl) (hE : M_cut_B179 F k7 a1 a3 a4 a6 J K = some out) : Wk X 0 0 (RM D th J K) 179 [(0, .ref th), (1, .int a1), (3, .int a3), (4, .long a4), (6, .int a6)] [] := by
  have hC := hM.1
  have hnL := hM.2.2.1
  have hrm := hM.2.2.2
  unfold M_cut_B179 at hE
  refine k_aload_n (pc := 179) hC dX8_cut_179 rfl 0 rfl ?_
  refine k_iload (pc := 180) hC dX8_cut_180 4 rfl ?_
  refine k_iload_n (pc := 182) hC dX8_cut_182 rfl 1 rfl ?_
  refine k_iconst (pc := 183) (v := 0) hC dX8_cut_183 (by decide) ?_
  refine k_lload (pc := 184) hC dX8_cut_184 3 rfl ?_
  refine m_clVjk (pc := 186) (As := [.int a6, .int a1, .int 0, .long a4]) hM (cw_M_token hM (Nat.le_of_ble_eq_true rfl) (Nat.le_of_ble_eq_true rfl)) rfl rfl (Nat.le_of_ble_eq_true rfl) dX8_cut_186 hE (fun r h => ct_M_token _ _ _ _ hM.2.1 a6 a1 0 a4 J K r h) (fun r23 hE => ?_)
  refine k_iload_n (pc := 189) hC dX8_cut_189 rfl 1 rfl ?_
  refine k_iload_n (pc := 190) hC dX8_cut_190 rfl 2 rfl ?_
  refine k_iadd (pc := 191) hC dX8_cut_191 ?_
  refine k_istoreE_n (pc := 192) (lv' := fun x24 => [(1, .int x24), (0, .ref th), (3, .int a3), (4, .long a4), (6, .int a6)]) hC dX8_cut_192 rfl (by rw [hnL]; decide) hE (fun _ => rfl) (fun x24 hE => ?_)
  refine k_goto (pc := 193) (tgt := 291) hC dX8_cut_193 (by decide) ?_
  refine k_goto (pc := 291) (tgt := 7) hC dX8_cut_291 (by decide) ?_
  refine k_sub [1, 0] rfl ?_
  exact hk7 _ _ _ hE
set_option maxHeartbeats 4000000 in
theorem w_M_cut_B146 {X : Ctx} {D : Dd} {th : Nat} {out : Ji × Jl} (hM : Mx X cX8_cut D th 8 rmM_cut) (hR : Rt X none (RM D th out.1 out.2) none 0 0) (F : Nat) (k7 : Int32 → Ji → Jl → Option (Ji × Jl)) (hk7 : ∀ (a1 : Int32) (J : Ji) (K : Jl) , k7 a1 J K = some out → Wk X 0 0 (RM D th J K) 7 [(0, .ref th), (1, .int a1)] []) (k146 : Int32 → Int32 → Int64 → Int32 → Int32 → Ji → Jl → Option (Ji × Jl)) (hk146 : ∀ (a1 : Int32) (a3 : Int32) (a4 : Int64) (a6 : Int32) (a7 : Int32) (J : Ji) (K : Jl) , k146 a1 a3 a4 a6 a7 J K = some out → Wk X 0 0 (RM D th J K) 146 [(0, .ref th), (1, .int a1), (3, .int a3), (4, .long a4), (6, .int a6), (7, .int a7)] []) (a1 : Int32) (a3 : Int32) (a4 : Int64) (a6 : Int32) (a7 : Int32) (J : Ji) (K : Jl) (hE : M_cut_B146 F k7 k146 a1 a3 a4 a6 a7 J K = some out) : Wk X 0 0 (RM D th J K) 146 [(0, .ref th), (1, .int a1), (3, .int a3), (4, .long a4), (6, .int a6), (7, .int a7)] [] := by
  have hC := hM.1
  have hnL := hM.2.2.1
  have hrm := hM.2.2.2
  unfold M_cut_B146 at hE
  refine k_iload (pc := 146) hC dX8_cut_146 5 rfl ?_
  refine k_bipush (pc := 148) (v := 21) hC dX8_cut_148 (by decide) ?_
  refine k_icmp_ge (pc := 150) (tgt := 179) hC dX8_cut_150 (by decide) hE (fun hE => ?_) (fun hE => ?_)
  · refine k_sub [0, 1, 2, 3, 4] rfl ?_
    exact w_M_cut_B179 hM hR F k7 hk7 _ _ _ _ _ _ hE
  · refine k_aload_n (pc := 153) hC dX8_cut_153 rfl 0 rfl ?_
    refine gM_9 (pc := 154) hM dX8_cut_154 ?_
    refine k_iload (pc := 157) hC dX8_cut_157 5 rfl ?_
    refine m_lald (pc := 159) 7 ly_7 hM dX8_cut_159 hE (fun x19 hE => ?_)
    refine k_lload (pc := 160) hC dX8_cut_160 3 rfl ?_
    refine k_lcmp (pc := 162) hC dX8_cut_162 ?_
    refine k_if_ne (pc := 163) (tgt := 173) hC dX8_cut_163 (by decide) hE (fun hE => ?_) (fun hE => ?_)
    · refine k_bipush (pc := 166) (v := 20) hC dX8_cut_166 (by decide) ?_
      refine k_iload (pc := 168) hC dX8_cut_168 5 rfl ?_
      refine k_iadd (pc := 170) hC dX8_cut_170 ?_
      refine k_istoreE (pc := 171) (lv' := fun x20 => [(6, .int x20), (0, .ref th), (1, .int a1), (3, .int a3), (4, .long a4), (7, .int a7)]) hC dX8_cut_171 (by rw [hnL]; decide) hE (fun _ => rfl) (fun x20 hE => ?_)
      refine k_iincE (pc := 173) (k := 5) (d := 1) (lv' := fun x21 => [(7, .int x21), (6, .int x20), (0, .ref th), (1, .int a1), (3, .int a3), (4, .long a4)]) hC dX8_cut_173 rfl (by decide) (by rw [hnL]; decide) hE (fun _ => rfl) (fun x21 hE => ?_)
      refine k_goto (pc := 176) (tgt := 146) hC dX8_cut_176 (by decide) ?_
      refine k_sub [2, 3, 4, 5, 1, 0] rfl ?_
      exact hk146 _ _ _ _ _ _ _ hE
    · refine k_iincE (pc := 173) (k := 5) (d := 1) (lv' := fun x22 => [(7, .int x22), (0, .ref th), (1, .int a1), (3, .int a3), (4, .long a4), (6, .int a6)]) hC dX8_cut_173 rfl (by decide) (by rw [hnL]; decide) hE (fun _ => rfl) (fun x22 hE => ?_)
      refine k_goto (pc := 176) (tgt := 146) hC dX8_cut_176 (by decide) ?_
      refine k_sub [1, 2, 3, 4, 5, 0] rfl ?_
      exact hk146 _ _ _ _ _ _ _ hE
theorem w_M_cut_L146 {X : Ctx} {D : Dd} {th : Nat} {out : Ji × Jl} (hM : Mx X cX8_cut D th 8 rmM_cut) (hR : Rt X none (RM D th out.1 out.2) none 0 0) (F : Nat) (k7 : Int32 → Ji → Jl → Option (Ji × Jl)) (hk7 : ∀ (a1 : Int32) (J : Ji) (K : Jl) , k7 a1 J K = some out → Wk X 0 0 (RM D th J K) 7 [(0, .ref th), (1, .int a1)] []) (n : Nat) : ∀ (a1 : Int32) (a3 : Int32) (a4 : Int64) (a6 : Int32) (a7 : Int32) (J : Ji) (K : Jl) , M_cut_L146 F k7 n a1 a3 a4 a6 a7 J K = some out → Wk X 0 0 (RM D th J K) 146 [(0, .ref th), (1, .int a1), (3, .int a3), (4, .long a4), (6, .int a6), (7, .int a7)] [] := by
  induction n with
  | zero => intro a1 a3 a4 a6 a7 J K h; cases h
  | succ n ih => intro a1 a3 a4 a6 a7 J K h; exact w_M_cut_B146 hM hR F k7 hk7 (M_cut_L146 F k7 n) ih a1 a3 a4 a6 a7 J K h
set_option maxHeartbeats 4000000 in
theorem w_M_cut_B135 {X : Ctx} {D : Dd} {th : Nat} {out : Ji × Jl} (hM : Mx X cX8_cut D th 8 rmM_cut) (hR : Rt X none (RM D th out.1 out.2) none 0 0) (F : Nat) (k7 : Int32 → Ji → Jl → Option (Ji × Jl)) (hk7 : ∀ (a1 : Int32) (J : Ji) (K : Jl) , k7 a1 J K = some out → Wk X 0 0 (RM D th J K) 7 [(0, .ref th), (1, .int a1)] []) (a1 : Int32) (a3 : Int32) (a4 : Int64) (s0 : Int32) (J : Ji) (K : Jl) (hE : M_cut_B135 F k7 a1 a3 a4 s0 J K = some out) : Wk X 0 0 (RM D th J K) 135 [(0, .ref th), (1, .int a1), (3, .int a3), (4, .long a4)] [.int s0] := by
  have hC := hM.1
  have hnL := hM.2.2.1
  have hrm := hM.2.2.2
  unfold M_cut_B135 at hE
  refine k_istore (pc := 135) (lv' := [(6, .int s0), (0, .ref th), (1, .int a1), (3, .int a3), (4, .long a4)]) hC dX8_cut_135 (by rw [hnL]; decide) rfl ?_
  refine k_iload_n (pc := 137) hC dX8_cut_137 rfl 3 rfl ?_
  refine k_bipush (pc := 138) (v := 7) hC dX8_cut_138 (by decide) ?_
  refine k_icmp_gt (pc := 140) (tgt := 179) hC dX8_cut_140 (by decide) hE (fun hE => ?_) (fun hE => ?_)
  · refine k_sub [1, 2, 3, 4, 0] rfl ?_
    exact w_M_cut_B179 hM hR F k7 hk7 _ _ _ _ _ _ hE
  · refine k_iconst (pc := 143) (v := 0) hC dX8_cut_143 (by decide) ?_
    refine k_istore (pc := 144) (lv' := [(7, .int 0), (6, .int s0), (0, .ref th), (1, .int a1), (3, .int a3), (4, .long a4)]) hC dX8_cut_144 (by rw [hnL]; decide) rfl ?_
    refine k_sub [2, 3, 4, 5, 1, 0] rfl ?_
    exact w_M_cut_L146 hM hR F k7 hk7 _ _ _ _ _ _ _ _ hE
set_option maxHeartbeats 4000000 in
theorem w_M_cut_B85 {X : Ctx} {D : Dd} {th : Nat} {out : Ji × Jl} (hM : Mx X cX8_cut D th 8 rmM_cut) (hR : Rt X none (RM D th out.1 out.2) none 0 0) (F : Nat) (k7 : Int32 → Ji → Jl → Option (Ji × Jl)) (hk7 : ∀ (a1 : Int32) (J : Ji) (K : Jl) , k7 a1 J K = some out → Wk X 0 0 (RM D th J K) 7 [(0, .ref th), (1, .int a1)] []) (k85 : Int32 → Int32 → Int64 → Ji → Jl → Option (Ji × Jl)) (hk85 : ∀ (a1 : Int32) (a3 : Int32) (a4 : Int64) (J : Ji) (K : Jl) , k85 a1 a3 a4 J K = some out → Wk X 0 0 (RM D th J K) 85 [(0, .ref th), (1, .int a1), (3, .int a3), (4, .long a4)] []) (a1 : Int32) (a3 : Int32) (a4 : Int64) (J : Ji) (K : Jl) (hE : M_cut_B85 F k7 k85 a1 a3 a4 J K = some out) : Wk X 0 0 (RM D th J K) 85 [(0, .ref th), (1, .int a1), (3, .int a3), (4, .long a4)] [] := by
  have hC := hM.1
  have hnL := hM.2.2.1
  have hrm := hM.2.2.2
  unfold M_cut_B85 at hE
  refine k_aload_n (pc := 85) hC dX8_cut_85 rfl 0 rfl ?_
  refine k_iload_n (pc := 86) hC dX8_cut_86 rfl 1 rfl ?_
  refine k_iload_n (pc := 87) hC dX8_cut_87 rfl 2 rfl ?_
  refine k_iadd (pc := 88) hC dX8_cut_88 ?_
  refine m_clI (pc := 89) (As := [.int (a1 + a3)]) hM (cw_M_byteAt hM (Nat.le_of_ble_eq_true rfl) (Nat.le_of_ble_eq_true rfl)) rfl rfl (Nat.le_of_ble_eq_true rfl) dX8_cut_89 hE (fun r h => ct_M_byteAt _ _ _ _ hM.2.1 (a1 + a3) J K r h) (fun r13 hE => ?_)
  refine m_callSI (pc := 92) (As := [.int r13]) (fun r => r) hC (cw_M_isLetter hC hrm (Nat.le_of_ble_eq_true rfl) (Nat.le_of_ble_eq_true rfl)) rfl rfl (Nat.le_of_ble_eq_true rfl) ⟨Nat.zero_le _, Nat.zero_le _⟩ dX8_cut_92 hE (fun r h => ct_M_isLetter _ _ _ _ r13 r h) (fun r14 hE => ?_)
  refine k_if_eq (pc := 95) (tgt := 124) hC dX8_cut_95 (by decide) hE (fun hE => ?_) (fun hE => ?_)
  · refine k_iload_n (pc := 124) hC dX8_cut_124 rfl 2 rfl ?_
    refine k_bipush (pc := 125) (v := 8) hC dX8_cut_125 (by decide) ?_
    refine k_icmp_le (pc := 127) (tgt := 134) hC dX8_cut_127 (by decide) hE (fun hE => ?_) (fun hE => ?_)
    · refine k_iconst (pc := 134) (v := 1) hC dX8_cut_134 (by decide) ?_
      exact w_M_cut_B135 hM hR F k7 hk7 _ _ _ _ _ _ hE
    · refine k_iconst (pc := 130) (v := 3) hC dX8_cut_130 (by decide) ?_
      refine k_goto (pc := 131) (tgt := 135) hC dX8_cut_131 (by decide) ?_
      exact w_M_cut_B135 hM hR F k7 hk7 _ _ _ _ _ _ hE
  · refine k_iload_n (pc := 98) hC dX8_cut_98 rfl 2 rfl ?_
    refine k_bipush (pc := 99) (v := 8) hC dX8_cut_99 (by decide) ?_
    refine k_icmp_ge (pc := 101) (tgt := 118) hC dX8_cut_101 (by decide) hE (fun hE => ?_) (fun hE => ?_)
    · refine k_iincE (pc := 118) (k := 2) (d := 1) (lv' := fun x15 => [(3, .int x15), (0, .ref th), (1, .int a1), (4, .long a4)]) hC dX8_cut_118 rfl (by decide) (by rw [hnL]; decide) hE (fun _ => rfl) (fun x15 hE => ?_)
      refine k_goto (pc := 121) (tgt := 85) hC dX8_cut_121 (by decide) ?_
      refine k_sub [1, 2, 0, 3] rfl ?_
      exact hk85 _ _ _ _ _ hE
    · refine k_lload (pc := 104) hC dX8_cut_104 3 rfl ?_
      refine k_aload_n (pc := 106) hC dX8_cut_106 rfl 0 rfl ?_
      refine k_iload_n (pc := 107) hC dX8_cut_107 rfl 1 rfl ?_
      refine k_iload_n (pc := 108) hC dX8_cut_108 rfl 2 rfl ?_
      refine k_iadd (pc := 109) hC dX8_cut_109 ?_
      refine m_clI (pc := 110) (As := [.int (a1 + a3)]) hM (cw_M_byteAt hM (Nat.le_of_ble_eq_true rfl) (Nat.le_of_ble_eq_true rfl)) rfl rfl (Nat.le_of_ble_eq_true rfl) dX8_cut_110 hE (fun r h => ct_M_byteAt _ _ _ _ hM.2.1 (a1 + a3) J K r h) (fun r16 hE => ?_)
      refine m_callSL (pc := 113) (As := [.long a4, .int r16]) (fun r => r) hC (cw_M_appends hC hrm (Nat.le_of_ble_eq_true rfl) (Nat.le_of_ble_eq_true rfl)) rfl rfl (Nat.le_of_ble_eq_true rfl) ⟨Nat.zero_le _, Nat.zero_le _⟩ dX8_cut_113 hE (fun r h => ct_M_appends _ _ _ _ a4 r16 r h) (fun r17 hE => ?_)
      refine k_lstore (pc := 116) (lv' := [(4, .long r17), (0, .ref th), (1, .int a1), (3, .int a3)]) hC dX8_cut_116 (by rw [hnL]; decide) rfl ?_
      refine k_iincE (pc := 118) (k := 3) (d := 1) (lv' := fun x18 => [(3, .int x18), (4, .long r17), (0, .ref th), (1, .int a1)]) hC dX8_cut_118 rfl (by decide) (by rw [hnL]; decide) hE (fun _ => rfl) (fun x18 hE => ?_)
      refine k_goto (pc := 121) (tgt := 85) hC dX8_cut_121 (by decide) ?_
      refine k_sub [2, 3, 0, 1] rfl ?_
      exact hk85 _ _ _ _ _ hE
theorem w_M_cut_L85 {X : Ctx} {D : Dd} {th : Nat} {out : Ji × Jl} (hM : Mx X cX8_cut D th 8 rmM_cut) (hR : Rt X none (RM D th out.1 out.2) none 0 0) (F : Nat) (k7 : Int32 → Ji → Jl → Option (Ji × Jl)) (hk7 : ∀ (a1 : Int32) (J : Ji) (K : Jl) , k7 a1 J K = some out → Wk X 0 0 (RM D th J K) 7 [(0, .ref th), (1, .int a1)] []) (n : Nat) : ∀ (a1 : Int32) (a3 : Int32) (a4 : Int64) (J : Ji) (K : Jl) , M_cut_L85 F k7 n a1 a3 a4 J K = some out → Wk X 0 0 (RM D th J K) 85 [(0, .ref th), (1, .int a1), (3, .int a3), (4, .long a4)] [] := by
  induction n with
  | zero => intro a1 a3 a4 J K h; cases h
  | succ n ih => intro a1 a3 a4 J K h; exact w_M_cut_B85 hM hR F k7 hk7 (M_cut_L85 F k7 n) ih a1 a3 a4 J K h
set_option maxHeartbeats 4000000 in
theorem w_M_cut_B7 {X : Ctx} {D : Dd} {th : Nat} {out : Ji × Jl} (hM : Mx X cX8_cut D th 8 rmM_cut) (hR : Rt X none (RM D th out.1 out.2) none 0 0) (F : Nat) (k7 : Int32 → Ji → Jl → Option (Ji × Jl)) (hk7 : ∀ (a1 : Int32) (J : Ji) (K : Jl) , k7 a1 J K = some out → Wk X 0 0 (RM D th J K) 7 [(0, .ref th), (1, .int a1)] []) (a1 : Int32) (J : Ji) (K : Jl) (hE : M_cut_B7 F k7 a1 J K = some out) : Wk X 0 0 (RM D th J K) 7 [(0, .ref th), (1, .int a1)] [] := by
  have hC := hM.1
  have hnL := hM.2.2.1
  have hrm := hM.2.2.2
  unfold M_cut_B7 at hE
  refine k_aload_n (pc := 7) hC dX8_cut_7 rfl 0 rfl ?_
  refine gM_10 (pc := 8) hM dX8_cut_8 ?_
  refine k_sipush (pc := 11) (v := 400) hC dX8_cut_11 (by decide) ?_
  refine k_icmp_gt (pc := 14) (tgt := 294) hC dX8_cut_14 (by decide) hE (fun hE => ?_) (fun hE => ?_)
  · exact k_vret (pc := 294) hC hR ⟨Nat.le_refl 0, Nat.le_refl 0⟩ dX8_cut_294 (by cases hE; rfl) (by cases hE; exact fun _ h => h)
  · refine k_aload_n (pc := 17) hC dX8_cut_17 rfl 0 rfl ?_
    refine k_iload_n (pc := 18) hC dX8_cut_18 rfl 1 rfl ?_
    refine m_clI (pc := 19) (As := [.int a1]) hM (cw_M_byteAt hM (Nat.le_of_ble_eq_true rfl) (Nat.le_of_ble_eq_true rfl)) rfl rfl (Nat.le_of_ble_eq_true rfl) dX8_cut_19 hE (fun r h => ct_M_byteAt _ _ _ _ hM.2.1 a1 J K r h) (fun r2 hE => ?_)
    refine k_istore_n (pc := 22) (lv' := [(2, .int r2), (0, .ref th), (1, .int a1)]) hC dX8_cut_22 rfl (by rw [hnL]; decide) rfl ?_
    refine k_iload_n (pc := 23) hC dX8_cut_23 rfl 2 rfl ?_
    refine k_aload_n (pc := 24) hC dX8_cut_24 rfl 1 rfl ?_
    refine gM_4 (pc := 25) hM dX8_cut_25 ?_
    refine k_icmp_lt (pc := 28) (tgt := 43) hC dX8_cut_28 (by decide) hE (fun hE => ?_) (fun hE => ?_)
    · refine k_iload_n (pc := 43) hC dX8_cut_43 rfl 0 rfl ?_
      refine k_bipush (pc := 44) (v := 9) hC dX8_cut_44 (by decide) ?_
      refine k_icmp_eq (pc := 46) (tgt := 67) hC dX8_cut_46 (by decide) hE (fun hE => ?_) (fun hE => ?_)
      · refine k_iincE (pc := 67) (k := 2) (d := 1) (lv' := fun x3 => [(1, .int x3), (2, .int r2), (0, .ref th)]) hC dX8_cut_67 rfl (by decide) (by rw [hnL]; decide) hE (fun _ => rfl) (fun x3 hE => ?_)
        refine k_goto (pc := 70) (tgt := 291) hC dX8_cut_70 (by decide) ?_
        refine k_goto (pc := 291) (tgt := 7) hC dX8_cut_291 (by decide) ?_
        refine k_sub [2, 0] rfl ?_
        exact hk7 _ _ _ hE
      · refine k_iload_n (pc := 49) hC dX8_cut_49 rfl 0 rfl ?_
        refine k_bipush (pc := 50) (v := 10) hC dX8_cut_50 (by decide) ?_
        refine k_icmp_eq (pc := 52) (tgt := 67) hC dX8_cut_52 (by decide) hE (fun hE => ?_) (fun hE => ?_)
        · refine k_iincE (pc := 67) (k := 2) (d := 1) (lv' := fun x4 => [(1, .int x4), (2, .int r2), (0, .ref th)]) hC dX8_cut_67 rfl (by decide) (by rw [hnL]; decide) hE (fun _ => rfl) (fun x4 hE => ?_)
          refine k_goto (pc := 70) (tgt := 291) hC dX8_cut_70 (by decide) ?_
          refine k_goto (pc := 291) (tgt := 7) hC dX8_cut_291 (by decide) ?_
          refine k_sub [2, 0] rfl ?_
          exact hk7 _ _ _ hE
        · refine k_iload_n (pc := 55) hC dX8_cut_55 rfl 0 rfl ?_
          refine k_bipush (pc := 56) (v := 13) hC dX8_cut_56 (by decide) ?_
          refine k_icmp_eq (pc := 58) (tgt := 67) hC dX8_cut_58 (by decide) hE (fun hE => ?_) (fun hE => ?_)
          · refine k_iincE (pc := 67) (k := 2) (d := 1) (lv' := fun x5 => [(1, .int x5), (2, .int r2), (0, .ref th)]) hC dX8_cut_67 rfl (by decide) (by rw [hnL]; decide) hE (fun _ => rfl) (fun x5 hE => ?_)
            refine k_goto (pc := 70) (tgt := 291) hC dX8_cut_70 (by decide) ?_
            refine k_goto (pc := 291) (tgt := 7) hC dX8_cut_291 (by decide) ?_
            refine k_sub [2, 0] rfl ?_
            exact hk7 _ _ _ hE
          · refine k_iload_n (pc := 61) hC dX8_cut_61 rfl 0 rfl ?_
            refine k_bipush (pc := 62) (v := 32) hC dX8_cut_62 (by decide) ?_
            refine k_icmp_ne (pc := 64) (tgt := 73) hC dX8_cut_64 (by decide) hE (fun hE => ?_) (fun hE => ?_)
            · refine k_iincE (pc := 67) (k := 2) (d := 1) (lv' := fun x6 => [(1, .int x6), (2, .int r2), (0, .ref th)]) hC dX8_cut_67 rfl (by decide) (by rw [hnL]; decide) hE (fun _ => rfl) (fun x6 hE => ?_)
              refine k_goto (pc := 70) (tgt := 291) hC dX8_cut_70 (by decide) ?_
              refine k_goto (pc := 291) (tgt := 7) hC dX8_cut_291 (by decide) ?_
              refine k_sub [2, 0] rfl ?_
              exact hk7 _ _ _ hE
            · refine k_iload_n (pc := 73) hC dX8_cut_73 rfl 0 rfl ?_
              refine m_callSI (pc := 74) (As := [.int r2]) (fun r => r) hC (cw_M_isLetter hC hrm (Nat.le_of_ble_eq_true rfl) (Nat.le_of_ble_eq_true rfl)) rfl rfl (Nat.le_of_ble_eq_true rfl) ⟨Nat.zero_le _, Nat.zero_le _⟩ dX8_cut_74 hE (fun r h => ct_M_isLetter _ _ _ _ r2 r h) (fun r7 hE => ?_)
              refine k_if_eq (pc := 77) (tgt := 196) hC dX8_cut_77 (by decide) hE (fun hE => ?_) (fun hE => ?_)
              · refine k_iload_n (pc := 196) hC dX8_cut_196 rfl 0 rfl ?_
                refine m_callSI (pc := 197) (As := [.int r2]) (fun r => r) hC (cw_M_isDigit hC hrm (Nat.le_of_ble_eq_true rfl) (Nat.le_of_ble_eq_true rfl)) rfl rfl (Nat.le_of_ble_eq_true rfl) ⟨Nat.zero_le _, Nat.zero_le _⟩ dX8_cut_197 hE (fun r h => ct_M_isDigit _ _ _ _ r2 r h) (fun r8 hE => ?_)
                refine k_if_eq (pc := 200) (tgt := 275) hC dX8_cut_200 (by decide) hE (fun hE => ?_) (fun hE => ?_)
                · refine k_iload_n (pc := 275) hC dX8_cut_275 rfl 2 rfl ?_
                  refine k_aload_n (pc := 276) hC dX8_cut_276 rfl 1 rfl ?_
                  refine k_iload_n (pc := 277) hC dX8_cut_277 rfl 2 rfl ?_
                  refine k_iload_n (pc := 278) hC dX8_cut_278 rfl 0 rfl ?_
                  refine k_aload_n (pc := 279) hC dX8_cut_279 rfl 1 rfl ?_
                  refine k_iload_n (pc := 280) hC dX8_cut_280 rfl 2 rfl ?_
                  refine k_iconst (pc := 281) (v := 1) hC dX8_cut_281 (by decide) ?_
                  refine k_iadd (pc := 282) hC dX8_cut_282 ?_
                  refine m_clI (pc := 283) (As := [.int (a1 + 1)]) hM (cw_M_byteAt hM (Nat.le_of_ble_eq_true rfl) (Nat.le_of_ble_eq_true rfl)) rfl rfl (Nat.le_of_ble_eq_true rfl) dX8_cut_283 hE (fun r h => ct_M_byteAt _ _ _ _ hM.2.1 (a1 + 1) J K r h) (fun r9 hE => ?_)
                  refine m_clIjk (pc := 286) (As := [.int a1, .int r2, .int r9]) hM (cw_M_sign hM (Nat.le_of_ble_eq_true rfl) (Nat.le_of_ble_eq_true rfl)) rfl rfl (Nat.le_of_ble_eq_true rfl) dX8_cut_286 hE (fun r h => ct_M_sign _ _ _ _ hM.2.1 a1 r2 r9 J K r h) (fun r10 hE => ?_)
                  refine k_iadd (pc := 289) hC dX8_cut_289 ?_
                  refine k_istoreE_n (pc := 290) (lv' := fun x11 => [(1, .int x11), (2, .int r2), (0, .ref th)]) hC dX8_cut_290 rfl (by rw [hnL]; decide) hE (fun _ => rfl) (fun x11 hE => ?_)
                  refine k_goto (pc := 291) (tgt := 7) hC dX8_cut_291 (by decide) ?_
                  refine k_sub [2, 0] rfl ?_
                  exact hk7 _ _ _ hE
                · refine k_iconst (pc := 203) (v := 0) hC dX8_cut_203 (by decide) ?_
                  refine k_istore_n (pc := 204) (lv' := [(3, .int 0), (2, .int r2), (0, .ref th), (1, .int a1)]) hC dX8_cut_204 rfl (by rw [hnL]; decide) rfl ?_
                  refine k_iconst (pc := 205) (v := 0) hC dX8_cut_205 (by decide) ?_
                  refine k_istore (pc := 206) (lv' := [(4, .int 0), (3, .int 0), (2, .int r2), (0, .ref th), (1, .int a1)]) hC dX8_cut_206 (by rw [hnL]; decide) rfl ?_
                  refine k_sub [3, 4, 1, 0] rfl ?_
                  exact w_M_cut_L208 hM hR F k7 hk7 _ _ _ _ _ _ hE
              · refine k_iconst (pc := 80) (v := 0) hC dX8_cut_80 (by decide) ?_
                refine k_istore_n (pc := 81) (lv' := [(3, .int 0), (2, .int r2), (0, .ref th), (1, .int a1)]) hC dX8_cut_81 rfl (by rw [hnL]; decide) rfl ?_
                refine k_lconst (pc := 82) (v := 0) hC dX8_cut_82 (by decide) ?_
                refine k_lstore (pc := 83) (lv' := [(4, .long 0), (3, .int 0), (2, .int r2), (0, .ref th), (1, .int a1)]) hC dX8_cut_83 (by rw [hnL]; decide) rfl ?_
                refine k_sub [3, 4, 1, 0] rfl ?_
                exact w_M_cut_L85 hM hR F k7 hk7 _ _ _ _ _ _ hE
    · refine k_aload_n (pc := 31) hC dX8_cut_31 rfl 1 rfl ?_
      refine k_iconst (pc := 32) (v := 0) hC dX8_cut_32 (by decide) ?_
      refine k_aload_n (pc := 33) hC dX8_cut_33 rfl 1 rfl ?_
      refine gM_4 (pc := 34) hM dX8_cut_34 ?_
      refine k_iconst (pc := 37) (v := 0) hC dX8_cut_37 (by decide) ?_
      refine k_lconst (pc := 38) (v := 0) hC dX8_cut_38 (by decide) ?_
      refine m_clVjk (pc := 39) (As := [.int 0, .int (J 0 4), .int 0, .long 0]) hM (cw_M_token hM (Nat.le_of_ble_eq_true rfl) (Nat.le_of_ble_eq_true rfl)) rfl rfl (Nat.le_of_ble_eq_true rfl) dX8_cut_39 hE (fun r h => ct_M_token _ _ _ _ hM.2.1 0 (J 0 4) 0 0 J K r h) (fun r12 hE => ?_)
      exact k_vret (pc := 42) hC hR ⟨Nat.le_refl 0, Nat.le_refl 0⟩ dX8_cut_42 (by cases hE; rfl) (by cases hE; exact fun _ h => h)
theorem w_M_cut_L7 {X : Ctx} {D : Dd} {th : Nat} {out : Ji × Jl} (hM : Mx X cX8_cut D th 8 rmM_cut) (hR : Rt X none (RM D th out.1 out.2) none 0 0) (F : Nat) (n : Nat) : ∀ (a1 : Int32) (J : Ji) (K : Jl) , M_cut_L7 F n a1 J K = some out → Wk X 0 0 (RM D th J K) 7 [(0, .ref th), (1, .int a1)] [] := by
  induction n with
  | zero => intro a1 J K h; cases h
  | succ n ih => intro a1 J K h; exact w_M_cut_B7 hM hR F (M_cut_L7 F n) ih a1 J K h
set_option maxHeartbeats 4000000 in
theorem w_M_cut {X : Ctx} {D : Dd} {th : Nat} {out : Ji × Jl} (hM : Mx X cX8_cut D th 8 rmM_cut) (hR : Rt X none (RM D th out.1 out.2) none 0 0) (F : Nat) (J : Ji) (K : Jl) (hE : M_cut F J K = some out) : Wk X 0 0 (RM D th J K) 0 [(0, .ref th)] [] := by
  have hC := hM.1
  have hnL := hM.2.2.1
  have hrm := hM.2.2.2
  unfold M_cut at hE
  refine k_aload_n (pc := 0) hC dX8_cut_0 rfl 0 rfl ?_
  refine k_iconst (pc := 1) (v := 0) hC dX8_cut_1 (by decide) ?_
  refine pM_10 (pc := 2) hM dX8_cut_2 hE (fun J1 hE => ?_)
  refine k_iconst (pc := 5) (v := 0) hC dX8_cut_5 (by decide) ?_
  refine k_istore_n (pc := 6) (lv' := [(1, .int 0), (0, .ref th)]) hC dX8_cut_6 rfl (by rw [hnL]; decide) rfl ?_
  refine k_sub [1, 0] rfl ?_
  exact w_M_cut_L7 hM hR F _ _ _ _ hE
theorem ct_M_cut (l : Launch) (D : Dd) (A : Nat → Prop) (th : Nat) (hA : ∀ (off : Nat) (kd : Kd), layM off = some kd → A (th + off)) (F : Nat) (J : Ji) (K : Jl) (out : Ji × Jl) (hE : M_cut F J K = some out) : Ct l yX8_cut (ws_ yX8_cut cX8_cut 8 none) rmM_cut vwCl arTy D A [.ref th] (RM D th J K) (RM D th out.1 out.2) none 0 0 := by
  refine Ct.of (by decide) (Nat.le_of_ble_eq_true rfl) rfl ?_
  intro X hl hrm hC hR hXA hnL _
  exact w_M_cut ⟨hC, by unfold Ft; rw [hXA]; exact hA, hnL, hrm⟩ hR F J K hE
theorem cw_M_cut {X : Ctx} {cc : ByteArray} {D : Dd} {th mL : Nat} {rm : Room} (hM : Mx X cc D th mL rm) (h1 : rmM_cut.frames + 1 ≤ rm.frames) (h2 : 8 + (8 + 11) + rmM_cut.locals ≤ rm.locals) : CallW X.2.2.2.1 X.2.2.2.2.1 X.2.2.2.2.2.2.1 RX8 RX8 272 yX8_cut cX8_cut 8 none (ws_ yX8_cut cX8_cut 8 none) rmM_cut 0 0 0 := cwV 0 (cx_w hM.1) (lw_V q1820 q1822 qs52 q128 q1823) rfl rfl rfl (by decide +kernel) (by rw [hM.2.2.2]; exact ⟨h1, h2⟩)
abbrev rmM_is : Room := { frames := 0, cells := 0, slots := 0, locals := 0 }
set_option maxHeartbeats 4000000 in
theorem w_M_is {X : Ctx} {D : Dd} {th : Nat} {J : Ji} {K : Jl} {out : Int32} (hM : Mx X cX8_is D th 2 rmM_is) (hR : Rt X (some .boolean) (RM D th J K) (some (.int out)) 0 0) (a1 : Int32) (hE : M_is J a1 = some out) : Wk X 0 0 (RM D th J K) 0 [(0, .ref th), (1, .int a1)] [] := by
  have hC := hM.1
  have hnL := hM.2.2.1
  have hrm := hM.2.2.2
  unfold M_is at hE
  refine k_aload_n (pc := 0) hC dX8_is_0 rfl 0 rfl ?_
  refine gM_13 (pc := 1) hM dX8_is_1 ?_
  refine k_if_ne (pc := 4) (tgt := 24) hC dX8_is_4 (by decide) hE (fun hE => ?_) (fun hE => ?_)
  · refine k_aload_n (pc := 7) hC dX8_is_7 rfl 0 rfl ?_
    refine gM_5 (pc := 8) hM dX8_is_8 ?_
    refine k_aload_n (pc := 11) hC dX8_is_11 rfl 0 rfl ?_
    refine gM_11 (pc := 12) hM dX8_is_12 ?_
    refine m_iald (pc := 15) 3 ly_3 hM dX8_is_15 hE (fun x1 hE => ?_)
    refine k_iload_n (pc := 16) hC dX8_is_16 rfl 1 rfl ?_
    refine k_icmp_ne (pc := 17) (tgt := 24) hC dX8_is_17 (by decide) hE (fun hE => ?_) (fun hE => ?_)
    · refine k_iconst (pc := 20) (v := 1) hC dX8_is_20 (by decide) ?_
      refine k_goto (pc := 21) (tgt := 25) hC dX8_is_21 (by decide) ?_
      exact k_zret (pc := 25) (by decide) hC hR ⟨Nat.le_refl 0, Nat.le_refl 0⟩ dX8_is_25 (by cases hE; rfl) (by cases hE; exact fun _ h => h)
    · refine k_iconst (pc := 24) (v := 0) hC dX8_is_24 (by decide) ?_
      exact k_zret (pc := 25) (by decide) hC hR ⟨Nat.le_refl 0, Nat.le_refl 0⟩ dX8_is_25 (by cases hE; rfl) (by cases hE; exact fun _ h => h)
  · refine k_iconst (pc := 24) (v := 0) hC dX8_is_24 (by decide) ?_
    exact k_zret (pc := 25) (by decide) hC hR ⟨Nat.le_refl 0, Nat.le_refl 0⟩ dX8_is_25 (by cases hE; rfl) (by cases hE; exact fun _ h => h)
theorem ct_M_is (l : Launch) (D : Dd) (A : Nat → Prop) (th : Nat) (hA : ∀ (off : Nat) (kd : Kd), layM off = some kd → A (th + off)) (a1 : Int32) (J : Ji) (K : Jl) (out : Int32) (hE : M_is J a1 = some out) : Ct l yX8_is (ws_ yX8_is cX8_is 2 (some .boolean)) rmM_is vwCl arTy D A [.ref th, .int a1] (RM D th J K) (RM D th J K) (some (.int out)) 0 0 := by
  refine Ct.of (by decide) (Nat.le_of_ble_eq_true rfl) rfl ?_
  intro X hl hrm hC hR hXA hnL _
  exact w_M_is ⟨hC, by unfold Ft; rw [hXA]; exact hA, hnL, hrm⟩ hR a1 hE
theorem cw_M_is {X : Ctx} {cc : ByteArray} {D : Dd} {th mL : Nat} {rm : Room} (hM : Mx X cc D th mL rm) (h1 : rmM_is.frames + 1 ≤ rm.frames) (h2 : 8 + (2 + 11) + rmM_is.locals ≤ rm.locals) : CallW X.2.2.2.1 X.2.2.2.2.1 X.2.2.2.2.2.2.1 RX8 RX8 266 yX8_is cX8_is 2 (some .boolean) (ws_ yX8_is cX8_is 2 (some .boolean)) rmM_is 0 0 1 := cwV 1 (cx_w hM.1) (lw_V q1842 q1844 qs56 q128 q1845) rfl rfl rfl (by decide +kernel) (by rw [hM.2.2.2]; exact ⟨h1, h2⟩)
abbrev rmM_fail : Room := { frames := 0, cells := 0, slots := 0, locals := 0 }
set_option maxHeartbeats 4000000 in
theorem w_M_fail {X : Ctx} {D : Dd} {th : Nat} {K : Jl} {out : Ji} (hM : Mx X cX8_fail D th 2 rmM_fail) (hR : Rt X none (RM D th out K) none 0 0) (a1 : Int32) (J : Ji) (hE : M_fail a1 J = some out) : Wk X 0 0 (RM D th J K) 0 [(0, .ref th), (1, .int a1)] [] := by
  have hC := hM.1
  have hnL := hM.2.2.1
  have hrm := hM.2.2.2
  unfold M_fail at hE
  refine k_aload_n (pc := 0) hC dX8_fail_0 rfl 0 rfl ?_
  refine gM_13 (pc := 1) hM dX8_fail_1 ?_
  refine k_if_le (pc := 4) (tgt := 8) hC dX8_fail_4 (by decide) hE (fun hE => ?_) (fun hE => ?_)
  · refine k_aload_n (pc := 8) hC dX8_fail_8 rfl 0 rfl ?_
    refine k_iload_n (pc := 9) hC dX8_fail_9 rfl 1 rfl ?_
    refine pM_13 (pc := 10) hM dX8_fail_10 hE (fun J1 hE => ?_)
    refine k_aload_n (pc := 13) hC dX8_fail_13 rfl 0 rfl ?_
    refine k_aload_n (pc := 14) hC dX8_fail_14 rfl 0 rfl ?_
    refine gM_6 (pc := 15) hM dX8_fail_15 ?_
    refine k_aload_n (pc := 18) hC dX8_fail_18 rfl 0 rfl ?_
    refine gM_11 (pc := 19) hM dX8_fail_19 ?_
    refine m_iald (pc := 22) 4 ly_4 hM dX8_fail_22 hE (fun x2 hE => ?_)
    refine pM_14 (pc := 23) hM dX8_fail_23 hE (fun J3 hE => ?_)
    exact k_vret (pc := 26) hC hR ⟨Nat.le_refl 0, Nat.le_refl 0⟩ dX8_fail_26 (by cases hE; rfl) (by cases hE; exact fun _ h => h)
  · exact k_vret (pc := 7) hC hR ⟨Nat.le_refl 0, Nat.le_refl 0⟩ dX8_fail_7 (by cases hE; rfl) (by cases hE; exact fun _ h => h)
theorem ct_M_fail (l : Launch) (D : Dd) (A : Nat → Prop) (th : Nat) (hA : ∀ (off : Nat) (kd : Kd), layM off = some kd → A (th + off)) (a1 : Int32) (J : Ji) (K : Jl) (out : Ji) (hE : M_fail a1 J = some out) : Ct l yX8_fail (ws_ yX8_fail cX8_fail 2 none) rmM_fail vwCl arTy D A [.ref th, .int a1] (RM D th J K) (RM D th out K) none 0 0 := by
  refine Ct.of (by decide) (Nat.le_of_ble_eq_true rfl) rfl ?_
  intro X hl hrm hC hR hXA hnL _
  exact w_M_fail ⟨hC, by unfold Ft; rw [hXA]; exact hA, hnL, hrm⟩ hR a1 J hE
theorem cw_M_fail {X : Ctx} {cc : ByteArray} {D : Dd} {th mL : Nat} {rm : Room} (hM : Mx X cc D th mL rm) (h1 : rmM_fail.frames + 1 ≤ rm.frames) (h2 : 8 + (2 + 11) + rmM_fail.locals ≤ rm.locals) : CallW X.2.2.2.1 X.2.2.2.2.1 X.2.2.2.2.2.2.1 RX8 RX8 263 yX8_fail cX8_fail 2 none (ws_ yX8_fail cX8_fail 2 none) rmM_fail 0 0 1 := cwV 1 (cx_w hM.1) (lw_V q1854 q1856 qs59 q128 q1857) rfl rfl rfl (by decide +kernel) (by rw [hM.2.2.2]; exact ⟨h1, h2⟩)
abbrev rmM_goesOn : Room := { frames := 1, cells := 0, slots := 0, locals := 21 }
set_option maxHeartbeats 4000000 in
theorem w_M_goesOn {X : Ctx} {D : Dd} {th : Nat} {K : Jl} {out : Ji} (hM : Mx X cX8_goesOn D th 1 rmM_goesOn) (hR : Rt X none (RM D th out K) none 0 0) (J : Ji) (hE : M_goesOn J = some out) : Wk X 0 0 (RM D th J K) 0 [(0, .ref th)] [] := by
  have hC := hM.1
  have hnL := hM.2.2.1
  have hrm := hM.2.2.2
  unfold M_goesOn at hE
  refine k_aload_n (pc := 0) hC dX8_goesOn_0 rfl 0 rfl ?_
  refine gM_11 (pc := 1) hM dX8_goesOn_1 ?_
  refine k_sipush (pc := 4) (v := 400) hC dX8_goesOn_4 (by decide) ?_
  refine k_icmp_ne (pc := 7) (tgt := 18) hC dX8_goesOn_7 (by decide) hE (fun hE => ?_) (fun hE => ?_)
  · refine k_aload_n (pc := 10) hC dX8_goesOn_10 rfl 0 rfl ?_
    refine k_iconst (pc := 11) (v := 2) hC dX8_goesOn_11 (by decide) ?_
    refine m_clVj (pc := 12) (As := [.int 2]) hM (cw_M_fail hM (Nat.le_of_ble_eq_true rfl) (Nat.le_of_ble_eq_true rfl)) rfl rfl (Nat.le_of_ble_eq_true rfl) dX8_goesOn_12 hE (fun r h => ct_M_fail _ _ _ _ hM.2.1 2 J K r h) (fun r1 hE => ?_)
    refine k_goto (pc := 15) (tgt := 28) hC dX8_goesOn_15 (by decide) ?_
    exact k_vret (pc := 28) hC hR ⟨Nat.le_refl 0, Nat.le_refl 0⟩ dX8_goesOn_28 (by cases hE; rfl) (by cases hE; exact fun _ h => h)
  · refine k_aload_n (pc := 18) hC dX8_goesOn_18 rfl 0 rfl ?_
    refine k_dup (pc := 19) hC dX8_goesOn_19 rfl ?_
    refine gM_11 (pc := 20) hM dX8_goesOn_20 ?_
    refine k_iconst (pc := 23) (v := 1) hC dX8_goesOn_23 (by decide) ?_
    refine k_iadd (pc := 24) hC dX8_goesOn_24 ?_
    refine pM_11 (pc := 25) hM dX8_goesOn_25 hE (fun J2 hE => ?_)
    exact k_vret (pc := 28) hC hR ⟨Nat.le_refl 0, Nat.le_refl 0⟩ dX8_goesOn_28 (by cases hE; rfl) (by cases hE; exact fun _ h => h)
theorem ct_M_goesOn (l : Launch) (D : Dd) (A : Nat → Prop) (th : Nat) (hA : ∀ (off : Nat) (kd : Kd), layM off = some kd → A (th + off)) (J : Ji) (K : Jl) (out : Ji) (hE : M_goesOn J = some out) : Ct l yX8_goesOn (ws_ yX8_goesOn cX8_goesOn 1 none) rmM_goesOn vwCl arTy D A [.ref th] (RM D th J K) (RM D th out K) none 0 0 := by
  refine Ct.of (by decide) (Nat.le_of_ble_eq_true rfl) rfl ?_
  intro X hl hrm hC hR hXA hnL _
  exact w_M_goesOn ⟨hC, by unfold Ft; rw [hXA]; exact hA, hnL, hrm⟩ hR J hE
theorem cw_M_goesOn {X : Ctx} {cc : ByteArray} {D : Dd} {th mL : Nat} {rm : Room} (hM : Mx X cc D th mL rm) (h1 : rmM_goesOn.frames + 1 ≤ rm.frames) (h2 : 8 + (1 + 11) + rmM_goesOn.locals ≤ rm.locals) : CallW X.2.2.2.1 X.2.2.2.2.1 X.2.2.2.2.2.2.1 RX8 RX8 269 yX8_goesOn cX8_goesOn 1 none (ws_ yX8_goesOn cX8_goesOn 1 none) rmM_goesOn 0 0 0 := cwV 0 (cx_w hM.1) (lw_V q1858 q1860 qs60 q128 q1861) rfl rfl rfl (by decide +kernel) (by rw [hM.2.2.2]; exact ⟨h1, h2⟩)
abbrev rmM_wrong : Room := { frames := 0, cells := 0, slots := 0, locals := 0 }
set_option maxHeartbeats 4000000 in
theorem w_M_wrong_B46 {X : Ctx} {D : Dd} {th : Nat} {K : Jl} {out : Ji} (hM : Mx X cX8_wrong D th 4 rmM_wrong) (hR : Rt X none (RM D th out K) none 0 0) (a1 : Int32) (a3 : Int32) (J : Ji) (hE : M_wrong_B46 a1 a3 J = some out) : Wk X 0 0 (RM D th J K) 46 [(0, .ref th), (1, .int a1), (3, .int a3)] [] := by
  have hC := hM.1
  have hnL := hM.2.2.1
  have hrm := hM.2.2.2
  unfold M_wrong_B46 at hE
  refine k_aload_n (pc := 46) hC dX8_wrong_46 rfl 0 rfl ?_
  refine k_iload_n (pc := 47) hC dX8_wrong_47 rfl 1 rfl ?_
  refine pM_15 (pc := 48) hM dX8_wrong_48 hE (fun J2 hE => ?_)
  refine k_aload_n (pc := 51) hC dX8_wrong_51 rfl 0 rfl ?_
  refine k_iload_n (pc := 52) hC dX8_wrong_52 rfl 2 rfl ?_
  refine pM_16 (pc := 53) hM dX8_wrong_53 hE (fun J3 hE => ?_)
  exact k_vret (pc := 56) hC hR ⟨Nat.le_refl 0, Nat.le_refl 0⟩ dX8_wrong_56 (by cases hE; rfl) (by cases hE; exact fun _ h => h)
set_option maxHeartbeats 4000000 in
theorem w_M_wrong {X : Ctx} {D : Dd} {th : Nat} {K : Jl} {out : Ji} (hM : Mx X cX8_wrong D th 4 rmM_wrong) (hR : Rt X none (RM D th out K) none 0 0) (a1 : Int32) (a2 : Int32) (J : Ji) (hE : M_wrong a1 a2 J = some out) : Wk X 0 0 (RM D th J K) 0 [(0, .ref th), (1, .int a1), (2, .int a2)] [] := by
  have hC := hM.1
  have hnL := hM.2.2.1
  have hrm := hM.2.2.2
  unfold M_wrong at hE
  refine k_aload_n (pc := 0) hC dX8_wrong_0 rfl 0 rfl ?_
  refine gM_6 (pc := 1) hM dX8_wrong_1 ?_
  refine k_iload_n (pc := 4) hC dX8_wrong_4 rfl 2 rfl ?_
  refine m_iald (pc := 5) 4 ly_4 hM dX8_wrong_5 hE (fun x1 hE => ?_)
  refine k_istore_n (pc := 6) (lv' := [(3, .int x1), (0, .ref th), (1, .int a1), (2, .int a2)]) hC dX8_wrong_6 rfl (by rw [hnL]; decide) rfl ?_
  refine k_aload_n (pc := 7) hC dX8_wrong_7 rfl 1 rfl ?_
  refine gM_13 (pc := 8) hM dX8_wrong_8 ?_
  refine k_if_gt (pc := 11) (tgt := 45) hC dX8_wrong_11 (by decide) hE (fun hE => ?_) (fun hE => ?_)
  · exact k_vret (pc := 45) hC hR ⟨Nat.le_refl 0, Nat.le_refl 0⟩ dX8_wrong_45 (by cases hE; rfl) (by cases hE; exact fun _ h => h)
  · refine k_aload_n (pc := 14) hC dX8_wrong_14 rfl 1 rfl ?_
    refine gM_15 (pc := 15) hM dX8_wrong_15 ?_
    refine k_if_eq (pc := 18) (tgt := 46) hC dX8_wrong_18 (by decide) hE (fun hE => ?_) (fun hE => ?_)
    · refine k_sub [1, 2, 0] rfl ?_
      exact w_M_wrong_B46 hM hR  _ _ _ hE
    · refine k_iload_n (pc := 21) hC dX8_wrong_21 rfl 0 rfl ?_
      refine k_aload_n (pc := 22) hC dX8_wrong_22 rfl 1 rfl ?_
      refine gM_16 (pc := 23) hM dX8_wrong_23 ?_
      refine k_icmp_gt (pc := 26) (tgt := 45) hC dX8_wrong_26 (by decide) hE (fun hE => ?_) (fun hE => ?_)
      · exact k_vret (pc := 45) hC hR ⟨Nat.le_refl 0, Nat.le_refl 0⟩ dX8_wrong_45 (by cases hE; rfl) (by cases hE; exact fun _ h => h)
      · refine k_iload_n (pc := 29) hC dX8_wrong_29 rfl 0 rfl ?_
        refine k_aload_n (pc := 30) hC dX8_wrong_30 rfl 1 rfl ?_
        refine gM_16 (pc := 31) hM dX8_wrong_31 ?_
        refine k_icmp_ne (pc := 34) (tgt := 46) hC dX8_wrong_34 (by decide) hE (fun hE => ?_) (fun hE => ?_)
        · refine k_iload_n (pc := 37) hC dX8_wrong_37 rfl 2 rfl ?_
          refine k_aload_n (pc := 38) hC dX8_wrong_38 rfl 1 rfl ?_
          refine gM_15 (pc := 39) hM dX8_wrong_39 ?_
          refine k_icmp_lt (pc := 42) (tgt := 46) hC dX8_wrong_42 (by decide) hE (fun hE => ?_) (fun hE => ?_)
          · refine k_sub [1, 2, 0] rfl ?_
            exact w_M_wrong_B46 hM hR  _ _ _ hE
          · exact k_vret (pc := 45) hC hR ⟨Nat.le_refl 0, Nat.le_refl 0⟩ dX8_wrong_45 (by cases hE; rfl) (by cases hE; exact fun _ h => h)
        · refine k_sub [1, 2, 0] rfl ?_
          exact w_M_wrong_B46 hM hR  _ _ _ hE
theorem ct_M_wrong (l : Launch) (D : Dd) (A : Nat → Prop) (th : Nat) (hA : ∀ (off : Nat) (kd : Kd), layM off = some kd → A (th + off)) (a1 : Int32) (a2 : Int32) (J : Ji) (K : Jl) (out : Ji) (hE : M_wrong a1 a2 J = some out) : Ct l yX8_wrong (ws_ yX8_wrong cX8_wrong 4 none) rmM_wrong vwCl arTy D A [.ref th, .int a1, .int a2] (RM D th J K) (RM D th out K) none 0 0 := by
  refine Ct.of (by decide) (Nat.le_of_ble_eq_true rfl) rfl ?_
  intro X hl hrm hC hR hXA hnL _
  exact w_M_wrong ⟨hC, by unfold Ft; rw [hXA]; exact hA, hnL, hrm⟩ hR a1 a2 J hE
theorem cw_M_wrong {X : Ctx} {cc : ByteArray} {D : Dd} {th mL : Nat} {rm : Room} (hM : Mx X cc D th mL rm) (h1 : rmM_wrong.frames + 1 ≤ rm.frames) (h2 : 8 + (4 + 11) + rmM_wrong.locals ≤ rm.locals) : CallW X.2.2.2.1 X.2.2.2.2.1 X.2.2.2.2.2.2.1 RX8 RX8 337 yX8_wrong cX8_wrong 4 none (ws_ yX8_wrong cX8_wrong 4 none) rmM_wrong 0 0 2 := cwV 2 (cx_w hM.1) (lw_V q1874 q1876 qs64 q128 q1877) rfl rfl rfl (by decide +kernel) (by rw [hM.2.2.2]; exact ⟨h1, h2⟩)
abbrev rmM_bounded : Room := { frames := 2, cells := 0, slots := 0, locals := 41 }
set_option maxHeartbeats 4000000 in
theorem w_M_bounded_B15 {X : Ctx} {D : Dd} {th : Nat} {K : Jl} {out : Int32 × Ji} (hM : Mx X cX8_bounded D th 4 rmM_bounded) (hR : Rt X (some .int) (RM D th out.2 K) (some (.int out.1)) 0 0) (a1 : Int32) (J : Ji) (hE : M_bounded_B15 a1 J = some out) : Wk X 0 0 (RM D th J K) 15 [(0, .ref th), (1, .int a1)] [] := by
  have hC := hM.1
  have hnL := hM.2.2.1
  have hrm := hM.2.2.2
  unfold M_bounded_B15 at hE
  refine k_aload_n (pc := 15) hC dX8_bounded_15 rfl 0 rfl ?_
  refine k_iconst (pc := 16) (v := 1) hC dX8_bounded_16 (by decide) ?_
  refine m_clVj (pc := 17) (As := [.int 1]) hM (cw_M_fail hM (Nat.le_of_ble_eq_true rfl) (Nat.le_of_ble_eq_true rfl)) rfl rfl (Nat.le_of_ble_eq_true rfl) dX8_bounded_17 hE (fun r h => ct_M_fail _ _ _ _ hM.2.1 1 J K r h) (fun r5 hE => ?_)
  refine k_iload_n (pc := 20) hC dX8_bounded_20 rfl 1 rfl ?_
  exact k_iret (pc := 21) hC hR ⟨Nat.le_refl 0, Nat.le_refl 0⟩ dX8_bounded_21 (by cases hE; rfl) (by cases hE; exact fun _ h => h)
set_option maxHeartbeats 4000000 in
theorem w_M_bounded_B51 {X : Ctx} {D : Dd} {th : Nat} {K : Jl} {out : Int32 × Ji} (hM : Mx X cX8_bounded D th 4 rmM_bounded) (hR : Rt X (some .int) (RM D th out.2 K) (some (.int out.1)) 0 0) (a3 : Int32) (J : Ji) (hE : M_bounded_B51 a3 J = some out) : Wk X 0 0 (RM D th J K) 51 [(0, .ref th), (3, .int a3)] [] := by
  have hC := hM.1
  have hnL := hM.2.2.1
  have hrm := hM.2.2.2
  unfold M_bounded_B51 at hE
  refine k_aload_n (pc := 51) hC dX8_bounded_51 rfl 0 rfl ?_
  refine m_clVj (pc := 52) (As := []) hM (cw_M_goesOn hM (Nat.le_of_ble_eq_true rfl) (Nat.le_of_ble_eq_true rfl)) rfl rfl (Nat.le_of_ble_eq_true rfl) dX8_bounded_52 hE (fun r h => ct_M_goesOn _ _ _ _ hM.2.1  J K r h) (fun r3 hE => ?_)
  refine k_iload_n (pc := 55) hC dX8_bounded_55 rfl 1 rfl ?_
  exact k_iret (pc := 56) hC hR ⟨Nat.le_refl 0, Nat.le_refl 0⟩ dX8_bounded_56 (by cases hE; rfl) (by cases hE; exact fun _ h => h)
set_option maxHeartbeats 4000000 in
theorem w_M_bounded_B42 {X : Ctx} {D : Dd} {th : Nat} {K : Jl} {out : Int32 × Ji} (hM : Mx X cX8_bounded D th 4 rmM_bounded) (hR : Rt X (some .int) (RM D th out.2 K) (some (.int out.1)) 0 0) (a3 : Int32) (J : Ji) (hE : M_bounded_B42 a3 J = some out) : Wk X 0 0 (RM D th J K) 42 [(0, .ref th), (3, .int a3)] [] := by
  have hC := hM.1
  have hnL := hM.2.2.1
  have hrm := hM.2.2.2
  unfold M_bounded_B42 at hE
  refine k_aload_n (pc := 42) hC dX8_bounded_42 rfl 0 rfl ?_
  refine k_iconst (pc := 43) (v := 5) hC dX8_bounded_43 (by decide) ?_
  refine k_aload_n (pc := 44) hC dX8_bounded_44 rfl 0 rfl ?_
  refine gM_11 (pc := 45) hM dX8_bounded_45 ?_
  refine m_clVj (pc := 48) (As := [.int 5, .int (J 0 11)]) hM (cw_M_wrong hM (Nat.le_of_ble_eq_true rfl) (Nat.le_of_ble_eq_true rfl)) rfl rfl (Nat.le_of_ble_eq_true rfl) dX8_bounded_48 hE (fun r h => ct_M_wrong _ _ _ _ hM.2.1 5 (J 0 11) J K r h) (fun r4 hE => ?_)
  exact w_M_bounded_B51 hM hR  _ _ hE
set_option maxHeartbeats 4000000 in
theorem w_M_bounded {X : Ctx} {D : Dd} {th : Nat} {K : Jl} {out : Int32 × Ji} (hM : Mx X cX8_bounded D th 4 rmM_bounded) (hR : Rt X (some .int) (RM D th out.2 K) (some (.int out.1)) 0 0) (a1 : Int32) (a2 : Int32) (J : Ji) (hE : M_bounded a1 a2 J = some out) : Wk X 0 0 (RM D th J K) 0 [(0, .ref th), (1, .int a1), (2, .int a2)] [] := by
  have hC := hM.1
  have hnL := hM.2.2.1
  have hrm := hM.2.2.2
  unfold M_bounded at hE
  refine k_aload_n (pc := 0) hC dX8_bounded_0 rfl 0 rfl ?_
  refine gM_13 (pc := 1) hM dX8_bounded_1 ?_
  refine k_if_gt (pc := 4) (tgt := 15) hC dX8_bounded_4 (by decide) hE (fun hE => ?_) (fun hE => ?_)
  · refine k_sub [0, 1] rfl ?_
    exact w_M_bounded_B15 hM hR  _ _ hE
  · refine k_aload_n (pc := 7) hC dX8_bounded_7 rfl 0 rfl ?_
    refine k_iconst (pc := 8) (v := 2) hC dX8_bounded_8 (by decide) ?_
    refine m_clI (pc := 9) (As := [.int 2]) hM (cw_M_is hM (Nat.le_of_ble_eq_true rfl) (Nat.le_of_ble_eq_true rfl)) rfl rfl (Nat.le_of_ble_eq_true rfl) dX8_bounded_9 hE (fun r h => ct_M_is _ _ _ _ hM.2.1 2 J K r h) (fun r1 hE => ?_)
    refine k_if_ne (pc := 12) (tgt := 22) hC dX8_bounded_12 (by decide) hE (fun hE => ?_) (fun hE => ?_)
    · refine k_sub [0, 1] rfl ?_
      exact w_M_bounded_B15 hM hR  _ _ hE
    · refine k_aload_n (pc := 22) hC dX8_bounded_22 rfl 0 rfl ?_
      refine gM_7 (pc := 23) hM dX8_bounded_23 ?_
      refine k_aload_n (pc := 26) hC dX8_bounded_26 rfl 0 rfl ?_
      refine gM_11 (pc := 27) hM dX8_bounded_27 ?_
      refine m_iald (pc := 30) 5 ly_5 hM dX8_bounded_30 hE (fun x2 hE => ?_)
      refine k_istore_n (pc := 31) (lv' := [(3, .int x2), (0, .ref th), (1, .int a1), (2, .int a2)]) hC dX8_bounded_31 rfl (by rw [hnL]; decide) rfl ?_
      refine k_iload_n (pc := 32) hC dX8_bounded_32 rfl 0 rfl ?_
      refine k_iload_n (pc := 33) hC dX8_bounded_33 rfl 2 rfl ?_
      refine k_icmp_lt (pc := 34) (tgt := 42) hC dX8_bounded_34 (by decide) hE (fun hE => ?_) (fun hE => ?_)
      · refine k_sub [1, 0] rfl ?_
        exact w_M_bounded_B42 hM hR  _ _ hE
      · refine k_iload_n (pc := 37) hC dX8_bounded_37 rfl 0 rfl ?_
        refine k_iload_n (pc := 38) hC dX8_bounded_38 rfl 3 rfl ?_
        refine k_icmp_le (pc := 39) (tgt := 51) hC dX8_bounded_39 (by decide) hE (fun hE => ?_) (fun hE => ?_)
        · refine k_sub [1, 0] rfl ?_
          exact w_M_bounded_B51 hM hR  _ _ hE
        · refine k_sub [1, 0] rfl ?_
          exact w_M_bounded_B42 hM hR  _ _ hE
theorem ct_M_bounded (l : Launch) (D : Dd) (A : Nat → Prop) (th : Nat) (hA : ∀ (off : Nat) (kd : Kd), layM off = some kd → A (th + off)) (a1 : Int32) (a2 : Int32) (J : Ji) (K : Jl) (out : Int32 × Ji) (hE : M_bounded a1 a2 J = some out) : Ct l yX8_bounded (ws_ yX8_bounded cX8_bounded 4 (some .int)) rmM_bounded vwCl arTy D A [.ref th, .int a1, .int a2] (RM D th J K) (RM D th out.2 K) (some (.int out.1)) 0 0 := by
  refine Ct.of (by decide) (Nat.le_of_ble_eq_true rfl) rfl ?_
  intro X hl hrm hC hR hXA hnL _
  exact w_M_bounded ⟨hC, by unfold Ft; rw [hXA]; exact hA, hnL, hrm⟩ hR a1 a2 J hE
theorem cw_M_bounded {X : Ctx} {cc : ByteArray} {D : Dd} {th mL : Nat} {rm : Room} (hM : Mx X cc D th mL rm) (h1 : rmM_bounded.frames + 1 ≤ rm.frames) (h2 : 8 + (4 + 11) + rmM_bounded.locals ≤ rm.locals) : CallW X.2.2.2.1 X.2.2.2.2.1 X.2.2.2.2.2.2.1 RX8 RX8 330 yX8_bounded cX8_bounded 4 (some .int) (ws_ yX8_bounded cX8_bounded 4 (some .int)) rmM_bounded 0 0 2 := cwV 2 (cx_w hM.1) (lw_V q1890 q1892 qs68 q128 q1893) rfl rfl rfl (by decide +kernel) (by rw [hM.2.2.2]; exact ⟨h1, h2⟩)
abbrev rmM_must : Room := { frames := 2, cells := 0, slots := 0, locals := 41 }
set_option maxHeartbeats 4000000 in
theorem w_M_must {X : Ctx} {D : Dd} {th : Nat} {K : Jl} {out : Ji} (hM : Mx X cX8_must D th 2 rmM_must) (hR : Rt X none (RM D th out K) none 0 0) (a1 : Int32) (J : Ji) (hE : M_must a1 J = some out) : Wk X 0 0 (RM D th J K) 0 [(0, .ref th), (1, .int a1)] [] := by
  have hC := hM.1
  have hnL := hM.2.2.1
  have hrm := hM.2.2.2
  unfold M_must at hE
  refine k_aload_n (pc := 0) hC dX8_must_0 rfl 0 rfl ?_
  refine k_iload_n (pc := 1) hC dX8_must_1 rfl 1 rfl ?_
  refine m_clI (pc := 2) (As := [.int a1]) hM (cw_M_is hM (Nat.le_of_ble_eq_true rfl) (Nat.le_of_ble_eq_true rfl)) rfl rfl (Nat.le_of_ble_eq_true rfl) dX8_must_2 hE (fun r h => ct_M_is _ _ _ _ hM.2.1 a1 J K r h) (fun r1 hE => ?_)
  refine k_if_eq (pc := 5) (tgt := 15) hC dX8_must_5 (by decide) hE (fun hE => ?_) (fun hE => ?_)
  · refine k_aload_n (pc := 15) hC dX8_must_15 rfl 0 rfl ?_
    refine k_iconst (pc := 16) (v := 1) hC dX8_must_16 (by decide) ?_
    refine m_clVj (pc := 17) (As := [.int 1]) hM (cw_M_fail hM (Nat.le_of_ble_eq_true rfl) (Nat.le_of_ble_eq_true rfl)) rfl rfl (Nat.le_of_ble_eq_true rfl) dX8_must_17 hE (fun r h => ct_M_fail _ _ _ _ hM.2.1 1 J K r h) (fun r2 hE => ?_)
    exact k_vret (pc := 20) hC hR ⟨Nat.le_refl 0, Nat.le_refl 0⟩ dX8_must_20 (by cases hE; rfl) (by cases hE; exact fun _ h => h)
  · refine k_aload_n (pc := 8) hC dX8_must_8 rfl 0 rfl ?_
    refine m_clVj (pc := 9) (As := []) hM (cw_M_goesOn hM (Nat.le_of_ble_eq_true rfl) (Nat.le_of_ble_eq_true rfl)) rfl rfl (Nat.le_of_ble_eq_true rfl) dX8_must_9 hE (fun r h => ct_M_goesOn _ _ _ _ hM.2.1  J K r h) (fun r3 hE => ?_)
    refine k_goto (pc := 12) (tgt := 20) hC dX8_must_12 (by decide) ?_
    exact k_vret (pc := 20) hC hR ⟨Nat.le_refl 0, Nat.le_refl 0⟩ dX8_must_20 (by cases hE; rfl) (by cases hE; exact fun _ h => h)
theorem ct_M_must (l : Launch) (D : Dd) (A : Nat → Prop) (th : Nat) (hA : ∀ (off : Nat) (kd : Kd), layM off = some kd → A (th + off)) (a1 : Int32) (J : Ji) (K : Jl) (out : Ji) (hE : M_must a1 J = some out) : Ct l yX8_must (ws_ yX8_must cX8_must 2 none) rmM_must vwCl arTy D A [.ref th, .int a1] (RM D th J K) (RM D th out K) none 0 0 := by
  refine Ct.of (by decide) (Nat.le_of_ble_eq_true rfl) rfl ?_
  intro X hl hrm hC hR hXA hnL _
  exact w_M_must ⟨hC, by unfold Ft; rw [hXA]; exact hA, hnL, hrm⟩ hR a1 J hE
theorem cw_M_must {X : Ctx} {cc : ByteArray} {D : Dd} {th mL : Nat} {rm : Room} (hM : Mx X cc D th mL rm) (h1 : rmM_must.frames + 1 ≤ rm.frames) (h2 : 8 + (2 + 11) + rmM_must.locals ≤ rm.locals) : CallW X.2.2.2.1 X.2.2.2.2.1 X.2.2.2.2.2.2.1 RX8 RX8 334 yX8_must cX8_must 2 none (ws_ yX8_must cX8_must 2 none) rmM_must 0 0 1 := cwV 1 (cx_w hM.1) (lw_V q1870 q1872 qs63 q128 q1873) rfl rfl rfl (by decide +kernel) (by rw [hM.2.2.2]; exact ⟨h1, h2⟩)
abbrev rmM_roomFor : Room := { frames := 2, cells := 0, slots := 0, locals := 41 }
set_option maxHeartbeats 4000000 in
theorem w_M_roomFor_B10 {X : Ctx} {D : Dd} {th : Nat} {K : Jl} {out : Ji} (hM : Mx X cX8_roomFor D th 3 rmM_roomFor) (hR : Rt X none (RM D th out K) none 0 0) (J : Ji) (hE : M_roomFor_B10 J = some out) : Wk X 0 0 (RM D th J K) 10 [(0, .ref th)] [] := by
  have hC := hM.1
  have hnL := hM.2.2.1
  have hrm := hM.2.2.2
  unfold M_roomFor_B10 at hE
  refine k_aload_n (pc := 10) hC dX8_roomFor_10 rfl 0 rfl ?_
  refine gM_13 (pc := 11) hM dX8_roomFor_11 ?_
  refine k_if_ne (pc := 14) (tgt := 21) hC dX8_roomFor_14 (by decide) hE (fun hE => ?_) (fun hE => ?_)
  · refine k_aload_n (pc := 17) hC dX8_roomFor_17 rfl 0 rfl ?_
    refine m_clVj (pc := 18) (As := []) hM (cw_M_goesOn hM (Nat.le_of_ble_eq_true rfl) (Nat.le_of_ble_eq_true rfl)) rfl rfl (Nat.le_of_ble_eq_true rfl) dX8_roomFor_18 hE (fun r h => ct_M_goesOn _ _ _ _ hM.2.1  J K r h) (fun r2 hE => ?_)
    exact k_vret (pc := 21) hC hR ⟨Nat.le_refl 0, Nat.le_refl 0⟩ dX8_roomFor_21 (by cases hE; rfl) (by cases hE; exact fun _ h => h)
  · exact k_vret (pc := 21) hC hR ⟨Nat.le_refl 0, Nat.le_refl 0⟩ dX8_roomFor_21 (by cases hE; rfl) (by cases hE; exact fun _ h => h)
set_option maxHeartbeats 4000000 in
theorem w_M_roomFor {X : Ctx} {D : Dd} {th : Nat} {K : Jl} {out : Ji} (hM : Mx X cX8_roomFor D th 3 rmM_roomFor) (hR : Rt X none (RM D th out K) none 0 0) (a1 : Int32) (a2 : Int32) (J : Ji) (hE : M_roomFor a1 a2 J = some out) : Wk X 0 0 (RM D th J K) 0 [(0, .ref th), (1, .int a1), (2, .int a2)] [] := by
  have hC := hM.1
  have hnL := hM.2.2.1
  have hrm := hM.2.2.2
  unfold M_roomFor at hE
  refine k_iload_n (pc := 0) hC dX8_roomFor_0 rfl 1 rfl ?_
  refine k_iload_n (pc := 1) hC dX8_roomFor_1 rfl 2 rfl ?_
  refine k_icmp_ne (pc := 2) (tgt := 10) hC dX8_roomFor_2 (by decide) hE (fun hE => ?_) (fun hE => ?_)
  · refine k_aload_n (pc := 5) hC dX8_roomFor_5 rfl 0 rfl ?_
    refine k_iconst (pc := 6) (v := 2) hC dX8_roomFor_6 (by decide) ?_
    refine m_clVj (pc := 7) (As := [.int 2]) hM (cw_M_fail hM (Nat.le_of_ble_eq_true rfl) (Nat.le_of_ble_eq_true rfl)) rfl rfl (Nat.le_of_ble_eq_true rfl) dX8_roomFor_7 hE (fun r h => ct_M_fail _ _ _ _ hM.2.1 2 J K r h) (fun r1 hE => ?_)
    refine k_sub [0] rfl ?_
    exact w_M_roomFor_B10 hM hR  _ hE
  · refine k_sub [0] rfl ?_
    exact w_M_roomFor_B10 hM hR  _ hE
theorem ct_M_roomFor (l : Launch) (D : Dd) (A : Nat → Prop) (th : Nat) (hA : ∀ (off : Nat) (kd : Kd), layM off = some kd → A (th + off)) (a1 : Int32) (a2 : Int32) (J : Ji) (K : Jl) (out : Ji) (hE : M_roomFor a1 a2 J = some out) : Ct l yX8_roomFor (ws_ yX8_roomFor cX8_roomFor 3 none) rmM_roomFor vwCl arTy D A [.ref th, .int a1, .int a2] (RM D th J K) (RM D th out K) none 0 0 := by
  refine Ct.of (by decide) (Nat.le_of_ble_eq_true rfl) rfl ?_
  intro X hl hrm hC hR hXA hnL _
  exact w_M_roomFor ⟨hC, by unfold Ft; rw [hXA]; exact hA, hnL, hrm⟩ hR a1 a2 J hE
theorem cw_M_roomFor {X : Ctx} {cc : ByteArray} {D : Dd} {th mL : Nat} {rm : Room} (hM : Mx X cc D th mL rm) (h1 : rmM_roomFor.frames + 1 ≤ rm.frames) (h2 : 8 + (3 + 11) + rmM_roomFor.locals ≤ rm.locals) : CallW X.2.2.2.1 X.2.2.2.2.1 X.2.2.2.2.2.2.1 RX8 RX8 305 yX8_roomFor cX8_roomFor 3 none (ws_ yX8_roomFor cX8_roomFor 3 none) rmM_roomFor 0 0 2 := cwV 2 (cx_w hM.1) (lw_V q1850 q1852 qs58 q128 q1853) rfl rfl rfl (by decide +kernel) (by rw [hM.2.2.2]; exact ⟨h1, h2⟩)
abbrev rmM_known : Room := { frames := 3, cells := 0, slots := 0, locals := 62 }
set_option maxHeartbeats 4000000 in
theorem w_M_known_B21 {X : Ctx} {D : Dd} {th : Nat} {K : Jl} {out : Int32 × Ji} (hM : Mx X cX8_known D th 4 rmM_known) (hR : Rt X (some .int) (RM D th out.2 K) (some (.int out.1)) 0 0) (F : Nat) (k21 : Int32 → Int32 → Int32 → Ji → Option (Int32 × Ji)) (hk21 : ∀ (a1 : Int32) (a2 : Int32) (a3 : Int32) (J : Ji) , k21 a1 a2 a3 J = some out → Wk X 0 0 (RM D th J K) 21 [(0, .ref th), (1, .int a1), (2, .int a2), (3, .int a3)] []) (a1 : Int32) (a2 : Int32) (a3 : Int32) (J : Ji) (hE : M_known_B21 F k21 K a1 a2 a3 J = some out) : Wk X 0 0 (RM D th J K) 21 [(0, .ref th), (1, .int a1), (2, .int a2), (3, .int a3)] [] := by
  have hC := hM.1
  have hnL := hM.2.2.1
  have hrm := hM.2.2.2
  unfold M_known_B21 at hE
  refine k_iload_n (pc := 21) hC dX8_known_21 rfl 3 rfl ?_
  refine k_aload_n (pc := 22) hC dX8_known_22 rfl 0 rfl ?_
  refine gM_20 (pc := 23) hM dX8_known_23 ?_
  refine k_icmp_ge (pc := 26) (tgt := 68) hC dX8_known_26 (by decide) hE (fun hE => ?_) (fun hE => ?_)
  · refine k_aload_n (pc := 68) hC dX8_known_68 rfl 0 rfl ?_
    refine k_iconst (pc := 69) (v := 4) hC dX8_known_69 (by decide) ?_
    refine k_iload_n (pc := 70) hC dX8_known_70 rfl 2 rfl ?_
    refine m_clVj (pc := 71) (As := [.int 4, .int a2]) hM (cw_M_wrong hM (Nat.le_of_ble_eq_true rfl) (Nat.le_of_ble_eq_true rfl)) rfl rfl (Nat.le_of_ble_eq_true rfl) dX8_known_71 hE (fun r h => ct_M_wrong _ _ _ _ hM.2.1 4 a2 J K r h) (fun r3 hE => ?_)
    refine k_iconst (pc := 74) (v := (-1)) hC dX8_known_74 (by decide) ?_
    exact k_iret (pc := 75) hC hR ⟨Nat.le_refl 0, Nat.le_refl 0⟩ dX8_known_75 (by cases hE; rfl) (by cases hE; exact fun _ h => h)
  · refine k_aload_n (pc := 29) hC dX8_known_29 rfl 0 rfl ?_
    refine gM_21 (pc := 30) hM dX8_known_30 ?_
    refine k_iload_n (pc := 33) hC dX8_known_33 rfl 3 rfl ?_
    refine m_lald (pc := 34) 8 ly_8 hM dX8_known_34 hE (fun x4 hE => ?_)
    refine k_aload_n (pc := 35) hC dX8_known_35 rfl 0 rfl ?_
    refine gM_8 (pc := 36) hM dX8_known_36 ?_
    refine k_iload_n (pc := 39) hC dX8_known_39 rfl 2 rfl ?_
    refine m_lald (pc := 40) 6 ly_6 hM dX8_known_40 hE (fun x5 hE => ?_)
    refine k_lcmp (pc := 41) hC dX8_known_41 ?_
    refine k_if_ne (pc := 42) (tgt := 62) hC dX8_known_42 (by decide) hE (fun hE => ?_) (fun hE => ?_)
    · refine k_aload_n (pc := 45) hC dX8_known_45 rfl 0 rfl ?_
      refine gM_22 (pc := 46) hM dX8_known_46 ?_
      refine k_iload_n (pc := 49) hC dX8_known_49 rfl 3 rfl ?_
      refine m_iald (pc := 50) 9 ly_9 hM dX8_known_50 hE (fun x6 hE => ?_)
      refine k_iload_n (pc := 51) hC dX8_known_51 rfl 1 rfl ?_
      refine k_icmp_ne (pc := 52) (tgt := 62) hC dX8_known_52 (by decide) hE (fun hE => ?_) (fun hE => ?_)
      · refine k_aload_n (pc := 55) hC dX8_known_55 rfl 0 rfl ?_
        refine gM_23 (pc := 56) hM dX8_known_56 ?_
        refine k_iload_n (pc := 59) hC dX8_known_59 rfl 3 rfl ?_
        refine m_iald (pc := 60) 10 ly_10 hM dX8_known_60 hE (fun x7 hE => ?_)
        exact k_iret (pc := 61) hC hR ⟨Nat.le_refl 0, Nat.le_refl 0⟩ dX8_known_61 (by cases hE; rfl) (by cases hE; exact fun _ h => h)
      · refine k_iincE (pc := 62) (k := 3) (d := 1) (lv' := fun x8 => [(3, .int x8), (0, .ref th), (1, .int a1), (2, .int a2)]) hC dX8_known_62 rfl (by decide) (by rw [hnL]; decide) hE (fun _ => rfl) (fun x8 hE => ?_)
        refine k_goto (pc := 65) (tgt := 21) hC dX8_known_65 (by decide) ?_
        refine k_sub [1, 2, 3, 0] rfl ?_
        exact hk21 _ _ _ _ hE
    · refine k_iincE (pc := 62) (k := 3) (d := 1) (lv' := fun x9 => [(3, .int x9), (0, .ref th), (1, .int a1), (2, .int a2)]) hC dX8_known_62 rfl (by decide) (by rw [hnL]; decide) hE (fun _ => rfl) (fun x9 hE => ?_)
      refine k_goto (pc := 65) (tgt := 21) hC dX8_known_65 (by decide) ?_
      refine k_sub [1, 2, 3, 0] rfl ?_
      exact hk21 _ _ _ _ hE
theorem w_M_known_L21 {X : Ctx} {D : Dd} {th : Nat} {K : Jl} {out : Int32 × Ji} (hM : Mx X cX8_known D th 4 rmM_known) (hR : Rt X (some .int) (RM D th out.2 K) (some (.int out.1)) 0 0) (F : Nat) (n : Nat) : ∀ (a1 : Int32) (a2 : Int32) (a3 : Int32) (J : Ji) , M_known_L21 F K n a1 a2 a3 J = some out → Wk X 0 0 (RM D th J K) 21 [(0, .ref th), (1, .int a1), (2, .int a2), (3, .int a3)] [] := by
  induction n with
  | zero => intro a1 a2 a3 J h; cases h
  | succ n ih => intro a1 a2 a3 J h; exact w_M_known_B21 hM hR F (M_known_L21 F K n) ih a1 a2 a3 J h
set_option maxHeartbeats 4000000 in
theorem w_M_known {X : Ctx} {D : Dd} {th : Nat} {K : Jl} {out : Int32 × Ji} (hM : Mx X cX8_known D th 4 rmM_known) (hR : Rt X (some .int) (RM D th out.2 K) (some (.int out.1)) 0 0) (F : Nat) (a1 : Int32) (J : Ji) (hE : M_known F K a1 J = some out) : Wk X 0 0 (RM D th J K) 0 [(0, .ref th), (1, .int a1)] [] := by
  have hC := hM.1
  have hnL := hM.2.2.1
  have hrm := hM.2.2.2
  unfold M_known at hE
  refine k_aload_n (pc := 0) hC dX8_known_0 rfl 0 rfl ?_
  refine gM_11 (pc := 1) hM dX8_known_1 ?_
  refine k_istoreE_n (pc := 4) (lv' := fun x1 => [(2, .int x1), (0, .ref th), (1, .int a1)]) hC dX8_known_4 rfl (by rw [hnL]; decide) hE (fun _ => rfl) (fun x1 hE => ?_)
  refine k_aload_n (pc := 5) hC dX8_known_5 rfl 1 rfl ?_
  refine k_iconst (pc := 6) (v := 1) hC dX8_known_6 (by decide) ?_
  refine m_clVj (pc := 7) (As := [.int 1]) hM (cw_M_must hM (Nat.le_of_ble_eq_true rfl) (Nat.le_of_ble_eq_true rfl)) rfl rfl (Nat.le_of_ble_eq_true rfl) dX8_known_7 hE (fun r h => ct_M_must _ _ _ _ hM.2.1 1 J K r h) (fun r2 hE => ?_)
  refine k_aload_n (pc := 10) hC dX8_known_10 rfl 1 rfl ?_
  refine gM_13 (pc := 11) hM dX8_known_11 ?_
  refine k_if_le (pc := 14) (tgt := 19) hC dX8_known_14 (by decide) hE (fun hE => ?_) (fun hE => ?_)
  · refine k_iconst (pc := 19) (v := 0) hC dX8_known_19 (by decide) ?_
    refine k_istore_n (pc := 20) (lv' := [(3, .int 0), (2, .int x1), (0, .ref th), (1, .int a1)]) hC dX8_known_20 rfl (by rw [hnL]; decide) rfl ?_
    refine k_sub [2, 3, 1, 0] rfl ?_
    exact w_M_known_L21 hM hR F _ _ _ _ _ hE
  · refine k_iconst (pc := 17) (v := (-1)) hC dX8_known_17 (by decide) ?_
    exact k_iret (pc := 18) hC hR ⟨Nat.le_refl 0, Nat.le_refl 0⟩ dX8_known_18 (by cases hE; rfl) (by cases hE; exact fun _ h => h)
theorem ct_M_known (l : Launch) (D : Dd) (A : Nat → Prop) (th : Nat) (hA : ∀ (off : Nat) (kd : Kd), layM off = some kd → A (th + off)) (F : Nat) (a1 : Int32) (J : Ji) (K : Jl) (out : Int32 × Ji) (hE : M_known F K a1 J = some out) : Ct l yX8_known (ws_ yX8_known cX8_known 4 (some .int)) rmM_known vwCl arTy D A [.ref th, .int a1] (RM D th J K) (RM D th out.2 K) (some (.int out.1)) 0 0 := by
  refine Ct.of (by decide) (Nat.le_of_ble_eq_true rfl) rfl ?_
  intro X hl hrm hC hR hXA hnL _
  exact w_M_known ⟨hC, by unfold Ft; rw [hXA]; exact hA, hnL, hrm⟩ hR F a1 J hE
theorem cw_M_known {X : Ctx} {cc : ByteArray} {D : Dd} {th mL : Nat} {rm : Room} (hM : Mx X cc D th mL rm) (h1 : rmM_known.frames + 1 ≤ rm.frames) (h2 : 8 + (4 + 11) + rmM_known.locals ≤ rm.locals) : CallW X.2.2.2.1 X.2.2.2.2.1 X.2.2.2.2.2.2.1 RX8 RX8 348 yX8_known cX8_known 4 (some .int) (ws_ yX8_known cX8_known 4 (some .int)) rmM_known 0 0 1 := cwV 1 (cx_w hM.1) (lw_V q1886 q1888 qs67 q128 q1889) rfl rfl rfl (by decide +kernel) (by rw [hM.2.2.2]; exact ⟨h1, h2⟩)
abbrev rmM_tellDoor : Room := { frames := 4, cells := 0, slots := 0, locals := 85 }
set_option maxHeartbeats 4000000 in
theorem w_M_tellDoor_B135 {X : Ctx} {D : Dd} {th : Nat} {K : Jl} {out : Ji} (hM : Mx X cX8_tellDoor D th 3 rmM_tellDoor) (hR : Rt X none (RM D th out K) none 0 0) (F : Nat) (J : Ji) (hE : M_tellDoor_B135 F K J = some out) : Wk X 0 0 (RM D th J K) 135 [(0, .ref th)] [] := by
  have hC := hM.1
  have hnL := hM.2.2.1
  have hrm := hM.2.2.2
  unfold M_tellDoor_B135 at hE
  refine k_aload_n (pc := 135) hC dX8_tellDoor_135 rfl 0 rfl ?_
  refine k_iconst (pc := 136) (v := 4) hC dX8_tellDoor_136 (by decide) ?_
  refine m_clVj (pc := 137) (As := [.int 4]) hM (cw_M_must hM (Nat.le_of_ble_eq_true rfl) (Nat.le_of_ble_eq_true rfl)) rfl rfl (Nat.le_of_ble_eq_true rfl) dX8_tellDoor_137 hE (fun r h => ct_M_must _ _ _ _ hM.2.1 4 J K r h) (fun r18 hE => ?_)
  refine k_aload_n (pc := 140) hC dX8_tellDoor_140 rfl 0 rfl ?_
  refine gM_13 (pc := 141) hM dX8_tellDoor_141 ?_
  refine k_if_ne (pc := 144) (tgt := 160) hC dX8_tellDoor_144 (by decide) hE (fun hE => ?_) (fun hE => ?_)
  · refine k_aload_n (pc := 147) hC dX8_tellDoor_147 rfl 0 rfl ?_
    refine gM_25 (pc := 148) hM dX8_tellDoor_148 ?_
    refine k_aload_n (pc := 151) hC dX8_tellDoor_151 rfl 0 rfl ?_
    refine gM_19 (pc := 152) hM dX8_tellDoor_152 ?_
    refine k_dup2 (pc := 155) hC dX8_tellDoor_155 rfl rfl ?_
    refine m_iald (pc := 156) 12 ly_12 hM dX8_tellDoor_156 hE (fun x19 hE => ?_)
    refine k_iconst (pc := 157) (v := 1) hC dX8_tellDoor_157 (by decide) ?_
    refine k_iadd (pc := 158) hC dX8_tellDoor_158 ?_
    refine m_iast (pc := 159) 12 ly_12 hM dX8_tellDoor_159 hE (fun J20 hE => ?_)
    exact k_vret (pc := 160) hC hR ⟨Nat.le_refl 0, Nat.le_refl 0⟩ dX8_tellDoor_160 (by cases hE; rfl) (by cases hE; exact fun _ h => h)
  · exact k_vret (pc := 160) hC hR ⟨Nat.le_refl 0, Nat.le_refl 0⟩ dX8_tellDoor_160 (by cases hE; rfl) (by cases hE; exact fun _ h => h)
set_option maxHeartbeats 4000000 in
theorem w_M_tellDoor_B121 {X : Ctx} {D : Dd} {th : Nat} {K : Jl} {out : Ji} (hM : Mx X cX8_tellDoor D th 3 rmM_tellDoor) (hR : Rt X none (RM D th out K) none 0 0) (F : Nat) (a1 : Int32) (s0 : Int32) (s1 : Int32) (J : Ji) (hE : M_tellDoor_B121 F K a1 s0 s1 J = some out) : Wk X 0 0 (RM D th J K) 121 [(0, .ref th), (1, .int a1)] [.int s0, .int s1, .ref (th + 16)] := by
  have hC := hM.1
  have hnL := hM.2.2.1
  have hrm := hM.2.2.2
  unfold M_tellDoor_B121 at hE
  refine m_zast (pc := 121) 16 ly_16 hM dX8_tellDoor_121 hE (fun J15 hE => ?_)
  refine k_aload_n (pc := 122) hC dX8_tellDoor_122 rfl 0 rfl ?_
  refine gM_29 (pc := 123) hM dX8_tellDoor_123 ?_
  refine k_iload_n (pc := 126) hC dX8_tellDoor_126 rfl 1 rfl ?_
  refine m_zald (pc := 127) 16 ly_16 hM dX8_tellDoor_127 hE (fun x16 hE => ?_)
  refine k_if_eq (pc := 128) (tgt := 135) hC dX8_tellDoor_128 (by decide) hE (fun hE => ?_) (fun hE => ?_)
  · refine k_sub [0] rfl ?_
    exact w_M_tellDoor_B135 hM hR F _ hE
  · refine k_aload_n (pc := 131) hC dX8_tellDoor_131 rfl 0 rfl ?_
    refine m_clVj (pc := 132) (As := []) hM (cw_M_goesOn hM (Nat.le_of_ble_eq_true rfl) (Nat.le_of_ble_eq_true rfl)) rfl rfl (Nat.le_of_ble_eq_true rfl) dX8_tellDoor_132 hE (fun r h => ct_M_goesOn _ _ _ _ hM.2.1  J15 K r h) (fun r17 hE => ?_)
    refine k_sub [0] rfl ?_
    exact w_M_tellDoor_B135 hM hR F _ hE
set_option maxHeartbeats 4000000 in
theorem w_M_tellDoor_B120 {X : Ctx} {D : Dd} {th : Nat} {K : Jl} {out : Ji} (hM : Mx X cX8_tellDoor D th 3 rmM_tellDoor) (hR : Rt X none (RM D th out K) none 0 0) (F : Nat) (a1 : Int32) (s0 : Int32) (J : Ji) (hE : M_tellDoor_B120 F K a1 s0 J = some out) : Wk X 0 0 (RM D th J K) 120 [(0, .ref th), (1, .int a1)] [.int s0, .ref (th + 16)] := by
  have hC := hM.1
  have hnL := hM.2.2.1
  have hrm := hM.2.2.2
  unfold M_tellDoor_B120 at hE
  refine k_iconst (pc := 120) (v := 0) hC dX8_tellDoor_120 (by decide) ?_
  exact w_M_tellDoor_B121 hM hR F _ _ _ _ hE
set_option maxHeartbeats 4000000 in
theorem w_M_tellDoor_B82 {X : Ctx} {D : Dd} {th : Nat} {K : Jl} {out : Ji} (hM : Mx X cX8_tellDoor D th 3 rmM_tellDoor) (hR : Rt X none (RM D th out K) none 0 0) (F : Nat) (a1 : Int32) (J : Ji) (hE : M_tellDoor_B82 F K a1 J = some out) : Wk X 0 0 (RM D th J K) 82 [(0, .ref th), (1, .int a1)] [] := by
  have hC := hM.1
  have hnL := hM.2.2.1
  have hrm := hM.2.2.2
  unfold M_tellDoor_B82 at hE
  refine k_aload_n (pc := 82) hC dX8_tellDoor_82 rfl 0 rfl ?_
  refine gM_28 (pc := 83) hM dX8_tellDoor_83 ?_
  refine k_iload_n (pc := 86) hC dX8_tellDoor_86 rfl 1 rfl ?_
  refine k_aload_n (pc := 87) hC dX8_tellDoor_87 rfl 0 rfl ?_
  refine k_iconst (pc := 88) (v := 1) hC dX8_tellDoor_88 (by decide) ?_
  refine k_bipush (pc := 89) (v := 60) hC dX8_tellDoor_89 (by decide) ?_
  refine m_clIj (pc := 91) (As := [.int 1, .int 60]) hM (cw_M_bounded hM (Nat.le_of_ble_eq_true rfl) (Nat.le_of_ble_eq_true rfl)) rfl rfl (Nat.le_of_ble_eq_true rfl) dX8_tellDoor_91 hE (fun r h => ct_M_bounded _ _ _ _ hM.2.1 1 60 J K r h) (fun r12 hE => ?_)
  refine m_iast (pc := 94) 15 ly_15 hM dX8_tellDoor_94 hE (fun J13 hE => ?_)
  refine k_aload_n (pc := 95) hC dX8_tellDoor_95 rfl 0 rfl ?_
  refine gM_29 (pc := 96) hM dX8_tellDoor_96 ?_
  refine k_iload_n (pc := 99) hC dX8_tellDoor_99 rfl 1 rfl ?_
  refine k_aload_n (pc := 100) hC dX8_tellDoor_100 rfl 0 rfl ?_
  refine gM_13 (pc := 101) hM dX8_tellDoor_101 ?_
  refine k_if_ne (pc := 104) (tgt := 120) hC dX8_tellDoor_104 (by decide) hE (fun hE => ?_) (fun hE => ?_)
  · refine k_aload_n (pc := 107) hC dX8_tellDoor_107 rfl 0 rfl ?_
    refine k_bipush (pc := 108) (v := 22) hC dX8_tellDoor_108 (by decide) ?_
    refine m_clI (pc := 110) (As := [.int 22]) hM (cw_M_is hM (Nat.le_of_ble_eq_true rfl) (Nat.le_of_ble_eq_true rfl)) rfl rfl (Nat.le_of_ble_eq_true rfl) dX8_tellDoor_110 hE (fun r h => ct_M_is _ _ _ _ hM.2.1 22 J13 K r h) (fun r14 hE => ?_)
    refine k_if_eq (pc := 113) (tgt := 120) hC dX8_tellDoor_113 (by decide) hE (fun hE => ?_) (fun hE => ?_)
    · exact w_M_tellDoor_B120 hM hR F _ _ _ hE
    · refine k_iconst (pc := 116) (v := 1) hC dX8_tellDoor_116 (by decide) ?_
      refine k_goto (pc := 117) (tgt := 121) hC dX8_tellDoor_117 (by decide) ?_
      exact w_M_tellDoor_B121 hM hR F _ _ _ _ hE
  · exact w_M_tellDoor_B120 hM hR F _ _ _ hE
set_option maxHeartbeats 4000000 in
theorem w_M_tellDoor {X : Ctx} {D : Dd} {th : Nat} {K : Jl} {out : Ji} (hM : Mx X cX8_tellDoor D th 3 rmM_tellDoor) (hR : Rt X none (RM D th out K) none 0 0) (F : Nat) (J : Ji) (hE : M_tellDoor F K J = some out) : Wk X 0 0 (RM D th J K) 0 [(0, .ref th)] [] := by
  have hC := hM.1
  have hnL := hM.2.2.1
  have hrm := hM.2.2.2
  unfold M_tellDoor at hE
  refine k_bipush (pc := 0) (v := 12) hC dX8_tellDoor_0 (by decide) ?_
  refine k_aload_n (pc := 2) hC dX8_tellDoor_2 rfl 0 rfl ?_
  refine gM_19 (pc := 3) hM dX8_tellDoor_3 ?_
  refine k_imul (pc := 6) hC dX8_tellDoor_6 ?_
  refine k_aload_n (pc := 7) hC dX8_tellDoor_7 rfl 0 rfl ?_
  refine gM_25 (pc := 8) hM dX8_tellDoor_8 ?_
  refine k_aload_n (pc := 11) hC dX8_tellDoor_11 rfl 0 rfl ?_
  refine gM_19 (pc := 12) hM dX8_tellDoor_12 ?_
  refine m_iald (pc := 15) 12 ly_12 hM dX8_tellDoor_15 hE (fun x1 hE => ?_)
  refine k_iadd (pc := 16) hC dX8_tellDoor_16 ?_
  refine k_istoreE_n (pc := 17) (lv' := fun x2 => [(1, .int x2), (0, .ref th)]) hC dX8_tellDoor_17 rfl (by rw [hnL]; decide) hE (fun _ => rfl) (fun x2 hE => ?_)
  refine k_aload_n (pc := 18) hC dX8_tellDoor_18 rfl 1 rfl ?_
  refine gM_26 (pc := 19) hM dX8_tellDoor_19 ?_
  refine k_iload_n (pc := 22) hC dX8_tellDoor_22 rfl 0 rfl ?_
  refine k_aload_n (pc := 23) hC dX8_tellDoor_23 rfl 1 rfl ?_
  refine k_iconst (pc := 24) (v := 0) hC dX8_tellDoor_24 (by decide) ?_
  refine m_clIj (pc := 25) (As := [.int 0]) hM (cw_M_known hM (Nat.le_of_ble_eq_true rfl) (Nat.le_of_ble_eq_true rfl)) rfl rfl (Nat.le_of_ble_eq_true rfl) dX8_tellDoor_25 hE (fun r h => ct_M_known _ _ _ _ hM.2.1 F 0 J K r h) (fun r3 hE => ?_)
  refine m_iast (pc := 28) 13 ly_13 hM dX8_tellDoor_28 hE (fun J4 hE => ?_)
  refine k_aload_n (pc := 29) hC dX8_tellDoor_29 rfl 1 rfl ?_
  refine gM_11 (pc := 30) hM dX8_tellDoor_30 ?_
  refine k_istoreE_n (pc := 33) (lv' := fun x5 => [(2, .int x5), (1, .int x2), (0, .ref th)]) hC dX8_tellDoor_33 rfl (by rw [hnL]; decide) hE (fun _ => rfl) (fun x5 hE => ?_)
  refine k_aload_n (pc := 34) hC dX8_tellDoor_34 rfl 2 rfl ?_
  refine gM_27 (pc := 35) hM dX8_tellDoor_35 ?_
  refine k_iload_n (pc := 38) hC dX8_tellDoor_38 rfl 1 rfl ?_
  refine k_aload_n (pc := 39) hC dX8_tellDoor_39 rfl 2 rfl ?_
  refine k_iconst (pc := 40) (v := 0) hC dX8_tellDoor_40 (by decide) ?_
  refine m_clIj (pc := 41) (As := [.int 0]) hM (cw_M_known hM (Nat.le_of_ble_eq_true rfl) (Nat.le_of_ble_eq_true rfl)) rfl rfl (Nat.le_of_ble_eq_true rfl) dX8_tellDoor_41 hE (fun r h => ct_M_known _ _ _ _ hM.2.1 F 0 J4 K r h) (fun r6 hE => ?_)
  refine m_iast (pc := 44) 14 ly_14 hM dX8_tellDoor_44 hE (fun J7 hE => ?_)
  refine k_aload_n (pc := 45) hC dX8_tellDoor_45 rfl 2 rfl ?_
  refine gM_13 (pc := 46) hM dX8_tellDoor_46 ?_
  refine k_if_ne (pc := 49) (tgt := 82) hC dX8_tellDoor_49 (by decide) hE (fun hE => ?_) (fun hE => ?_)
  · refine k_aload_n (pc := 52) hC dX8_tellDoor_52 rfl 2 rfl ?_
    refine gM_26 (pc := 53) hM dX8_tellDoor_53 ?_
    refine k_iload_n (pc := 56) hC dX8_tellDoor_56 rfl 1 rfl ?_
    refine m_iald (pc := 57) 13 ly_13 hM dX8_tellDoor_57 hE (fun x8 hE => ?_)
    refine k_if_lt (pc := 58) (tgt := 82) hC dX8_tellDoor_58 (by decide) hE (fun hE => ?_) (fun hE => ?_)
    · refine k_sub [2, 1] rfl ?_
      exact w_M_tellDoor_B82 hM hR F _ _ hE
    · refine k_aload_n (pc := 61) hC dX8_tellDoor_61 rfl 2 rfl ?_
      refine gM_26 (pc := 62) hM dX8_tellDoor_62 ?_
      refine k_iload_n (pc := 65) hC dX8_tellDoor_65 rfl 1 rfl ?_
      refine m_iald (pc := 66) 13 ly_13 hM dX8_tellDoor_66 hE (fun x9 hE => ?_)
      refine k_aload_n (pc := 67) hC dX8_tellDoor_67 rfl 2 rfl ?_
      refine gM_27 (pc := 68) hM dX8_tellDoor_68 ?_
      refine k_iload_n (pc := 71) hC dX8_tellDoor_71 rfl 1 rfl ?_
      refine m_iald (pc := 72) 14 ly_14 hM dX8_tellDoor_72 hE (fun x10 hE => ?_)
      refine k_icmp_ne (pc := 73) (tgt := 82) hC dX8_tellDoor_73 (by decide) hE (fun hE => ?_) (fun hE => ?_)
      · refine k_aload_n (pc := 76) hC dX8_tellDoor_76 rfl 2 rfl ?_
        refine k_iconst (pc := 77) (v := 5) hC dX8_tellDoor_77 (by decide) ?_
        refine k_iload_n (pc := 78) hC dX8_tellDoor_78 rfl 0 rfl ?_
        refine m_clVj (pc := 79) (As := [.int 5, .int x5]) hM (cw_M_wrong hM (Nat.le_of_ble_eq_true rfl) (Nat.le_of_ble_eq_true rfl)) rfl rfl (Nat.le_of_ble_eq_true rfl) dX8_tellDoor_79 hE (fun r h => ct_M_wrong _ _ _ _ hM.2.1 5 x5 J7 K r h) (fun r11 hE => ?_)
        refine k_sub [2, 1] rfl ?_
        exact w_M_tellDoor_B82 hM hR F _ _ hE
      · refine k_sub [2, 1] rfl ?_
        exact w_M_tellDoor_B82 hM hR F _ _ hE
  · refine k_sub [2, 1] rfl ?_
    exact w_M_tellDoor_B82 hM hR F _ _ hE
theorem ct_M_tellDoor (l : Launch) (D : Dd) (A : Nat → Prop) (th : Nat) (hA : ∀ (off : Nat) (kd : Kd), layM off = some kd → A (th + off)) (F : Nat) (J : Ji) (K : Jl) (out : Ji) (hE : M_tellDoor F K J = some out) : Ct l yX8_tellDoor (ws_ yX8_tellDoor cX8_tellDoor 3 none) rmM_tellDoor vwCl arTy D A [.ref th] (RM D th J K) (RM D th out K) none 0 0 := by
  refine Ct.of (by decide) (Nat.le_of_ble_eq_true rfl) rfl ?_
  intro X hl hrm hC hR hXA hnL _
  exact w_M_tellDoor ⟨hC, by unfold Ft; rw [hXA]; exact hA, hnL, hrm⟩ hR F J hE
theorem cw_M_tellDoor {X : Ctx} {cc : ByteArray} {D : Dd} {th mL : Nat} {rm : Room} (hM : Mx X cc D th mL rm) (h1 : rmM_tellDoor.frames + 1 ≤ rm.frames) (h2 : 8 + (3 + 11) + rmM_tellDoor.locals ≤ rm.locals) : CallW X.2.2.2.1 X.2.2.2.2.1 X.2.2.2.2.2.2.1 RX8 RX8 312 yX8_tellDoor cX8_tellDoor 3 none (ws_ yX8_tellDoor cX8_tellDoor 3 none) rmM_tellDoor 0 0 0 := cwV 0 (cx_w hM.1) (lw_V q1882 q1884 qs66 q128 q1885) rfl rfl rfl (by decide +kernel) (by rw [hM.2.2.2]; exact ⟨h1, h2⟩)
abbrev rmM_emit : Room := { frames := 0, cells := 0, slots := 0, locals := 0 }
set_option maxHeartbeats 4000000 in
theorem w_M_emit {X : Ctx} {D : Dd} {th : Nat} {K : Jl} {out : Ji} (hM : Mx X cX8_emit D th 3 rmM_emit) (hR : Rt X none (RM D th out K) none 0 0) (a1 : Int32) (a2 : Int32) (J : Ji) (hE : M_emit a1 a2 J = some out) : Wk X 0 0 (RM D th J K) 0 [(0, .ref th), (1, .int a1), (2, .int a2)] [] := by
  have hC := hM.1
  have hnL := hM.2.2.1
  have hrm := hM.2.2.2
  unfold M_emit at hE
  refine k_aload_n (pc := 0) hC dX8_emit_0 rfl 0 rfl ?_
  refine gM_57 (pc := 1) hM dX8_emit_1 ?_
  refine k_aload_n (pc := 4) hC dX8_emit_4 rfl 0 rfl ?_
  refine gM_56 (pc := 5) hM dX8_emit_5 ?_
  refine k_iload_n (pc := 8) hC dX8_emit_8 rfl 1 rfl ?_
  refine m_iast (pc := 9) 42 ly_42 hM dX8_emit_9 hE (fun J1 hE => ?_)
  refine k_aload_n (pc := 10) hC dX8_emit_10 rfl 0 rfl ?_
  refine gM_58 (pc := 11) hM dX8_emit_11 ?_
  refine k_aload_n (pc := 14) hC dX8_emit_14 rfl 0 rfl ?_
  refine gM_56 (pc := 15) hM dX8_emit_15 ?_
  refine k_iload_n (pc := 18) hC dX8_emit_18 rfl 2 rfl ?_
  refine m_iast (pc := 19) 43 ly_43 hM dX8_emit_19 hE (fun J2 hE => ?_)
  refine k_aload_n (pc := 20) hC dX8_emit_20 rfl 0 rfl ?_
  refine k_dup (pc := 21) hC dX8_emit_21 rfl ?_
  refine gM_56 (pc := 22) hM dX8_emit_22 ?_
  refine k_iconst (pc := 25) (v := 1) hC dX8_emit_25 (by decide) ?_
  refine k_iadd (pc := 26) hC dX8_emit_26 ?_
  refine pM_56 (pc := 27) hM dX8_emit_27 hE (fun J3 hE => ?_)
  exact k_vret (pc := 30) hC hR ⟨Nat.le_refl 0, Nat.le_refl 0⟩ dX8_emit_30 (by cases hE; rfl) (by cases hE; exact fun _ h => h)
theorem ct_M_emit (l : Launch) (D : Dd) (A : Nat → Prop) (th : Nat) (hA : ∀ (off : Nat) (kd : Kd), layM off = some kd → A (th + off)) (a1 : Int32) (a2 : Int32) (J : Ji) (K : Jl) (out : Ji) (hE : M_emit a1 a2 J = some out) : Ct l yX8_emit (ws_ yX8_emit cX8_emit 3 none) rmM_emit vwCl arTy D A [.ref th, .int a1, .int a2] (RM D th J K) (RM D th out K) none 0 0 := by
  refine Ct.of (by decide) (Nat.le_of_ble_eq_true rfl) rfl ?_
  intro X hl hrm hC hR hXA hnL _
  exact w_M_emit ⟨hC, by unfold Ft; rw [hXA]; exact hA, hnL, hrm⟩ hR a1 a2 J hE
theorem cw_M_emit {X : Ctx} {cc : ByteArray} {D : Dd} {th mL : Nat} {rm : Room} (hM : Mx X cc D th mL rm) (h1 : rmM_emit.frames + 1 ≤ rm.frames) (h2 : 8 + (3 + 11) + rmM_emit.locals ≤ rm.locals) : CallW X.2.2.2.1 X.2.2.2.2.1 X.2.2.2.2.2.2.1 RX8 RX8 363 yX8_emit cX8_emit 3 none (ws_ yX8_emit cX8_emit 3 none) rmM_emit 0 0 2 := cwV 2 (cx_w hM.1) (lw_V q1926 q1928 qs77 q128 q1929) rfl rfl rfl (by decide +kernel) (by rw [hM.2.2.2]; exact ⟨h1, h2⟩)
abbrev rmM_comesOut : Room := { frames := 1, cells := 0, slots := 0, locals := 22 }
set_option maxHeartbeats 4000000 in
theorem w_M_comesOut_B84 {X : Ctx} {D : Dd} {th : Nat} {K : Jl} {out : Ji} (hM : Mx X cX8_comesOut D th 3 rmM_comesOut) (hR : Rt X none (RM D th out K) none 0 0) (F : Nat) (k0 : Int32 → Ji → Option (Ji)) (hk0 : ∀ (a1 : Int32) (J : Ji) , k0 a1 J = some out → Wk X 0 0 (RM D th J K) 0 [(0, .ref th), (1, .int a1)] []) (a1 : Int32) (s0 : Int32) (J : Ji) (hE : M_comesOut_B84 F k0 a1 s0 J = some out) : Wk X 0 0 (RM D th J K) 84 [(0, .ref th), (1, .int a1)] [.int s0, .ref th] := by
  have hC := hM.1
  have hnL := hM.2.2.1
  have hrm := hM.2.2.2
  unfold M_comesOut_B84 at hE
  refine k_iconst (pc := 84) (v := 0) hC dX8_comesOut_84 (by decide) ?_
  refine m_clVj (pc := 85) (As := [.int s0, .int 0]) hM (cw_M_emit hM (Nat.le_of_ble_eq_true rfl) (Nat.le_of_ble_eq_true rfl)) rfl rfl (Nat.le_of_ble_eq_true rfl) dX8_comesOut_85 hE (fun r h => ct_M_emit _ _ _ _ hM.2.1 s0 0 J K r h) (fun r3 hE => ?_)
  refine k_goto (pc := 88) (tgt := 0) hC dX8_comesOut_88 (by decide) ?_
  exact hk0 _ _ hE
set_option maxHeartbeats 4000000 in
theorem w_M_comesOut_B42 {X : Ctx} {D : Dd} {th : Nat} {K : Jl} {out : Ji} (hM : Mx X cX8_comesOut D th 3 rmM_comesOut) (hR : Rt X none (RM D th out K) none 0 0) (F : Nat) (k0 : Int32 → Ji → Option (Ji)) (hk0 : ∀ (a1 : Int32) (J : Ji) , k0 a1 J = some out → Wk X 0 0 (RM D th J K) 0 [(0, .ref th), (1, .int a1)] []) (a1 : Int32) (a2 : Int32) (J : Ji) (hE : M_comesOut_B42 F k0 a1 a2 J = some out) : Wk X 0 0 (RM D th J K) 42 [(0, .ref th), (1, .int a1), (2, .int a2)] [] := by
  have hC := hM.1
  have hnL := hM.2.2.1
  have hrm := hM.2.2.2
  unfold M_comesOut_B42 at hE
  refine k_aload_n (pc := 42) hC dX8_comesOut_42 rfl 0 rfl ?_
  refine k_dup (pc := 43) hC dX8_comesOut_43 rfl ?_
  refine gM_60 (pc := 44) hM dX8_comesOut_44 ?_
  refine k_iconst (pc := 47) (v := 1) hC dX8_comesOut_47 (by decide) ?_
  refine k_isub (pc := 48) hC dX8_comesOut_48 ?_
  refine pM_60 (pc := 49) hM dX8_comesOut_49 hE (fun J2 hE => ?_)
  refine k_aload_n (pc := 52) hC dX8_comesOut_52 rfl 0 rfl ?_
  refine k_iload_n (pc := 53) hC dX8_comesOut_53 rfl 2 rfl ?_
  refine k_bipush (pc := 54) (v := 8) hC dX8_comesOut_54 (by decide) ?_
  refine k_icmp_ne (pc := 56) (tgt := 63) hC dX8_comesOut_56 (by decide) hE (fun hE => ?_) (fun hE => ?_)
  · refine k_iconst (pc := 59) (v := 2) hC dX8_comesOut_59 (by decide) ?_
    refine k_goto (pc := 60) (tgt := 84) hC dX8_comesOut_60 (by decide) ?_
    refine k_sub [0, 1] rfl ?_
    exact w_M_comesOut_B84 hM hR F k0 hk0 _ _ _ hE
  · refine k_iload_n (pc := 63) hC dX8_comesOut_63 rfl 2 rfl ?_
    refine k_bipush (pc := 64) (v := 9) hC dX8_comesOut_64 (by decide) ?_
    refine k_icmp_ne (pc := 66) (tgt := 73) hC dX8_comesOut_66 (by decide) hE (fun hE => ?_) (fun hE => ?_)
    · refine k_iconst (pc := 69) (v := 3) hC dX8_comesOut_69 (by decide) ?_
      refine k_goto (pc := 70) (tgt := 84) hC dX8_comesOut_70 (by decide) ?_
      refine k_sub [0, 1] rfl ?_
      exact w_M_comesOut_B84 hM hR F k0 hk0 _ _ _ hE
    · refine k_iload_n (pc := 73) hC dX8_comesOut_73 rfl 2 rfl ?_
      refine k_bipush (pc := 74) (v := 10) hC dX8_comesOut_74 (by decide) ?_
      refine k_icmp_ne (pc := 76) (tgt := 83) hC dX8_comesOut_76 (by decide) hE (fun hE => ?_) (fun hE => ?_)
      · refine k_iconst (pc := 79) (v := 4) hC dX8_comesOut_79 (by decide) ?_
        refine k_goto (pc := 80) (tgt := 84) hC dX8_comesOut_80 (by decide) ?_
        refine k_sub [0, 1] rfl ?_
        exact w_M_comesOut_B84 hM hR F k0 hk0 _ _ _ hE
      · refine k_iconst (pc := 83) (v := 5) hC dX8_comesOut_83 (by decide) ?_
        refine k_sub [0, 1] rfl ?_
        exact w_M_comesOut_B84 hM hR F k0 hk0 _ _ _ hE
set_option maxHeartbeats 4000000 in
theorem w_M_comesOut_B0 {X : Ctx} {D : Dd} {th : Nat} {K : Jl} {out : Ji} (hM : Mx X cX8_comesOut D th 3 rmM_comesOut) (hR : Rt X none (RM D th out K) none 0 0) (F : Nat) (k0 : Int32 → Ji → Option (Ji)) (hk0 : ∀ (a1 : Int32) (J : Ji) , k0 a1 J = some out → Wk X 0 0 (RM D th J K) 0 [(0, .ref th), (1, .int a1)] []) (a1 : Int32) (J : Ji) (hE : M_comesOut_B0 F k0 a1 J = some out) : Wk X 0 0 (RM D th J K) 0 [(0, .ref th), (1, .int a1)] [] := by
  have hC := hM.1
  have hnL := hM.2.2.1
  have hrm := hM.2.2.2
  unfold M_comesOut_B0 at hE
  refine k_aload_n (pc := 0) hC dX8_comesOut_0 rfl 0 rfl ?_
  refine gM_60 (pc := 1) hM dX8_comesOut_1 ?_
  refine k_if_le (pc := 4) (tgt := 91) hC dX8_comesOut_4 (by decide) hE (fun hE => ?_) (fun hE => ?_)
  · exact k_vret (pc := 91) hC hR ⟨Nat.le_refl 0, Nat.le_refl 0⟩ dX8_comesOut_91 (by cases hE; rfl) (by cases hE; exact fun _ h => h)
  · refine k_aload_n (pc := 7) hC dX8_comesOut_7 rfl 0 rfl ?_
    refine gM_59 (pc := 8) hM dX8_comesOut_8 ?_
    refine k_aload_n (pc := 11) hC dX8_comesOut_11 rfl 0 rfl ?_
    refine gM_60 (pc := 12) hM dX8_comesOut_12 ?_
    refine k_iconst (pc := 15) (v := 1) hC dX8_comesOut_15 (by decide) ?_
    refine k_isub (pc := 16) hC dX8_comesOut_16 ?_
    refine m_iald (pc := 17) 44 ly_44 hM dX8_comesOut_17 hE (fun x1 hE => ?_)
    refine k_istore_n (pc := 18) (lv' := [(2, .int x1), (0, .ref th), (1, .int a1)]) hC dX8_comesOut_18 rfl (by rw [hnL]; decide) rfl ?_
    refine k_iload_n (pc := 19) hC dX8_comesOut_19 rfl 0 rfl ?_
    refine k_bipush (pc := 20) (v := 6) hC dX8_comesOut_20 (by decide) ?_
    refine k_icmp_eq (pc := 22) (tgt := 41) hC dX8_comesOut_22 (by decide) hE (fun hE => ?_) (fun hE => ?_)
    · exact k_vret (pc := 41) hC hR ⟨Nat.le_refl 0, Nat.le_refl 0⟩ dX8_comesOut_41 (by cases hE; rfl) (by cases hE; exact fun _ h => h)
    · refine k_iload_n (pc := 25) hC dX8_comesOut_25 rfl 2 rfl ?_
      refine k_if_eq (pc := 26) (tgt := 42) hC dX8_comesOut_26 (by decide) hE (fun hE => ?_) (fun hE => ?_)
      · refine k_sub [1, 2, 0] rfl ?_
        exact w_M_comesOut_B42 hM hR F k0 hk0 _ _ _ hE
      · refine k_iload_n (pc := 29) hC dX8_comesOut_29 rfl 0 rfl ?_
        refine k_bipush (pc := 30) (v := 8) hC dX8_comesOut_30 (by decide) ?_
        refine k_icmp_eq (pc := 32) (tgt := 41) hC dX8_comesOut_32 (by decide) hE (fun hE => ?_) (fun hE => ?_)
        · exact k_vret (pc := 41) hC hR ⟨Nat.le_refl 0, Nat.le_refl 0⟩ dX8_comesOut_41 (by cases hE; rfl) (by cases hE; exact fun _ h => h)
        · refine k_iload_n (pc := 35) hC dX8_comesOut_35 rfl 0 rfl ?_
          refine k_bipush (pc := 36) (v := 9) hC dX8_comesOut_36 (by decide) ?_
          refine k_icmp_ne (pc := 38) (tgt := 42) hC dX8_comesOut_38 (by decide) hE (fun hE => ?_) (fun hE => ?_)
          · exact k_vret (pc := 41) hC hR ⟨Nat.le_refl 0, Nat.le_refl 0⟩ dX8_comesOut_41 (by cases hE; rfl) (by cases hE; exact fun _ h => h)
          · refine k_sub [1, 2, 0] rfl ?_
            exact w_M_comesOut_B42 hM hR F k0 hk0 _ _ _ hE
theorem w_M_comesOut_L0 {X : Ctx} {D : Dd} {th : Nat} {K : Jl} {out : Ji} (hM : Mx X cX8_comesOut D th 3 rmM_comesOut) (hR : Rt X none (RM D th out K) none 0 0) (F : Nat) (n : Nat) : ∀ (a1 : Int32) (J : Ji) , M_comesOut_L0 F n a1 J = some out → Wk X 0 0 (RM D th J K) 0 [(0, .ref th), (1, .int a1)] [] := by
  induction n with
  | zero => intro a1 J h; cases h
  | succ n ih => intro a1 J h; exact w_M_comesOut_B0 hM hR F (M_comesOut_L0 F n) ih a1 J h
set_option maxHeartbeats 4000000 in
theorem w_M_comesOut {X : Ctx} {D : Dd} {th : Nat} {K : Jl} {out : Ji} (hM : Mx X cX8_comesOut D th 3 rmM_comesOut) (hR : Rt X none (RM D th out K) none 0 0) (F : Nat) (a1 : Int32) (J : Ji) (hE : M_comesOut F a1 J = some out) : Wk X 0 0 (RM D th J K) 0 [(0, .ref th), (1, .int a1)] [] := by
  have hC := hM.1
  have hnL := hM.2.2.1
  have hrm := hM.2.2.2
  unfold M_comesOut at hE
  exact w_M_comesOut_L0 hM hR F _ _ _ hE
theorem ct_M_comesOut (l : Launch) (D : Dd) (A : Nat → Prop) (th : Nat) (hA : ∀ (off : Nat) (kd : Kd), layM off = some kd → A (th + off)) (F : Nat) (a1 : Int32) (J : Ji) (K : Jl) (out : Ji) (hE : M_comesOut F a1 J = some out) : Ct l yX8_comesOut (ws_ yX8_comesOut cX8_comesOut 3 none) rmM_comesOut vwCl arTy D A [.ref th, .int a1] (RM D th J K) (RM D th out K) none 0 0 := by
  refine Ct.of (by decide) (Nat.le_of_ble_eq_true rfl) rfl ?_
  intro X hl hrm hC hR hXA hnL _
  exact w_M_comesOut ⟨hC, by unfold Ft; rw [hXA]; exact hA, hnL, hrm⟩ hR F a1 J hE
theorem cw_M_comesOut {X : Ctx} {cc : ByteArray} {D : Dd} {th mL : Nat} {rm : Room} (hM : Mx X cc D th mL rm) (h1 : rmM_comesOut.frames + 1 ≤ rm.frames) (h2 : 8 + (3 + 11) + rmM_comesOut.locals ≤ rm.locals) : CallW X.2.2.2.1 X.2.2.2.2.1 X.2.2.2.2.2.2.1 RX8 RX8 369 yX8_comesOut cX8_comesOut 3 none (ws_ yX8_comesOut cX8_comesOut 3 none) rmM_comesOut 0 0 1 := cwV 1 (cx_w hM.1) (lw_V q1930 q1932 qs78 q128 q1933) rfl rfl rfl (by decide +kernel) (by rw [hM.2.2.2]; exact ⟨h1, h2⟩)
abbrev rmM_unit : Room := { frames := 2, cells := 0, slots := 0, locals := 41 }
set_option maxHeartbeats 4000000 in
theorem w_M_unit_B88 {X : Ctx} {D : Dd} {th : Nat} {K : Jl} {out : Ji} (hM : Mx X cX8_unit D th 1 rmM_unit) (hR : Rt X none (RM D th out K) none 0 0) (J : Ji) (hE : M_unit_B88 J = some out) : Wk X 0 0 (RM D th J K) 88 [(0, .ref th)] [] := by
  have hC := hM.1
  have hnL := hM.2.2.1
  have hrm := hM.2.2.2
  unfold M_unit_B88 at hE
  refine k_aload_n (pc := 88) hC dX8_unit_88 rfl 0 rfl ?_
  refine k_iconst (pc := 89) (v := 1) hC dX8_unit_89 (by decide) ?_
  refine m_clVj (pc := 90) (As := [.int 1]) hM (cw_M_fail hM (Nat.le_of_ble_eq_true rfl) (Nat.le_of_ble_eq_true rfl)) rfl rfl (Nat.le_of_ble_eq_true rfl) dX8_unit_90 hE (fun r h => ct_M_fail _ _ _ _ hM.2.1 1 J K r h) (fun r10 hE => ?_)
  exact k_vret (pc := 93) hC hR ⟨Nat.le_refl 0, Nat.le_refl 0⟩ dX8_unit_93 (by cases hE; rfl) (by cases hE; exact fun _ h => h)
set_option maxHeartbeats 4000000 in
theorem w_M_unit {X : Ctx} {D : Dd} {th : Nat} {K : Jl} {out : Ji} (hM : Mx X cX8_unit D th 1 rmM_unit) (hR : Rt X none (RM D th out K) none 0 0) (J : Ji) (hE : M_unit J = some out) : Wk X 0 0 (RM D th J K) 0 [(0, .ref th)] [] := by
  have hC := hM.1
  have hnL := hM.2.2.1
  have hrm := hM.2.2.2
  unfold M_unit at hE
  refine k_aload_n (pc := 0) hC dX8_unit_0 rfl 0 rfl ?_
  refine k_iconst (pc := 1) (v := 2) hC dX8_unit_1 (by decide) ?_
  refine m_clI (pc := 2) (As := [.int 2]) hM (cw_M_is hM (Nat.le_of_ble_eq_true rfl) (Nat.le_of_ble_eq_true rfl)) rfl rfl (Nat.le_of_ble_eq_true rfl) dX8_unit_2 hE (fun r h => ct_M_is _ _ _ _ hM.2.1 2 J K r h) (fun r1 hE => ?_)
  refine k_if_eq (pc := 5) (tgt := 29) hC dX8_unit_5 (by decide) hE (fun hE => ?_) (fun hE => ?_)
  · refine k_aload_n (pc := 29) hC dX8_unit_29 rfl 0 rfl ?_
    refine gM_13 (pc := 30) hM dX8_unit_30 ?_
    refine k_if_ne (pc := 33) (tgt := 88) hC dX8_unit_33 (by decide) hE (fun hE => ?_) (fun hE => ?_)
    · refine k_aload_n (pc := 36) hC dX8_unit_36 rfl 0 rfl ?_
      refine gM_5 (pc := 37) hM dX8_unit_37 ?_
      refine k_aload_n (pc := 40) hC dX8_unit_40 rfl 0 rfl ?_
      refine gM_11 (pc := 41) hM dX8_unit_41 ?_
      refine m_iald (pc := 44) 3 ly_3 hM dX8_unit_44 hE (fun x2 hE => ?_)
      refine k_bipush (pc := 45) (v := 35) hC dX8_unit_45 (by decide) ?_
      refine k_icmp_lt (pc := 47) (tgt := 88) hC dX8_unit_47 (by decide) hE (fun hE => ?_) (fun hE => ?_)
      · exact w_M_unit_B88 hM hR  _ hE
      · refine k_aload_n (pc := 50) hC dX8_unit_50 rfl 0 rfl ?_
        refine gM_5 (pc := 51) hM dX8_unit_51 ?_
        refine k_aload_n (pc := 54) hC dX8_unit_54 rfl 0 rfl ?_
        refine gM_11 (pc := 55) hM dX8_unit_55 ?_
        refine m_iald (pc := 58) 3 ly_3 hM dX8_unit_58 hE (fun x3 hE => ?_)
        refine k_bipush (pc := 59) (v := 40) hC dX8_unit_59 (by decide) ?_
        refine k_icmp_gt (pc := 61) (tgt := 88) hC dX8_unit_61 (by decide) hE (fun hE => ?_) (fun hE => ?_)
        · exact w_M_unit_B88 hM hR  _ hE
        · refine k_aload_n (pc := 64) hC dX8_unit_64 rfl 0 rfl ?_
          refine k_iconst (pc := 65) (v := 1) hC dX8_unit_65 (by decide) ?_
          refine k_aload_n (pc := 66) hC dX8_unit_66 rfl 0 rfl ?_
          refine gM_5 (pc := 67) hM dX8_unit_67 ?_
          refine k_aload_n (pc := 70) hC dX8_unit_70 rfl 0 rfl ?_
          refine gM_11 (pc := 71) hM dX8_unit_71 ?_
          refine m_iald (pc := 74) 3 ly_3 hM dX8_unit_74 hE (fun x4 hE => ?_)
          refine k_bipush (pc := 75) (v := 35) hC dX8_unit_75 (by decide) ?_
          refine k_isub (pc := 77) hC dX8_unit_77 ?_
          refine m_clVj (pc := 78) (As := [.int 1, .int (x4 - 35)]) hM (cw_M_emit hM (Nat.le_of_ble_eq_true rfl) (Nat.le_of_ble_eq_true rfl)) rfl rfl (Nat.le_of_ble_eq_true rfl) dX8_unit_78 hE (fun r h => ct_M_emit _ _ _ _ hM.2.1 1 (x4 - 35) J K r h) (fun r5 hE => ?_)
          refine k_aload_n (pc := 81) hC dX8_unit_81 rfl 0 rfl ?_
          refine m_clVj (pc := 82) (As := []) hM (cw_M_goesOn hM (Nat.le_of_ble_eq_true rfl) (Nat.le_of_ble_eq_true rfl)) rfl rfl (Nat.le_of_ble_eq_true rfl) dX8_unit_82 hE (fun r h => ct_M_goesOn _ _ _ _ hM.2.1  r5 K r h) (fun r6 hE => ?_)
          refine k_goto (pc := 85) (tgt := 93) hC dX8_unit_85 (by decide) ?_
          exact k_vret (pc := 93) hC hR ⟨Nat.le_refl 0, Nat.le_refl 0⟩ dX8_unit_93 (by cases hE; rfl) (by cases hE; exact fun _ h => h)
    · exact w_M_unit_B88 hM hR  _ hE
  · refine k_aload_n (pc := 8) hC dX8_unit_8 rfl 0 rfl ?_
    refine k_iconst (pc := 9) (v := 0) hC dX8_unit_9 (by decide) ?_
    refine k_aload_n (pc := 10) hC dX8_unit_10 rfl 0 rfl ?_
    refine gM_7 (pc := 11) hM dX8_unit_11 ?_
    refine k_aload_n (pc := 14) hC dX8_unit_14 rfl 0 rfl ?_
    refine gM_11 (pc := 15) hM dX8_unit_15 ?_
    refine m_iald (pc := 18) 5 ly_5 hM dX8_unit_18 hE (fun x7 hE => ?_)
    refine m_clVj (pc := 19) (As := [.int 0, .int x7]) hM (cw_M_emit hM (Nat.le_of_ble_eq_true rfl) (Nat.le_of_ble_eq_true rfl)) rfl rfl (Nat.le_of_ble_eq_true rfl) dX8_unit_19 hE (fun r h => ct_M_emit _ _ _ _ hM.2.1 0 x7 J K r h) (fun r8 hE => ?_)
    refine k_aload_n (pc := 22) hC dX8_unit_22 rfl 0 rfl ?_
    refine m_clVj (pc := 23) (As := []) hM (cw_M_goesOn hM (Nat.le_of_ble_eq_true rfl) (Nat.le_of_ble_eq_true rfl)) rfl rfl (Nat.le_of_ble_eq_true rfl) dX8_unit_23 hE (fun r h => ct_M_goesOn _ _ _ _ hM.2.1  r8 K r h) (fun r9 hE => ?_)
    refine k_goto (pc := 26) (tgt := 93) hC dX8_unit_26 (by decide) ?_
    exact k_vret (pc := 93) hC hR ⟨Nat.le_refl 0, Nat.le_refl 0⟩ dX8_unit_93 (by cases hE; rfl) (by cases hE; exact fun _ h => h)
theorem ct_M_unit (l : Launch) (D : Dd) (A : Nat → Prop) (th : Nat) (hA : ∀ (off : Nat) (kd : Kd), layM off = some kd → A (th + off)) (J : Ji) (K : Jl) (out : Ji) (hE : M_unit J = some out) : Ct l yX8_unit (ws_ yX8_unit cX8_unit 1 none) rmM_unit vwCl arTy D A [.ref th] (RM D th J K) (RM D th out K) none 0 0 := by
  refine Ct.of (by decide) (Nat.le_of_ble_eq_true rfl) rfl ?_
  intro X hl hrm hC hR hXA hnL _
  exact w_M_unit ⟨hC, by unfold Ft; rw [hXA]; exact hA, hnL, hrm⟩ hR J hE
theorem cw_M_unit {X : Ctx} {cc : ByteArray} {D : Dd} {th mL : Nat} {rm : Room} (hM : Mx X cc D th mL rm) (h1 : rmM_unit.frames + 1 ≤ rm.frames) (h2 : 8 + (1 + 11) + rmM_unit.locals ≤ rm.locals) : CallW X.2.2.2.1 X.2.2.2.2.1 X.2.2.2.2.2.2.1 RX8 RX8 366 yX8_unit cX8_unit 1 none (ws_ yX8_unit cX8_unit 1 none) rmM_unit 0 0 0 := cwV 0 (cx_w hM.1) (lw_V q1922 q1924 qs76 q128 q1925) rfl rfl rfl (by decide +kernel) (by rw [hM.2.2.2]; exact ⟨h1, h2⟩)
abbrev rmM_expression : Room := { frames := 3, cells := 0, slots := 0, locals := 61 }
set_option maxHeartbeats 4000000 in
theorem w_M_expression_B46 {X : Ctx} {D : Dd} {th : Nat} {K : Jl} {out : Ji} (hM : Mx X cX8_expression D th 3 rmM_expression) (hR : Rt X none (RM D th out K) none 0 0) (F : Nat) (k12 : Int32 → Int32 → Ji → Option (Ji)) (hk12 : ∀ (a1 : Int32) (a2 : Int32) (J : Ji) , k12 a1 a2 J = some out → Wk X 0 0 (RM D th J K) 12 [(0, .ref th), (1, .int a1), (2, .int a2)] []) (k23 : Int32 → Ji → Option (Ji)) (hk23 : ∀ (a1 : Int32) (J : Ji) , k23 a1 J = some out → Wk X 0 0 (RM D th J K) 23 [(0, .ref th), (1, .int a1)] []) (a1 : Int32) (J : Ji) (hE : M_expression_B46 F k12 k23 a1 J = some out) : Wk X 0 0 (RM D th J K) 46 [(0, .ref th), (1, .int a1)] [] := by
  have hC := hM.1
  have hnL := hM.2.2.1
  have hrm := hM.2.2.2
  unfold M_expression_B46 at hE
  refine k_aload_n (pc := 46) hC dX8_expression_46 rfl 0 rfl ?_
  refine k_dup (pc := 47) hC dX8_expression_47 rfl ?_
  refine gM_12 (pc := 48) hM dX8_expression_48 ?_
  refine k_iconst (pc := 51) (v := 1) hC dX8_expression_51 (by decide) ?_
  refine k_iadd (pc := 52) hC dX8_expression_52 ?_
  refine pM_12 (pc := 53) hM dX8_expression_53 hE (fun J6 hE => ?_)
  refine k_aload_n (pc := 56) hC dX8_expression_56 rfl 0 rfl ?_
  refine m_clVj (pc := 57) (As := []) hM (cw_M_goesOn hM (Nat.le_of_ble_eq_true rfl) (Nat.le_of_ble_eq_true rfl)) rfl rfl (Nat.le_of_ble_eq_true rfl) dX8_expression_57 hE (fun r h => ct_M_goesOn _ _ _ _ hM.2.1  J6 K r h) (fun r7 hE => ?_)
  refine k_aload_n (pc := 60) hC dX8_expression_60 rfl 0 rfl ?_
  refine gM_59 (pc := 61) hM dX8_expression_61 ?_
  refine k_aload_n (pc := 64) hC dX8_expression_64 rfl 0 rfl ?_
  refine gM_60 (pc := 65) hM dX8_expression_65 ?_
  refine k_bipush (pc := 68) (v := 6) hC dX8_expression_68 (by decide) ?_
  refine m_iast (pc := 70) 44 ly_44 hM dX8_expression_70 hE (fun J8 hE => ?_)
  refine k_aload_n (pc := 71) hC dX8_expression_71 rfl 0 rfl ?_
  refine k_dup (pc := 72) hC dX8_expression_72 rfl ?_
  refine gM_60 (pc := 73) hM dX8_expression_73 ?_
  refine k_iconst (pc := 76) (v := 1) hC dX8_expression_76 (by decide) ?_
  refine k_iadd (pc := 77) hC dX8_expression_77 ?_
  refine pM_60 (pc := 78) hM dX8_expression_78 hE (fun J9 hE => ?_)
  refine k_goto (pc := 81) (tgt := 23) hC dX8_expression_81 (by decide) ?_
  exact hk23 _ _ hE
set_option maxHeartbeats 4000000 in
theorem w_M_expression_B204 {X : Ctx} {D : Dd} {th : Nat} {K : Jl} {out : Ji} (hM : Mx X cX8_expression D th 3 rmM_expression) (hR : Rt X none (RM D th out K) none 0 0) (F : Nat) (J : Ji) (hE : M_expression_B204 F J = some out) : Wk X 0 0 (RM D th J K) 204 [(0, .ref th)] [] := by
  have hC := hM.1
  have hnL := hM.2.2.1
  have hrm := hM.2.2.2
  unfold M_expression_B204 at hE
  refine k_aload_n (pc := 204) hC dX8_expression_204 rfl 0 rfl ?_
  refine k_iconst (pc := 205) (v := 0) hC dX8_expression_205 (by decide) ?_
  refine m_clVj (pc := 206) (As := [.int 0]) hM (cw_M_comesOut hM (Nat.le_of_ble_eq_true rfl) (Nat.le_of_ble_eq_true rfl)) rfl rfl (Nat.le_of_ble_eq_true rfl) dX8_expression_206 hE (fun r h => ct_M_comesOut _ _ _ _ hM.2.1 F 0 J K r h) (fun r27 hE => ?_)
  exact k_vret (pc := 209) hC hR ⟨Nat.le_refl 0, Nat.le_refl 0⟩ dX8_expression_209 (by cases hE; rfl) (by cases hE; exact fun _ h => h)
set_option maxHeartbeats 4000000 in
theorem w_M_expression_B234 {X : Ctx} {D : Dd} {th : Nat} {K : Jl} {out : Ji} (hM : Mx X cX8_expression D th 3 rmM_expression) (hR : Rt X none (RM D th out K) none 0 0) (F : Nat) (k12 : Int32 → Int32 → Ji → Option (Ji)) (hk12 : ∀ (a1 : Int32) (a2 : Int32) (J : Ji) , k12 a1 a2 J = some out → Wk X 0 0 (RM D th J K) 12 [(0, .ref th), (1, .int a1), (2, .int a2)] []) (a1 : Int32) (a2 : Int32) (s0 : Int32) (J : Ji) (hE : M_expression_B234 F k12 a1 a2 s0 J = some out) : Wk X 0 0 (RM D th J K) 234 [(0, .ref th), (1, .int a1), (2, .int a2)] [.int s0, .ref th] := by
  have hC := hM.1
  have hnL := hM.2.2.1
  have hrm := hM.2.2.2
  unfold M_expression_B234 at hE
  refine m_clVj (pc := 234) (As := [.int s0]) hM (cw_M_comesOut hM (Nat.le_of_ble_eq_true rfl) (Nat.le_of_ble_eq_true rfl)) rfl rfl (Nat.le_of_ble_eq_true rfl) dX8_expression_234 hE (fun r h => ct_M_comesOut _ _ _ _ hM.2.1 F s0 J K r h) (fun r22 hE => ?_)
  refine k_aload_n (pc := 237) hC dX8_expression_237 rfl 0 rfl ?_
  refine gM_59 (pc := 238) hM dX8_expression_238 ?_
  refine k_aload_n (pc := 241) hC dX8_expression_241 rfl 0 rfl ?_
  refine gM_60 (pc := 242) hM dX8_expression_242 ?_
  refine k_aload_n (pc := 245) hC dX8_expression_245 rfl 0 rfl ?_
  refine gM_5 (pc := 246) hM dX8_expression_246 ?_
  refine k_aload_n (pc := 249) hC dX8_expression_249 rfl 0 rfl ?_
  refine gM_11 (pc := 250) hM dX8_expression_250 ?_
  refine m_iald (pc := 253) 3 ly_3 hM dX8_expression_253 hE (fun x23 hE => ?_)
  refine m_iast (pc := 254) 44 ly_44 hM dX8_expression_254 hE (fun J24 hE => ?_)
  refine k_aload_n (pc := 255) hC dX8_expression_255 rfl 0 rfl ?_
  refine k_dup (pc := 256) hC dX8_expression_256 rfl ?_
  refine gM_60 (pc := 257) hM dX8_expression_257 ?_
  refine k_iconst (pc := 260) (v := 1) hC dX8_expression_260 (by decide) ?_
  refine k_iadd (pc := 261) hC dX8_expression_261 ?_
  refine pM_60 (pc := 262) hM dX8_expression_262 hE (fun J25 hE => ?_)
  refine k_aload_n (pc := 265) hC dX8_expression_265 rfl 0 rfl ?_
  refine m_clVj (pc := 266) (As := []) hM (cw_M_goesOn hM (Nat.le_of_ble_eq_true rfl) (Nat.le_of_ble_eq_true rfl)) rfl rfl (Nat.le_of_ble_eq_true rfl) dX8_expression_266 hE (fun r h => ct_M_goesOn _ _ _ _ hM.2.1  J25 K r h) (fun r26 hE => ?_)
  refine k_goto (pc := 269) (tgt := 12) hC dX8_expression_269 (by decide) ?_
  exact hk12 _ _ _ hE
set_option maxHeartbeats 4000000 in
theorem w_M_expression_B186 {X : Ctx} {D : Dd} {th : Nat} {K : Jl} {out : Ji} (hM : Mx X cX8_expression D th 3 rmM_expression) (hR : Rt X none (RM D th out K) none 0 0) (F : Nat) (k12 : Int32 → Int32 → Ji → Option (Ji)) (hk12 : ∀ (a1 : Int32) (a2 : Int32) (J : Ji) , k12 a1 a2 J = some out → Wk X 0 0 (RM D th J K) 12 [(0, .ref th), (1, .int a1), (2, .int a2)] []) (a1 : Int32) (s0 : Int32) (J : Ji) (hE : M_expression_B186 F k12 a1 s0 J = some out) : Wk X 0 0 (RM D th J K) 186 [(0, .ref th), (1, .int a1)] [.int s0] := by
  have hC := hM.1
  have hnL := hM.2.2.1
  have hrm := hM.2.2.2
  unfold M_expression_B186 at hE
  refine k_istore_n (pc := 186) (lv' := [(2, .int s0), (0, .ref th), (1, .int a1)]) hC dX8_expression_186 rfl (by rw [hnL]; decide) rfl ?_
  refine k_iload_n (pc := 187) hC dX8_expression_187 rfl 0 rfl ?_
  refine k_if_ne (pc := 188) (tgt := 210) hC dX8_expression_188 (by decide) hE (fun hE => ?_) (fun hE => ?_)
  · refine k_aload_n (pc := 191) hC dX8_expression_191 rfl 1 rfl ?_
    refine gM_12 (pc := 192) hM dX8_expression_192 ?_
    refine k_iload_n (pc := 195) hC dX8_expression_195 rfl 2 rfl ?_
    refine k_icmp_le (pc := 196) (tgt := 204) hC dX8_expression_196 (by decide) hE (fun hE => ?_) (fun hE => ?_)
    · refine k_sub [1] rfl ?_
      exact w_M_expression_B204 hM hR F _ hE
    · refine k_aload_n (pc := 199) hC dX8_expression_199 rfl 1 rfl ?_
      refine k_iconst (pc := 200) (v := 1) hC dX8_expression_200 (by decide) ?_
      refine m_clVj (pc := 201) (As := [.int 1]) hM (cw_M_fail hM (Nat.le_of_ble_eq_true rfl) (Nat.le_of_ble_eq_true rfl)) rfl rfl (Nat.le_of_ble_eq_true rfl) dX8_expression_201 hE (fun r h => ct_M_fail _ _ _ _ hM.2.1 1 J K r h) (fun r19 hE => ?_)
      refine k_sub [1] rfl ?_
      exact w_M_expression_B204 hM hR F _ hE
  · refine k_aload_n (pc := 210) hC dX8_expression_210 rfl 1 rfl ?_
    refine k_aload_n (pc := 211) hC dX8_expression_211 rfl 1 rfl ?_
    refine k_bipush (pc := 212) (v := 10) hC dX8_expression_212 (by decide) ?_
    refine m_clI (pc := 214) (As := [.int 10]) hM (cw_M_is hM (Nat.le_of_ble_eq_true rfl) (Nat.le_of_ble_eq_true rfl)) rfl rfl (Nat.le_of_ble_eq_true rfl) dX8_expression_214 hE (fun r h => ct_M_is _ _ _ _ hM.2.1 10 J K r h) (fun r20 hE => ?_)
    refine k_if_ne (pc := 217) (tgt := 229) hC dX8_expression_217 (by decide) hE (fun hE => ?_) (fun hE => ?_)
    · refine k_aload_n (pc := 220) hC dX8_expression_220 rfl 1 rfl ?_
      refine k_bipush (pc := 221) (v := 15) hC dX8_expression_221 (by decide) ?_
      refine m_clI (pc := 223) (As := [.int 15]) hM (cw_M_is hM (Nat.le_of_ble_eq_true rfl) (Nat.le_of_ble_eq_true rfl)) rfl rfl (Nat.le_of_ble_eq_true rfl) dX8_expression_223 hE (fun r h => ct_M_is _ _ _ _ hM.2.1 15 J K r h) (fun r21 hE => ?_)
      refine k_if_eq (pc := 226) (tgt := 233) hC dX8_expression_226 (by decide) hE (fun hE => ?_) (fun hE => ?_)
      · refine k_iconst (pc := 233) (v := 0) hC dX8_expression_233 (by decide) ?_
        refine k_sub [1, 2, 0] rfl ?_
        exact w_M_expression_B234 hM hR F k12 hk12 _ _ _ _ hE
      · refine k_iconst (pc := 229) (v := 1) hC dX8_expression_229 (by decide) ?_
        refine k_goto (pc := 230) (tgt := 234) hC dX8_expression_230 (by decide) ?_
        refine k_sub [1, 2, 0] rfl ?_
        exact w_M_expression_B234 hM hR F k12 hk12 _ _ _ _ hE
    · refine k_iconst (pc := 229) (v := 1) hC dX8_expression_229 (by decide) ?_
      refine k_goto (pc := 230) (tgt := 234) hC dX8_expression_230 (by decide) ?_
      refine k_sub [1, 2, 0] rfl ?_
      exact w_M_expression_B234 hM hR F k12 hk12 _ _ _ _ hE
set_option maxHeartbeats 4000000 in
theorem w_M_expression_B145 {X : Ctx} {D : Dd} {th : Nat} {K : Jl} {out : Ji} (hM : Mx X cX8_expression D th 3 rmM_expression) (hR : Rt X none (RM D th out K) none 0 0) (F : Nat) (k12 : Int32 → Int32 → Ji → Option (Ji)) (hk12 : ∀ (a1 : Int32) (a2 : Int32) (J : Ji) , k12 a1 a2 J = some out → Wk X 0 0 (RM D th J K) 12 [(0, .ref th), (1, .int a1), (2, .int a2)] []) (a1 : Int32) (J : Ji) (hE : M_expression_B145 F k12 a1 J = some out) : Wk X 0 0 (RM D th J K) 145 [(0, .ref th), (1, .int a1)] [] := by
  have hC := hM.1
  have hnL := hM.2.2.1
  have hrm := hM.2.2.2
  unfold M_expression_B145 at hE
  refine k_aload_n (pc := 145) hC dX8_expression_145 rfl 0 rfl ?_
  refine k_bipush (pc := 146) (v := 8) hC dX8_expression_146 (by decide) ?_
  refine m_clI (pc := 148) (As := [.int 8]) hM (cw_M_is hM (Nat.le_of_ble_eq_true rfl) (Nat.le_of_ble_eq_true rfl)) rfl rfl (Nat.le_of_ble_eq_true rfl) dX8_expression_148 hE (fun r h => ct_M_is _ _ _ _ hM.2.1 8 J K r h) (fun r15 hE => ?_)
  refine k_if_ne (pc := 151) (tgt := 181) hC dX8_expression_151 (by decide) hE (fun hE => ?_) (fun hE => ?_)
  · refine k_aload_n (pc := 154) hC dX8_expression_154 rfl 0 rfl ?_
    refine k_bipush (pc := 155) (v := 9) hC dX8_expression_155 (by decide) ?_
    refine m_clI (pc := 157) (As := [.int 9]) hM (cw_M_is hM (Nat.le_of_ble_eq_true rfl) (Nat.le_of_ble_eq_true rfl)) rfl rfl (Nat.le_of_ble_eq_true rfl) dX8_expression_157 hE (fun r h => ct_M_is _ _ _ _ hM.2.1 9 J K r h) (fun r16 hE => ?_)
    refine k_if_ne (pc := 160) (tgt := 181) hC dX8_expression_160 (by decide) hE (fun hE => ?_) (fun hE => ?_)
    · refine k_aload_n (pc := 163) hC dX8_expression_163 rfl 0 rfl ?_
      refine k_bipush (pc := 164) (v := 10) hC dX8_expression_164 (by decide) ?_
      refine m_clI (pc := 166) (As := [.int 10]) hM (cw_M_is hM (Nat.le_of_ble_eq_true rfl) (Nat.le_of_ble_eq_true rfl)) rfl rfl (Nat.le_of_ble_eq_true rfl) dX8_expression_166 hE (fun r h => ct_M_is _ _ _ _ hM.2.1 10 J K r h) (fun r17 hE => ?_)
      refine k_if_ne (pc := 169) (tgt := 181) hC dX8_expression_169 (by decide) hE (fun hE => ?_) (fun hE => ?_)
      · refine k_aload_n (pc := 172) hC dX8_expression_172 rfl 0 rfl ?_
        refine k_bipush (pc := 173) (v := 15) hC dX8_expression_173 (by decide) ?_
        refine m_clI (pc := 175) (As := [.int 15]) hM (cw_M_is hM (Nat.le_of_ble_eq_true rfl) (Nat.le_of_ble_eq_true rfl)) rfl rfl (Nat.le_of_ble_eq_true rfl) dX8_expression_175 hE (fun r h => ct_M_is _ _ _ _ hM.2.1 15 J K r h) (fun r18 hE => ?_)
        refine k_if_eq (pc := 178) (tgt := 185) hC dX8_expression_178 (by decide) hE (fun hE => ?_) (fun hE => ?_)
        · refine k_iconst (pc := 185) (v := 0) hC dX8_expression_185 (by decide) ?_
          exact w_M_expression_B186 hM hR F k12 hk12 _ _ _ hE
        · refine k_iconst (pc := 181) (v := 1) hC dX8_expression_181 (by decide) ?_
          refine k_goto (pc := 182) (tgt := 186) hC dX8_expression_182 (by decide) ?_
          exact w_M_expression_B186 hM hR F k12 hk12 _ _ _ hE
      · refine k_iconst (pc := 181) (v := 1) hC dX8_expression_181 (by decide) ?_
        refine k_goto (pc := 182) (tgt := 186) hC dX8_expression_182 (by decide) ?_
        exact w_M_expression_B186 hM hR F k12 hk12 _ _ _ hE
    · refine k_iconst (pc := 181) (v := 1) hC dX8_expression_181 (by decide) ?_
      refine k_goto (pc := 182) (tgt := 186) hC dX8_expression_182 (by decide) ?_
      exact w_M_expression_B186 hM hR F k12 hk12 _ _ _ hE
  · refine k_iconst (pc := 181) (v := 1) hC dX8_expression_181 (by decide) ?_
    refine k_goto (pc := 182) (tgt := 186) hC dX8_expression_182 (by decide) ?_
    exact w_M_expression_B186 hM hR F k12 hk12 _ _ _ hE
set_option maxHeartbeats 4000000 in
theorem w_M_expression_B96 {X : Ctx} {D : Dd} {th : Nat} {K : Jl} {out : Ji} (hM : Mx X cX8_expression D th 3 rmM_expression) (hR : Rt X none (RM D th out K) none 0 0) (F : Nat) (k12 : Int32 → Int32 → Ji → Option (Ji)) (hk12 : ∀ (a1 : Int32) (a2 : Int32) (J : Ji) , k12 a1 a2 J = some out → Wk X 0 0 (RM D th J K) 12 [(0, .ref th), (1, .int a1), (2, .int a2)] []) (k96 : Int32 → Ji → Option (Ji)) (hk96 : ∀ (a1 : Int32) (J : Ji) , k96 a1 J = some out → Wk X 0 0 (RM D th J K) 96 [(0, .ref th), (1, .int a1)] []) (a1 : Int32) (J : Ji) (hE : M_expression_B96 F k12 k96 a1 J = some out) : Wk X 0 0 (RM D th J K) 96 [(0, .ref th), (1, .int a1)] [] := by
  have hC := hM.1
  have hnL := hM.2.2.1
  have hrm := hM.2.2.2
  unfold M_expression_B96 at hE
  refine k_aload_n (pc := 96) hC dX8_expression_96 rfl 0 rfl ?_
  refine k_bipush (pc := 97) (v := 7) hC dX8_expression_97 (by decide) ?_
  refine m_clI (pc := 99) (As := [.int 7]) hM (cw_M_is hM (Nat.le_of_ble_eq_true rfl) (Nat.le_of_ble_eq_true rfl)) rfl rfl (Nat.le_of_ble_eq_true rfl) dX8_expression_99 hE (fun r h => ct_M_is _ _ _ _ hM.2.1 7 J K r h) (fun r10 hE => ?_)
  refine k_if_eq (pc := 102) (tgt := 145) hC dX8_expression_102 (by decide) hE (fun hE => ?_) (fun hE => ?_)
  · exact w_M_expression_B145 hM hR F k12 hk12 _ _ hE
  · refine k_aload_n (pc := 105) hC dX8_expression_105 rfl 0 rfl ?_
    refine gM_12 (pc := 106) hM dX8_expression_106 ?_
    refine k_iload_n (pc := 109) hC dX8_expression_109 rfl 1 rfl ?_
    refine k_icmp_le (pc := 110) (tgt := 145) hC dX8_expression_110 (by decide) hE (fun hE => ?_) (fun hE => ?_)
    · exact w_M_expression_B145 hM hR F k12 hk12 _ _ hE
    · refine k_aload_n (pc := 113) hC dX8_expression_113 rfl 0 rfl ?_
      refine k_iconst (pc := 114) (v := 0) hC dX8_expression_114 (by decide) ?_
      refine m_clVj (pc := 115) (As := [.int 0]) hM (cw_M_comesOut hM (Nat.le_of_ble_eq_true rfl) (Nat.le_of_ble_eq_true rfl)) rfl rfl (Nat.le_of_ble_eq_true rfl) dX8_expression_115 hE (fun r h => ct_M_comesOut _ _ _ _ hM.2.1 F 0 J K r h) (fun r11 hE => ?_)
      refine k_aload_n (pc := 118) hC dX8_expression_118 rfl 0 rfl ?_
      refine k_dup (pc := 119) hC dX8_expression_119 rfl ?_
      refine gM_60 (pc := 120) hM dX8_expression_120 ?_
      refine k_iconst (pc := 123) (v := 1) hC dX8_expression_123 (by decide) ?_
      refine k_isub (pc := 124) hC dX8_expression_124 ?_
      refine pM_60 (pc := 125) hM dX8_expression_125 hE (fun J12 hE => ?_)
      refine k_aload_n (pc := 128) hC dX8_expression_128 rfl 0 rfl ?_
      refine k_dup (pc := 129) hC dX8_expression_129 rfl ?_
      refine gM_12 (pc := 130) hM dX8_expression_130 ?_
      refine k_iconst (pc := 133) (v := 1) hC dX8_expression_133 (by decide) ?_
      refine k_isub (pc := 134) hC dX8_expression_134 ?_
      refine pM_12 (pc := 135) hM dX8_expression_135 hE (fun J13 hE => ?_)
      refine k_aload_n (pc := 138) hC dX8_expression_138 rfl 0 rfl ?_
      refine m_clVj (pc := 139) (As := []) hM (cw_M_goesOn hM (Nat.le_of_ble_eq_true rfl) (Nat.le_of_ble_eq_true rfl)) rfl rfl (Nat.le_of_ble_eq_true rfl) dX8_expression_139 hE (fun r h => ct_M_goesOn _ _ _ _ hM.2.1  J13 K r h) (fun r14 hE => ?_)
      refine k_goto (pc := 142) (tgt := 96) hC dX8_expression_142 (by decide) ?_
      exact hk96 _ _ hE
theorem w_M_expression_L96 {X : Ctx} {D : Dd} {th : Nat} {K : Jl} {out : Ji} (hM : Mx X cX8_expression D th 3 rmM_expression) (hR : Rt X none (RM D th out K) none 0 0) (F : Nat) (k12 : Int32 → Int32 → Ji → Option (Ji)) (hk12 : ∀ (a1 : Int32) (a2 : Int32) (J : Ji) , k12 a1 a2 J = some out → Wk X 0 0 (RM D th J K) 12 [(0, .ref th), (1, .int a1), (2, .int a2)] []) (n : Nat) : ∀ (a1 : Int32) (J : Ji) , M_expression_L96 F k12 n a1 J = some out → Wk X 0 0 (RM D th J K) 96 [(0, .ref th), (1, .int a1)] [] := by
  induction n with
  | zero => intro a1 J h; cases h
  | succ n ih => intro a1 J h; exact w_M_expression_B96 hM hR F k12 hk12 (M_expression_L96 F k12 n) ih a1 J h
set_option maxHeartbeats 4000000 in
theorem w_M_expression_B23 {X : Ctx} {D : Dd} {th : Nat} {K : Jl} {out : Ji} (hM : Mx X cX8_expression D th 3 rmM_expression) (hR : Rt X none (RM D th out K) none 0 0) (F : Nat) (k12 : Int32 → Int32 → Ji → Option (Ji)) (hk12 : ∀ (a1 : Int32) (a2 : Int32) (J : Ji) , k12 a1 a2 J = some out → Wk X 0 0 (RM D th J K) 12 [(0, .ref th), (1, .int a1), (2, .int a2)] []) (k23 : Int32 → Ji → Option (Ji)) (hk23 : ∀ (a1 : Int32) (J : Ji) , k23 a1 J = some out → Wk X 0 0 (RM D th J K) 23 [(0, .ref th), (1, .int a1)] []) (a1 : Int32) (J : Ji) (hE : M_expression_B23 F k12 k23 a1 J = some out) : Wk X 0 0 (RM D th J K) 23 [(0, .ref th), (1, .int a1)] [] := by
  have hC := hM.1
  have hnL := hM.2.2.1
  have hrm := hM.2.2.2
  unfold M_expression_B23 at hE
  refine k_aload_n (pc := 23) hC dX8_expression_23 rfl 0 rfl ?_
  refine k_bipush (pc := 24) (v := 6) hC dX8_expression_24 (by decide) ?_
  refine m_clI (pc := 26) (As := [.int 6]) hM (cw_M_is hM (Nat.le_of_ble_eq_true rfl) (Nat.le_of_ble_eq_true rfl)) rfl rfl (Nat.le_of_ble_eq_true rfl) dX8_expression_26 hE (fun r h => ct_M_is _ _ _ _ hM.2.1 6 J K r h) (fun r3 hE => ?_)
  refine k_if_eq (pc := 29) (tgt := 84) hC dX8_expression_29 (by decide) hE (fun hE => ?_) (fun hE => ?_)
  · refine k_aload_n (pc := 84) hC dX8_expression_84 rfl 0 rfl ?_
    refine m_clVj (pc := 85) (As := []) hM (cw_M_unit hM (Nat.le_of_ble_eq_true rfl) (Nat.le_of_ble_eq_true rfl)) rfl rfl (Nat.le_of_ble_eq_true rfl) dX8_expression_85 hE (fun r h => ct_M_unit _ _ _ _ hM.2.1  J K r h) (fun r4 hE => ?_)
    refine k_aload_n (pc := 88) hC dX8_expression_88 rfl 0 rfl ?_
    refine gM_13 (pc := 89) hM dX8_expression_89 ?_
    refine k_if_le (pc := 92) (tgt := 96) hC dX8_expression_92 (by decide) hE (fun hE => ?_) (fun hE => ?_)
    · exact w_M_expression_L96 hM hR F k12 hk12 _ _ _ hE
    · exact k_vret (pc := 95) hC hR ⟨Nat.le_refl 0, Nat.le_refl 0⟩ dX8_expression_95 (by cases hE; rfl) (by cases hE; exact fun _ h => h)
  · refine k_aload_n (pc := 32) hC dX8_expression_32 rfl 0 rfl ?_
    refine gM_12 (pc := 33) hM dX8_expression_33 ?_
    refine k_bipush (pc := 36) (v := 6) hC dX8_expression_36 (by decide) ?_
    refine k_icmp_ne (pc := 38) (tgt := 46) hC dX8_expression_38 (by decide) hE (fun hE => ?_) (fun hE => ?_)
    · refine k_aload_n (pc := 41) hC dX8_expression_41 rfl 0 rfl ?_
      refine k_iconst (pc := 42) (v := 2) hC dX8_expression_42 (by decide) ?_
      refine m_clVj (pc := 43) (As := [.int 2]) hM (cw_M_fail hM (Nat.le_of_ble_eq_true rfl) (Nat.le_of_ble_eq_true rfl)) rfl rfl (Nat.le_of_ble_eq_true rfl) dX8_expression_43 hE (fun r h => ct_M_fail _ _ _ _ hM.2.1 2 J K r h) (fun r5 hE => ?_)
      exact w_M_expression_B46 hM hR F k12 hk12 k23 hk23 _ _ hE
    · exact w_M_expression_B46 hM hR F k12 hk12 k23 hk23 _ _ hE
theorem w_M_expression_L23 {X : Ctx} {D : Dd} {th : Nat} {K : Jl} {out : Ji} (hM : Mx X cX8_expression D th 3 rmM_expression) (hR : Rt X none (RM D th out K) none 0 0) (F : Nat) (k12 : Int32 → Int32 → Ji → Option (Ji)) (hk12 : ∀ (a1 : Int32) (a2 : Int32) (J : Ji) , k12 a1 a2 J = some out → Wk X 0 0 (RM D th J K) 12 [(0, .ref th), (1, .int a1), (2, .int a2)] []) (n : Nat) : ∀ (a1 : Int32) (J : Ji) , M_expression_L23 F k12 n a1 J = some out → Wk X 0 0 (RM D th J K) 23 [(0, .ref th), (1, .int a1)] [] := by
  induction n with
  | zero => intro a1 J h; cases h
  | succ n ih => intro a1 J h; exact w_M_expression_B23 hM hR F k12 hk12 (M_expression_L23 F k12 n) ih a1 J h
set_option maxHeartbeats 4000000 in
theorem w_M_expression_B12 {X : Ctx} {D : Dd} {th : Nat} {K : Jl} {out : Ji} (hM : Mx X cX8_expression D th 3 rmM_expression) (hR : Rt X none (RM D th out K) none 0 0) (F : Nat) (k12 : Int32 → Int32 → Ji → Option (Ji)) (hk12 : ∀ (a1 : Int32) (a2 : Int32) (J : Ji) , k12 a1 a2 J = some out → Wk X 0 0 (RM D th J K) 12 [(0, .ref th), (1, .int a1), (2, .int a2)] []) (a1 : Int32) (a2 : Int32) (J : Ji) (hE : M_expression_B12 F k12 a1 a2 J = some out) : Wk X 0 0 (RM D th J K) 12 [(0, .ref th), (1, .int a1), (2, .int a2)] [] := by
  have hC := hM.1
  have hnL := hM.2.2.1
  have hrm := hM.2.2.2
  unfold M_expression_B12 at hE
  refine k_iload_n (pc := 12) hC dX8_expression_12 rfl 2 rfl ?_
  refine k_if_eq (pc := 13) (tgt := 272) hC dX8_expression_13 (by decide) hE (fun hE => ?_) (fun hE => ?_)
  · exact k_vret (pc := 272) hC hR ⟨Nat.le_refl 0, Nat.le_refl 0⟩ dX8_expression_272 (by cases hE; rfl) (by cases hE; exact fun _ h => h)
  · refine k_aload_n (pc := 16) hC dX8_expression_16 rfl 0 rfl ?_
    refine gM_13 (pc := 17) hM dX8_expression_17 ?_
    refine k_if_ne (pc := 20) (tgt := 272) hC dX8_expression_20 (by decide) hE (fun hE => ?_) (fun hE => ?_)
    · refine k_sub [0, 1] rfl ?_
      exact w_M_expression_L23 hM hR F k12 hk12 _ _ _ hE
    · exact k_vret (pc := 272) hC hR ⟨Nat.le_refl 0, Nat.le_refl 0⟩ dX8_expression_272 (by cases hE; rfl) (by cases hE; exact fun _ h => h)
theorem w_M_expression_L12 {X : Ctx} {D : Dd} {th : Nat} {K : Jl} {out : Ji} (hM : Mx X cX8_expression D th 3 rmM_expression) (hR : Rt X none (RM D th out K) none 0 0) (F : Nat) (n : Nat) : ∀ (a1 : Int32) (a2 : Int32) (J : Ji) , M_expression_L12 F n a1 a2 J = some out → Wk X 0 0 (RM D th J K) 12 [(0, .ref th), (1, .int a1), (2, .int a2)] [] := by
  induction n with
  | zero => intro a1 a2 J h; cases h
  | succ n ih => intro a1 a2 J h; exact w_M_expression_B12 hM hR F (M_expression_L12 F n) ih a1 a2 J h
set_option maxHeartbeats 4000000 in
theorem w_M_expression {X : Ctx} {D : Dd} {th : Nat} {K : Jl} {out : Ji} (hM : Mx X cX8_expression D th 3 rmM_expression) (hR : Rt X none (RM D th out K) none 0 0) (F : Nat) (J : Ji) (hE : M_expression F J = some out) : Wk X 0 0 (RM D th J K) 0 [(0, .ref th)] [] := by
  have hC := hM.1
  have hnL := hM.2.2.1
  have hrm := hM.2.2.2
  unfold M_expression at hE
  refine k_aload_n (pc := 0) hC dX8_expression_0 rfl 0 rfl ?_
  refine k_iconst (pc := 1) (v := 0) hC dX8_expression_1 (by decide) ?_
  refine pM_60 (pc := 2) hM dX8_expression_2 hE (fun J1 hE => ?_)
  refine k_aload_n (pc := 5) hC dX8_expression_5 rfl 0 rfl ?_
  refine gM_12 (pc := 6) hM dX8_expression_6 ?_
  refine k_istoreE_n (pc := 9) (lv' := fun x2 => [(1, .int x2), (0, .ref th)]) hC dX8_expression_9 rfl (by rw [hnL]; decide) hE (fun _ => rfl) (fun x2 hE => ?_)
  refine k_iconst (pc := 10) (v := 1) hC dX8_expression_10 (by decide) ?_
  refine k_istore_n (pc := 11) (lv' := [(2, .int 1), (1, .int x2), (0, .ref th)]) hC dX8_expression_11 rfl (by rw [hnL]; decide) rfl ?_
  refine k_sub [2, 1, 0] rfl ?_
  exact w_M_expression_L12 hM hR F _ _ _ _ hE
theorem ct_M_expression (l : Launch) (D : Dd) (A : Nat → Prop) (th : Nat) (hA : ∀ (off : Nat) (kd : Kd), layM off = some kd → A (th + off)) (F : Nat) (J : Ji) (K : Jl) (out : Ji) (hE : M_expression F J = some out) : Ct l yX8_expression (ws_ yX8_expression cX8_expression 3 none) rmM_expression vwCl arTy D A [.ref th] (RM D th J K) (RM D th out K) none 0 0 := by
  refine Ct.of (by decide) (Nat.le_of_ble_eq_true rfl) rfl ?_
  intro X hl hrm hC hR hXA hnL _
  exact w_M_expression ⟨hC, by unfold Ft; rw [hXA]; exact hA, hnL, hrm⟩ hR F J hE
theorem cw_M_expression {X : Ctx} {cc : ByteArray} {D : Dd} {th mL : Nat} {rm : Room} (hM : Mx X cc D th mL rm) (h1 : rmM_expression.frames + 1 ≤ rm.frames) (h2 : 8 + (3 + 11) + rmM_expression.locals ≤ rm.locals) : CallW X.2.2.2.1 X.2.2.2.2.1 X.2.2.2.2.2.2.1 RX8 RX8 354 yX8_expression cX8_expression 3 none (ws_ yX8_expression cX8_expression 3 none) rmM_expression 0 0 0 := cwV 0 (cx_w hM.1) (lw_V q1918 q1920 qs75 q128 q1921) rfl rfl rfl (by decide +kernel) (by rw [hM.2.2.2]; exact ⟨h1, h2⟩)
abbrev rmM_term : Room := { frames := 4, cells := 0, slots := 0, locals := 83 }
set_option maxHeartbeats 4000000 in
theorem w_M_term_B24 {X : Ctx} {D : Dd} {th : Nat} {K : Jl} {out : Ji} (hM : Mx X cX8_term D th 1 rmM_term) (hR : Rt X none (RM D th out K) none 0 0) (F : Nat) (J : Ji) (hE : M_term_B24 F J = some out) : Wk X 0 0 (RM D th J K) 24 [(0, .ref th)] [] := by
  have hC := hM.1
  have hnL := hM.2.2.1
  have hrm := hM.2.2.2
  unfold M_term_B24 at hE
  refine k_aload_n (pc := 24) hC dX8_term_24 rfl 0 rfl ?_
  refine gM_54 (pc := 25) hM dX8_term_25 ?_
  refine k_aload_n (pc := 28) hC dX8_term_28 rfl 0 rfl ?_
  refine gM_49 (pc := 29) hM dX8_term_29 ?_
  refine k_aload_n (pc := 32) hC dX8_term_32 rfl 0 rfl ?_
  refine gM_56 (pc := 33) hM dX8_term_33 ?_
  refine m_iast (pc := 36) 40 ly_40 hM dX8_term_36 hE (fun J3 hE => ?_)
  refine k_aload_n (pc := 37) hC dX8_term_37 rfl 0 rfl ?_
  refine k_dup (pc := 38) hC dX8_term_38 rfl ?_
  refine gM_49 (pc := 39) hM dX8_term_39 ?_
  refine k_iconst (pc := 42) (v := 1) hC dX8_term_42 (by decide) ?_
  refine k_iadd (pc := 43) hC dX8_term_43 ?_
  refine pM_49 (pc := 44) hM dX8_term_44 hE (fun J4 hE => ?_)
  exact k_vret (pc := 47) hC hR ⟨Nat.le_refl 0, Nat.le_refl 0⟩ dX8_term_47 (by cases hE; rfl) (by cases hE; exact fun _ h => h)
set_option maxHeartbeats 4000000 in
theorem w_M_term {X : Ctx} {D : Dd} {th : Nat} {K : Jl} {out : Ji} (hM : Mx X cX8_term D th 1 rmM_term) (hR : Rt X none (RM D th out K) none 0 0) (F : Nat) (J : Ji) (hE : M_term F J = some out) : Wk X 0 0 (RM D th J K) 0 [(0, .ref th)] [] := by
  have hC := hM.1
  have hnL := hM.2.2.1
  have hrm := hM.2.2.2
  unfold M_term at hE
  refine k_aload_n (pc := 0) hC dX8_term_0 rfl 0 rfl ?_
  refine gM_53 (pc := 1) hM dX8_term_1 ?_
  refine k_aload_n (pc := 4) hC dX8_term_4 rfl 0 rfl ?_
  refine gM_49 (pc := 5) hM dX8_term_5 ?_
  refine k_aload_n (pc := 8) hC dX8_term_8 rfl 0 rfl ?_
  refine gM_56 (pc := 9) hM dX8_term_9 ?_
  refine m_iast (pc := 12) 39 ly_39 hM dX8_term_12 hE (fun J1 hE => ?_)
  refine k_aload_n (pc := 13) hC dX8_term_13 rfl 0 rfl ?_
  refine gM_13 (pc := 14) hM dX8_term_14 ?_
  refine k_if_ne (pc := 17) (tgt := 24) hC dX8_term_17 (by decide) hE (fun hE => ?_) (fun hE => ?_)
  · refine k_aload_n (pc := 20) hC dX8_term_20 rfl 0 rfl ?_
    refine m_clVj (pc := 21) (As := []) hM (cw_M_expression hM (Nat.le_of_ble_eq_true rfl) (Nat.le_of_ble_eq_true rfl)) rfl rfl (Nat.le_of_ble_eq_true rfl) dX8_term_21 hE (fun r h => ct_M_expression _ _ _ _ hM.2.1 F J1 K r h) (fun r2 hE => ?_)
    exact w_M_term_B24 hM hR F _ hE
  · exact w_M_term_B24 hM hR F _ hE
theorem ct_M_term (l : Launch) (D : Dd) (A : Nat → Prop) (th : Nat) (hA : ∀ (off : Nat) (kd : Kd), layM off = some kd → A (th + off)) (F : Nat) (J : Ji) (K : Jl) (out : Ji) (hE : M_term F J = some out) : Ct l yX8_term (ws_ yX8_term cX8_term 1 none) rmM_term vwCl arTy D A [.ref th] (RM D th J K) (RM D th out K) none 0 0 := by
  refine Ct.of (by decide) (Nat.le_of_ble_eq_true rfl) rfl ?_
  intro X hl hrm hC hR hXA hnL _
  exact w_M_term ⟨hC, by unfold Ft; rw [hXA]; exact hA, hnL, hrm⟩ hR F J hE
theorem cw_M_term {X : Ctx} {cc : ByteArray} {D : Dd} {th mL : Nat} {rm : Room} (hM : Mx X cc D th mL rm) (h1 : rmM_term.frames + 1 ≤ rm.frames) (h2 : 8 + (1 + 11) + rmM_term.locals ≤ rm.locals) : CallW X.2.2.2.1 X.2.2.2.2.1 X.2.2.2.2.2.2.1 RX8 RX8 357 yX8_term cX8_term 1 none (ws_ yX8_term cX8_term 1 none) rmM_term 0 0 0 := cwV 0 (cx_w hM.1) (lw_V q1934 q1936 qs79 q128 q1937) rfl rfl rfl (by decide +kernel) (by rw [hM.2.2.2]; exact ⟨h1, h2⟩)
abbrev rmM_tellLaw : Room := { frames := 5, cells := 0, slots := 0, locals := 103 }
set_option maxHeartbeats 4000000 in
theorem w_M_tellLaw_B135 {X : Ctx} {D : Dd} {th : Nat} {K : Jl} {out : Ji} (hM : Mx X cX8_tellLaw D th 4 rmM_tellLaw) (hR : Rt X none (RM D th out K) none 0 0) (F : Nat) (a1 : Int32) (a2 : Int32) (J : Ji) (hE : M_tellLaw_B135 F K a1 a2 J = some out) : Wk X 0 0 (RM D th J K) 135 [(0, .ref th), (1, .int a1), (2, .int a2)] [] := by
  have hC := hM.1
  have hnL := hM.2.2.1
  have hrm := hM.2.2.2
  unfold M_tellLaw_B135 at hE
  refine k_aload_n (pc := 135) hC dX8_tellLaw_135 rfl 0 rfl ?_
  refine gM_50 (pc := 136) hM dX8_tellLaw_136 ?_
  refine k_aload_n (pc := 139) hC dX8_tellLaw_139 rfl 0 rfl ?_
  refine gM_49 (pc := 140) hM dX8_tellLaw_140 ?_
  refine k_iconst (pc := 143) (v := 0) hC dX8_tellLaw_143 (by decide) ?_
  refine m_zast (pc := 144) 36 ly_36 hM dX8_tellLaw_144 hE (fun J17 hE => ?_)
  refine k_aload_n (pc := 145) hC dX8_tellLaw_145 rfl 0 rfl ?_
  refine m_clVj (pc := 146) (As := []) hM (cw_M_term hM (Nat.le_of_ble_eq_true rfl) (Nat.le_of_ble_eq_true rfl)) rfl rfl (Nat.le_of_ble_eq_true rfl) dX8_tellLaw_146 hE (fun r h => ct_M_term _ _ _ _ hM.2.1 F J17 K r h) (fun r18 hE => ?_)
  refine k_aload_n (pc := 149) hC dX8_tellLaw_149 rfl 0 rfl ?_
  refine k_iconst (pc := 150) (v := 4) hC dX8_tellLaw_150 (by decide) ?_
  refine m_clVj (pc := 151) (As := [.int 4]) hM (cw_M_must hM (Nat.le_of_ble_eq_true rfl) (Nat.le_of_ble_eq_true rfl)) rfl rfl (Nat.le_of_ble_eq_true rfl) dX8_tellLaw_151 hE (fun r h => ct_M_must _ _ _ _ hM.2.1 4 r18 K r h) (fun r19 hE => ?_)
  refine k_aload_n (pc := 154) hC dX8_tellLaw_154 rfl 0 rfl ?_
  refine gM_13 (pc := 155) hM dX8_tellLaw_155 ?_
  refine k_if_le (pc := 158) (tgt := 162) hC dX8_tellLaw_158 (by decide) hE (fun hE => ?_) (fun hE => ?_)
  · refine k_aload_n (pc := 162) hC dX8_tellLaw_162 rfl 0 rfl ?_
    refine gM_46 (pc := 163) hM dX8_tellLaw_163 ?_
    refine k_aload_n (pc := 166) hC dX8_tellLaw_166 rfl 0 rfl ?_
    refine gM_19 (pc := 167) hM dX8_tellLaw_167 ?_
    refine k_dup2 (pc := 170) hC dX8_tellLaw_170 rfl rfl ?_
    refine m_iald (pc := 171) 33 ly_33 hM dX8_tellLaw_171 hE (fun x20 hE => ?_)
    refine k_iconst (pc := 172) (v := 1) hC dX8_tellLaw_172 (by decide) ?_
    refine k_iadd (pc := 173) hC dX8_tellLaw_173 ?_
    refine m_iast (pc := 174) 33 ly_33 hM dX8_tellLaw_174 hE (fun J21 hE => ?_)
    refine k_iload_n (pc := 175) hC dX8_tellLaw_175 rfl 1 rfl ?_
    refine k_if_ge (pc := 176) (tgt := 180) hC dX8_tellLaw_176 (by decide) hE (fun hE => ?_) (fun hE => ?_)
    · refine k_aload_n (pc := 180) hC dX8_tellLaw_180 rfl 0 rfl ?_
      refine gM_47 (pc := 181) hM dX8_tellLaw_181 ?_
      refine k_bipush (pc := 184) (v := 6) hC dX8_tellLaw_184 (by decide) ?_
      refine k_aload_n (pc := 186) hC dX8_tellLaw_186 rfl 0 rfl ?_
      refine gM_19 (pc := 187) hM dX8_tellLaw_187 ?_
      refine k_imul (pc := 190) hC dX8_tellLaw_190 ?_
      refine k_iload_n (pc := 191) hC dX8_tellLaw_191 rfl 1 rfl ?_
      refine k_iadd (pc := 192) hC dX8_tellLaw_192 ?_
      refine k_iload_n (pc := 193) hC dX8_tellLaw_193 rfl 2 rfl ?_
      refine m_iast (pc := 194) 34 ly_34 hM dX8_tellLaw_194 hE (fun J22 hE => ?_)
      refine k_aload_n (pc := 195) hC dX8_tellLaw_195 rfl 0 rfl ?_
      refine gM_48 (pc := 196) hM dX8_tellLaw_196 ?_
      refine k_bipush (pc := 199) (v := 6) hC dX8_tellLaw_199 (by decide) ?_
      refine k_aload_n (pc := 201) hC dX8_tellLaw_201 rfl 0 rfl ?_
      refine gM_19 (pc := 202) hM dX8_tellLaw_202 ?_
      refine k_imul (pc := 205) hC dX8_tellLaw_205 ?_
      refine k_iload_n (pc := 206) hC dX8_tellLaw_206 rfl 1 rfl ?_
      refine k_iadd (pc := 207) hC dX8_tellLaw_207 ?_
      refine k_aload_n (pc := 208) hC dX8_tellLaw_208 rfl 0 rfl ?_
      refine gM_49 (pc := 209) hM dX8_tellLaw_209 ?_
      refine m_iast (pc := 212) 35 ly_35 hM dX8_tellLaw_212 hE (fun J23 hE => ?_)
      exact k_vret (pc := 213) hC hR ⟨Nat.le_refl 0, Nat.le_refl 0⟩ dX8_tellLaw_213 (by cases hE; rfl) (by cases hE; exact fun _ h => h)
    · exact k_vret (pc := 179) hC hR ⟨Nat.le_refl 0, Nat.le_refl 0⟩ dX8_tellLaw_179 (by cases hE; rfl) (by cases hE; exact fun _ h => h)
  · exact k_vret (pc := 161) hC hR ⟨Nat.le_refl 0, Nat.le_refl 0⟩ dX8_tellLaw_161 (by cases hE; rfl) (by cases hE; exact fun _ h => h)
set_option maxHeartbeats 4000000 in
theorem w_M_tellLaw_B116 {X : Ctx} {D : Dd} {th : Nat} {K : Jl} {out : Ji} (hM : Mx X cX8_tellLaw D th 4 rmM_tellLaw) (hR : Rt X none (RM D th out K) none 0 0) (F : Nat) (k18 : Int32 → Int32 → Int32 → Ji → Option (Ji)) (hk18 : ∀ (a1 : Int32) (a2 : Int32) (a3 : Int32) (J : Ji) , k18 a1 a2 a3 J = some out → Wk X 0 0 (RM D th J K) 18 [(0, .ref th), (1, .int a1), (2, .int a2), (3, .int a3)] []) (a1 : Int32) (a2 : Int32) (a3 : Int32) (J : Ji) (hE : M_tellLaw_B116 F k18 K a1 a2 a3 J = some out) : Wk X 0 0 (RM D th J K) 116 [(0, .ref th), (1, .int a1), (2, .int a2), (3, .int a3)] [] := by
  have hC := hM.1
  have hnL := hM.2.2.1
  have hrm := hM.2.2.2
  unfold M_tellLaw_B116 at hE
  refine k_aload_n (pc := 116) hC dX8_tellLaw_116 rfl 0 rfl ?_
  refine k_bipush (pc := 117) (v := 32) hC dX8_tellLaw_117 (by decide) ?_
  refine m_clVj (pc := 119) (As := [.int 32]) hM (cw_M_must hM (Nat.le_of_ble_eq_true rfl) (Nat.le_of_ble_eq_true rfl)) rfl rfl (Nat.le_of_ble_eq_true rfl) dX8_tellLaw_119 hE (fun r h => ct_M_must _ _ _ _ hM.2.1 32 J K r h) (fun r14 hE => ?_)
  refine k_aload_n (pc := 122) hC dX8_tellLaw_122 rfl 0 rfl ?_
  refine m_clVj (pc := 123) (As := []) hM (cw_M_term hM (Nat.le_of_ble_eq_true rfl) (Nat.le_of_ble_eq_true rfl)) rfl rfl (Nat.le_of_ble_eq_true rfl) dX8_tellLaw_123 hE (fun r h => ct_M_term _ _ _ _ hM.2.1 F r14 K r h) (fun r15 hE => ?_)
  refine k_aload_n (pc := 126) hC dX8_tellLaw_126 rfl 0 rfl ?_
  refine k_bipush (pc := 127) (v := 33) hC dX8_tellLaw_127 (by decide) ?_
  refine m_clVj (pc := 129) (As := [.int 33]) hM (cw_M_must hM (Nat.le_of_ble_eq_true rfl) (Nat.le_of_ble_eq_true rfl)) rfl rfl (Nat.le_of_ble_eq_true rfl) dX8_tellLaw_129 hE (fun r h => ct_M_must _ _ _ _ hM.2.1 33 r15 K r h) (fun r16 hE => ?_)
  refine k_goto (pc := 132) (tgt := 18) hC dX8_tellLaw_132 (by decide) ?_
  exact hk18 _ _ _ _ hE
set_option maxHeartbeats 4000000 in
theorem w_M_tellLaw_B44 {X : Ctx} {D : Dd} {th : Nat} {K : Jl} {out : Ji} (hM : Mx X cX8_tellLaw D th 4 rmM_tellLaw) (hR : Rt X none (RM D th out K) none 0 0) (F : Nat) (k18 : Int32 → Int32 → Int32 → Ji → Option (Ji)) (hk18 : ∀ (a1 : Int32) (a2 : Int32) (a3 : Int32) (J : Ji) , k18 a1 a2 a3 J = some out → Wk X 0 0 (RM D th J K) 18 [(0, .ref th), (1, .int a1), (2, .int a2), (3, .int a3)] []) (a1 : Int32) (a2 : Int32) (a3 : Int32) (J : Ji) (hE : M_tellLaw_B44 F k18 K a1 a2 a3 J = some out) : Wk X 0 0 (RM D th J K) 44 [(0, .ref th), (1, .int a1), (2, .int a2), (3, .int a3)] [] := by
  have hC := hM.1
  have hnL := hM.2.2.1
  have hrm := hM.2.2.2
  unfold M_tellLaw_B44 at hE
  refine k_aload_n (pc := 44) hC dX8_tellLaw_44 rfl 0 rfl ?_
  refine gM_13 (pc := 45) hM dX8_tellLaw_45 ?_
  refine k_if_le (pc := 48) (tgt := 52) hC dX8_tellLaw_48 (by decide) hE (fun hE => ?_) (fun hE => ?_)
  · refine k_iincE (pc := 52) (k := 3) (d := 1) (lv' := fun x6 => [(3, .int x6), (0, .ref th), (1, .int a1), (2, .int a2)]) hC dX8_tellLaw_52 rfl (by decide) (by rw [hnL]; decide) hE (fun _ => rfl) (fun x6 hE => ?_)
    refine k_aload_n (pc := 55) hC dX8_tellLaw_55 rfl 1 rfl ?_
    refine m_clVj (pc := 56) (As := []) hM (cw_M_goesOn hM (Nat.le_of_ble_eq_true rfl) (Nat.le_of_ble_eq_true rfl)) rfl rfl (Nat.le_of_ble_eq_true rfl) dX8_tellLaw_56 hE (fun r h => ct_M_goesOn _ _ _ _ hM.2.1  J K r h) (fun r7 hE => ?_)
    refine k_aload_n (pc := 59) hC dX8_tellLaw_59 rfl 1 rfl ?_
    refine gM_50 (pc := 60) hM dX8_tellLaw_60 ?_
    refine k_aload_n (pc := 63) hC dX8_tellLaw_63 rfl 1 rfl ?_
    refine gM_49 (pc := 64) hM dX8_tellLaw_64 ?_
    refine k_iconst (pc := 67) (v := 1) hC dX8_tellLaw_67 (by decide) ?_
    refine m_zast (pc := 68) 36 ly_36 hM dX8_tellLaw_68 hE (fun J8 hE => ?_)
    refine k_aload_n (pc := 69) hC dX8_tellLaw_69 rfl 1 rfl ?_
    refine gM_51 (pc := 70) hM dX8_tellLaw_70 ?_
    refine k_aload_n (pc := 73) hC dX8_tellLaw_73 rfl 1 rfl ?_
    refine gM_49 (pc := 74) hM dX8_tellLaw_74 ?_
    refine k_aload_n (pc := 77) hC dX8_tellLaw_77 rfl 1 rfl ?_
    refine gM_56 (pc := 78) hM dX8_tellLaw_78 ?_
    refine m_iast (pc := 81) 37 ly_37 hM dX8_tellLaw_81 hE (fun J9 hE => ?_)
    refine k_aload_n (pc := 82) hC dX8_tellLaw_82 rfl 1 rfl ?_
    refine m_clVj (pc := 83) (As := []) hM (cw_M_expression hM (Nat.le_of_ble_eq_true rfl) (Nat.le_of_ble_eq_true rfl)) rfl rfl (Nat.le_of_ble_eq_true rfl) dX8_tellLaw_83 hE (fun r h => ct_M_expression _ _ _ _ hM.2.1 F J9 K r h) (fun r10 hE => ?_)
    refine k_aload_n (pc := 86) hC dX8_tellLaw_86 rfl 1 rfl ?_
    refine k_bipush (pc := 87) (v := 13) hC dX8_tellLaw_87 (by decide) ?_
    refine m_clVj (pc := 89) (As := [.int 13]) hM (cw_M_must hM (Nat.le_of_ble_eq_true rfl) (Nat.le_of_ble_eq_true rfl)) rfl rfl (Nat.le_of_ble_eq_true rfl) dX8_tellLaw_89 hE (fun r h => ct_M_must _ _ _ _ hM.2.1 13 r10 K r h) (fun r11 hE => ?_)
    refine k_aload_n (pc := 92) hC dX8_tellLaw_92 rfl 1 rfl ?_
    refine gM_52 (pc := 93) hM dX8_tellLaw_93 ?_
    refine k_aload_n (pc := 96) hC dX8_tellLaw_96 rfl 1 rfl ?_
    refine gM_49 (pc := 97) hM dX8_tellLaw_97 ?_
    refine k_aload_n (pc := 100) hC dX8_tellLaw_100 rfl 1 rfl ?_
    refine gM_56 (pc := 101) hM dX8_tellLaw_101 ?_
    refine m_iast (pc := 104) 38 ly_38 hM dX8_tellLaw_104 hE (fun J12 hE => ?_)
    refine k_aload_n (pc := 105) hC dX8_tellLaw_105 rfl 1 rfl ?_
    refine gM_13 (pc := 106) hM dX8_tellLaw_106 ?_
    refine k_if_ne (pc := 109) (tgt := 116) hC dX8_tellLaw_109 (by decide) hE (fun hE => ?_) (fun hE => ?_)
    · refine k_aload_n (pc := 112) hC dX8_tellLaw_112 rfl 1 rfl ?_
      refine m_clVj (pc := 113) (As := []) hM (cw_M_expression hM (Nat.le_of_ble_eq_true rfl) (Nat.le_of_ble_eq_true rfl)) rfl rfl (Nat.le_of_ble_eq_true rfl) dX8_tellLaw_113 hE (fun r h => ct_M_expression _ _ _ _ hM.2.1 F J12 K r h) (fun r13 hE => ?_)
      refine k_sub [1, 2, 3, 0] rfl ?_
      exact w_M_tellLaw_B116 hM hR F k18 hk18 _ _ _ _ hE
    · refine k_sub [1, 2, 3, 0] rfl ?_
      exact w_M_tellLaw_B116 hM hR F k18 hk18 _ _ _ _ hE
  · exact k_vret (pc := 51) hC hR ⟨Nat.le_refl 0, Nat.le_refl 0⟩ dX8_tellLaw_51 (by cases hE; rfl) (by cases hE; exact fun _ h => h)
set_option maxHeartbeats 4000000 in
theorem w_M_tellLaw_B18 {X : Ctx} {D : Dd} {th : Nat} {K : Jl} {out : Ji} (hM : Mx X cX8_tellLaw D th 4 rmM_tellLaw) (hR : Rt X none (RM D th out K) none 0 0) (F : Nat) (k18 : Int32 → Int32 → Int32 → Ji → Option (Ji)) (hk18 : ∀ (a1 : Int32) (a2 : Int32) (a3 : Int32) (J : Ji) , k18 a1 a2 a3 J = some out → Wk X 0 0 (RM D th J K) 18 [(0, .ref th), (1, .int a1), (2, .int a2), (3, .int a3)] []) (a1 : Int32) (a2 : Int32) (a3 : Int32) (J : Ji) (hE : M_tellLaw_B18 F k18 K a1 a2 a3 J = some out) : Wk X 0 0 (RM D th J K) 18 [(0, .ref th), (1, .int a1), (2, .int a2), (3, .int a3)] [] := by
  have hC := hM.1
  have hnL := hM.2.2.1
  have hrm := hM.2.2.2
  unfold M_tellLaw_B18 at hE
  refine k_aload_n (pc := 18) hC dX8_tellLaw_18 rfl 0 rfl ?_
  refine gM_13 (pc := 19) hM dX8_tellLaw_19 ?_
  refine k_if_ne (pc := 22) (tgt := 135) hC dX8_tellLaw_22 (by decide) hE (fun hE => ?_) (fun hE => ?_)
  · refine k_aload_n (pc := 25) hC dX8_tellLaw_25 rfl 0 rfl ?_
    refine k_bipush (pc := 26) (v := 31) hC dX8_tellLaw_26 (by decide) ?_
    refine m_clI (pc := 28) (As := [.int 31]) hM (cw_M_is hM (Nat.le_of_ble_eq_true rfl) (Nat.le_of_ble_eq_true rfl)) rfl rfl (Nat.le_of_ble_eq_true rfl) dX8_tellLaw_28 hE (fun r h => ct_M_is _ _ _ _ hM.2.1 31 J K r h) (fun r4 hE => ?_)
    refine k_if_eq (pc := 31) (tgt := 135) hC dX8_tellLaw_31 (by decide) hE (fun hE => ?_) (fun hE => ?_)
    · refine k_sub [0, 1, 2] rfl ?_
      exact w_M_tellLaw_B135 hM hR F _ _ _ hE
    · refine k_iload_n (pc := 34) hC dX8_tellLaw_34 rfl 3 rfl ?_
      refine k_iconst (pc := 35) (v := 4) hC dX8_tellLaw_35 (by decide) ?_
      refine k_icmp_ne (pc := 36) (tgt := 44) hC dX8_tellLaw_36 (by decide) hE (fun hE => ?_) (fun hE => ?_)
      · refine k_aload_n (pc := 39) hC dX8_tellLaw_39 rfl 0 rfl ?_
        refine k_iconst (pc := 40) (v := 2) hC dX8_tellLaw_40 (by decide) ?_
        refine m_clVj (pc := 41) (As := [.int 2]) hM (cw_M_fail hM (Nat.le_of_ble_eq_true rfl) (Nat.le_of_ble_eq_true rfl)) rfl rfl (Nat.le_of_ble_eq_true rfl) dX8_tellLaw_41 hE (fun r h => ct_M_fail _ _ _ _ hM.2.1 2 J K r h) (fun r5 hE => ?_)
        exact w_M_tellLaw_B44 hM hR F k18 hk18 _ _ _ _ hE
      · exact w_M_tellLaw_B44 hM hR F k18 hk18 _ _ _ _ hE
  · refine k_sub [0, 1, 2] rfl ?_
    exact w_M_tellLaw_B135 hM hR F _ _ _ hE
theorem w_M_tellLaw_L18 {X : Ctx} {D : Dd} {th : Nat} {K : Jl} {out : Ji} (hM : Mx X cX8_tellLaw D th 4 rmM_tellLaw) (hR : Rt X none (RM D th out K) none 0 0) (F : Nat) (n : Nat) : ∀ (a1 : Int32) (a2 : Int32) (a3 : Int32) (J : Ji) , M_tellLaw_L18 F K n a1 a2 a3 J = some out → Wk X 0 0 (RM D th J K) 18 [(0, .ref th), (1, .int a1), (2, .int a2), (3, .int a3)] [] := by
  induction n with
  | zero => intro a1 a2 a3 J h; cases h
  | succ n ih => intro a1 a2 a3 J h; exact w_M_tellLaw_B18 hM hR F (M_tellLaw_L18 F K n) ih a1 a2 a3 J h
set_option maxHeartbeats 4000000 in
theorem w_M_tellLaw {X : Ctx} {D : Dd} {th : Nat} {K : Jl} {out : Ji} (hM : Mx X cX8_tellLaw D th 4 rmM_tellLaw) (hR : Rt X none (RM D th out K) none 0 0) (F : Nat) (J : Ji) (hE : M_tellLaw F K J = some out) : Wk X 0 0 (RM D th J K) 0 [(0, .ref th)] [] := by
  have hC := hM.1
  have hnL := hM.2.2.1
  have hrm := hM.2.2.2
  unfold M_tellLaw at hE
  refine k_aload_n (pc := 0) hC dX8_tellLaw_0 rfl 0 rfl ?_
  refine k_iconst (pc := 1) (v := 3) hC dX8_tellLaw_1 (by decide) ?_
  refine m_clIj (pc := 2) (As := [.int 3]) hM (cw_M_known hM (Nat.le_of_ble_eq_true rfl) (Nat.le_of_ble_eq_true rfl)) rfl rfl (Nat.le_of_ble_eq_true rfl) dX8_tellLaw_2 hE (fun r h => ct_M_known _ _ _ _ hM.2.1 F 3 J K r h) (fun r1 hE => ?_)
  refine k_istore_n (pc := 5) (lv' := [(1, .int r1.1), (0, .ref th)]) hC dX8_tellLaw_5 rfl (by rw [hnL]; decide) rfl ?_
  refine k_aload_n (pc := 6) hC dX8_tellLaw_6 rfl 1 rfl ?_
  refine k_iconst (pc := 7) (v := 5) hC dX8_tellLaw_7 (by decide) ?_
  refine m_clVj (pc := 8) (As := [.int 5]) hM (cw_M_must hM (Nat.le_of_ble_eq_true rfl) (Nat.le_of_ble_eq_true rfl)) rfl rfl (Nat.le_of_ble_eq_true rfl) dX8_tellLaw_8 hE (fun r h => ct_M_must _ _ _ _ hM.2.1 5 r1.2 K r h) (fun r2 hE => ?_)
  refine k_aload_n (pc := 11) hC dX8_tellLaw_11 rfl 1 rfl ?_
  refine gM_49 (pc := 12) hM dX8_tellLaw_12 ?_
  refine k_istoreE_n (pc := 15) (lv' := fun x3 => [(2, .int x3), (1, .int r1.1), (0, .ref th)]) hC dX8_tellLaw_15 rfl (by rw [hnL]; decide) hE (fun _ => rfl) (fun x3 hE => ?_)
  refine k_iconst (pc := 16) (v := 0) hC dX8_tellLaw_16 (by decide) ?_
  refine k_istore_n (pc := 17) (lv' := [(3, .int 0), (2, .int x3), (1, .int r1.1), (0, .ref th)]) hC dX8_tellLaw_17 rfl (by rw [hnL]; decide) rfl ?_
  refine k_sub [3, 2, 1, 0] rfl ?_
  exact w_M_tellLaw_L18 hM hR F _ _ _ _ _ hE
theorem ct_M_tellLaw (l : Launch) (D : Dd) (A : Nat → Prop) (th : Nat) (hA : ∀ (off : Nat) (kd : Kd), layM off = some kd → A (th + off)) (F : Nat) (J : Ji) (K : Jl) (out : Ji) (hE : M_tellLaw F K J = some out) : Ct l yX8_tellLaw (ws_ yX8_tellLaw cX8_tellLaw 4 none) rmM_tellLaw vwCl arTy D A [.ref th] (RM D th J K) (RM D th out K) none 0 0 := by
  refine Ct.of (by decide) (Nat.le_of_ble_eq_true rfl) rfl ?_
  intro X hl hrm hC hR hXA hnL _
  exact w_M_tellLaw ⟨hC, by unfold Ft; rw [hXA]; exact hA, hnL, hrm⟩ hR F J hE
theorem cw_M_tellLaw {X : Ctx} {cc : ByteArray} {D : Dd} {th mL : Nat} {rm : Room} (hM : Mx X cc D th mL rm) (h1 : rmM_tellLaw.frames + 1 ≤ rm.frames) (h2 : 8 + (4 + 11) + rmM_tellLaw.locals ≤ rm.locals) : CallW X.2.2.2.1 X.2.2.2.2.1 X.2.2.2.2.2.2.1 RX8 RX8 327 yX8_tellLaw cX8_tellLaw 4 none (ws_ yX8_tellLaw cX8_tellLaw 4 none) rmM_tellLaw 0 0 0 := cwV 0 (cx_w hM.1) (lw_V q1914 q1916 qs74 q128 q1917) rfl rfl rfl (by decide +kernel) (by rw [hM.2.2.2]; exact ⟨h1, h2⟩)
abbrev rmM_named : Room := { frames := 3, cells := 0, slots := 0, locals := 62 }
set_option maxHeartbeats 4000000 in
theorem w_M_named_B12 {X : Ctx} {D : Dd} {th : Nat} {K : Jl} {out : Int32 × Ji} (hM : Mx X cX8_named D th 3 rmM_named) (hR : Rt X (some .int) (RM D th out.2 K) (some (.int out.1)) 0 0) (F : Nat) (k12 : Int32 → Int32 → Ji → Option (Int32 × Ji)) (hk12 : ∀ (a1 : Int32) (a2 : Int32) (J : Ji) , k12 a1 a2 J = some out → Wk X 0 0 (RM D th J K) 12 [(0, .ref th), (1, .int a1), (2, .int a2)] []) (a1 : Int32) (a2 : Int32) (J : Ji) (hE : M_named_B12 F k12 K a1 a2 J = some out) : Wk X 0 0 (RM D th J K) 12 [(0, .ref th), (1, .int a1), (2, .int a2)] [] := by
  have hC := hM.1
  have hnL := hM.2.2.1
  have hrm := hM.2.2.2
  unfold M_named_B12 at hE
  refine k_iload_n (pc := 12) hC dX8_named_12 rfl 2 rfl ?_
  refine k_aload_n (pc := 13) hC dX8_named_13 rfl 0 rfl ?_
  refine gM_20 (pc := 14) hM dX8_named_14 ?_
  refine k_icmp_ge (pc := 17) (tgt := 55) hC dX8_named_17 (by decide) hE (fun hE => ?_) (fun hE => ?_)
  · refine k_iload_n (pc := 55) hC dX8_named_55 rfl 1 rfl ?_
    exact k_iret (pc := 56) hC hR ⟨Nat.le_refl 0, Nat.le_refl 0⟩ dX8_named_56 (by cases hE; rfl) (by cases hE; exact fun _ h => h)
  · refine k_aload_n (pc := 20) hC dX8_named_20 rfl 0 rfl ?_
    refine gM_13 (pc := 21) hM dX8_named_21 ?_
    refine k_if_ne (pc := 24) (tgt := 55) hC dX8_named_24 (by decide) hE (fun hE => ?_) (fun hE => ?_)
    · refine k_aload_n (pc := 27) hC dX8_named_27 rfl 0 rfl ?_
      refine gM_21 (pc := 28) hM dX8_named_28 ?_
      refine k_iload_n (pc := 31) hC dX8_named_31 rfl 2 rfl ?_
      refine m_lald (pc := 32) 8 ly_8 hM dX8_named_32 hE (fun x3 hE => ?_)
      refine k_aload_n (pc := 33) hC dX8_named_33 rfl 0 rfl ?_
      refine gM_8 (pc := 34) hM dX8_named_34 ?_
      refine k_iload_n (pc := 37) hC dX8_named_37 rfl 1 rfl ?_
      refine m_lald (pc := 38) 6 ly_6 hM dX8_named_38 hE (fun x4 hE => ?_)
      refine k_lcmp (pc := 39) hC dX8_named_39 ?_
      refine k_if_ne (pc := 40) (tgt := 49) hC dX8_named_40 (by decide) hE (fun hE => ?_) (fun hE => ?_)
      · refine k_aload_n (pc := 43) hC dX8_named_43 rfl 0 rfl ?_
        refine k_iconst (pc := 44) (v := 3) hC dX8_named_44 (by decide) ?_
        refine k_iload_n (pc := 45) hC dX8_named_45 rfl 1 rfl ?_
        refine m_clVj (pc := 46) (As := [.int 3, .int a1]) hM (cw_M_wrong hM (Nat.le_of_ble_eq_true rfl) (Nat.le_of_ble_eq_true rfl)) rfl rfl (Nat.le_of_ble_eq_true rfl) dX8_named_46 hE (fun r h => ct_M_wrong _ _ _ _ hM.2.1 3 a1 J K r h) (fun r5 hE => ?_)
        refine k_iincE (pc := 49) (k := 2) (d := 1) (lv' := fun x6 => [(2, .int x6), (0, .ref th), (1, .int a1)]) hC dX8_named_49 rfl (by decide) (by rw [hnL]; decide) hE (fun _ => rfl) (fun x6 hE => ?_)
        refine k_goto (pc := 52) (tgt := 12) hC dX8_named_52 (by decide) ?_
        refine k_sub [1, 2, 0] rfl ?_
        exact hk12 _ _ _ hE
      · refine k_iincE (pc := 49) (k := 2) (d := 1) (lv' := fun x7 => [(2, .int x7), (0, .ref th), (1, .int a1)]) hC dX8_named_49 rfl (by decide) (by rw [hnL]; decide) hE (fun _ => rfl) (fun x7 hE => ?_)
        refine k_goto (pc := 52) (tgt := 12) hC dX8_named_52 (by decide) ?_
        refine k_sub [1, 2, 0] rfl ?_
        exact hk12 _ _ _ hE
    · refine k_iload_n (pc := 55) hC dX8_named_55 rfl 1 rfl ?_
      exact k_iret (pc := 56) hC hR ⟨Nat.le_refl 0, Nat.le_refl 0⟩ dX8_named_56 (by cases hE; rfl) (by cases hE; exact fun _ h => h)
theorem w_M_named_L12 {X : Ctx} {D : Dd} {th : Nat} {K : Jl} {out : Int32 × Ji} (hM : Mx X cX8_named D th 3 rmM_named) (hR : Rt X (some .int) (RM D th out.2 K) (some (.int out.1)) 0 0) (F : Nat) (n : Nat) : ∀ (a1 : Int32) (a2 : Int32) (J : Ji) , M_named_L12 F K n a1 a2 J = some out → Wk X 0 0 (RM D th J K) 12 [(0, .ref th), (1, .int a1), (2, .int a2)] [] := by
  induction n with
  | zero => intro a1 a2 J h; cases h
  | succ n ih => intro a1 a2 J h; exact w_M_named_B12 hM hR F (M_named_L12 F K n) ih a1 a2 J h
set_option maxHeartbeats 4000000 in
theorem w_M_named {X : Ctx} {D : Dd} {th : Nat} {K : Jl} {out : Int32 × Ji} (hM : Mx X cX8_named D th 3 rmM_named) (hR : Rt X (some .int) (RM D th out.2 K) (some (.int out.1)) 0 0) (F : Nat) (J : Ji) (hE : M_named F K J = some out) : Wk X 0 0 (RM D th J K) 0 [(0, .ref th)] [] := by
  have hC := hM.1
  have hnL := hM.2.2.1
  have hrm := hM.2.2.2
  unfold M_named at hE
  refine k_aload_n (pc := 0) hC dX8_named_0 rfl 0 rfl ?_
  refine gM_11 (pc := 1) hM dX8_named_1 ?_
  refine k_istoreE_n (pc := 4) (lv' := fun x1 => [(1, .int x1), (0, .ref th)]) hC dX8_named_4 rfl (by rw [hnL]; decide) hE (fun _ => rfl) (fun x1 hE => ?_)
  refine k_aload_n (pc := 5) hC dX8_named_5 rfl 1 rfl ?_
  refine k_iconst (pc := 6) (v := 1) hC dX8_named_6 (by decide) ?_
  refine m_clVj (pc := 7) (As := [.int 1]) hM (cw_M_must hM (Nat.le_of_ble_eq_true rfl) (Nat.le_of_ble_eq_true rfl)) rfl rfl (Nat.le_of_ble_eq_true rfl) dX8_named_7 hE (fun r h => ct_M_must _ _ _ _ hM.2.1 1 J K r h) (fun r2 hE => ?_)
  refine k_iconst (pc := 10) (v := 0) hC dX8_named_10 (by decide) ?_
  refine k_istore_n (pc := 11) (lv' := [(2, .int 0), (1, .int x1), (0, .ref th)]) hC dX8_named_11 rfl (by rw [hnL]; decide) rfl ?_
  refine k_sub [2, 1, 0] rfl ?_
  exact w_M_named_L12 hM hR F _ _ _ _ hE
theorem ct_M_named (l : Launch) (D : Dd) (A : Nat → Prop) (th : Nat) (hA : ∀ (off : Nat) (kd : Kd), layM off = some kd → A (th + off)) (F : Nat) (J : Ji) (K : Jl) (out : Int32 × Ji) (hE : M_named F K J = some out) : Ct l yX8_named (ws_ yX8_named cX8_named 3 (some .int)) rmM_named vwCl arTy D A [.ref th] (RM D th J K) (RM D th out.2 K) (some (.int out.1)) 0 0 := by
  refine Ct.of (by decide) (Nat.le_of_ble_eq_true rfl) rfl ?_
  intro X hl hrm hC hR hXA hnL _
  exact w_M_named ⟨hC, by unfold Ft; rw [hXA]; exact hA, hnL, hrm⟩ hR F J hE
theorem cw_M_named {X : Ctx} {cc : ByteArray} {D : Dd} {th mL : Nat} {rm : Room} (hM : Mx X cc D th mL rm) (h1 : rmM_named.frames + 1 ≤ rm.frames) (h2 : 8 + (3 + 11) + rmM_named.locals ≤ rm.locals) : CallW X.2.2.2.1 X.2.2.2.2.1 X.2.2.2.2.2.2.1 RX8 RX8 340 yX8_named cX8_named 3 (some .int) (ws_ yX8_named cX8_named 3 (some .int)) rmM_named 0 0 0 := cwV 0 (cx_w hM.1) (lw_V q1866 q1868 qs62 q128 q1869) rfl rfl rfl (by decide +kernel) (by rw [hM.2.2.2]; exact ⟨h1, h2⟩)
abbrev rmM_notes : Room := { frames := 0, cells := 0, slots := 0, locals := 0 }
set_option maxHeartbeats 4000000 in
theorem w_M_notes {X : Ctx} {D : Dd} {th : Nat} {out : Ji × Jl} (hM : Mx X cX8_notes D th 4 rmM_notes) (hR : Rt X none (RM D th out.1 out.2) none 0 0) (a1 : Int32) (a2 : Int32) (a3 : Int32) (J : Ji) (K : Jl) (hE : M_notes a1 a2 a3 J K = some out) : Wk X 0 0 (RM D th J K) 0 [(0, .ref th), (1, .int a1), (2, .int a2), (3, .int a3)] [] := by
  have hC := hM.1
  have hnL := hM.2.2.1
  have hrm := hM.2.2.2
  unfold M_notes at hE
  refine k_aload_n (pc := 0) hC dX8_notes_0 rfl 0 rfl ?_
  refine gM_21 (pc := 1) hM dX8_notes_1 ?_
  refine k_aload_n (pc := 4) hC dX8_notes_4 rfl 0 rfl ?_
  refine gM_20 (pc := 5) hM dX8_notes_5 ?_
  refine k_aload_n (pc := 8) hC dX8_notes_8 rfl 0 rfl ?_
  refine gM_8 (pc := 9) hM dX8_notes_9 ?_
  refine k_iload_n (pc := 12) hC dX8_notes_12 rfl 1 rfl ?_
  refine m_lald (pc := 13) 6 ly_6 hM dX8_notes_13 hE (fun x1 hE => ?_)
  refine m_last (pc := 14) 8 ly_8 hM dX8_notes_14 hE (fun K2 hE => ?_)
  refine k_aload_n (pc := 15) hC dX8_notes_15 rfl 0 rfl ?_
  refine gM_22 (pc := 16) hM dX8_notes_16 ?_
  refine k_aload_n (pc := 19) hC dX8_notes_19 rfl 0 rfl ?_
  refine gM_20 (pc := 20) hM dX8_notes_20 ?_
  refine k_iload_n (pc := 23) hC dX8_notes_23 rfl 2 rfl ?_
  refine m_iast (pc := 24) 9 ly_9 hM dX8_notes_24 hE (fun J3 hE => ?_)
  refine k_aload_n (pc := 25) hC dX8_notes_25 rfl 0 rfl ?_
  refine gM_23 (pc := 26) hM dX8_notes_26 ?_
  refine k_aload_n (pc := 29) hC dX8_notes_29 rfl 0 rfl ?_
  refine gM_20 (pc := 30) hM dX8_notes_30 ?_
  refine k_iload_n (pc := 33) hC dX8_notes_33 rfl 3 rfl ?_
  refine m_iast (pc := 34) 10 ly_10 hM dX8_notes_34 hE (fun J4 hE => ?_)
  refine k_aload_n (pc := 35) hC dX8_notes_35 rfl 0 rfl ?_
  refine k_dup (pc := 36) hC dX8_notes_36 rfl ?_
  refine gM_20 (pc := 37) hM dX8_notes_37 ?_
  refine k_iconst (pc := 40) (v := 1) hC dX8_notes_40 (by decide) ?_
  refine k_iadd (pc := 41) hC dX8_notes_41 ?_
  refine pM_20 (pc := 42) hM dX8_notes_42 hE (fun J5 hE => ?_)
  exact k_vret (pc := 45) hC hR ⟨Nat.le_refl 0, Nat.le_refl 0⟩ dX8_notes_45 (by cases hE; rfl) (by cases hE; exact fun _ h => h)
theorem ct_M_notes (l : Launch) (D : Dd) (A : Nat → Prop) (th : Nat) (hA : ∀ (off : Nat) (kd : Kd), layM off = some kd → A (th + off)) (a1 : Int32) (a2 : Int32) (a3 : Int32) (J : Ji) (K : Jl) (out : Ji × Jl) (hE : M_notes a1 a2 a3 J K = some out) : Ct l yX8_notes (ws_ yX8_notes cX8_notes 4 none) rmM_notes vwCl arTy D A [.ref th, .int a1, .int a2, .int a3] (RM D th J K) (RM D th out.1 out.2) none 0 0 := by
  refine Ct.of (by decide) (Nat.le_of_ble_eq_true rfl) rfl ?_
  intro X hl hrm hC hR hXA hnL _
  exact w_M_notes ⟨hC, by unfold Ft; rw [hXA]; exact hA, hnL, hrm⟩ hR a1 a2 a3 J K hE
theorem cw_M_notes {X : Ctx} {cc : ByteArray} {D : Dd} {th mL : Nat} {rm : Room} (hM : Mx X cc D th mL rm) (h1 : rmM_notes.frames + 1 ≤ rm.frames) (h2 : 8 + (4 + 11) + rmM_notes.locals ≤ rm.locals) : CallW X.2.2.2.1 X.2.2.2.2.1 X.2.2.2.2.2.2.1 RX8 RX8 344 yX8_notes cX8_notes 4 none (ws_ yX8_notes cX8_notes 4 none) rmM_notes 0 0 3 := cwV 3 (cx_w hM.1) (lw_V q1878 q1880 qs65 q128 q1881) rfl rfl rfl (by decide +kernel) (by rw [hM.2.2.2]; exact ⟨h1, h2⟩)
abbrev rmM_tellMan : Room := { frames := 4, cells := 0, slots := 0, locals := 85 }
set_option maxHeartbeats 4000000 in
theorem w_M_tellMan_B118 {X : Ctx} {D : Dd} {th : Nat} {out : Ji × Jl} (hM : Mx X cX8_tellMan D th 4 rmM_tellMan) (hR : Rt X none (RM D th out.1 out.2) none 0 0) (F : Nat) (a2 : Int32) (J : Ji) (K : Jl) (hE : M_tellMan_B118 F a2 J K = some out) : Wk X 0 0 (RM D th J K) 118 [(0, .ref th), (2, .int a2)] [] := by
  have hC := hM.1
  have hnL := hM.2.2.1
  have hrm := hM.2.2.2
  unfold M_tellMan_B118 at hE
  refine k_aload_n (pc := 118) hC dX8_tellMan_118 rfl 0 rfl ?_
  refine k_iconst (pc := 119) (v := 4) hC dX8_tellMan_119 (by decide) ?_
  refine m_clVj (pc := 120) (As := [.int 4]) hM (cw_M_must hM (Nat.le_of_ble_eq_true rfl) (Nat.le_of_ble_eq_true rfl)) rfl rfl (Nat.le_of_ble_eq_true rfl) dX8_tellMan_120 hE (fun r h => ct_M_must _ _ _ _ hM.2.1 4 J K r h) (fun r15 hE => ?_)
  refine k_aload_n (pc := 123) hC dX8_tellMan_123 rfl 0 rfl ?_
  refine gM_13 (pc := 124) hM dX8_tellMan_124 ?_
  refine k_if_le (pc := 127) (tgt := 131) hC dX8_tellMan_127 (by decide) hE (fun hE => ?_) (fun hE => ?_)
  · refine k_aload_n (pc := 131) hC dX8_tellMan_131 rfl 0 rfl ?_
    refine k_iload_n (pc := 132) hC dX8_tellMan_132 rfl 1 rfl ?_
    refine k_iconst (pc := 133) (v := 3) hC dX8_tellMan_133 (by decide) ?_
    refine k_aload_n (pc := 134) hC dX8_tellMan_134 rfl 0 rfl ?_
    refine gM_42 (pc := 135) hM dX8_tellMan_135 ?_
    refine k_aload_n (pc := 138) hC dX8_tellMan_138 rfl 0 rfl ?_
    refine gM_19 (pc := 139) hM dX8_tellMan_139 ?_
    refine m_iald (pc := 142) 29 ly_29 hM dX8_tellMan_142 hE (fun x16 hE => ?_)
    refine m_clVjk (pc := 143) (As := [.int a2, .int 3, .int x16]) hM (cw_M_notes hM (Nat.le_of_ble_eq_true rfl) (Nat.le_of_ble_eq_true rfl)) rfl rfl (Nat.le_of_ble_eq_true rfl) dX8_tellMan_143 hE (fun r h => ct_M_notes _ _ _ _ hM.2.1 a2 3 x16 r15 K r h) (fun r17 hE => ?_)
    refine k_aload_n (pc := 146) hC dX8_tellMan_146 rfl 0 rfl ?_
    refine gM_42 (pc := 147) hM dX8_tellMan_147 ?_
    refine k_aload_n (pc := 150) hC dX8_tellMan_150 rfl 0 rfl ?_
    refine gM_19 (pc := 151) hM dX8_tellMan_151 ?_
    refine k_dup2 (pc := 154) hC dX8_tellMan_154 rfl rfl ?_
    refine m_iald (pc := 155) 29 ly_29 hM dX8_tellMan_155 hE (fun x18 hE => ?_)
    refine k_iconst (pc := 156) (v := 1) hC dX8_tellMan_156 (by decide) ?_
    refine k_iadd (pc := 157) hC dX8_tellMan_157 ?_
    refine m_iast (pc := 158) 29 ly_29 hM dX8_tellMan_158 hE (fun J19 hE => ?_)
    exact k_vret (pc := 159) hC hR ⟨Nat.le_refl 0, Nat.le_refl 0⟩ dX8_tellMan_159 (by cases hE; rfl) (by cases hE; exact fun _ h => h)
  · exact k_vret (pc := 130) hC hR ⟨Nat.le_refl 0, Nat.le_refl 0⟩ dX8_tellMan_130 (by cases hE; rfl) (by cases hE; exact fun _ h => h)
set_option maxHeartbeats 4000000 in
theorem w_M_tellMan_B114 {X : Ctx} {D : Dd} {th : Nat} {out : Ji × Jl} (hM : Mx X cX8_tellMan D th 4 rmM_tellMan) (hR : Rt X none (RM D th out.1 out.2) none 0 0) (F : Nat) (a2 : Int32) (s0 : Int32) (s1 : Int32) (s2 : Int32) (J : Ji) (K : Jl) (hE : M_tellMan_B114 F a2 s0 s1 s2 J K = some out) : Wk X 0 0 (RM D th J K) 114 [(0, .ref th), (2, .int a2)] [.int s0, .int s1, .ref th, .int s2, .ref (th + 32)] := by
  have hC := hM.1
  have hnL := hM.2.2.1
  have hrm := hM.2.2.2
  unfold M_tellMan_B114 at hE
  refine m_clIj (pc := 114) (As := [.int s1, .int s0]) hM (cw_M_bounded hM (Nat.le_of_ble_eq_true rfl) (Nat.le_of_ble_eq_true rfl)) rfl rfl (Nat.le_of_ble_eq_true rfl) dX8_tellMan_114 hE (fun r h => ct_M_bounded _ _ _ _ hM.2.1 s1 s0 J K r h) (fun r13 hE => ?_)
  refine m_iast (pc := 117) 32 ly_32 hM dX8_tellMan_117 hE (fun J14 hE => ?_)
  exact w_M_tellMan_B118 hM hR F _ _ _ hE
set_option maxHeartbeats 4000000 in
theorem w_M_tellMan {X : Ctx} {D : Dd} {th : Nat} {out : Ji × Jl} (hM : Mx X cX8_tellMan D th 4 rmM_tellMan) (hR : Rt X none (RM D th out.1 out.2) none 0 0) (F : Nat) (J : Ji) (K : Jl) (hE : M_tellMan F J K = some out) : Wk X 0 0 (RM D th J K) 0 [(0, .ref th)] [] := by
  have hC := hM.1
  have hnL := hM.2.2.1
  have hrm := hM.2.2.2
  unfold M_tellMan at hE
  refine k_bipush (pc := 0) (v := 6) hC dX8_tellMan_0 (by decide) ?_
  refine k_aload_n (pc := 2) hC dX8_tellMan_2 rfl 0 rfl ?_
  refine gM_19 (pc := 3) hM dX8_tellMan_3 ?_
  refine k_imul (pc := 6) hC dX8_tellMan_6 ?_
  refine k_aload_n (pc := 7) hC dX8_tellMan_7 rfl 0 rfl ?_
  refine gM_42 (pc := 8) hM dX8_tellMan_8 ?_
  refine k_aload_n (pc := 11) hC dX8_tellMan_11 rfl 0 rfl ?_
  refine gM_19 (pc := 12) hM dX8_tellMan_12 ?_
  refine m_iald (pc := 15) 29 ly_29 hM dX8_tellMan_15 hE (fun x1 hE => ?_)
  refine k_iadd (pc := 16) hC dX8_tellMan_16 ?_
  refine k_istoreE_n (pc := 17) (lv' := fun x2 => [(1, .int x2), (0, .ref th)]) hC dX8_tellMan_17 rfl (by rw [hnL]; decide) hE (fun _ => rfl) (fun x2 hE => ?_)
  refine k_aload_n (pc := 18) hC dX8_tellMan_18 rfl 1 rfl ?_
  refine m_clIj (pc := 19) (As := []) hM (cw_M_named hM (Nat.le_of_ble_eq_true rfl) (Nat.le_of_ble_eq_true rfl)) rfl rfl (Nat.le_of_ble_eq_true rfl) dX8_tellMan_19 hE (fun r h => ct_M_named _ _ _ _ hM.2.1 F J K r h) (fun r3 hE => ?_)
  refine k_istore_n (pc := 22) (lv' := [(2, .int r3.1), (1, .int x2), (0, .ref th)]) hC dX8_tellMan_22 rfl (by rw [hnL]; decide) rfl ?_
  refine k_aload_n (pc := 23) hC dX8_tellMan_23 rfl 2 rfl ?_
  refine gM_43 (pc := 24) hM dX8_tellMan_24 ?_
  refine k_iload_n (pc := 27) hC dX8_tellMan_27 rfl 1 rfl ?_
  refine k_aload_n (pc := 28) hC dX8_tellMan_28 rfl 2 rfl ?_
  refine k_iconst (pc := 29) (v := 0) hC dX8_tellMan_29 (by decide) ?_
  refine m_clIj (pc := 30) (As := [.int 0]) hM (cw_M_known hM (Nat.le_of_ble_eq_true rfl) (Nat.le_of_ble_eq_true rfl)) rfl rfl (Nat.le_of_ble_eq_true rfl) dX8_tellMan_30 hE (fun r h => ct_M_known _ _ _ _ hM.2.1 F 0 r3.2 K r h) (fun r4 hE => ?_)
  refine m_iast (pc := 33) 30 ly_30 hM dX8_tellMan_33 hE (fun J5 hE => ?_)
  refine k_aload_n (pc := 34) hC dX8_tellMan_34 rfl 2 rfl ?_
  refine gM_44 (pc := 35) hM dX8_tellMan_35 ?_
  refine k_iload_n (pc := 38) hC dX8_tellMan_38 rfl 1 rfl ?_
  refine k_iconst (pc := 39) (v := (-1)) hC dX8_tellMan_39 (by decide) ?_
  refine m_iast (pc := 40) 31 ly_31 hM dX8_tellMan_40 hE (fun J6 hE => ?_)
  refine k_aload_n (pc := 41) hC dX8_tellMan_41 rfl 2 rfl ?_
  refine gM_45 (pc := 42) hM dX8_tellMan_42 ?_
  refine k_iload_n (pc := 45) hC dX8_tellMan_45 rfl 1 rfl ?_
  refine k_iconst (pc := 46) (v := (-1)) hC dX8_tellMan_46 (by decide) ?_
  refine m_iast (pc := 47) 32 ly_32 hM dX8_tellMan_47 hE (fun J7 hE => ?_)
  refine k_aload_n (pc := 48) hC dX8_tellMan_48 rfl 2 rfl ?_
  refine gM_13 (pc := 49) hM dX8_tellMan_49 ?_
  refine k_if_ne (pc := 52) (tgt := 118) hC dX8_tellMan_52 (by decide) hE (fun hE => ?_) (fun hE => ?_)
  · refine k_aload_n (pc := 55) hC dX8_tellMan_55 rfl 2 rfl ?_
    refine k_bipush (pc := 56) (v := 29) hC dX8_tellMan_56 (by decide) ?_
    refine m_clI (pc := 58) (As := [.int 29]) hM (cw_M_is hM (Nat.le_of_ble_eq_true rfl) (Nat.le_of_ble_eq_true rfl)) rfl rfl (Nat.le_of_ble_eq_true rfl) dX8_tellMan_58 hE (fun r h => ct_M_is _ _ _ _ hM.2.1 29 J7 K r h) (fun r8 hE => ?_)
    refine k_if_eq (pc := 61) (tgt := 118) hC dX8_tellMan_61 (by decide) hE (fun hE => ?_) (fun hE => ?_)
    · refine k_sub [2, 0] rfl ?_
      exact w_M_tellMan_B118 hM hR F _ _ _ hE
    · refine k_aload_n (pc := 64) hC dX8_tellMan_64 rfl 2 rfl ?_
      refine m_clVj (pc := 65) (As := []) hM (cw_M_goesOn hM (Nat.le_of_ble_eq_true rfl) (Nat.le_of_ble_eq_true rfl)) rfl rfl (Nat.le_of_ble_eq_true rfl) dX8_tellMan_65 hE (fun r h => ct_M_goesOn _ _ _ _ hM.2.1  J7 K r h) (fun r9 hE => ?_)
      refine k_aload_n (pc := 68) hC dX8_tellMan_68 rfl 2 rfl ?_
      refine k_iconst (pc := 69) (v := 2) hC dX8_tellMan_69 (by decide) ?_
      refine m_clIj (pc := 70) (As := [.int 2]) hM (cw_M_known hM (Nat.le_of_ble_eq_true rfl) (Nat.le_of_ble_eq_true rfl)) rfl rfl (Nat.le_of_ble_eq_true rfl) dX8_tellMan_70 hE (fun r h => ct_M_known _ _ _ _ hM.2.1 F 2 r9 K r h) (fun r10 hE => ?_)
      refine k_istore_n (pc := 73) (lv' := [(3, .int r10.1), (2, .int r3.1), (1, .int x2), (0, .ref th)]) hC dX8_tellMan_73 rfl (by rw [hnL]; decide) rfl ?_
      refine k_aload_n (pc := 74) hC dX8_tellMan_74 rfl 3 rfl ?_
      refine gM_44 (pc := 75) hM dX8_tellMan_75 ?_
      refine k_iload_n (pc := 78) hC dX8_tellMan_78 rfl 2 rfl ?_
      refine k_iload_n (pc := 79) hC dX8_tellMan_79 rfl 0 rfl ?_
      refine m_iast (pc := 80) 31 ly_31 hM dX8_tellMan_80 hE (fun J11 hE => ?_)
      refine k_aload_n (pc := 81) hC dX8_tellMan_81 rfl 3 rfl ?_
      refine gM_45 (pc := 82) hM dX8_tellMan_82 ?_
      refine k_iload_n (pc := 85) hC dX8_tellMan_85 rfl 2 rfl ?_
      refine k_aload_n (pc := 86) hC dX8_tellMan_86 rfl 3 rfl ?_
      refine k_iconst (pc := 87) (v := 0) hC dX8_tellMan_87 (by decide) ?_
      refine k_iload_n (pc := 88) hC dX8_tellMan_88 rfl 0 rfl ?_
      refine k_if_ge (pc := 89) (tgt := 98) hC dX8_tellMan_89 (by decide) hE (fun hE => ?_) (fun hE => ?_)
      · refine k_aload_n (pc := 98) hC dX8_tellMan_98 rfl 3 rfl ?_
        refine gM_35 (pc := 99) hM dX8_tellMan_99 ?_
        refine k_bipush (pc := 102) (v := 6) hC dX8_tellMan_102 (by decide) ?_
        refine k_aload_n (pc := 104) hC dX8_tellMan_104 rfl 3 rfl ?_
        refine gM_19 (pc := 105) hM dX8_tellMan_105 ?_
        refine k_imul (pc := 108) hC dX8_tellMan_108 ?_
        refine k_iload_n (pc := 109) hC dX8_tellMan_109 rfl 0 rfl ?_
        refine k_iadd (pc := 110) hC dX8_tellMan_110 ?_
        refine m_iald (pc := 111) 22 ly_22 hM dX8_tellMan_111 hE (fun x12 hE => ?_)
        refine k_iconst (pc := 112) (v := 1) hC dX8_tellMan_112 (by decide) ?_
        refine k_isub (pc := 113) hC dX8_tellMan_113 ?_
        refine k_sub [3, 1] rfl ?_
        exact w_M_tellMan_B114 hM hR F _ _ _ _ _ _ hE
      · refine k_sipush (pc := 92) (v := 9999) hC dX8_tellMan_92 (by decide) ?_
        refine k_goto (pc := 95) (tgt := 114) hC dX8_tellMan_95 (by decide) ?_
        refine k_sub [3, 1] rfl ?_
        exact w_M_tellMan_B114 hM hR F _ _ _ _ _ _ hE
  · refine k_sub [2, 0] rfl ?_
    exact w_M_tellMan_B118 hM hR F _ _ _ hE
theorem ct_M_tellMan (l : Launch) (D : Dd) (A : Nat → Prop) (th : Nat) (hA : ∀ (off : Nat) (kd : Kd), layM off = some kd → A (th + off)) (F : Nat) (J : Ji) (K : Jl) (out : Ji × Jl) (hE : M_tellMan F J K = some out) : Ct l yX8_tellMan (ws_ yX8_tellMan cX8_tellMan 4 none) rmM_tellMan vwCl arTy D A [.ref th] (RM D th J K) (RM D th out.1 out.2) none 0 0 := by
  refine Ct.of (by decide) (Nat.le_of_ble_eq_true rfl) rfl ?_
  intro X hl hrm hC hR hXA hnL _
  exact w_M_tellMan ⟨hC, by unfold Ft; rw [hXA]; exact hA, hnL, hrm⟩ hR F J K hE
theorem cw_M_tellMan {X : Ctx} {cc : ByteArray} {D : Dd} {th mL : Nat} {rm : Room} (hM : Mx X cc D th mL rm) (h1 : rmM_tellMan.frames + 1 ≤ rm.frames) (h2 : 8 + (4 + 11) + rmM_tellMan.locals ≤ rm.locals) : CallW X.2.2.2.1 X.2.2.2.2.1 X.2.2.2.2.2.2.1 RX8 RX8 324 yX8_tellMan cX8_tellMan 4 none (ws_ yX8_tellMan cX8_tellMan 4 none) rmM_tellMan 0 0 0 := cwV 0 (cx_w hM.1) (lw_V q1910 q1912 qs73 q128 q1913) rfl rfl rfl (by decide +kernel) (by rw [hM.2.2.2]; exact ⟨h1, h2⟩)
abbrev rmM_tellRoom : Room := { frames := 4, cells := 0, slots := 0, locals := 84 }
set_option maxHeartbeats 4000000 in
theorem w_M_tellRoom {X : Ctx} {D : Dd} {th : Nat} {out : Ji × Jl} (hM : Mx X cX8_tellRoom D th 2 rmM_tellRoom) (hR : Rt X none (RM D th out.1 out.2) none 0 0) (F : Nat) (J : Ji) (K : Jl) (hE : M_tellRoom F J K = some out) : Wk X 0 0 (RM D th J K) 0 [(0, .ref th)] [] := by
  have hC := hM.1
  have hnL := hM.2.2.1
  have hrm := hM.2.2.2
  unfold M_tellRoom at hE
  refine k_aload_n (pc := 0) hC dX8_tellRoom_0 rfl 0 rfl ?_
  refine m_clIj (pc := 1) (As := []) hM (cw_M_named hM (Nat.le_of_ble_eq_true rfl) (Nat.le_of_ble_eq_true rfl)) rfl rfl (Nat.le_of_ble_eq_true rfl) dX8_tellRoom_1 hE (fun r h => ct_M_named _ _ _ _ hM.2.1 F J K r h) (fun r1 hE => ?_)
  refine k_istore_n (pc := 4) (lv' := [(1, .int r1.1), (0, .ref th)]) hC dX8_tellRoom_4 rfl (by rw [hnL]; decide) rfl ?_
  refine k_aload_n (pc := 5) hC dX8_tellRoom_5 rfl 1 rfl ?_
  refine k_iconst (pc := 6) (v := 4) hC dX8_tellRoom_6 (by decide) ?_
  refine m_clVj (pc := 7) (As := [.int 4]) hM (cw_M_must hM (Nat.le_of_ble_eq_true rfl) (Nat.le_of_ble_eq_true rfl)) rfl rfl (Nat.le_of_ble_eq_true rfl) dX8_tellRoom_7 hE (fun r h => ct_M_must _ _ _ _ hM.2.1 4 r1.2 K r h) (fun r2 hE => ?_)
  refine k_aload_n (pc := 10) hC dX8_tellRoom_10 rfl 1 rfl ?_
  refine gM_13 (pc := 11) hM dX8_tellRoom_11 ?_
  refine k_if_le (pc := 14) (tgt := 18) hC dX8_tellRoom_14 (by decide) hE (fun hE => ?_) (fun hE => ?_)
  · refine k_aload_n (pc := 18) hC dX8_tellRoom_18 rfl 1 rfl ?_
    refine k_iload_n (pc := 19) hC dX8_tellRoom_19 rfl 0 rfl ?_
    refine k_iconst (pc := 20) (v := 0) hC dX8_tellRoom_20 (by decide) ?_
    refine k_aload_n (pc := 21) hC dX8_tellRoom_21 rfl 1 rfl ?_
    refine gM_24 (pc := 22) hM dX8_tellRoom_22 ?_
    refine k_aload_n (pc := 25) hC dX8_tellRoom_25 rfl 1 rfl ?_
    refine gM_19 (pc := 26) hM dX8_tellRoom_26 ?_
    refine m_iald (pc := 29) 11 ly_11 hM dX8_tellRoom_29 hE (fun x3 hE => ?_)
    refine m_clVjk (pc := 30) (As := [.int r1.1, .int 0, .int x3]) hM (cw_M_notes hM (Nat.le_of_ble_eq_true rfl) (Nat.le_of_ble_eq_true rfl)) rfl rfl (Nat.le_of_ble_eq_true rfl) dX8_tellRoom_30 hE (fun r h => ct_M_notes _ _ _ _ hM.2.1 r1.1 0 x3 r2 K r h) (fun r4 hE => ?_)
    refine k_aload_n (pc := 33) hC dX8_tellRoom_33 rfl 1 rfl ?_
    refine gM_24 (pc := 34) hM dX8_tellRoom_34 ?_
    refine k_aload_n (pc := 37) hC dX8_tellRoom_37 rfl 1 rfl ?_
    refine gM_19 (pc := 38) hM dX8_tellRoom_38 ?_
    refine k_dup2 (pc := 41) hC dX8_tellRoom_41 rfl rfl ?_
    refine m_iald (pc := 42) 11 ly_11 hM dX8_tellRoom_42 hE (fun x5 hE => ?_)
    refine k_iconst (pc := 43) (v := 1) hC dX8_tellRoom_43 (by decide) ?_
    refine k_iadd (pc := 44) hC dX8_tellRoom_44 ?_
    refine m_iast (pc := 45) 11 ly_11 hM dX8_tellRoom_45 hE (fun J6 hE => ?_)
    exact k_vret (pc := 46) hC hR ⟨Nat.le_refl 0, Nat.le_refl 0⟩ dX8_tellRoom_46 (by cases hE; rfl) (by cases hE; exact fun _ h => h)
  · exact k_vret (pc := 17) hC hR ⟨Nat.le_refl 0, Nat.le_refl 0⟩ dX8_tellRoom_17 (by cases hE; rfl) (by cases hE; exact fun _ h => h)
theorem ct_M_tellRoom (l : Launch) (D : Dd) (A : Nat → Prop) (th : Nat) (hA : ∀ (off : Nat) (kd : Kd), layM off = some kd → A (th + off)) (F : Nat) (J : Ji) (K : Jl) (out : Ji × Jl) (hE : M_tellRoom F J K = some out) : Ct l yX8_tellRoom (ws_ yX8_tellRoom cX8_tellRoom 2 none) rmM_tellRoom vwCl arTy D A [.ref th] (RM D th J K) (RM D th out.1 out.2) none 0 0 := by
  refine Ct.of (by decide) (Nat.le_of_ble_eq_true rfl) rfl ?_
  intro X hl hrm hC hR hXA hnL _
  exact w_M_tellRoom ⟨hC, by unfold Ft; rw [hXA]; exact hA, hnL, hrm⟩ hR F J K hE
theorem cw_M_tellRoom {X : Ctx} {cc : ByteArray} {D : Dd} {th mL : Nat} {rm : Room} (hM : Mx X cc D th mL rm) (h1 : rmM_tellRoom.frames + 1 ≤ rm.frames) (h2 : 8 + (2 + 11) + rmM_tellRoom.locals ≤ rm.locals) : CallW X.2.2.2.1 X.2.2.2.2.1 X.2.2.2.2.2.2.1 RX8 RX8 309 yX8_tellRoom cX8_tellRoom 2 none (ws_ yX8_tellRoom cX8_tellRoom 2 none) rmM_tellRoom 0 0 0 := cwV 0 (cx_w hM.1) (lw_V q1862 q1864 qs61 q128 q1865) rfl rfl rfl (by decide +kernel) (by rw [hM.2.2.2]; exact ⟨h1, h2⟩)
