set_option maxRecDepth 100000
abbrev rmS_typed : Room := { frames := 0, cells := 0, slots := 0, locals := 0 }
set_option maxHeartbeats 4000000 in
theorem w_S_typed_B3 {X : Ctx} {D : Dd} {x tx : Nat} {Xp : Jr} {T : Th} {S : Ji} {V : Nat → Ji} {out : Ji} (hM : Sxx X cX0_typed D x 3 rmS_typed) (hR : Rt X none (SW D x tx S out Xp V T) none 0 0) (F : Nat) (k3 : Int32 → Int32 → (Ji) → Option (Ji)) (hk3 : ∀ (a1 : Int32) (a2 : Int32) (Q : Ji) , k3 a1 a2 Q = some out → Wk X 0 0 (SW D x tx S Q Xp V T) 3 [(0, .ref x), (1, .int a1), (2, .int a2)] []) (a1 : Int32) (a2 : Int32) (Q : Ji) (hE : S_typed_B3 F k3 T tx a1 a2 Q = some out) : Wk X 0 0 (SW D x tx S Q Xp V T) 3 [(0, .ref x), (1, .int a1), (2, .int a2)] [] := by
  have hC := hM.1
  have hnL := hM.2.2.1
  have hrm := hM.2.2.2
  have hDy : ∀ {S Q : Ji} {V : Nat → Ji} (H : Heap), SW D x tx S Q Xp V T H → Dy D T H := fun _ h => h.2.2.2.1
  unfold S_typed_B3 at hE
  refine k_iload_n (pc := 3) hC dX0_typed_3 rfl 2 rfl ?_
  refine k_if_lt (pc := 4) (tgt := 45) hC dX0_typed_4 (by decide) hE (fun hE => ?_) (fun hE => ?_)
  · exact k_vret (pc := 45) hC hR ⟨Nat.le_refl 0, Nat.le_refl 0⟩ dX0_typed_45 (by cases hE; rfl) (by cases hE; exact fun _ h => h)
  · refine k_aload_n (pc := 7) hC dX0_typed_7 rfl 0 rfl ?_
    refine gS_19 (pc := 8) hM dX0_typed_8 ?_
    refine gS_81 (pc := 11) hM dX0_typed_11 ?_
    refine k_aload_n (pc := 14) hC dX0_typed_14 rfl 0 rfl ?_
    refine gS_19 (pc := 15) hM dX0_typed_15 ?_
    refine gS_74 (pc := 18) hM dX0_typed_18 ?_
    refine k_iload_n (pc := 21) hC dX0_typed_21 rfl 1 rfl ?_
    refine k_iload_n (pc := 22) hC dX0_typed_22 rfl 2 rfl ?_
    refine k_ishr (pc := 23) hC dX0_typed_23 ?_
    refine k_i2b (pc := 24) hC dX0_typed_24 ?_
    refine sQ_bast (pc := 25) 4 lp_4 hM dX0_typed_25 hE (fun Q1 hE => ?_)
    refine k_aload_n (pc := 26) hC dX0_typed_26 rfl 0 rfl ?_
    refine gS_19 (pc := 27) hM dX0_typed_27 ?_
    refine k_dup (pc := 30) hC dX0_typed_30 rfl ?_
    refine gS_74 (pc := 31) hM dX0_typed_31 ?_
    refine k_iconst (pc := 34) (v := 1) hC dX0_typed_34 (by decide) ?_
    refine k_iadd (pc := 35) hC dX0_typed_35 ?_
    refine pS_74 (pc := 36) hM dX0_typed_36 hE (fun Q2 hE => ?_)
    refine k_iincE (pc := 39) (k := 2) (d := (-8)) (lv' := fun x3 => [(2, .int x3), (0, .ref x), (1, .int a1)]) hC dX0_typed_39 rfl (by decide) (by rw [hnL]; decide) hE (fun _ => rfl) (fun x3 hE => ?_)
    refine k_goto (pc := 42) (tgt := 3) hC dX0_typed_42 (by decide) ?_
    refine k_sub [1, 2, 0] rfl ?_
    exact hk3 _ _ _  hE
theorem w_S_typed_L3 {X : Ctx} {D : Dd} {x tx : Nat} {Xp : Jr} {T : Th} {S : Ji} {V : Nat → Ji} {out : Ji} (hM : Sxx X cX0_typed D x 3 rmS_typed) (hR : Rt X none (SW D x tx S out Xp V T) none 0 0) (F : Nat) (n : Nat) : ∀ (a1 : Int32) (a2 : Int32) (Q : Ji) , S_typed_L3 F T tx n a1 a2 Q = some out → Wk X 0 0 (SW D x tx S Q Xp V T) 3 [(0, .ref x), (1, .int a1), (2, .int a2)] [] := by
  induction n with
  | zero => intro a1 a2 Q h; cases h
  | succ n ih => intro a1 a2 Q h; exact w_S_typed_B3 hM hR F (S_typed_L3 F T tx n) ih a1 a2 Q h
set_option maxHeartbeats 4000000 in
theorem w_S_typed {X : Ctx} {D : Dd} {x tx : Nat} {Xp : Jr} {T : Th} {S : Ji} {V : Nat → Ji} {out : Ji} (hM : Sxx X cX0_typed D x 3 rmS_typed) (hR : Rt X none (SW D x tx S out Xp V T) none 0 0) (F : Nat) (a1 : Int32) (Q : Ji) (hE : S_typed F T tx a1 Q = some out) : Wk X 0 0 (SW D x tx S Q Xp V T) 0 [(0, .ref x), (1, .int a1)] [] := by
  have hC := hM.1
  have hnL := hM.2.2.1
  have hrm := hM.2.2.2
  have hDy : ∀ {S Q : Ji} {V : Nat → Ji} (H : Heap), SW D x tx S Q Xp V T H → Dy D T H := fun _ h => h.2.2.2.1
  unfold S_typed at hE
  refine k_bipush (pc := 0) (v := 24) hC dX0_typed_0 (by decide) ?_
  refine k_istore_n (pc := 2) (lv' := [(2, .int 24), (0, .ref x), (1, .int a1)]) hC dX0_typed_2 rfl (by rw [hnL]; decide) rfl ?_
  refine k_sub [1, 2, 0] rfl ?_
  exact w_S_typed_L3 hM hR F _ _ _ _  hE
theorem ct_S_typed (l : Launch) (D : Dd) (A : Nat → Prop) (x tx : Nat) (Xp : Jr) (T : Th) (hA : ∀ o, o < 847 → A (x + o)) (F : Nat) (a1 : Int32) (S Q : Ji) (V : Nat → Ji) (out : Ji) (hE : S_typed F T tx a1 Q = some out) : Ct l yX0_typed (ws_ yX0_typed cX0_typed 3 none) rmS_typed vwCl arTy D A [.ref x, .int a1] (SW D x tx S Q Xp V T) (SW D x tx S out Xp V T) none 0 0 := by
  refine Ct.of (by decide) (Nat.le_of_ble_eq_true rfl) rfl ?_
  intro X hl hrm hC hR hXA hnL _
  exact w_S_typed ⟨hC, by show ∀ o, o < 847 → cxA X (x + o); unfold cxA; rw [hXA]; exact hA, hnL, hrm⟩ hR F a1 Q hE
theorem cw_S_typed_X0 {X : Ctx} {cc : ByteArray} {D : Dd} {rm : Room} (hC : Cx X cc RX0 vwCl arTy D) (hrm : X.2.2.2.1 = rm) (h1 : rmS_typed.frames + 1 ≤ rm.frames) (h2 : 8 + (3 + 11) + rmS_typed.locals ≤ rm.locals) : CallW X.2.2.2.1 X.2.2.2.2.1 X.2.2.2.2.2.2.1 RX0 RX0 77 yX0_typed cX0_typed 3 none (ws_ yX0_typed cX0_typed 3 none) rmS_typed 0 0 1 := cwV 1 (cx_w hC) (lw_V q580 q582 qs1 q114 q583) rfl rfl rfl (by decide +kernel) (by rw [hrm]; exact ⟨h1, h2⟩)
abbrev rmS_feed : Room := { frames := 1, cells := 0, slots := 0, locals := 22 }
set_option maxHeartbeats 4000000 in
theorem w_S_feed {X : Ctx} {D : Dd} {x tx : Nat} {Xp : Jr} {T : Th} {S : Ji} {V : Nat → Ji} {out : Int32 × Ji} (hM : Sxx X cX0_feed D x 6 rmS_feed) (hR : Rt X (some .int) (SW D x tx S out.2 Xp V T) (some (.int out.1)) 0 0) (F : Nat) (a1 : Int32) (a2 : Int32) (a3 : Int32) (a4 : Int32) (a5 : Int32) (Q : Ji) (hE : S_feed F T tx a1 a2 a3 a4 a5 Q = some out) : Wk X 0 0 (SW D x tx S Q Xp V T) 0 [(0, .ref x), (1, .int a1), (2, .int a2), (3, .int a3), (4, .int a4), (5, .int a5)] [] := by
  have hC := hM.1
  have hnL := hM.2.2.1
  have hrm := hM.2.2.2
  have hDy : ∀ {S Q : Ji} {V : Nat → Ji} (H : Heap), SW D x tx S Q Xp V T H → Dy D T H := fun _ h => h.2.2.2.1
  unfold S_feed at hE
  refine k_aload_n (pc := 0) hC dX0_feed_0 rfl 0 rfl ?_
  refine gS_19 (pc := 1) hM dX0_feed_1 ?_
  refine gS_74 (pc := 4) hM dX0_feed_4 ?_
  refine k_bipush (pc := 7) (v := 20) hC dX0_feed_7 (by decide) ?_
  refine k_iadd (pc := 9) hC dX0_feed_9 ?_
  refine k_sipush (pc := 10) (v := 2000) hC dX0_feed_10 (by decide) ?_
  refine k_icmp_le (pc := 13) (tgt := 18) hC dX0_feed_13 (by decide) hE (fun hE => ?_) (fun hE => ?_)
  · refine k_aload_n (pc := 18) hC dX0_feed_18 rfl 0 rfl ?_
    refine k_iload_n (pc := 19) hC dX0_feed_19 rfl 1 rfl ?_
    refine s_ownV (pc := 20) (As := [.int a1]) (fun r => S) (fun r => r) (fun r => V) hM (cw_S_typed_X0 hC hrm (Nat.le_of_ble_eq_true rfl) (Nat.le_of_ble_eq_true rfl)) rfl rfl (Nat.le_of_ble_eq_true rfl) dX0_feed_20 hE (fun r h => ct_S_typed _ _ _ x tx Xp T hM.2.1 F a1 S Q V r h) (fun r1 hE => ?_)
    refine k_aload_n (pc := 23) hC dX0_feed_23 rfl 0 rfl ?_
    refine k_iload_n (pc := 24) hC dX0_feed_24 rfl 2 rfl ?_
    refine s_ownV (pc := 25) (As := [.int a2]) (fun r => S) (fun r => r) (fun r => V) hM (cw_S_typed_X0 hC hrm (Nat.le_of_ble_eq_true rfl) (Nat.le_of_ble_eq_true rfl)) rfl rfl (Nat.le_of_ble_eq_true rfl) dX0_feed_25 hE (fun r h => ct_S_typed _ _ _ x tx Xp T hM.2.1 F a2 S r1 V r h) (fun r2 hE => ?_)
    refine k_aload_n (pc := 28) hC dX0_feed_28 rfl 0 rfl ?_
    refine k_iload_n (pc := 29) hC dX0_feed_29 rfl 3 rfl ?_
    refine s_ownV (pc := 30) (As := [.int a3]) (fun r => S) (fun r => r) (fun r => V) hM (cw_S_typed_X0 hC hrm (Nat.le_of_ble_eq_true rfl) (Nat.le_of_ble_eq_true rfl)) rfl rfl (Nat.le_of_ble_eq_true rfl) dX0_feed_30 hE (fun r h => ct_S_typed _ _ _ x tx Xp T hM.2.1 F a3 S r2 V r h) (fun r3 hE => ?_)
    refine k_aload_n (pc := 33) hC dX0_feed_33 rfl 0 rfl ?_
    refine k_iload (pc := 34) hC dX0_feed_34 4 rfl ?_
    refine s_ownV (pc := 36) (As := [.int a4]) (fun r => S) (fun r => r) (fun r => V) hM (cw_S_typed_X0 hC hrm (Nat.le_of_ble_eq_true rfl) (Nat.le_of_ble_eq_true rfl)) rfl rfl (Nat.le_of_ble_eq_true rfl) dX0_feed_36 hE (fun r h => ct_S_typed _ _ _ x tx Xp T hM.2.1 F a4 S r3 V r h) (fun r4 hE => ?_)
    refine k_aload_n (pc := 39) hC dX0_feed_39 rfl 0 rfl ?_
    refine k_iload (pc := 40) hC dX0_feed_40 5 rfl ?_
    refine s_ownV (pc := 42) (As := [.int a5]) (fun r => S) (fun r => r) (fun r => V) hM (cw_S_typed_X0 hC hrm (Nat.le_of_ble_eq_true rfl) (Nat.le_of_ble_eq_true rfl)) rfl rfl (Nat.le_of_ble_eq_true rfl) dX0_feed_42 hE (fun r h => ct_S_typed _ _ _ x tx Xp T hM.2.1 F a5 S r4 V r h) (fun r5 hE => ?_)
    refine k_aload_n (pc := 45) hC dX0_feed_45 rfl 0 rfl ?_
    refine gS_19 (pc := 46) hM dX0_feed_46 ?_
    refine gS_74 (pc := 49) hM dX0_feed_49 ?_
    exact k_iret (pc := 52) hC hR ⟨Nat.le_refl 0, Nat.le_refl 0⟩ dX0_feed_52 (by cases hE; rfl) (by cases hE; exact fun _ h => h)
  · refine k_iconst (pc := 16) (v := (-1)) hC dX0_feed_16 (by decide) ?_
    exact k_iret (pc := 17) hC hR ⟨Nat.le_refl 0, Nat.le_refl 0⟩ dX0_feed_17 (by cases hE; rfl) (by cases hE; exact fun _ h => h)
theorem ct_S_feed (l : Launch) (D : Dd) (A : Nat → Prop) (x tx : Nat) (Xp : Jr) (T : Th) (hA : ∀ o, o < 847 → A (x + o)) (F : Nat) (a1 : Int32) (a2 : Int32) (a3 : Int32) (a4 : Int32) (a5 : Int32) (S Q : Ji) (V : Nat → Ji) (out : Int32 × Ji) (hE : S_feed F T tx a1 a2 a3 a4 a5 Q = some out) : Ct l yX0_feed (ws_ yX0_feed cX0_feed 6 (some .int)) rmS_feed vwCl arTy D A [.ref x, .int a1, .int a2, .int a3, .int a4, .int a5] (SW D x tx S Q Xp V T) (SW D x tx S out.2 Xp V T) (some (.int out.1)) 0 0 := by
  refine Ct.of (by decide) (Nat.le_of_ble_eq_true rfl) rfl ?_
  intro X hl hrm hC hR hXA hnL _
  exact w_S_feed ⟨hC, by show ∀ o, o < 847 → cxA X (x + o); unfold cxA; rw [hXA]; exact hA, hnL, hrm⟩ hR F a1 a2 a3 a4 a5 Q hE
abbrev rmS_back : Room := { frames := 0, cells := 0, slots := 0, locals := 0 }
set_option maxHeartbeats 4000000 in
theorem w_S_back {X : Ctx} {D : Dd} {x tx : Nat} {Xp : Jr} {T : Th} {S : Ji} {V : Nat → Ji} {out : Int32 × Ji} (hM : Sxx X cX0_back D x 2 rmS_back) (hR : Rt X (some .int) (SW D x tx S out.2 Xp V T) (some (.int out.1)) 0 0) (a1 : Int32) (Q : Ji) (hE : S_back T tx a1 Q = some out) : Wk X 0 0 (SW D x tx S Q Xp V T) 0 [(0, .ref x), (1, .int a1)] [] := by
  have hC := hM.1
  have hnL := hM.2.2.1
  have hrm := hM.2.2.2
  have hDy : ∀ {S Q : Ji} {V : Nat → Ji} (H : Heap), SW D x tx S Q Xp V T H → Dy D T H := fun _ h => h.2.2.2.1
  unfold S_back at hE
  refine k_iload_n (pc := 0) hC dX0_back_0 rfl 1 rfl ?_
  refine k_if_lt (pc := 1) (tgt := 15) hC dX0_back_1 (by decide) hE (fun hE => ?_) (fun hE => ?_)
  · refine k_iconst (pc := 15) (v := (-1)) hC dX0_back_15 (by decide) ?_
    exact k_iret (pc := 16) hC hR ⟨Nat.le_refl 0, Nat.le_refl 0⟩ dX0_back_16 (by cases hE; rfl) (by cases hE; exact fun _ h => h)
  · refine k_iload_n (pc := 4) hC dX0_back_4 rfl 1 rfl ?_
    refine k_aload_n (pc := 5) hC dX0_back_5 rfl 0 rfl ?_
    refine gS_19 (pc := 6) hM dX0_back_6 ?_
    refine gS_74 (pc := 9) hM dX0_back_9 ?_
    refine k_icmp_le (pc := 12) (tgt := 17) hC dX0_back_12 (by decide) hE (fun hE => ?_) (fun hE => ?_)
    · refine k_aload_n (pc := 17) hC dX0_back_17 rfl 0 rfl ?_
      refine gS_19 (pc := 18) hM dX0_back_18 ?_
      refine k_dup (pc := 21) hC dX0_back_21 rfl ?_
      refine gS_74 (pc := 22) hM dX0_back_22 ?_
      refine k_iload_n (pc := 25) hC dX0_back_25 rfl 1 rfl ?_
      refine k_isub (pc := 26) hC dX0_back_26 ?_
      refine pS_74 (pc := 27) hM dX0_back_27 hE (fun Q1 hE => ?_)
      refine k_aload_n (pc := 30) hC dX0_back_30 rfl 0 rfl ?_
      refine gS_19 (pc := 31) hM dX0_back_31 ?_
      refine gS_74 (pc := 34) hM dX0_back_34 ?_
      exact k_iret (pc := 37) hC hR ⟨Nat.le_refl 0, Nat.le_refl 0⟩ dX0_back_37 (by cases hE; rfl) (by cases hE; exact fun _ h => h)
    · refine k_iconst (pc := 15) (v := (-1)) hC dX0_back_15 (by decide) ?_
      exact k_iret (pc := 16) hC hR ⟨Nat.le_refl 0, Nat.le_refl 0⟩ dX0_back_16 (by cases hE; rfl) (by cases hE; exact fun _ h => h)
theorem ct_S_back (l : Launch) (D : Dd) (A : Nat → Prop) (x tx : Nat) (Xp : Jr) (T : Th) (hA : ∀ o, o < 847 → A (x + o)) (a1 : Int32) (S Q : Ji) (V : Nat → Ji) (out : Int32 × Ji) (hE : S_back T tx a1 Q = some out) : Ct l yX0_back (ws_ yX0_back cX0_back 2 (some .int)) rmS_back vwCl arTy D A [.ref x, .int a1] (SW D x tx S Q Xp V T) (SW D x tx S out.2 Xp V T) (some (.int out.1)) 0 0 := by
  refine Ct.of (by decide) (Nat.le_of_ble_eq_true rfl) rfl ?_
  intro X hl hrm hC hR hXA hnL _
  exact w_S_back ⟨hC, by show ∀ o, o < 847 → cxA X (x + o); unfold cxA; rw [hXA]; exact hA, hnL, hrm⟩ hR a1 Q hE
abbrev rmS_place : Room := { frames := 0, cells := 0, slots := 0, locals := 0 }
set_option maxHeartbeats 4000000 in
theorem w_S_place {X : Ctx} {D : Dd} {x tx : Nat} {Xp : Jr} {T : Th} {S : Ji} {Q : Ji} {V : Nat → Ji} {out : Int32} (hM : Sxx X cX0_place D x 1 rmS_place) (hR : Rt X (some .int) (SW D x tx S Q Xp V T) (some (.int out)) 0 0) (hE : S_place T tx S = some out) : Wk X 0 0 (SW D x tx S Q Xp V T) 0 [(0, .ref x)] [] := by
  have hC := hM.1
  have hnL := hM.2.2.1
  have hrm := hM.2.2.2
  have hDy : ∀ {S Q : Ji} {V : Nat → Ji} (H : Heap), SW D x tx S Q Xp V T H → Dy D T H := fun _ h => h.2.2.2.1
  unfold S_place at hE
  refine k_aload_n (pc := 0) hC dX0_place_0 rfl 0 rfl ?_
  refine gS_39 (pc := 1) hM dX0_place_1 ?_
  exact k_iret (pc := 4) hC hR ⟨Nat.le_refl 0, Nat.le_refl 0⟩ dX0_place_4 (by cases hE; rfl) (by cases hE; exact fun _ h => h)
theorem ct_S_place (l : Launch) (D : Dd) (A : Nat → Prop) (x tx : Nat) (Xp : Jr) (T : Th) (hA : ∀ o, o < 847 → A (x + o)) (S Q : Ji) (V : Nat → Ji) (out : Int32) (hE : S_place T tx S = some out) : Ct l yX0_place (ws_ yX0_place cX0_place 1 (some .int)) rmS_place vwCl arTy D A [.ref x] (SW D x tx S Q Xp V T) (SW D x tx S Q Xp V T) (some (.int out)) 0 0 := by
  refine Ct.of (by decide) (Nat.le_of_ble_eq_true rfl) rfl ?_
  intro X hl hrm hC hR hXA hnL _
  exact w_S_place ⟨hC, by show ∀ o, o < 847 → cxA X (x + o); unfold cxA; rw [hXA]; exact hA, hnL, hrm⟩ hR  hE
abbrev rmS_isIn : Room := { frames := 0, cells := 0, slots := 0, locals := 0 }
set_option maxHeartbeats 4000000 in
theorem w_S_isIn {X : Ctx} {D : Dd} {P : Heap → Prop} {out : Int32} (hM : Tx X cX0_isIn RX0 D 3 rmS_isIn) (hR : Rt X (some .boolean) P (some (.int out)) 0 0) (a0 : Int32) (a1 : Int32) (a2 : Int32) (hE : S_isIn a0 a1 a2 = some out) : Wk X 0 0 P 0 [(0, .int a0), (1, .int a1), (2, .int a2)] [] := by
  have hC := hM.1
  have hnL := hM.2.1
  have hrm := hM.2.2
  unfold S_isIn at hE
  refine k_iload_n (pc := 0) hC dX0_isIn_0 rfl 0 rfl ?_
  refine k_iload_n (pc := 1) hC dX0_isIn_1 rfl 1 rfl ?_
  refine k_icmp_lt (pc := 2) (tgt := 14) hC dX0_isIn_2 (by decide) hE (fun hE => ?_) (fun hE => ?_)
  · refine k_iconst (pc := 14) (v := 0) hC dX0_isIn_14 (by decide) ?_
    exact k_zret (pc := 15) (by decide) hC hR ⟨Nat.le_refl 0, Nat.le_refl 0⟩ dX0_isIn_15 (by cases hE; rfl) (by cases hE; exact fun _ h => h)
  · refine k_iload_n (pc := 5) hC dX0_isIn_5 rfl 0 rfl ?_
    refine k_iload_n (pc := 6) hC dX0_isIn_6 rfl 2 rfl ?_
    refine k_icmp_gt (pc := 7) (tgt := 14) hC dX0_isIn_7 (by decide) hE (fun hE => ?_) (fun hE => ?_)
    · refine k_iconst (pc := 14) (v := 0) hC dX0_isIn_14 (by decide) ?_
      exact k_zret (pc := 15) (by decide) hC hR ⟨Nat.le_refl 0, Nat.le_refl 0⟩ dX0_isIn_15 (by cases hE; rfl) (by cases hE; exact fun _ h => h)
    · refine k_iconst (pc := 10) (v := 1) hC dX0_isIn_10 (by decide) ?_
      refine k_goto (pc := 11) (tgt := 15) hC dX0_isIn_11 (by decide) ?_
      exact k_zret (pc := 15) (by decide) hC hR ⟨Nat.le_refl 0, Nat.le_refl 0⟩ dX0_isIn_15 (by cases hE; rfl) (by cases hE; exact fun _ h => h)
theorem ct_S_isIn (l : Launch) (D : Dd) (A : Nat → Prop) (P : Heap → Prop) (a0 : Int32) (a1 : Int32) (a2 : Int32) (out : Int32) (hE : S_isIn a0 a1 a2 = some out) : Ct l yX0_isIn (ws_ yX0_isIn cX0_isIn 3 (some .boolean)) rmS_isIn vwCl arTy D A [.int a0, .int a1, .int a2] P P (some (.int out)) 0 0 := by
  refine Ct.of (by decide) (Nat.le_of_ble_eq_true rfl) rfl ?_
  intro X hl hrm hC hR hXA hnL _
  exact w_S_isIn ⟨hC, hnL, hrm⟩ hR a0 a1 a2 hE
theorem cw_S_isIn_X0 {X : Ctx} {cc : ByteArray} {D : Dd} {rm : Room} (hC : Cx X cc RX0 vwCl arTy D) (hrm : X.2.2.2.1 = rm) (h1 : rmS_isIn.frames + 1 ≤ rm.frames) (h2 : 8 + (3 + 11) + rmS_isIn.locals ≤ rm.locals) : CallB X.2.2.2.1 X.2.2.2.2.1 X.2.2.2.2.2.2.1 RX0 103 yX0_isIn cX0_isIn 3 (some .boolean) (ws_ yX0_isIn cX0_isIn 3 (some .boolean)) rmS_isIn 0 0 3 ∧ (Cond.static yX0_isIn).before X.2.2.2.2.2.2.1 X.2.2.2.2.1 = true := va_cwS 3 (cx_w hC) (lw_S q1265 q1266 q114 q1267) rfl rfl rfl (by decide +kernel) (by rw [hrm]; exact ⟨h1, h2⟩)
abbrev rmS_isOne : Room := { frames := 1, cells := 0, slots := 0, locals := 22 }
set_option maxHeartbeats 4000000 in
theorem w_S_isOne {X : Ctx} {D : Dd} {P : Heap → Prop} {out : Int32} (hM : Tx X cX0_isOne RX0 D 2 rmS_isOne) (hR : Rt X (some .boolean) P (some (.int out)) 0 0) (a0 : Int32) (a1 : Int32) (hE : S_isOne a0 a1 = some out) : Wk X 0 0 P 0 [(0, .int a0), (1, .int a1)] [] := by
  have hC := hM.1
  have hnL := hM.2.1
  have hrm := hM.2.2
  unfold S_isOne at hE
  refine k_iload_n (pc := 0) hC dX0_isOne_0 rfl 0 rfl ?_
  refine k_iconst (pc := 1) (v := 0) hC dX0_isOne_1 (by decide) ?_
  refine k_iload_n (pc := 2) hC dX0_isOne_2 rfl 1 rfl ?_
  refine k_iconst (pc := 3) (v := 1) hC dX0_isOne_3 (by decide) ?_
  refine k_isub (pc := 4) hC dX0_isOne_4 ?_
  refine m_callSI (pc := 5) (As := [.int a0, .int 0, .int (a1 - 1)]) (fun r => r) hC (cw_S_isIn_X0 hC hrm (Nat.le_of_ble_eq_true rfl) (Nat.le_of_ble_eq_true rfl)) rfl rfl (Nat.le_of_ble_eq_true rfl) ⟨Nat.zero_le _, Nat.zero_le _⟩ dX0_isOne_5 hE (fun r h => ct_S_isIn _ _ _ _ a0 0 (a1 - 1) r h) (fun r1 hE => ?_)
  obtain ⟨r2, hz, hE⟩ := ob_ hE
  obtain ⟨hz1, hz⟩ := bz_some hz
  rw [hz1]
  exact k_zret (pc := 8) hz hC hR ⟨Nat.le_refl 0, Nat.le_refl 0⟩ dX0_isOne_8 (by cases hE; rfl) (by cases hE; exact fun _ h => h)
theorem ct_S_isOne (l : Launch) (D : Dd) (A : Nat → Prop) (P : Heap → Prop) (a0 : Int32) (a1 : Int32) (out : Int32) (hE : S_isOne a0 a1 = some out) : Ct l yX0_isOne (ws_ yX0_isOne cX0_isOne 2 (some .boolean)) rmS_isOne vwCl arTy D A [.int a0, .int a1] P P (some (.int out)) 0 0 := by
  refine Ct.of (by decide) (Nat.le_of_ble_eq_true rfl) rfl ?_
  intro X hl hrm hC hR hXA hnL _
  exact w_S_isOne ⟨hC, hnL, hrm⟩ hR a0 a1 hE
theorem cw_S_isOne_X0 {X : Ctx} {cc : ByteArray} {D : Dd} {rm : Room} (hC : Cx X cc RX0 vwCl arTy D) (hrm : X.2.2.2.1 = rm) (h1 : rmS_isOne.frames + 1 ≤ rm.frames) (h2 : 8 + (2 + 11) + rmS_isOne.locals ≤ rm.locals) : CallB X.2.2.2.1 X.2.2.2.2.1 X.2.2.2.2.2.2.1 RX0 117 yX0_isOne cX0_isOne 2 (some .boolean) (ws_ yX0_isOne cX0_isOne 2 (some .boolean)) rmS_isOne 0 0 2 ∧ (Cond.static yX0_isOne).before X.2.2.2.2.2.2.1 X.2.2.2.2.1 = true := va_cwS 2 (cx_w hC) (lw_S q1262 q1263 q114 q1264) rfl rfl rfl (by decide +kernel) (by rw [hrm]; exact ⟨h1, h2⟩)
abbrev rmS_isTask : Room := { frames := 2, cells := 0, slots := 0, locals := 43 }
set_option maxHeartbeats 4000000 in
theorem w_S_isTask {X : Ctx} {D : Dd} {x tx : Nat} {Xp : Jr} {T : Th} {S : Ji} {Q : Ji} {V : Nat → Ji} {out : Int32} (hM : Sxx X cX0_isTask D x 2 rmS_isTask) (hR : Rt X (some .boolean) (SW D x tx S Q Xp V T) (some (.int out)) 0 0) (a1 : Int32) (hE : S_isTask T tx a1 = some out) : Wk X 0 0 (SW D x tx S Q Xp V T) 0 [(0, .ref x), (1, .int a1)] [] := by
  have hC := hM.1
  have hnL := hM.2.2.1
  have hrm := hM.2.2.2
  have hDy : ∀ {S Q : Ji} {V : Nat → Ji} (H : Heap), SW D x tx S Q Xp V T H → Dy D T H := fun _ h => h.2.2.2.1
  unfold S_isTask at hE
  refine k_iload_n (pc := 0) hC dX0_isTask_0 rfl 1 rfl ?_
  refine k_aload_n (pc := 1) hC dX0_isTask_1 rfl 0 rfl ?_
  refine gS_35 (pc := 2) hM dX0_isTask_2 ?_
  refine gD_X0_107_X4 (pc := 5) hC hDy dX0_isTask_5 hE (fun x1 hE => ?_)
  refine k_nn (G := fun z => Wk X 0 0 (SW D x tx S Q Xp V T) 8 [(0, .ref x), (1, .int a1)] [z, .int a1]) hE (fun b2 hE => ?_)
  refine t_callVI (pc := 8) (As := []) 19 (fun r => r) hC hDy cl_J5 (cw_L_size_X0 hC hrm (Nat.le_of_ble_eq_true rfl) (Nat.le_of_ble_eq_true rfl)) rfl rfl (Nat.le_of_ble_eq_true rfl) ⟨Nat.zero_le _, Nat.zero_le _⟩ dX0_isTask_8 hE (fun r h => ct_L_size _ _ _ _ T hDy b2 r h) (fun r3 hE => ?_)
  refine m_callSI (pc := 11) (As := [.int a1, .int r3]) (fun r => r) hC (cw_S_isOne_X0 hC hrm (Nat.le_of_ble_eq_true rfl) (Nat.le_of_ble_eq_true rfl)) rfl rfl (Nat.le_of_ble_eq_true rfl) ⟨Nat.zero_le _, Nat.zero_le _⟩ dX0_isTask_11 hE (fun r h => ct_S_isOne _ _ _ _ a1 r3 r h) (fun r4 hE => ?_)
  obtain ⟨r5, hz, hE⟩ := ob_ hE
  obtain ⟨hz1, hz⟩ := bz_some hz
  rw [hz1]
  exact k_zret (pc := 14) hz hC hR ⟨Nat.le_refl 0, Nat.le_refl 0⟩ dX0_isTask_14 (by cases hE; rfl) (by cases hE; exact fun _ h => h)
theorem ct_S_isTask (l : Launch) (D : Dd) (A : Nat → Prop) (x tx : Nat) (Xp : Jr) (T : Th) (hA : ∀ o, o < 847 → A (x + o)) (a1 : Int32) (S Q : Ji) (V : Nat → Ji) (out : Int32) (hE : S_isTask T tx a1 = some out) : Ct l yX0_isTask (ws_ yX0_isTask cX0_isTask 2 (some .boolean)) rmS_isTask vwCl arTy D A [.ref x, .int a1] (SW D x tx S Q Xp V T) (SW D x tx S Q Xp V T) (some (.int out)) 0 0 := by
  refine Ct.of (by decide) (Nat.le_of_ble_eq_true rfl) rfl ?_
  intro X hl hrm hC hR hXA hnL _
  exact w_S_isTask ⟨hC, by show ∀ o, o < 847 → cxA X (x + o); unfold cxA; rw [hXA]; exact hA, hnL, hrm⟩ hR a1 hE
theorem cw_S_isTask_X0 {X : Ctx} {cc : ByteArray} {D : Dd} {rm : Room} (hC : Cx X cc RX0 vwCl arTy D) (hrm : X.2.2.2.1 = rm) (h1 : rmS_isTask.frames + 1 ≤ rm.frames) (h2 : 8 + (2 + 11) + rmS_isTask.locals ≤ rm.locals) : CallW X.2.2.2.1 X.2.2.2.2.1 X.2.2.2.2.2.2.1 RX0 RX0 127 yX0_isTask cX0_isTask 2 (some .boolean) (ws_ yX0_isTask cX0_isTask 2 (some .boolean)) rmS_isTask 0 0 1 := cwV 1 (cx_w hC) (lw_V q1257 q1259 qs34 q114 q1260) rfl rfl rfl (by decide +kernel) (by rw [hrm]; exact ⟨h1, h2⟩)
abbrev rmS_task : Room := { frames := 4, cells := 0, slots := 0, locals := 91 }
set_option maxHeartbeats 4000000 in
theorem w_S_task {X : Ctx} {D : Dd} {x tx : Nat} {Xp : Jr} {T : Th} {S : Ji} {Q : Ji} {V : Nat → Ji} {out : Int32} (hM : Sxx X cX0_task D x 3 rmS_task) (hR : Rt X (some .int) (SW D x tx S Q Xp V T) (some (.int out)) 0 0) (F : Nat) (a1 : Int32) (a2 : Int32) (hE : S_task F T tx V a1 a2 = some out) : Wk X 0 0 (SW D x tx S Q Xp V T) 0 [(0, .ref x), (1, .int a1), (2, .int a2)] [] := by
  have hC := hM.1
  have hnL := hM.2.2.1
  have hrm := hM.2.2.2
  have hDy : ∀ {S Q : Ji} {V : Nat → Ji} (H : Heap), SW D x tx S Q Xp V T H → Dy D T H := fun _ h => h.2.2.2.1
  unfold S_task at hE
  refine k_aload_n (pc := 0) hC dX0_task_0 rfl 0 rfl ?_
  refine k_iload_n (pc := 1) hC dX0_task_1 rfl 1 rfl ?_
  refine s_ownI (pc := 2) (As := [.int a1]) (fun r => r) (fun r => S) (fun r => Q) (fun r => V) hM (cw_S_isTask_X0 hC hrm (Nat.le_of_ble_eq_true rfl) (Nat.le_of_ble_eq_true rfl)) rfl rfl (Nat.le_of_ble_eq_true rfl) dX0_task_2 hE (fun r h => ct_S_isTask _ _ _ x tx Xp T hM.2.1 a1 S Q V r h) (fun r1 hE => ?_)
  refine k_if_ne (pc := 5) (tgt := 10) hC dX0_task_5 (by decide) hE (fun hE => ?_) (fun hE => ?_)
  · refine k_iconst (pc := 8) (v := (-1)) hC dX0_task_8 (by decide) ?_
    exact k_iret (pc := 9) hC hR ⟨Nat.le_refl 0, Nat.le_refl 0⟩ dX0_task_9 (by cases hE; rfl) (by cases hE; exact fun _ h => h)
  · refine k_iload_n (pc := 10) hC dX0_task_10 rfl 2 rfl ?_
    refine sw_E hE (fun hx hE => ?_) (fun n0 hE => ?_)
    · refine k_tswI (pc := 11) (k := 0) (tgt := 44) hC dX0_task_11 hx (by decide) (by decide) rfl (by decide) ?_
      refine k_aload_n (pc := 44) hC dX0_task_44 rfl 0 rfl ?_
      refine gS_35 (pc := 45) hM dX0_task_45 ?_
      refine gD_X0_107_X4 (pc := 48) hC hDy dX0_task_48 hE (fun x2 hE => ?_)
      refine k_iload_n (pc := 51) hC dX0_task_51 rfl 1 rfl ?_
      refine k_nn (G := fun z => Wk X 0 0 (SW D x tx S Q Xp V T) 52 [(0, .ref x), (1, .int a1), (2, .int a2)] [.int a1, z]) hE (fun b3 hE => ?_)
      refine t_callVR (pc := 52) (As := [.int a1]) 19 (fun r => r) hC hDy cl_J5 (cw_L_get_X0 hC hrm (Nat.le_of_ble_eq_true rfl) (Nat.le_of_ble_eq_true rfl)) rfl rfl (Nat.le_of_ble_eq_true rfl) ⟨Nat.zero_le _, Nat.zero_le _⟩ dX0_task_52 hE (fun r h => ct_L_get _ _ _ _ T hDy b3 a1 r h) (fun r4 hE => ?_)
      refine k_nn (G := fun z => Wk X 0 0 (SW D x tx S Q Xp V T) 55 [(0, .ref x), (1, .int a1), (2, .int a2)] [z]) hE (fun b5 hE => ?_)
      refine dy_castS (pc := 55) hC hDy cl_X13 q1269 dX0_task_55 hE (fun hE => ?_)
      refine gD_X0_140_X13 (pc := 58) hC hDy dX0_task_58 hE (fun x6 hE => ?_)
      exact k_iret (pc := 61) hC hR ⟨Nat.le_refl 0, Nat.le_refl 0⟩ dX0_task_61 (by cases hE; rfl) (by cases hE; exact fun _ h => h)
    refine sw_E hE (fun hx hE => ?_) (fun n1 hE => ?_)
    · refine k_tswI (pc := 11) (k := 1) (tgt := 62) hC dX0_task_11 hx (by decide) (by decide) rfl (by decide) ?_
      refine k_aload_n (pc := 62) hC dX0_task_62 rfl 0 rfl ?_
      refine gS_35 (pc := 63) hM dX0_task_63 ?_
      refine gD_X0_107_X4 (pc := 66) hC hDy dX0_task_66 hE (fun x7 hE => ?_)
      refine k_iload_n (pc := 69) hC dX0_task_69 rfl 1 rfl ?_
      refine k_nn (G := fun z => Wk X 0 0 (SW D x tx S Q Xp V T) 70 [(0, .ref x), (1, .int a1), (2, .int a2)] [.int a1, z]) hE (fun b8 hE => ?_)
      refine t_callVR (pc := 70) (As := [.int a1]) 19 (fun r => r) hC hDy cl_J5 (cw_L_get_X0 hC hrm (Nat.le_of_ble_eq_true rfl) (Nat.le_of_ble_eq_true rfl)) rfl rfl (Nat.le_of_ble_eq_true rfl) ⟨Nat.zero_le _, Nat.zero_le _⟩ dX0_task_70 hE (fun r h => ct_L_get _ _ _ _ T hDy b8 a1 r h) (fun r9 hE => ?_)
      refine k_nn (G := fun z => Wk X 0 0 (SW D x tx S Q Xp V T) 73 [(0, .ref x), (1, .int a1), (2, .int a2)] [z]) hE (fun b10 hE => ?_)
      refine dy_castS (pc := 73) hC hDy cl_X13 q1269 dX0_task_73 hE (fun hE => ?_)
      refine gD_X0_143_X13 (pc := 76) hC hDy dX0_task_76 hE (fun x11 hE => ?_)
      refine k_nn (G := fun z => Wk X 0 0 (SW D x tx S Q Xp V T) 79 [(0, .ref x), (1, .int a1), (2, .int a2)] [z]) hE (fun b12 hE => ?_)
      refine t_callVI (pc := 79) (As := []) 19 (fun r => r) hC hDy cl_J5 (cw_L_size_X0 hC hrm (Nat.le_of_ble_eq_true rfl) (Nat.le_of_ble_eq_true rfl)) rfl rfl (Nat.le_of_ble_eq_true rfl) ⟨Nat.zero_le _, Nat.zero_le _⟩ dX0_task_79 hE (fun r h => ct_L_size _ _ _ _ T hDy b12 r h) (fun r13 hE => ?_)
      exact k_iret (pc := 82) hC hR ⟨Nat.le_refl 0, Nat.le_refl 0⟩ dX0_task_82 (by cases hE; rfl) (by cases hE; exact fun _ h => h)
    refine sw_E hE (fun hx hE => ?_) (fun n2 hE => ?_)
    · refine k_tswI (pc := 11) (k := 2) (tgt := 83) hC dX0_task_11 hx (by decide) (by decide) rfl (by decide) ?_
      refine k_aload_n (pc := 83) hC dX0_task_83 rfl 0 rfl ?_
      refine gS_46 (pc := 84) hM dX0_task_84 ?_
      refine gSV_146 (pc := 87) (by decide) hM dX0_task_87 ?_
      refine k_iload_n (pc := 90) hC dX0_task_90 rfl 1 rfl ?_
      refine sV_iald (pc := 91) (by decide) 8 lv_8 hM dX0_task_91 hE (fun x14 hE => ?_)
      exact k_iret (pc := 92) hC hR ⟨Nat.le_refl 0, Nat.le_refl 0⟩ dX0_task_92 (by cases hE; rfl) (by cases hE; exact fun _ h => h)
    refine sw_E hE (fun hx hE => ?_) (fun n3 hE => ?_)
    · refine k_tswI (pc := 11) (k := 3) (tgt := 93) hC dX0_task_11 hx (by decide) (by decide) rfl (by decide) ?_
      refine k_aload_n (pc := 93) hC dX0_task_93 rfl 0 rfl ?_
      refine gS_46 (pc := 94) hM dX0_task_94 ?_
      refine k_aload_n (pc := 97) hC dX0_task_97 rfl 0 rfl ?_
      refine gS_35 (pc := 98) hM dX0_task_98 ?_
      refine k_iload_n (pc := 101) hC dX0_task_101 rfl 1 rfl ?_
      refine s_vcallI (pc := 102) (As := [.ref tx, .int a1]) (by decide) (fun r => r) (fun _ => V 0) hM (cw_V_worth_X0 hC hrm (Nat.le_of_ble_eq_true rfl) (Nat.le_of_ble_eq_true rfl)) rfl rfl (Nat.le_of_ble_eq_true rfl) dX0_task_102 hE (fun r h => ct_V_worth _ _ _ _ T fpV_A F tx a1 (V 0) r h) (fun r15 hE => ?_)
      rw [vf_same]
      exact k_iret (pc := 105) hC hR ⟨Nat.le_refl 0, Nat.le_refl 0⟩ dX0_task_105 (by cases hE; rfl) (by cases hE; exact fun _ h => h)
    refine sw_E hE (fun hx hE => ?_) (fun n4 hE => ?_)
    · refine k_tswI (pc := 11) (k := 4) (tgt := 106) hC dX0_task_11 hx (by decide) (by decide) rfl (by decide) ?_
      refine k_aload_n (pc := 106) hC dX0_task_106 rfl 0 rfl ?_
      refine gS_46 (pc := 107) hM dX0_task_107 ?_
      refine k_aload_n (pc := 110) hC dX0_task_110 rfl 0 rfl ?_
      refine gS_35 (pc := 111) hM dX0_task_111 ?_
      refine k_iload_n (pc := 114) hC dX0_task_114 rfl 1 rfl ?_
      refine s_vcallI (pc := 115) (As := [.ref tx, .int a1]) (by decide) (fun r => r) (fun _ => V 0) hM (cw_V_isEnded_X0 hC hrm (Nat.le_of_ble_eq_true rfl) (Nat.le_of_ble_eq_true rfl)) rfl rfl (Nat.le_of_ble_eq_true rfl) dX0_task_115 hE (fun r h => ct_V_isEnded _ _ _ _ T fpV_A F tx a1 (V 0) r h) (fun r16 hE => ?_)
      rw [vf_same]
      refine k_if_eq (pc := 118) (tgt := 125) hC dX0_task_118 (by decide) hE (fun hE => ?_) (fun hE => ?_)
      · refine k_iconst (pc := 125) (v := 0) hC dX0_task_125 (by decide) ?_
        exact k_iret (pc := 126) hC hR ⟨Nat.le_refl 0, Nat.le_refl 0⟩ dX0_task_126 (by cases hE; rfl) (by cases hE; exact fun _ h => h)
      · refine k_iconst (pc := 121) (v := 1) hC dX0_task_121 (by decide) ?_
        refine k_goto (pc := 122) (tgt := 126) hC dX0_task_122 (by decide) ?_
        exact k_iret (pc := 126) hC hR ⟨Nat.le_refl 0, Nat.le_refl 0⟩ dX0_task_126 (by cases hE; rfl) (by cases hE; exact fun _ h => h)
    have z0 := sw_ne (z := 0) n0 rfl
    have z1 := sw_ne (z := 1) n1 rfl
    have z2 := sw_ne (z := 2) n2 rfl
    have z3 := sw_ne (z := 3) n3 rfl
    have z4 := sw_ne (z := 4) n4 rfl
    refine k_tswO (pc := 11) (tgt := 127) hC dX0_task_11 (by omega) (by decide) ?_
    refine k_iconst (pc := 127) (v := (-1)) hC dX0_task_127 (by decide) ?_
    exact k_iret (pc := 128) hC hR ⟨Nat.le_refl 0, Nat.le_refl 0⟩ dX0_task_128 (by cases hE; rfl) (by cases hE; exact fun _ h => h)
theorem ct_S_task (l : Launch) (D : Dd) (A : Nat → Prop) (x tx : Nat) (Xp : Jr) (T : Th) (hA : ∀ o, o < 847 → A (x + o)) (F : Nat) (a1 : Int32) (a2 : Int32) (S Q : Ji) (V : Nat → Ji) (out : Int32) (hE : S_task F T tx V a1 a2 = some out) : Ct l yX0_task (ws_ yX0_task cX0_task 3 (some .int)) rmS_task vwCl arTy D A [.ref x, .int a1, .int a2] (SW D x tx S Q Xp V T) (SW D x tx S Q Xp V T) (some (.int out)) 0 0 := by
  refine Ct.of (by decide) (Nat.le_of_ble_eq_true rfl) rfl ?_
  intro X hl hrm hC hR hXA hnL _
  exact w_S_task ⟨hC, by show ∀ o, o < 847 → cxA X (x + o); unfold cxA; rw [hXA]; exact hA, hnL, hrm⟩ hR F a1 a2 hE
abbrev rmS_isStep : Room := { frames := 3, cells := 0, slots := 0, locals := 64 }
set_option maxHeartbeats 4000000 in
theorem w_S_isStep {X : Ctx} {D : Dd} {x tx : Nat} {Xp : Jr} {T : Th} {S : Ji} {Q : Ji} {V : Nat → Ji} {out : Int32} (hM : Sxx X cX0_isStep D x 3 rmS_isStep) (hR : Rt X (some .boolean) (SW D x tx S Q Xp V T) (some (.int out)) 0 0) (a1 : Int32) (a2 : Int32) (hE : S_isStep T tx a1 a2 = some out) : Wk X 0 0 (SW D x tx S Q Xp V T) 0 [(0, .ref x), (1, .int a1), (2, .int a2)] [] := by
  have hC := hM.1
  have hnL := hM.2.2.1
  have hrm := hM.2.2.2
  have hDy : ∀ {S Q : Ji} {V : Nat → Ji} (H : Heap), SW D x tx S Q Xp V T H → Dy D T H := fun _ h => h.2.2.2.1
  unfold S_isStep at hE
  refine k_aload_n (pc := 0) hC dX0_isStep_0 rfl 0 rfl ?_
  refine k_iload_n (pc := 1) hC dX0_isStep_1 rfl 1 rfl ?_
  refine s_ownI (pc := 2) (As := [.int a1]) (fun r => r) (fun r => S) (fun r => Q) (fun r => V) hM (cw_S_isTask_X0 hC hrm (Nat.le_of_ble_eq_true rfl) (Nat.le_of_ble_eq_true rfl)) rfl rfl (Nat.le_of_ble_eq_true rfl) dX0_isStep_2 hE (fun r h => ct_S_isTask _ _ _ x tx Xp T hM.2.1 a1 S Q V r h) (fun r1 hE => ?_)
  refine k_if_eq (pc := 5) (tgt := 33) hC dX0_isStep_5 (by decide) hE (fun hE => ?_) (fun hE => ?_)
  · refine k_iconst (pc := 33) (v := 0) hC dX0_isStep_33 (by decide) ?_
    exact k_zret (pc := 34) (by decide) hC hR ⟨Nat.le_refl 0, Nat.le_refl 0⟩ dX0_isStep_34 (by cases hE; rfl) (by cases hE; exact fun _ h => h)
  · refine k_aload_n (pc := 8) hC dX0_isStep_8 rfl 0 rfl ?_
    refine gS_35 (pc := 9) hM dX0_isStep_9 ?_
    refine gD_X0_107_X4 (pc := 12) hC hDy dX0_isStep_12 hE (fun x2 hE => ?_)
    refine k_iload_n (pc := 15) hC dX0_isStep_15 rfl 1 rfl ?_
    refine k_nn (G := fun z => Wk X 0 0 (SW D x tx S Q Xp V T) 16 [(0, .ref x), (1, .int a1), (2, .int a2)] [.int a1, z]) hE (fun b3 hE => ?_)
    refine t_callVR (pc := 16) (As := [.int a1]) 19 (fun r => r) hC hDy cl_J5 (cw_L_get_X0 hC hrm (Nat.le_of_ble_eq_true rfl) (Nat.le_of_ble_eq_true rfl)) rfl rfl (Nat.le_of_ble_eq_true rfl) ⟨Nat.zero_le _, Nat.zero_le _⟩ dX0_isStep_16 hE (fun r h => ct_L_get _ _ _ _ T hDy b3 a1 r h) (fun r4 hE => ?_)
    refine k_nn (G := fun z => Wk X 0 0 (SW D x tx S Q Xp V T) 19 [(0, .ref x), (1, .int a1), (2, .int a2)] [z]) hE (fun b5 hE => ?_)
    refine dy_castS (pc := 19) hC hDy cl_X13 q1269 dX0_isStep_19 hE (fun hE => ?_)
    refine k_iload_n (pc := 22) hC dX0_isStep_22 rfl 2 rfl ?_
    refine t_callVI (pc := 23) (As := [.int a2]) 12 (fun r => r) hC hDy cl_X13 (cw_C_isStep_X0 hC hrm (Nat.le_of_ble_eq_true rfl) (Nat.le_of_ble_eq_true rfl)) rfl rfl (Nat.le_of_ble_eq_true rfl) ⟨Nat.zero_le _, Nat.zero_le _⟩ dX0_isStep_23 hE (fun r h => ct_C_isStep _ _ _ _ T hDy b5 a2 r h) (fun r6 hE => ?_)
    refine k_if_eq (pc := 26) (tgt := 33) hC dX0_isStep_26 (by decide) hE (fun hE => ?_) (fun hE => ?_)
    · refine k_iconst (pc := 33) (v := 0) hC dX0_isStep_33 (by decide) ?_
      exact k_zret (pc := 34) (by decide) hC hR ⟨Nat.le_refl 0, Nat.le_refl 0⟩ dX0_isStep_34 (by cases hE; rfl) (by cases hE; exact fun _ h => h)
    · refine k_iconst (pc := 29) (v := 1) hC dX0_isStep_29 (by decide) ?_
      refine k_goto (pc := 30) (tgt := 34) hC dX0_isStep_30 (by decide) ?_
      exact k_zret (pc := 34) (by decide) hC hR ⟨Nat.le_refl 0, Nat.le_refl 0⟩ dX0_isStep_34 (by cases hE; rfl) (by cases hE; exact fun _ h => h)
theorem ct_S_isStep (l : Launch) (D : Dd) (A : Nat → Prop) (x tx : Nat) (Xp : Jr) (T : Th) (hA : ∀ o, o < 847 → A (x + o)) (a1 : Int32) (a2 : Int32) (S Q : Ji) (V : Nat → Ji) (out : Int32) (hE : S_isStep T tx a1 a2 = some out) : Ct l yX0_isStep (ws_ yX0_isStep cX0_isStep 3 (some .boolean)) rmS_isStep vwCl arTy D A [.ref x, .int a1, .int a2] (SW D x tx S Q Xp V T) (SW D x tx S Q Xp V T) (some (.int out)) 0 0 := by
  refine Ct.of (by decide) (Nat.le_of_ble_eq_true rfl) rfl ?_
  intro X hl hrm hC hR hXA hnL _
  exact w_S_isStep ⟨hC, by show ∀ o, o < 847 → cxA X (x + o); unfold cxA; rw [hXA]; exact hA, hnL, hrm⟩ hR a1 a2 hE
theorem cw_S_isStep_X0 {X : Ctx} {cc : ByteArray} {D : Dd} {rm : Room} (hC : Cx X cc RX0 vwCl arTy D) (hrm : X.2.2.2.1 = rm) (h1 : rmS_isStep.frames + 1 ≤ rm.frames) (h2 : 8 + (3 + 11) + rmS_isStep.locals ≤ rm.locals) : CallW X.2.2.2.1 X.2.2.2.2.1 X.2.2.2.2.2.2.1 RX0 RX0 157 yX0_isStep cX0_isStep 3 (some .boolean) (ws_ yX0_isStep cX0_isStep 3 (some .boolean)) rmS_isStep 0 0 2 := cwV 2 (cx_w hC) (lw_V q1285 q1287 qs35 q114 q1288) rfl rfl rfl (by decide +kernel) (by rw [hrm]; exact ⟨h1, h2⟩)
abbrev rmS_step : Room := { frames := 4, cells := 0, slots := 0, locals := 86 }
set_option maxHeartbeats 4000000 in
theorem w_S_step {X : Ctx} {D : Dd} {x tx : Nat} {Xp : Jr} {T : Th} {S : Ji} {Q : Ji} {V : Nat → Ji} {out : Int32} (hM : Sxx X cX0_step D x 5 rmS_step) (hR : Rt X (some .int) (SW D x tx S Q Xp V T) (some (.int out)) 0 0) (a1 : Int32) (a2 : Int32) (a3 : Int32) (hE : S_step T tx V a1 a2 a3 = some out) : Wk X 0 0 (SW D x tx S Q Xp V T) 0 [(0, .ref x), (1, .int a1), (2, .int a2), (3, .int a3)] [] := by
  have hC := hM.1
  have hnL := hM.2.2.1
  have hrm := hM.2.2.2
  have hDy : ∀ {S Q : Ji} {V : Nat → Ji} (H : Heap), SW D x tx S Q Xp V T H → Dy D T H := fun _ h => h.2.2.2.1
  unfold S_step at hE
  refine k_aload_n (pc := 0) hC dX0_step_0 rfl 0 rfl ?_
  refine k_iload_n (pc := 1) hC dX0_step_1 rfl 1 rfl ?_
  refine k_iload_n (pc := 2) hC dX0_step_2 rfl 2 rfl ?_
  refine s_ownI (pc := 3) (As := [.int a1, .int a2]) (fun r => r) (fun r => S) (fun r => Q) (fun r => V) hM (cw_S_isStep_X0 hC hrm (Nat.le_of_ble_eq_true rfl) (Nat.le_of_ble_eq_true rfl)) rfl rfl (Nat.le_of_ble_eq_true rfl) dX0_step_3 hE (fun r h => ct_S_isStep _ _ _ x tx Xp T hM.2.1 a1 a2 S Q V r h) (fun r1 hE => ?_)
  refine k_if_ne (pc := 6) (tgt := 11) hC dX0_step_6 (by decide) hE (fun hE => ?_) (fun hE => ?_)
  · refine k_iconst (pc := 9) (v := (-1)) hC dX0_step_9 (by decide) ?_
    exact k_iret (pc := 10) hC hR ⟨Nat.le_refl 0, Nat.le_refl 0⟩ dX0_step_10 (by cases hE; rfl) (by cases hE; exact fun _ h => h)
  · refine k_aload_n (pc := 11) hC dX0_step_11 rfl 0 rfl ?_
    refine gS_35 (pc := 12) hM dX0_step_12 ?_
    refine gD_X0_107_X4 (pc := 15) hC hDy dX0_step_15 hE (fun x2 hE => ?_)
    refine k_iload_n (pc := 18) hC dX0_step_18 rfl 1 rfl ?_
    refine k_nn (G := fun z => Wk X 0 0 (SW D x tx S Q Xp V T) 19 [(0, .ref x), (1, .int a1), (2, .int a2), (3, .int a3)] [.int a1, z]) hE (fun b3 hE => ?_)
    refine t_callVR (pc := 19) (As := [.int a1]) 19 (fun r => r) hC hDy cl_J5 (cw_L_get_X0 hC hrm (Nat.le_of_ble_eq_true rfl) (Nat.le_of_ble_eq_true rfl)) rfl rfl (Nat.le_of_ble_eq_true rfl) ⟨Nat.zero_le _, Nat.zero_le _⟩ dX0_step_19 hE (fun r h => ct_L_get _ _ _ _ T hDy b3 a1 r h) (fun r4 hE => ?_)
    refine k_nn (G := fun z => Wk X 0 0 (SW D x tx S Q Xp V T) 22 [(0, .ref x), (1, .int a1), (2, .int a2), (3, .int a3)] [z]) hE (fun b5 hE => ?_)
    refine dy_castS (pc := 22) hC hDy cl_X13 q1269 dX0_step_22 hE (fun hE => ?_)
    refine gD_X0_143_X13 (pc := 25) hC hDy dX0_step_25 hE (fun x6 hE => ?_)
    refine k_iload_n (pc := 28) hC dX0_step_28 rfl 2 rfl ?_
    refine k_nn (G := fun z => Wk X 0 0 (SW D x tx S Q Xp V T) 29 [(0, .ref x), (1, .int a1), (2, .int a2), (3, .int a3)] [.int a2, z]) hE (fun b7 hE => ?_)
    refine t_callVR (pc := 29) (As := [.int a2]) 19 (fun r => r) hC hDy cl_J5 (cw_L_get_X0 hC hrm (Nat.le_of_ble_eq_true rfl) (Nat.le_of_ble_eq_true rfl)) rfl rfl (Nat.le_of_ble_eq_true rfl) ⟨Nat.zero_le _, Nat.zero_le _⟩ dX0_step_29 hE (fun r h => ct_L_get _ _ _ _ T hDy b7 a2 r h) (fun r8 hE => ?_)
    refine k_nn (G := fun z => Wk X 0 0 (SW D x tx S Q Xp V T) 32 [(0, .ref x), (1, .int a1), (2, .int a2), (3, .int a3)] [z]) hE (fun b9 hE => ?_)
    refine dy_castS (pc := 32) hC hDy cl_X14 q1290 dX0_step_32 hE (fun hE => ?_)
    refine k_astore (pc := 35) (lv' := [(4, .ref b9), (0, .ref x), (1, .int a1), (2, .int a2), (3, .int a3)]) hC dX0_step_35 (by rw [hnL]; decide) rfl ?_
    refine k_iload_n (pc := 37) hC dX0_step_37 rfl 4 rfl ?_
    refine sw_E hE (fun hx hE => ?_) (fun n0 hE => ?_)
    · refine k_tswI (pc := 38) (k := 0) (tgt := 80) hC dX0_step_38 hx (by decide) (by decide) rfl (by decide) ?_
      refine k_aload_n (pc := 80) hC dX0_step_80 rfl 1 rfl ?_
      refine gS_46 (pc := 81) hM dX0_step_81 ?_
      refine gSV_161 (pc := 84) (by decide) hM dX0_step_84 ?_
      refine k_iload_n (pc := 87) hC dX0_step_87 rfl 2 rfl ?_
      refine sV_aald (pc := 88) (by decide) 1 lv_1 (by simp [arTy]) rfl hM dX0_step_88 hE (fun q10 hq10 hE => ?_)
      refine k_iload_n (pc := 89) hC dX0_step_89 rfl 3 rfl ?_
      refine sV_iald (pc := 90) (by decide) (2 + q10) (lv_done hq10) hM dX0_step_90 hE (fun x11 hE => ?_)
      exact k_iret (pc := 91) hC hR ⟨Nat.le_refl 0, Nat.le_refl 0⟩ dX0_step_91 (by cases hE; rfl) (by cases hE; exact fun _ h => h)
    refine sw_E hE (fun hx hE => ?_) (fun n1 hE => ?_)
    · refine k_tswI (pc := 38) (k := 1) (tgt := 92) hC dX0_step_38 hx (by decide) (by decide) rfl (by decide) ?_
      refine k_aload (pc := 92) hC dX0_step_92 0 rfl ?_
      refine gD_X0_165_X14 (pc := 94) hC hDy dX0_step_94 hE (fun x12 hE => ?_)
      exact k_iret (pc := 97) hC hR ⟨Nat.le_refl 0, Nat.le_refl 0⟩ dX0_step_97 (by cases hE; rfl) (by cases hE; exact fun _ h => h)
    refine sw_E hE (fun hx hE => ?_) (fun n2 hE => ?_)
    · refine k_tswI (pc := 38) (k := 2) (tgt := 98) hC dX0_step_38 hx (by decide) (by decide) rfl (by decide) ?_
      refine k_aload (pc := 98) hC dX0_step_98 0 rfl ?_
      refine gD_X0_168_X14 (pc := 100) hC hDy dX0_step_100 hE (fun x13 hE => ?_)
      exact k_iret (pc := 103) hC hR ⟨Nat.le_refl 0, Nat.le_refl 0⟩ dX0_step_103 (by cases hE; rfl) (by cases hE; exact fun _ h => h)
    refine sw_E hE (fun hx hE => ?_) (fun n3 hE => ?_)
    · refine k_tswI (pc := 38) (k := 3) (tgt := 104) hC dX0_step_38 hx (by decide) (by decide) rfl (by decide) ?_
      refine k_aload (pc := 104) hC dX0_step_104 0 rfl ?_
      refine gD_X0_171_X14 (pc := 106) hC hDy dX0_step_106 hE (fun x14 hE => ?_)
      exact k_iret (pc := 109) hC hR ⟨Nat.le_refl 0, Nat.le_refl 0⟩ dX0_step_109 (by cases hE; rfl) (by cases hE; exact fun _ h => h)
    refine sw_E hE (fun hx hE => ?_) (fun n4 hE => ?_)
    · refine k_tswI (pc := 38) (k := 4) (tgt := 110) hC dX0_step_38 hx (by decide) (by decide) rfl (by decide) ?_
      refine k_aload (pc := 110) hC dX0_step_110 0 rfl ?_
      refine gD_X0_174_X14 (pc := 112) hC hDy dX0_step_112 hE (fun x15 hE => ?_)
      exact k_iret (pc := 115) hC hR ⟨Nat.le_refl 0, Nat.le_refl 0⟩ dX0_step_115 (by cases hE; rfl) (by cases hE; exact fun _ h => h)
    refine sw_E hE (fun hx hE => ?_) (fun n5 hE => ?_)
    · refine k_tswI (pc := 38) (k := 5) (tgt := 116) hC dX0_step_38 hx (by decide) (by decide) rfl (by decide) ?_
      refine k_aload (pc := 116) hC dX0_step_116 0 rfl ?_
      refine gD_X0_177_X14 (pc := 118) hC hDy dX0_step_118 hE (fun x16 hE => ?_)
      exact k_iret (pc := 121) hC hR ⟨Nat.le_refl 0, Nat.le_refl 0⟩ dX0_step_121 (by cases hE; rfl) (by cases hE; exact fun _ h => h)
    refine sw_E hE (fun hx hE => ?_) (fun n6 hE => ?_)
    · refine k_tswI (pc := 38) (k := 6) (tgt := 122) hC dX0_step_38 hx (by decide) (by decide) rfl (by decide) ?_
      refine k_aload (pc := 122) hC dX0_step_122 0 rfl ?_
      refine gD_X0_180_X14 (pc := 124) hC hDy dX0_step_124 hE (fun x17 hE => ?_)
      exact k_iret (pc := 127) hC hR ⟨Nat.le_refl 0, Nat.le_refl 0⟩ dX0_step_127 (by cases hE; rfl) (by cases hE; exact fun _ h => h)
    have z0 := sw_ne (z := 0) n0 rfl
    have z1 := sw_ne (z := 1) n1 rfl
    have z2 := sw_ne (z := 2) n2 rfl
    have z3 := sw_ne (z := 3) n3 rfl
    have z4 := sw_ne (z := 4) n4 rfl
    have z5 := sw_ne (z := 5) n5 rfl
    have z6 := sw_ne (z := 6) n6 rfl
    refine k_tswO (pc := 38) (tgt := 128) hC dX0_step_38 (by omega) (by decide) ?_
    refine k_iconst (pc := 128) (v := (-1)) hC dX0_step_128 (by decide) ?_
    exact k_iret (pc := 129) hC hR ⟨Nat.le_refl 0, Nat.le_refl 0⟩ dX0_step_129 (by cases hE; rfl) (by cases hE; exact fun _ h => h)
theorem ct_S_step (l : Launch) (D : Dd) (A : Nat → Prop) (x tx : Nat) (Xp : Jr) (T : Th) (hA : ∀ o, o < 847 → A (x + o)) (a1 : Int32) (a2 : Int32) (a3 : Int32) (S Q : Ji) (V : Nat → Ji) (out : Int32) (hE : S_step T tx V a1 a2 a3 = some out) : Ct l yX0_step (ws_ yX0_step cX0_step 5 (some .int)) rmS_step vwCl arTy D A [.ref x, .int a1, .int a2, .int a3] (SW D x tx S Q Xp V T) (SW D x tx S Q Xp V T) (some (.int out)) 0 0 := by
  refine Ct.of (by decide) (Nat.le_of_ble_eq_true rfl) rfl ?_
  intro X hl hrm hC hR hXA hnL _
  exact w_S_step ⟨hC, by show ∀ o, o < 847 → cxA X (x + o); unfold cxA; rw [hXA]; exact hA, hnL, hrm⟩ hR a1 a2 a3 hE
abbrev rmS_isMan : Room := { frames := 2, cells := 0, slots := 0, locals := 43 }
set_option maxHeartbeats 4000000 in
theorem w_S_isMan {X : Ctx} {D : Dd} {x tx : Nat} {Xp : Jr} {T : Th} {S : Ji} {Q : Ji} {V : Nat → Ji} {out : Int32} (hM : Sxx X cX0_isMan D x 2 rmS_isMan) (hR : Rt X (some .boolean) (SW D x tx S Q Xp V T) (some (.int out)) 0 0) (a1 : Int32) (hE : S_isMan T tx a1 = some out) : Wk X 0 0 (SW D x tx S Q Xp V T) 0 [(0, .ref x), (1, .int a1)] [] := by
  have hC := hM.1
  have hnL := hM.2.2.1
  have hrm := hM.2.2.2
  have hDy : ∀ {S Q : Ji} {V : Nat → Ji} (H : Heap), SW D x tx S Q Xp V T H → Dy D T H := fun _ h => h.2.2.2.1
  unfold S_isMan at hE
  refine k_iload_n (pc := 0) hC dX0_isMan_0 rfl 1 rfl ?_
  refine k_aload_n (pc := 1) hC dX0_isMan_1 rfl 0 rfl ?_
  refine gS_35 (pc := 2) hM dX0_isMan_2 ?_
  refine gD_X0_121_X4 (pc := 5) hC hDy dX0_isMan_5 hE (fun x1 hE => ?_)
  refine k_nn (G := fun z => Wk X 0 0 (SW D x tx S Q Xp V T) 8 [(0, .ref x), (1, .int a1)] [z, .int a1]) hE (fun b2 hE => ?_)
  refine t_callVI (pc := 8) (As := []) 19 (fun r => r) hC hDy cl_J5 (cw_L_size_X0 hC hrm (Nat.le_of_ble_eq_true rfl) (Nat.le_of_ble_eq_true rfl)) rfl rfl (Nat.le_of_ble_eq_true rfl) ⟨Nat.zero_le _, Nat.zero_le _⟩ dX0_isMan_8 hE (fun r h => ct_L_size _ _ _ _ T hDy b2 r h) (fun r3 hE => ?_)
  refine m_callSI (pc := 11) (As := [.int a1, .int r3]) (fun r => r) hC (cw_S_isOne_X0 hC hrm (Nat.le_of_ble_eq_true rfl) (Nat.le_of_ble_eq_true rfl)) rfl rfl (Nat.le_of_ble_eq_true rfl) ⟨Nat.zero_le _, Nat.zero_le _⟩ dX0_isMan_11 hE (fun r h => ct_S_isOne _ _ _ _ a1 r3 r h) (fun r4 hE => ?_)
  obtain ⟨r5, hz, hE⟩ := ob_ hE
  obtain ⟨hz1, hz⟩ := bz_some hz
  rw [hz1]
  exact k_zret (pc := 14) hz hC hR ⟨Nat.le_refl 0, Nat.le_refl 0⟩ dX0_isMan_14 (by cases hE; rfl) (by cases hE; exact fun _ h => h)
theorem ct_S_isMan (l : Launch) (D : Dd) (A : Nat → Prop) (x tx : Nat) (Xp : Jr) (T : Th) (hA : ∀ o, o < 847 → A (x + o)) (a1 : Int32) (S Q : Ji) (V : Nat → Ji) (out : Int32) (hE : S_isMan T tx a1 = some out) : Ct l yX0_isMan (ws_ yX0_isMan cX0_isMan 2 (some .boolean)) rmS_isMan vwCl arTy D A [.ref x, .int a1] (SW D x tx S Q Xp V T) (SW D x tx S Q Xp V T) (some (.int out)) 0 0 := by
  refine Ct.of (by decide) (Nat.le_of_ble_eq_true rfl) rfl ?_
  intro X hl hrm hC hR hXA hnL _
  exact w_S_isMan ⟨hC, by show ∀ o, o < 847 → cxA X (x + o); unfold cxA; rw [hXA]; exact hA, hnL, hrm⟩ hR a1 hE
theorem cw_S_isMan_X0 {X : Ctx} {cc : ByteArray} {D : Dd} {rm : Room} (hC : Cx X cc RX0 vwCl arTy D) (hrm : X.2.2.2.1 = rm) (h1 : rmS_isMan.frames + 1 ≤ rm.frames) (h2 : 8 + (2 + 11) + rmS_isMan.locals ≤ rm.locals) : CallW X.2.2.2.1 X.2.2.2.2.1 X.2.2.2.2.2.2.1 RX0 RX0 183 yX0_isMan cX0_isMan 2 (some .boolean) (ws_ yX0_isMan cX0_isMan 2 (some .boolean)) rmS_isMan 0 0 1 := cwV 1 (cx_w hC) (lw_V q1295 q1297 qs36 q114 q1298) rfl rfl rfl (by decide +kernel) (by rw [hrm]; exact ⟨h1, h2⟩)
abbrev rmS_man : Room := { frames := 3, cells := 0, slots := 0, locals := 64 }
set_option maxHeartbeats 4000000 in
theorem w_S_man {X : Ctx} {D : Dd} {x tx : Nat} {Xp : Jr} {T : Th} {S : Ji} {Q : Ji} {V : Nat → Ji} {out : Int32} (hM : Sxx X cX0_man D x 3 rmS_man) (hR : Rt X (some .int) (SW D x tx S Q Xp V T) (some (.int out)) 0 0) (a1 : Int32) (a2 : Int32) (hE : S_man T tx V a1 a2 = some out) : Wk X 0 0 (SW D x tx S Q Xp V T) 0 [(0, .ref x), (1, .int a1), (2, .int a2)] [] := by
  have hC := hM.1
  have hnL := hM.2.2.1
  have hrm := hM.2.2.2
  have hDy : ∀ {S Q : Ji} {V : Nat → Ji} (H : Heap), SW D x tx S Q Xp V T H → Dy D T H := fun _ h => h.2.2.2.1
  unfold S_man at hE
  refine k_aload_n (pc := 0) hC dX0_man_0 rfl 0 rfl ?_
  refine k_iload_n (pc := 1) hC dX0_man_1 rfl 1 rfl ?_
  refine s_ownI (pc := 2) (As := [.int a1]) (fun r => r) (fun r => S) (fun r => Q) (fun r => V) hM (cw_S_isMan_X0 hC hrm (Nat.le_of_ble_eq_true rfl) (Nat.le_of_ble_eq_true rfl)) rfl rfl (Nat.le_of_ble_eq_true rfl) dX0_man_2 hE (fun r h => ct_S_isMan _ _ _ x tx Xp T hM.2.1 a1 S Q V r h) (fun r1 hE => ?_)
  refine k_if_ne (pc := 5) (tgt := 10) hC dX0_man_5 (by decide) hE (fun hE => ?_) (fun hE => ?_)
  · refine k_iconst (pc := 8) (v := (-1)) hC dX0_man_8 (by decide) ?_
    exact k_iret (pc := 9) hC hR ⟨Nat.le_refl 0, Nat.le_refl 0⟩ dX0_man_9 (by cases hE; rfl) (by cases hE; exact fun _ h => h)
  · refine k_iload_n (pc := 10) hC dX0_man_10 rfl 2 rfl ?_
    refine sw_E hE (fun hx hE => ?_) (fun n0 hE => ?_)
    · refine k_tswI (pc := 11) (k := 0) (tgt := 48) hC dX0_man_11 hx (by decide) (by decide) rfl (by decide) ?_
      refine k_aload_n (pc := 48) hC dX0_man_48 rfl 0 rfl ?_
      refine gS_35 (pc := 49) hM dX0_man_49 ?_
      refine gD_X0_121_X4 (pc := 52) hC hDy dX0_man_52 hE (fun x2 hE => ?_)
      refine k_iload_n (pc := 55) hC dX0_man_55 rfl 1 rfl ?_
      refine k_nn (G := fun z => Wk X 0 0 (SW D x tx S Q Xp V T) 56 [(0, .ref x), (1, .int a1), (2, .int a2)] [.int a1, z]) hE (fun b3 hE => ?_)
      refine t_callVR (pc := 56) (As := [.int a1]) 19 (fun r => r) hC hDy cl_J5 (cw_L_get_X0 hC hrm (Nat.le_of_ble_eq_true rfl) (Nat.le_of_ble_eq_true rfl)) rfl rfl (Nat.le_of_ble_eq_true rfl) ⟨Nat.zero_le _, Nat.zero_le _⟩ dX0_man_56 hE (fun r h => ct_L_get _ _ _ _ T hDy b3 a1 r h) (fun r4 hE => ?_)
      refine k_nn (G := fun z => Wk X 0 0 (SW D x tx S Q Xp V T) 59 [(0, .ref x), (1, .int a1), (2, .int a2)] [z]) hE (fun b5 hE => ?_)
      refine dy_castS (pc := 59) hC hDy cl_X15 q1299 dX0_man_59 hE (fun hE => ?_)
      refine gD_X0_188_X15 (pc := 62) hC hDy dX0_man_62 hE (fun x6 hE => ?_)
      exact k_iret (pc := 65) hC hR ⟨Nat.le_refl 0, Nat.le_refl 0⟩ dX0_man_65 (by cases hE; rfl) (by cases hE; exact fun _ h => h)
    refine sw_E hE (fun hx hE => ?_) (fun n1 hE => ?_)
    · refine k_tswI (pc := 11) (k := 1) (tgt := 66) hC dX0_man_11 hx (by decide) (by decide) rfl (by decide) ?_
      refine k_aload_n (pc := 66) hC dX0_man_66 rfl 0 rfl ?_
      refine gS_46 (pc := 67) hM dX0_man_67 ?_
      refine gSV_191 (pc := 70) (by decide) hM dX0_man_70 ?_
      refine k_iload_n (pc := 73) hC dX0_man_73 rfl 1 rfl ?_
      refine sV_iald (pc := 74) (by decide) 9 lv_9 hM dX0_man_74 hE (fun x7 hE => ?_)
      exact k_iret (pc := 75) hC hR ⟨Nat.le_refl 0, Nat.le_refl 0⟩ dX0_man_75 (by cases hE; rfl) (by cases hE; exact fun _ h => h)
    refine sw_E hE (fun hx hE => ?_) (fun n2 hE => ?_)
    · refine k_tswI (pc := 11) (k := 2) (tgt := 76) hC dX0_man_11 hx (by decide) (by decide) rfl (by decide) ?_
      refine k_aload_n (pc := 76) hC dX0_man_76 rfl 0 rfl ?_
      refine gS_46 (pc := 77) hM dX0_man_77 ?_
      refine gSV_194 (pc := 80) (by decide) hM dX0_man_80 ?_
      refine k_iload_n (pc := 83) hC dX0_man_83 rfl 1 rfl ?_
      refine sV_iald (pc := 84) (by decide) 10 lv_10 hM dX0_man_84 hE (fun x8 hE => ?_)
      exact k_iret (pc := 85) hC hR ⟨Nat.le_refl 0, Nat.le_refl 0⟩ dX0_man_85 (by cases hE; rfl) (by cases hE; exact fun _ h => h)
    refine sw_E hE (fun hx hE => ?_) (fun n3 hE => ?_)
    · refine k_tswI (pc := 11) (k := 3) (tgt := 86) hC dX0_man_11 hx (by decide) (by decide) rfl (by decide) ?_
      refine k_aload_n (pc := 86) hC dX0_man_86 rfl 0 rfl ?_
      refine gS_46 (pc := 87) hM dX0_man_87 ?_
      refine gSV_197 (pc := 90) (by decide) hM dX0_man_90 ?_
      refine k_iload_n (pc := 93) hC dX0_man_93 rfl 1 rfl ?_
      refine sV_iald (pc := 94) (by decide) 12 lv_12 hM dX0_man_94 hE (fun x9 hE => ?_)
      exact k_iret (pc := 95) hC hR ⟨Nat.le_refl 0, Nat.le_refl 0⟩ dX0_man_95 (by cases hE; rfl) (by cases hE; exact fun _ h => h)
    refine sw_E hE (fun hx hE => ?_) (fun n4 hE => ?_)
    · refine k_tswI (pc := 11) (k := 4) (tgt := 96) hC dX0_man_11 hx (by decide) (by decide) rfl (by decide) ?_
      refine k_aload_n (pc := 96) hC dX0_man_96 rfl 0 rfl ?_
      refine gS_46 (pc := 97) hM dX0_man_97 ?_
      refine gSV_200 (pc := 100) (by decide) hM dX0_man_100 ?_
      refine k_iload_n (pc := 103) hC dX0_man_103 rfl 1 rfl ?_
      refine sV_iald (pc := 104) (by decide) 13 lv_13 hM dX0_man_104 hE (fun x10 hE => ?_)
      exact k_iret (pc := 105) hC hR ⟨Nat.le_refl 0, Nat.le_refl 0⟩ dX0_man_105 (by cases hE; rfl) (by cases hE; exact fun _ h => h)
    refine sw_E hE (fun hx hE => ?_) (fun n5 hE => ?_)
    · refine k_tswI (pc := 11) (k := 5) (tgt := 106) hC dX0_man_11 hx (by decide) (by decide) rfl (by decide) ?_
      refine k_aload_n (pc := 106) hC dX0_man_106 rfl 0 rfl ?_
      refine gS_46 (pc := 107) hM dX0_man_107 ?_
      refine gSV_203 (pc := 110) (by decide) hM dX0_man_110 ?_
      refine k_iload_n (pc := 113) hC dX0_man_113 rfl 1 rfl ?_
      refine sV_iald (pc := 114) (by decide) 14 lv_14 hM dX0_man_114 hE (fun x11 hE => ?_)
      exact k_iret (pc := 115) hC hR ⟨Nat.le_refl 0, Nat.le_refl 0⟩ dX0_man_115 (by cases hE; rfl) (by cases hE; exact fun _ h => h)
    have z0 := sw_ne (z := 0) n0 rfl
    have z1 := sw_ne (z := 1) n1 rfl
    have z2 := sw_ne (z := 2) n2 rfl
    have z3 := sw_ne (z := 3) n3 rfl
    have z4 := sw_ne (z := 4) n4 rfl
    have z5 := sw_ne (z := 5) n5 rfl
    refine k_tswO (pc := 11) (tgt := 116) hC dX0_man_11 (by omega) (by decide) ?_
    refine k_iconst (pc := 116) (v := (-1)) hC dX0_man_116 (by decide) ?_
    exact k_iret (pc := 117) hC hR ⟨Nat.le_refl 0, Nat.le_refl 0⟩ dX0_man_117 (by cases hE; rfl) (by cases hE; exact fun _ h => h)
theorem ct_S_man (l : Launch) (D : Dd) (A : Nat → Prop) (x tx : Nat) (Xp : Jr) (T : Th) (hA : ∀ o, o < 847 → A (x + o)) (a1 : Int32) (a2 : Int32) (S Q : Ji) (V : Nat → Ji) (out : Int32) (hE : S_man T tx V a1 a2 = some out) : Ct l yX0_man (ws_ yX0_man cX0_man 3 (some .int)) rmS_man vwCl arTy D A [.ref x, .int a1, .int a2] (SW D x tx S Q Xp V T) (SW D x tx S Q Xp V T) (some (.int out)) 0 0 := by
  refine Ct.of (by decide) (Nat.le_of_ble_eq_true rfl) rfl ?_
  intro X hl hrm hC hR hXA hnL _
  exact w_S_man ⟨hC, by show ∀ o, o < 847 → cxA X (x + o); unfold cxA; rw [hXA]; exact hA, hnL, hrm⟩ hR a1 a2 hE
abbrev rmS_tool : Room := { frames := 2, cells := 0, slots := 0, locals := 43 }
set_option maxHeartbeats 4000000 in
theorem w_S_tool {X : Ctx} {D : Dd} {x tx : Nat} {Xp : Jr} {T : Th} {S : Ji} {Q : Ji} {V : Nat → Ji} {out : Int32} (hM : Sxx X cX0_tool D x 2 rmS_tool) (hR : Rt X (some .int) (SW D x tx S Q Xp V T) (some (.int out)) 0 0) (a1 : Int32) (hE : S_tool T tx V a1 = some out) : Wk X 0 0 (SW D x tx S Q Xp V T) 0 [(0, .ref x), (1, .int a1)] [] := by
  have hC := hM.1
  have hnL := hM.2.2.1
  have hrm := hM.2.2.2
  have hDy : ∀ {S Q : Ji} {V : Nat → Ji} (H : Heap), SW D x tx S Q Xp V T H → Dy D T H := fun _ h => h.2.2.2.1
  unfold S_tool at hE
  refine k_iload_n (pc := 0) hC dX0_tool_0 rfl 1 rfl ?_
  refine k_aload_n (pc := 1) hC dX0_tool_1 rfl 0 rfl ?_
  refine gS_35 (pc := 2) hM dX0_tool_2 ?_
  refine gD_X0_206_X4 (pc := 5) hC hDy dX0_tool_5 hE (fun x1 hE => ?_)
  refine k_nn (G := fun z => Wk X 0 0 (SW D x tx S Q Xp V T) 8 [(0, .ref x), (1, .int a1)] [z, .int a1]) hE (fun b2 hE => ?_)
  refine t_callVI (pc := 8) (As := []) 19 (fun r => r) hC hDy cl_J5 (cw_L_size_X0 hC hrm (Nat.le_of_ble_eq_true rfl) (Nat.le_of_ble_eq_true rfl)) rfl rfl (Nat.le_of_ble_eq_true rfl) ⟨Nat.zero_le _, Nat.zero_le _⟩ dX0_tool_8 hE (fun r h => ct_L_size _ _ _ _ T hDy b2 r h) (fun r3 hE => ?_)
  refine m_callSI (pc := 11) (As := [.int a1, .int r3]) (fun r => r) hC (cw_S_isOne_X0 hC hrm (Nat.le_of_ble_eq_true rfl) (Nat.le_of_ble_eq_true rfl)) rfl rfl (Nat.le_of_ble_eq_true rfl) ⟨Nat.zero_le _, Nat.zero_le _⟩ dX0_tool_11 hE (fun r h => ct_S_isOne _ _ _ _ a1 r3 r h) (fun r4 hE => ?_)
  refine k_if_eq (pc := 14) (tgt := 29) hC dX0_tool_14 (by decide) hE (fun hE => ?_) (fun hE => ?_)
  · refine k_iconst (pc := 29) (v := (-1)) hC dX0_tool_29 (by decide) ?_
    exact k_iret (pc := 30) hC hR ⟨Nat.le_refl 0, Nat.le_refl 0⟩ dX0_tool_30 (by cases hE; rfl) (by cases hE; exact fun _ h => h)
  · refine k_aload_n (pc := 17) hC dX0_tool_17 rfl 0 rfl ?_
    refine gS_46 (pc := 18) hM dX0_tool_18 ?_
    refine gSV_209 (pc := 21) (by decide) hM dX0_tool_21 ?_
    refine k_iload_n (pc := 24) hC dX0_tool_24 rfl 1 rfl ?_
    refine sV_iald (pc := 25) (by decide) 11 lv_11 hM dX0_tool_25 hE (fun x5 hE => ?_)
    refine k_goto (pc := 26) (tgt := 30) hC dX0_tool_26 (by decide) ?_
    exact k_iret (pc := 30) hC hR ⟨Nat.le_refl 0, Nat.le_refl 0⟩ dX0_tool_30 (by cases hE; rfl) (by cases hE; exact fun _ h => h)
theorem ct_S_tool (l : Launch) (D : Dd) (A : Nat → Prop) (x tx : Nat) (Xp : Jr) (T : Th) (hA : ∀ o, o < 847 → A (x + o)) (a1 : Int32) (S Q : Ji) (V : Nat → Ji) (out : Int32) (hE : S_tool T tx V a1 = some out) : Ct l yX0_tool (ws_ yX0_tool cX0_tool 2 (some .int)) rmS_tool vwCl arTy D A [.ref x, .int a1] (SW D x tx S Q Xp V T) (SW D x tx S Q Xp V T) (some (.int out)) 0 0 := by
  refine Ct.of (by decide) (Nat.le_of_ble_eq_true rfl) rfl ?_
  intro X hl hrm hC hR hXA hnL _
  exact w_S_tool ⟨hC, by show ∀ o, o < 847 → cxA X (x + o); unfold cxA; rw [hXA]; exact hA, hnL, hrm⟩ hR a1 hE
abbrev rmS_isRoom : Room := { frames := 2, cells := 0, slots := 0, locals := 43 }
set_option maxHeartbeats 4000000 in
theorem w_S_isRoom {X : Ctx} {D : Dd} {x tx : Nat} {Xp : Jr} {T : Th} {S : Ji} {Q : Ji} {V : Nat → Ji} {out : Int32} (hM : Sxx X cX0_isRoom D x 2 rmS_isRoom) (hR : Rt X (some .boolean) (SW D x tx S Q Xp V T) (some (.int out)) 0 0) (a1 : Int32) (hE : S_isRoom T tx a1 = some out) : Wk X 0 0 (SW D x tx S Q Xp V T) 0 [(0, .ref x), (1, .int a1)] [] := by
  have hC := hM.1
  have hnL := hM.2.2.1
  have hrm := hM.2.2.2
  have hDy : ∀ {S Q : Ji} {V : Nat → Ji} (H : Heap), SW D x tx S Q Xp V T H → Dy D T H := fun _ h => h.2.2.2.1
  unfold S_isRoom at hE
  refine k_iload_n (pc := 0) hC dX0_isRoom_0 rfl 1 rfl ?_
  refine k_aload_n (pc := 1) hC dX0_isRoom_1 rfl 0 rfl ?_
  refine gS_35 (pc := 2) hM dX0_isRoom_2 ?_
  refine gD_X0_124_X4 (pc := 5) hC hDy dX0_isRoom_5 hE (fun x1 hE => ?_)
  refine k_nn (G := fun z => Wk X 0 0 (SW D x tx S Q Xp V T) 8 [(0, .ref x), (1, .int a1)] [z, .int a1]) hE (fun b2 hE => ?_)
  refine t_callVI (pc := 8) (As := []) 19 (fun r => r) hC hDy cl_J5 (cw_L_size_X0 hC hrm (Nat.le_of_ble_eq_true rfl) (Nat.le_of_ble_eq_true rfl)) rfl rfl (Nat.le_of_ble_eq_true rfl) ⟨Nat.zero_le _, Nat.zero_le _⟩ dX0_isRoom_8 hE (fun r h => ct_L_size _ _ _ _ T hDy b2 r h) (fun r3 hE => ?_)
  refine m_callSI (pc := 11) (As := [.int a1, .int r3]) (fun r => r) hC (cw_S_isOne_X0 hC hrm (Nat.le_of_ble_eq_true rfl) (Nat.le_of_ble_eq_true rfl)) rfl rfl (Nat.le_of_ble_eq_true rfl) ⟨Nat.zero_le _, Nat.zero_le _⟩ dX0_isRoom_11 hE (fun r h => ct_S_isOne _ _ _ _ a1 r3 r h) (fun r4 hE => ?_)
  obtain ⟨r5, hz, hE⟩ := ob_ hE
  obtain ⟨hz1, hz⟩ := bz_some hz
  rw [hz1]
  exact k_zret (pc := 14) hz hC hR ⟨Nat.le_refl 0, Nat.le_refl 0⟩ dX0_isRoom_14 (by cases hE; rfl) (by cases hE; exact fun _ h => h)
theorem ct_S_isRoom (l : Launch) (D : Dd) (A : Nat → Prop) (x tx : Nat) (Xp : Jr) (T : Th) (hA : ∀ o, o < 847 → A (x + o)) (a1 : Int32) (S Q : Ji) (V : Nat → Ji) (out : Int32) (hE : S_isRoom T tx a1 = some out) : Ct l yX0_isRoom (ws_ yX0_isRoom cX0_isRoom 2 (some .boolean)) rmS_isRoom vwCl arTy D A [.ref x, .int a1] (SW D x tx S Q Xp V T) (SW D x tx S Q Xp V T) (some (.int out)) 0 0 := by
  refine Ct.of (by decide) (Nat.le_of_ble_eq_true rfl) rfl ?_
  intro X hl hrm hC hR hXA hnL _
  exact w_S_isRoom ⟨hC, by show ∀ o, o < 847 → cxA X (x + o); unfold cxA; rw [hXA]; exact hA, hnL, hrm⟩ hR a1 hE
theorem cw_S_isRoom_X0 {X : Ctx} {cc : ByteArray} {D : Dd} {rm : Room} (hC : Cx X cc RX0 vwCl arTy D) (hrm : X.2.2.2.1 = rm) (h1 : rmS_isRoom.frames + 1 ≤ rm.frames) (h2 : 8 + (2 + 11) + rmS_isRoom.locals ≤ rm.locals) : CallW X.2.2.2.1 X.2.2.2.2.1 X.2.2.2.2.2.2.1 RX0 RX0 212 yX0_isRoom cX0_isRoom 2 (some .boolean) (ws_ yX0_isRoom cX0_isRoom 2 (some .boolean)) rmS_isRoom 0 0 1 := cwV 1 (cx_w hC) (lw_V q1308 q1310 qs37 q114 q1311) rfl rfl rfl (by decide +kernel) (by rw [hrm]; exact ⟨h1, h2⟩)
abbrev rmS_way : Room := { frames := 4, cells := 0, slots := 0, locals := 89 }
set_option maxHeartbeats 4000000 in
theorem w_S_way {X : Ctx} {D : Dd} {x tx : Nat} {Xp : Jr} {T : Th} {S : Ji} {Q : Ji} {out : Int32 × (Nat → Ji)} (hM : Sxx X cX0_way D x 4 rmS_way) (hR : Rt X (some .int) (SW D x tx S Q Xp out.2 T) (some (.int out.1)) 0 0) (F : Nat) (a1 : Int32) (a2 : Int32) (V : Nat → Ji) (hE : S_way F T tx a1 a2 V = some out) : Wk X 0 0 (SW D x tx S Q Xp V T) 0 [(0, .ref x), (1, .int a1), (2, .int a2)] [] := by
  have hC := hM.1
  have hnL := hM.2.2.1
  have hrm := hM.2.2.2
  have hDy : ∀ {S Q : Ji} {V : Nat → Ji} (H : Heap), SW D x tx S Q Xp V T H → Dy D T H := fun _ h => h.2.2.2.1
  unfold S_way at hE
  refine k_aload_n (pc := 0) hC dX0_way_0 rfl 0 rfl ?_
  refine k_iload_n (pc := 1) hC dX0_way_1 rfl 1 rfl ?_
  refine s_ownI (pc := 2) (As := [.int a1]) (fun r => r) (fun r => S) (fun r => Q) (fun r => V) hM (cw_S_isRoom_X0 hC hrm (Nat.le_of_ble_eq_true rfl) (Nat.le_of_ble_eq_true rfl)) rfl rfl (Nat.le_of_ble_eq_true rfl) dX0_way_2 hE (fun r h => ct_S_isRoom _ _ _ x tx Xp T hM.2.1 a1 S Q V r h) (fun r1 hE => ?_)
  refine k_if_eq (pc := 5) (tgt := 16) hC dX0_way_5 (by decide) hE (fun hE => ?_) (fun hE => ?_)
  · refine k_iconst (pc := 16) (v := (-1)) hC dX0_way_16 (by decide) ?_
    exact k_iret (pc := 17) hC hR ⟨Nat.le_refl 0, Nat.le_refl 0⟩ dX0_way_17 (by cases hE; rfl) (by cases hE; exact fun _ h => h)
  · refine k_aload_n (pc := 8) hC dX0_way_8 rfl 0 rfl ?_
    refine k_iload_n (pc := 9) hC dX0_way_9 rfl 2 rfl ?_
    refine s_ownI (pc := 10) (As := [.int a2]) (fun r => r) (fun r => S) (fun r => Q) (fun r => V) hM (cw_S_isRoom_X0 hC hrm (Nat.le_of_ble_eq_true rfl) (Nat.le_of_ble_eq_true rfl)) rfl rfl (Nat.le_of_ble_eq_true rfl) dX0_way_10 hE (fun r h => ct_S_isRoom _ _ _ x tx Xp T hM.2.1 a2 S Q V r h) (fun r2 hE => ?_)
    refine k_if_ne (pc := 13) (tgt := 18) hC dX0_way_13 (by decide) hE (fun hE => ?_) (fun hE => ?_)
    · refine k_iconst (pc := 16) (v := (-1)) hC dX0_way_16 (by decide) ?_
      exact k_iret (pc := 17) hC hR ⟨Nat.le_refl 0, Nat.le_refl 0⟩ dX0_way_17 (by cases hE; rfl) (by cases hE; exact fun _ h => h)
    · refine k_aload_n (pc := 18) hC dX0_way_18 rfl 0 rfl ?_
      refine gS_46 (pc := 19) hM dX0_way_19 ?_
      refine k_aload_n (pc := 22) hC dX0_way_22 rfl 0 rfl ?_
      refine gS_35 (pc := 23) hM dX0_way_23 ?_
      refine s_vcallV (pc := 26) (As := [.ref tx]) (by decide) (fun r => r) hM (cw_V_laysWays_X0 hC hrm (Nat.le_of_ble_eq_true rfl) (Nat.le_of_ble_eq_true rfl)) rfl rfl (Nat.le_of_ble_eq_true rfl) dX0_way_26 hE (fun r h => ct_V_laysWays _ _ _ _ T fpV_A F tx (V 0) r h) (fun r3 hE => ?_)
      refine k_aload_n (pc := 29) hC dX0_way_29 rfl 0 rfl ?_
      refine gS_46 (pc := 30) hM dX0_way_30 ?_
      refine gSV_218 (pc := 33) (by decide) hM dX0_way_33 ?_
      refine k_iload_n (pc := 36) hC dX0_way_36 rfl 1 rfl ?_
      refine sV_aald (pc := 37) (by decide) 15 lv_15 (by simp [arTy]) rfl hM dX0_way_37 hE (fun q4 hq4 hE => ?_)
      refine k_iload_n (pc := 38) hC dX0_way_38 rfl 2 rfl ?_
      refine sV_iald (pc := 39) (by decide) (16 + q4) (lv_apart hq4) hM dX0_way_39 hE (fun x5 hE => ?_)
      refine k_istore_n (pc := 40) (lv' := [(3, .int x5), (0, .ref x), (1, .int a1), (2, .int a2)]) hC dX0_way_40 rfl (by rw [hnL]; decide) rfl ?_
      refine k_iload_n (pc := 41) hC dX0_way_41 rfl 0 rfl ?_
      refine k_ldc (pc := 42) (v := 1000000) hC q1317 dX0_way_42 ?_
      refine k_icmp_lt (pc := 44) (tgt := 52) hC dX0_way_44 (by decide) hE (fun hE => ?_) (fun hE => ?_)
      · refine k_iload_n (pc := 52) hC dX0_way_52 rfl 0 rfl ?_
        exact k_iret (pc := 53) hC hR ⟨Nat.le_refl 0, Nat.le_refl 0⟩ dX0_way_53 (by cases hE; rfl) (by cases hE; exact fun _ h => h)
      · refine k_bipush (pc := 47) (v := (-2)) hC dX0_way_47 (by decide) ?_
        refine k_goto (pc := 49) (tgt := 53) hC dX0_way_49 (by decide) ?_
        exact k_iret (pc := 53) hC hR ⟨Nat.le_refl 0, Nat.le_refl 0⟩ dX0_way_53 (by cases hE; rfl) (by cases hE; exact fun _ h => h)
theorem ct_S_way (l : Launch) (D : Dd) (A : Nat → Prop) (x tx : Nat) (Xp : Jr) (T : Th) (hA : ∀ o, o < 847 → A (x + o)) (F : Nat) (a1 : Int32) (a2 : Int32) (S Q : Ji) (V : Nat → Ji) (out : Int32 × (Nat → Ji)) (hE : S_way F T tx a1 a2 V = some out) : Ct l yX0_way (ws_ yX0_way cX0_way 4 (some .int)) rmS_way vwCl arTy D A [.ref x, .int a1, .int a2] (SW D x tx S Q Xp V T) (SW D x tx S Q Xp out.2 T) (some (.int out.1)) 0 0 := by
  refine Ct.of (by decide) (Nat.le_of_ble_eq_true rfl) rfl ?_
  intro X hl hrm hC hR hXA hnL _
  exact w_S_way ⟨hC, by show ∀ o, o < 847 → cxA X (x + o); unfold cxA; rw [hXA]; exact hA, hnL, hrm⟩ hR F a1 a2 V hE
abbrev rmS_leave : Room := { frames := 4, cells := 0, slots := 0, locals := 86 }
set_option maxHeartbeats 4000000 in
theorem w_S_leave_B80 {X : Ctx} {D : Dd} {x tx : Nat} {Xp : Jr} {T : Th} {S : Ji} {Q : Ji} {out : Int32 × (Nat → Ji)} (hM : Sxx X cX0_leave D x 5 rmS_leave) (hR : Rt X (some .boolean) (SW D x tx S Q Xp out.2 T) (some (.int out.1)) 0 0) (s0 : Int32) (s1 : Int32) (V : Nat → Ji) (hE : S_leave_B80 T tx s0 s1 V = some out) : Wk X 0 0 (SW D x tx S Q Xp V T) 80 [] [.int s0, .int s1, .ref (x + vo 0 + 10)] := by
  have hC := hM.1
  have hnL := hM.2.2.1
  have hrm := hM.2.2.2
  have hDy : ∀ {S Q : Ji} {V : Nat → Ji} (H : Heap), SW D x tx S Q Xp V T H → Dy D T H := fun _ h => h.2.2.2.1
  unfold S_leave_B80 at hE
  refine sV_iast (pc := 80) (by decide) 10 lv_10 hM dX0_leave_80 hE (fun V4 hE => ?_)
  refine k_iconst (pc := 81) (v := 1) hC dX0_leave_81 (by decide) ?_
  exact k_zret (pc := 82) (by decide) hC hR ⟨Nat.le_refl 0, Nat.le_refl 0⟩ dX0_leave_82 (by cases hE; rfl) (by cases hE; exact fun _ h => h)
set_option maxHeartbeats 4000000 in
theorem w_S_leave_B60 {X : Ctx} {D : Dd} {x tx : Nat} {Xp : Jr} {T : Th} {S : Ji} {Q : Ji} {out : Int32 × (Nat → Ji)} (hM : Sxx X cX0_leave D x 5 rmS_leave) (hR : Rt X (some .boolean) (SW D x tx S Q Xp out.2 T) (some (.int out.1)) 0 0) (a1 : Int32) (a3 : Int32) (a4 : Int32) (s0 : Int32) (s1 : Int32) (V : Nat → Ji) (hE : S_leave_B60 T tx a1 a3 a4 s0 s1 V = some out) : Wk X 0 0 (SW D x tx S Q Xp V T) 60 [(0, .ref x), (1, .int a1), (3, .int a3), (4, .int a4)] [.int s0, .int s1, .ref (x + vo 0 + 9)] := by
  have hC := hM.1
  have hnL := hM.2.2.1
  have hrm := hM.2.2.2
  have hDy : ∀ {S Q : Ji} {V : Nat → Ji} (H : Heap), SW D x tx S Q Xp V T H → Dy D T H := fun _ h => h.2.2.2.1
  unfold S_leave_B60 at hE
  refine sV_iast (pc := 60) (by decide) 9 lv_9 hM dX0_leave_60 hE (fun V3 hE => ?_)
  refine k_aload_n (pc := 61) hC dX0_leave_61 rfl 0 rfl ?_
  refine gS_46 (pc := 62) hM dX0_leave_62 ?_
  refine gSV_194 (pc := 65) (by decide) hM dX0_leave_65 ?_
  refine k_iload_n (pc := 68) hC dX0_leave_68 rfl 1 rfl ?_
  refine k_iload (pc := 69) hC dX0_leave_69 3 rfl ?_
  refine k_if_eq (pc := 71) (tgt := 79) hC dX0_leave_71 (by decide) hE (fun hE => ?_) (fun hE => ?_)
  · refine k_iload_n (pc := 79) hC dX0_leave_79 rfl 2 rfl ?_
    refine k_sub [] rfl ?_
    exact w_S_leave_B80 hM hR  _ _ _  hE
  · refine k_bipush (pc := 74) (v := (-2)) hC dX0_leave_74 (by decide) ?_
    refine k_goto (pc := 76) (tgt := 80) hC dX0_leave_76 (by decide) ?_
    refine k_sub [] rfl ?_
    exact w_S_leave_B80 hM hR  _ _ _  hE
set_option maxHeartbeats 4000000 in
theorem w_S_leave_B41 {X : Ctx} {D : Dd} {x tx : Nat} {Xp : Jr} {T : Th} {S : Ji} {Q : Ji} {out : Int32 × (Nat → Ji)} (hM : Sxx X cX0_leave D x 5 rmS_leave) (hR : Rt X (some .boolean) (SW D x tx S Q Xp out.2 T) (some (.int out.1)) 0 0) (a1 : Int32) (a2 : Int32) (a3 : Int32) (a4 : Int32) (V : Nat → Ji) (hE : S_leave_B41 T tx a1 a2 a3 a4 V = some out) : Wk X 0 0 (SW D x tx S Q Xp V T) 41 [(0, .ref x), (1, .int a1), (2, .int a2), (3, .int a3), (4, .int a4)] [] := by
  have hC := hM.1
  have hnL := hM.2.2.1
  have hrm := hM.2.2.2
  have hDy : ∀ {S Q : Ji} {V : Nat → Ji} (H : Heap), SW D x tx S Q Xp V T H → Dy D T H := fun _ h => h.2.2.2.1
  unfold S_leave_B41 at hE
  refine k_aload_n (pc := 41) hC dX0_leave_41 rfl 0 rfl ?_
  refine gS_46 (pc := 42) hM dX0_leave_42 ?_
  refine gSV_191 (pc := 45) (by decide) hM dX0_leave_45 ?_
  refine k_iload_n (pc := 48) hC dX0_leave_48 rfl 1 rfl ?_
  refine k_iload (pc := 49) hC dX0_leave_49 4 rfl ?_
  refine k_if_eq (pc := 51) (tgt := 59) hC dX0_leave_51 (by decide) hE (fun hE => ?_) (fun hE => ?_)
  · refine k_iload_n (pc := 59) hC dX0_leave_59 rfl 2 rfl ?_
    refine k_sub [0, 1, 3, 4] rfl ?_
    exact w_S_leave_B60 hM hR  _ _ _ _ _ _  hE
  · refine k_bipush (pc := 54) (v := (-2)) hC dX0_leave_54 (by decide) ?_
    refine k_goto (pc := 56) (tgt := 60) hC dX0_leave_56 (by decide) ?_
    refine k_sub [0, 1, 3, 4] rfl ?_
    exact w_S_leave_B60 hM hR  _ _ _ _ _ _  hE
set_option maxHeartbeats 4000000 in
theorem w_S_leave_B15 {X : Ctx} {D : Dd} {x tx : Nat} {Xp : Jr} {T : Th} {S : Ji} {Q : Ji} {out : Int32 × (Nat → Ji)} (hM : Sxx X cX0_leave D x 5 rmS_leave) (hR : Rt X (some .boolean) (SW D x tx S Q Xp out.2 T) (some (.int out.1)) 0 0) (a1 : Int32) (a2 : Int32) (a3 : Int32) (s0 : Int32) (V : Nat → Ji) (hE : S_leave_B15 T tx a1 a2 a3 s0 V = some out) : Wk X 0 0 (SW D x tx S Q Xp V T) 15 [(0, .ref x), (1, .int a1), (2, .int a2), (3, .int a3)] [.int s0] := by
  have hC := hM.1
  have hnL := hM.2.2.1
  have hrm := hM.2.2.2
  have hDy : ∀ {S Q : Ji} {V : Nat → Ji} (H : Heap), SW D x tx S Q Xp V T H → Dy D T H := fun _ h => h.2.2.2.1
  unfold S_leave_B15 at hE
  refine k_istore (pc := 15) (lv' := [(4, .int s0), (0, .ref x), (1, .int a1), (2, .int a2), (3, .int a3)]) hC dX0_leave_15 (by rw [hnL]; decide) rfl ?_
  refine k_aload_n (pc := 17) hC dX0_leave_17 rfl 1 rfl ?_
  refine k_iload_n (pc := 18) hC dX0_leave_18 rfl 2 rfl ?_
  refine s_ownI (pc := 19) (As := [.int a1]) (fun r => r) (fun r => S) (fun r => Q) (fun r => V) hM (cw_S_isMan_X0 hC hrm (Nat.le_of_ble_eq_true rfl) (Nat.le_of_ble_eq_true rfl)) rfl rfl (Nat.le_of_ble_eq_true rfl) dX0_leave_19 hE (fun r h => ct_S_isMan _ _ _ x tx Xp T hM.2.1 a1 S Q V r h) (fun r1 hE => ?_)
  refine k_if_eq (pc := 22) (tgt := 39) hC dX0_leave_22 (by decide) hE (fun hE => ?_) (fun hE => ?_)
  · refine k_iconst (pc := 39) (v := 0) hC dX0_leave_39 (by decide) ?_
    exact k_zret (pc := 40) (by decide) hC hR ⟨Nat.le_refl 0, Nat.le_refl 0⟩ dX0_leave_40 (by cases hE; rfl) (by cases hE; exact fun _ h => h)
  · refine k_iload (pc := 25) hC dX0_leave_25 0 rfl ?_
    refine k_if_ne (pc := 27) (tgt := 41) hC dX0_leave_27 (by decide) hE (fun hE => ?_) (fun hE => ?_)
    · refine k_aload_n (pc := 30) hC dX0_leave_30 rfl 1 rfl ?_
      refine k_iload_n (pc := 31) hC dX0_leave_31 rfl 3 rfl ?_
      refine k_iload_n (pc := 32) hC dX0_leave_32 rfl 4 rfl ?_
      refine s_ownI (pc := 33) (As := [.int a2, .int a3]) (fun r => r) (fun r => S) (fun r => Q) (fun r => V) hM (cw_S_isStep_X0 hC hrm (Nat.le_of_ble_eq_true rfl) (Nat.le_of_ble_eq_true rfl)) rfl rfl (Nat.le_of_ble_eq_true rfl) dX0_leave_33 hE (fun r h => ct_S_isStep _ _ _ x tx Xp T hM.2.1 a2 a3 S Q V r h) (fun r2 hE => ?_)
      refine k_if_ne (pc := 36) (tgt := 41) hC dX0_leave_36 (by decide) hE (fun hE => ?_) (fun hE => ?_)
      · refine k_iconst (pc := 39) (v := 0) hC dX0_leave_39 (by decide) ?_
        exact k_zret (pc := 40) (by decide) hC hR ⟨Nat.le_refl 0, Nat.le_refl 0⟩ dX0_leave_40 (by cases hE; rfl) (by cases hE; exact fun _ h => h)
      · refine k_sub [1, 2, 3, 4, 0] rfl ?_
        exact w_S_leave_B41 hM hR  _ _ _ _ _  hE
    · refine k_sub [1, 2, 3, 4, 0] rfl ?_
      exact w_S_leave_B41 hM hR  _ _ _ _ _  hE
set_option maxHeartbeats 4000000 in
theorem w_S_leave_B14 {X : Ctx} {D : Dd} {x tx : Nat} {Xp : Jr} {T : Th} {S : Ji} {Q : Ji} {out : Int32 × (Nat → Ji)} (hM : Sxx X cX0_leave D x 5 rmS_leave) (hR : Rt X (some .boolean) (SW D x tx S Q Xp out.2 T) (some (.int out.1)) 0 0) (a1 : Int32) (a2 : Int32) (a3 : Int32) (V : Nat → Ji) (hE : S_leave_B14 T tx a1 a2 a3 V = some out) : Wk X 0 0 (SW D x tx S Q Xp V T) 14 [(0, .ref x), (1, .int a1), (2, .int a2), (3, .int a3)] [] := by
  have hC := hM.1
  have hnL := hM.2.2.1
  have hrm := hM.2.2.2
  have hDy : ∀ {S Q : Ji} {V : Nat → Ji} (H : Heap), SW D x tx S Q Xp V T H → Dy D T H := fun _ h => h.2.2.2.1
  unfold S_leave_B14 at hE
  refine k_iconst (pc := 14) (v := 0) hC dX0_leave_14 (by decide) ?_
  exact w_S_leave_B15 hM hR  _ _ _ _ _  hE
set_option maxHeartbeats 4000000 in
theorem w_S_leave {X : Ctx} {D : Dd} {x tx : Nat} {Xp : Jr} {T : Th} {S : Ji} {Q : Ji} {out : Int32 × (Nat → Ji)} (hM : Sxx X cX0_leave D x 5 rmS_leave) (hR : Rt X (some .boolean) (SW D x tx S Q Xp out.2 T) (some (.int out.1)) 0 0) (a1 : Int32) (a2 : Int32) (a3 : Int32) (V : Nat → Ji) (hE : S_leave T tx a1 a2 a3 V = some out) : Wk X 0 0 (SW D x tx S Q Xp V T) 0 [(0, .ref x), (1, .int a1), (2, .int a2), (3, .int a3)] [] := by
  have hC := hM.1
  have hnL := hM.2.2.1
  have hrm := hM.2.2.2
  have hDy : ∀ {S Q : Ji} {V : Nat → Ji} (H : Heap), SW D x tx S Q Xp V T H → Dy D T H := fun _ h => h.2.2.2.1
  unfold S_leave at hE
  refine k_iload_n (pc := 0) hC dX0_leave_0 rfl 2 rfl ?_
  refine k_iconst (pc := 1) (v := (-1)) hC dX0_leave_1 (by decide) ?_
  refine k_icmp_ne (pc := 2) (tgt := 14) hC dX0_leave_2 (by decide) hE (fun hE => ?_) (fun hE => ?_)
  · refine k_iload_n (pc := 5) hC dX0_leave_5 rfl 3 rfl ?_
    refine k_iconst (pc := 6) (v := (-1)) hC dX0_leave_6 (by decide) ?_
    refine k_icmp_ne (pc := 7) (tgt := 14) hC dX0_leave_7 (by decide) hE (fun hE => ?_) (fun hE => ?_)
    · refine k_iconst (pc := 10) (v := 1) hC dX0_leave_10 (by decide) ?_
      refine k_goto (pc := 11) (tgt := 15) hC dX0_leave_11 (by decide) ?_
      exact w_S_leave_B15 hM hR  _ _ _ _ _  hE
    · exact w_S_leave_B14 hM hR  _ _ _ _  hE
  · exact w_S_leave_B14 hM hR  _ _ _ _  hE
theorem ct_S_leave (l : Launch) (D : Dd) (A : Nat → Prop) (x tx : Nat) (Xp : Jr) (T : Th) (hA : ∀ o, o < 847 → A (x + o)) (a1 : Int32) (a2 : Int32) (a3 : Int32) (S Q : Ji) (V : Nat → Ji) (out : Int32 × (Nat → Ji)) (hE : S_leave T tx a1 a2 a3 V = some out) : Ct l yX0_leave (ws_ yX0_leave cX0_leave 5 (some .boolean)) rmS_leave vwCl arTy D A [.ref x, .int a1, .int a2, .int a3] (SW D x tx S Q Xp V T) (SW D x tx S Q Xp out.2 T) (some (.int out.1)) 0 0 := by
  refine Ct.of (by decide) (Nat.le_of_ble_eq_true rfl) rfl ?_
  intro X hl hrm hC hR hXA hnL _
  exact w_S_leave ⟨hC, by show ∀ o, o < 847 → cxA X (x + o); unfold cxA; rw [hXA]; exact hA, hnL, hrm⟩ hR a1 a2 a3 V hE
abbrev rmS_work : Room := { frames := 4, cells := 0, slots := 0, locals := 88 }
set_option maxHeartbeats 4000000 in
theorem w_S_work {X : Ctx} {D : Dd} {x tx : Nat} {Xp : Jr} {T : Th} {S : Ji} {Q : Ji} {out : Int32 × (Nat → Ji)} (hM : Sxx X cX0_work D x 3 rmS_work) (hR : Rt X (some .boolean) (SW D x tx S Q Xp out.2 T) (some (.int out.1)) 0 0) (a1 : Int32) (a2 : Int32) (V : Nat → Ji) (hE : S_work T tx a1 a2 V = some out) : Wk X 0 0 (SW D x tx S Q Xp V T) 0 [(0, .ref x), (1, .int a1), (2, .int a2)] [] := by
  have hC := hM.1
  have hnL := hM.2.2.1
  have hrm := hM.2.2.2
  have hDy : ∀ {S Q : Ji} {V : Nat → Ji} (H : Heap), SW D x tx S Q Xp V T H → Dy D T H := fun _ h => h.2.2.2.1
  unfold S_work at hE
  refine k_aload_n (pc := 0) hC dX0_work_0 rfl 0 rfl ?_
  refine k_iload_n (pc := 1) hC dX0_work_1 rfl 1 rfl ?_
  refine k_iload_n (pc := 2) hC dX0_work_2 rfl 2 rfl ?_
  refine s_ownI (pc := 3) (As := [.int a1, .int a2]) (fun r => r) (fun r => S) (fun r => Q) (fun r => V) hM (cw_S_isStep_X0 hC hrm (Nat.le_of_ble_eq_true rfl) (Nat.le_of_ble_eq_true rfl)) rfl rfl (Nat.le_of_ble_eq_true rfl) dX0_work_3 hE (fun r h => ct_S_isStep _ _ _ x tx Xp T hM.2.1 a1 a2 S Q V r h) (fun r1 hE => ?_)
  refine k_if_eq (pc := 6) (tgt := 21) hC dX0_work_6 (by decide) hE (fun hE => ?_) (fun hE => ?_)
  · refine k_iconst (pc := 21) (v := 0) hC dX0_work_21 (by decide) ?_
    exact k_zret (pc := 22) (by decide) hC hR ⟨Nat.le_refl 0, Nat.le_refl 0⟩ dX0_work_22 (by cases hE; rfl) (by cases hE; exact fun _ h => h)
  · refine k_aload_n (pc := 9) hC dX0_work_9 rfl 0 rfl ?_
    refine gS_46 (pc := 10) hM dX0_work_10 ?_
    refine gSV_146 (pc := 13) (by decide) hM dX0_work_13 ?_
    refine k_iload_n (pc := 16) hC dX0_work_16 rfl 1 rfl ?_
    refine sV_iald (pc := 17) (by decide) 8 lv_8 hM dX0_work_17 hE (fun x2 hE => ?_)
    refine k_if_ne (pc := 18) (tgt := 23) hC dX0_work_18 (by decide) hE (fun hE => ?_) (fun hE => ?_)
    · refine k_iconst (pc := 21) (v := 0) hC dX0_work_21 (by decide) ?_
      exact k_zret (pc := 22) (by decide) hC hR ⟨Nat.le_refl 0, Nat.le_refl 0⟩ dX0_work_22 (by cases hE; rfl) (by cases hE; exact fun _ h => h)
    · refine k_aload_n (pc := 23) hC dX0_work_23 rfl 0 rfl ?_
      refine gS_46 (pc := 24) hM dX0_work_24 ?_
      refine gSV_146 (pc := 27) (by decide) hM dX0_work_27 ?_
      refine k_iload_n (pc := 30) hC dX0_work_30 rfl 1 rfl ?_
      refine k_dup2 (pc := 31) hC dX0_work_31 rfl rfl ?_
      refine sV_iald (pc := 32) (by decide) 8 lv_8 hM dX0_work_32 hE (fun x3 hE => ?_)
      refine k_iconst (pc := 33) (v := 1) hC dX0_work_33 (by decide) ?_
      refine k_isub (pc := 34) hC dX0_work_34 ?_
      refine sV_iast (pc := 35) (by decide) 8 lv_8 hM dX0_work_35 hE (fun V4 hE => ?_)
      refine k_aload_n (pc := 36) hC dX0_work_36 rfl 0 rfl ?_
      refine gS_46 (pc := 37) hM dX0_work_37 ?_
      refine k_aload_n (pc := 40) hC dX0_work_40 rfl 0 rfl ?_
      refine gS_35 (pc := 41) hM dX0_work_41 ?_
      refine k_iload_n (pc := 44) hC dX0_work_44 rfl 1 rfl ?_
      refine k_iload_n (pc := 45) hC dX0_work_45 rfl 2 rfl ?_
      refine s_vcallV (pc := 46) (As := [.ref tx, .int a1, .int a2]) (by decide) (fun r => r) hM (cw_V_does_X0 hC hrm (Nat.le_of_ble_eq_true rfl) (Nat.le_of_ble_eq_true rfl)) rfl rfl (Nat.le_of_ble_eq_true rfl) dX0_work_46 hE (fun r h => ct_V_does _ _ _ _ T fpV_A tx a1 a2 (V4 0) r h) (fun r5 hE => ?_)
      refine k_iconst (pc := 49) (v := 1) hC dX0_work_49 (by decide) ?_
      exact k_zret (pc := 50) (by decide) hC hR ⟨Nat.le_refl 0, Nat.le_refl 0⟩ dX0_work_50 (by cases hE; rfl) (by cases hE; exact fun _ h => h)
theorem ct_S_work (l : Launch) (D : Dd) (A : Nat → Prop) (x tx : Nat) (Xp : Jr) (T : Th) (hA : ∀ o, o < 847 → A (x + o)) (a1 : Int32) (a2 : Int32) (S Q : Ji) (V : Nat → Ji) (out : Int32 × (Nat → Ji)) (hE : S_work T tx a1 a2 V = some out) : Ct l yX0_work (ws_ yX0_work cX0_work 3 (some .boolean)) rmS_work vwCl arTy D A [.ref x, .int a1, .int a2] (SW D x tx S Q Xp V T) (SW D x tx S Q Xp out.2 T) (some (.int out.1)) 0 0 := by
  refine Ct.of (by decide) (Nat.le_of_ble_eq_true rfl) rfl ?_
  intro X hl hrm hC hR hXA hnL _
  exact w_S_work ⟨hC, by show ∀ o, o < 847 → cxA X (x + o); unfold cxA; rw [hXA]; exact hA, hnL, hrm⟩ hR a1 a2 V hE
abbrev rmS_lay : Room := { frames := 3, cells := 0, slots := 0, locals := 64 }
set_option maxHeartbeats 4000000 in
theorem w_S_lay {X : Ctx} {D : Dd} {x tx : Nat} {Xp : Jr} {T : Th} {S : Ji} {Q : Ji} {out : Int32 × (Nat → Ji)} (hM : Sxx X cX0_lay D x 3 rmS_lay) (hR : Rt X (some .boolean) (SW D x tx S Q Xp out.2 T) (some (.int out.1)) 0 0) (a1 : Int32) (a2 : Int32) (V : Nat → Ji) (hE : S_lay T tx a1 a2 V = some out) : Wk X 0 0 (SW D x tx S Q Xp V T) 0 [(0, .ref x), (1, .int a1), (2, .int a2)] [] := by
  have hC := hM.1
  have hnL := hM.2.2.1
  have hrm := hM.2.2.2
  have hDy : ∀ {S Q : Ji} {V : Nat → Ji} (H : Heap), SW D x tx S Q Xp V T H → Dy D T H := fun _ h => h.2.2.2.1
  unfold S_lay at hE
  refine k_iload_n (pc := 0) hC dX0_lay_0 rfl 1 rfl ?_
  refine k_aload_n (pc := 1) hC dX0_lay_1 rfl 0 rfl ?_
  refine gS_35 (pc := 2) hM dX0_lay_2 ?_
  refine gD_X0_206_X4 (pc := 5) hC hDy dX0_lay_5 hE (fun x1 hE => ?_)
  refine k_nn (G := fun z => Wk X 0 0 (SW D x tx S Q Xp V T) 8 [(0, .ref x), (1, .int a1), (2, .int a2)] [z, .int a1]) hE (fun b2 hE => ?_)
  refine t_callVI (pc := 8) (As := []) 19 (fun r => r) hC hDy cl_J5 (cw_L_size_X0 hC hrm (Nat.le_of_ble_eq_true rfl) (Nat.le_of_ble_eq_true rfl)) rfl rfl (Nat.le_of_ble_eq_true rfl) ⟨Nat.zero_le _, Nat.zero_le _⟩ dX0_lay_8 hE (fun r h => ct_L_size _ _ _ _ T hDy b2 r h) (fun r3 hE => ?_)
  refine m_callSI (pc := 11) (As := [.int a1, .int r3]) (fun r => r) hC (cw_S_isOne_X0 hC hrm (Nat.le_of_ble_eq_true rfl) (Nat.le_of_ble_eq_true rfl)) rfl rfl (Nat.le_of_ble_eq_true rfl) ⟨Nat.zero_le _, Nat.zero_le _⟩ dX0_lay_11 hE (fun r h => ct_S_isOne _ _ _ _ a1 r3 r h) (fun r4 hE => ?_)
  refine k_if_eq (pc := 14) (tgt := 25) hC dX0_lay_14 (by decide) hE (fun hE => ?_) (fun hE => ?_)
  · refine k_iconst (pc := 25) (v := 0) hC dX0_lay_25 (by decide) ?_
    exact k_zret (pc := 26) (by decide) hC hR ⟨Nat.le_refl 0, Nat.le_refl 0⟩ dX0_lay_26 (by cases hE; rfl) (by cases hE; exact fun _ h => h)
  · refine k_aload_n (pc := 17) hC dX0_lay_17 rfl 0 rfl ?_
    refine k_iload_n (pc := 18) hC dX0_lay_18 rfl 2 rfl ?_
    refine s_ownI (pc := 19) (As := [.int a2]) (fun r => r) (fun r => S) (fun r => Q) (fun r => V) hM (cw_S_isRoom_X0 hC hrm (Nat.le_of_ble_eq_true rfl) (Nat.le_of_ble_eq_true rfl)) rfl rfl (Nat.le_of_ble_eq_true rfl) dX0_lay_19 hE (fun r h => ct_S_isRoom _ _ _ x tx Xp T hM.2.1 a2 S Q V r h) (fun r5 hE => ?_)
    refine k_if_ne (pc := 22) (tgt := 27) hC dX0_lay_22 (by decide) hE (fun hE => ?_) (fun hE => ?_)
    · refine k_iconst (pc := 25) (v := 0) hC dX0_lay_25 (by decide) ?_
      exact k_zret (pc := 26) (by decide) hC hR ⟨Nat.le_refl 0, Nat.le_refl 0⟩ dX0_lay_26 (by cases hE; rfl) (by cases hE; exact fun _ h => h)
    · refine k_aload_n (pc := 27) hC dX0_lay_27 rfl 0 rfl ?_
      refine gS_46 (pc := 28) hM dX0_lay_28 ?_
      refine gSV_209 (pc := 31) (by decide) hM dX0_lay_31 ?_
      refine k_iload_n (pc := 34) hC dX0_lay_34 rfl 1 rfl ?_
      refine k_iload_n (pc := 35) hC dX0_lay_35 rfl 2 rfl ?_
      refine sV_iast (pc := 36) (by decide) 11 lv_11 hM dX0_lay_36 hE (fun V6 hE => ?_)
      refine k_iconst (pc := 37) (v := 1) hC dX0_lay_37 (by decide) ?_
      exact k_zret (pc := 38) (by decide) hC hR ⟨Nat.le_refl 0, Nat.le_refl 0⟩ dX0_lay_38 (by cases hE; rfl) (by cases hE; exact fun _ h => h)
theorem ct_S_lay (l : Launch) (D : Dd) (A : Nat → Prop) (x tx : Nat) (Xp : Jr) (T : Th) (hA : ∀ o, o < 847 → A (x + o)) (a1 : Int32) (a2 : Int32) (S Q : Ji) (V : Nat → Ji) (out : Int32 × (Nat → Ji)) (hE : S_lay T tx a1 a2 V = some out) : Ct l yX0_lay (ws_ yX0_lay cX0_lay 3 (some .boolean)) rmS_lay vwCl arTy D A [.ref x, .int a1, .int a2] (SW D x tx S Q Xp V T) (SW D x tx S Q Xp out.2 T) (some (.int out.1)) 0 0 := by
  refine Ct.of (by decide) (Nat.le_of_ble_eq_true rfl) rfl ?_
  intro X hl hrm hC hR hXA hnL _
  exact w_S_lay ⟨hC, by show ∀ o, o < 847 → cxA X (x + o); unfold cxA; rw [hXA]; exact hA, hnL, hrm⟩ hR a1 a2 V hE
abbrev rmS_give : Room := { frames := 3, cells := 0, slots := 0, locals := 64 }
set_option maxHeartbeats 4000000 in
theorem w_S_give {X : Ctx} {D : Dd} {x tx : Nat} {Xp : Jr} {T : Th} {S : Ji} {Q : Ji} {out : Int32 × (Nat → Ji)} (hM : Sxx X cX0_give D x 3 rmS_give) (hR : Rt X (some .boolean) (SW D x tx S Q Xp out.2 T) (some (.int out.1)) 0 0) (a1 : Int32) (a2 : Int32) (V : Nat → Ji) (hE : S_give T tx a1 a2 V = some out) : Wk X 0 0 (SW D x tx S Q Xp V T) 0 [(0, .ref x), (1, .int a1), (2, .int a2)] [] := by
  have hC := hM.1
  have hnL := hM.2.2.1
  have hrm := hM.2.2.2
  have hDy : ∀ {S Q : Ji} {V : Nat → Ji} (H : Heap), SW D x tx S Q Xp V T H → Dy D T H := fun _ h => h.2.2.2.1
  unfold S_give at hE
  refine k_iload_n (pc := 0) hC dX0_give_0 rfl 1 rfl ?_
  refine k_aload_n (pc := 1) hC dX0_give_1 rfl 0 rfl ?_
  refine gS_35 (pc := 2) hM dX0_give_2 ?_
  refine gD_X0_206_X4 (pc := 5) hC hDy dX0_give_5 hE (fun x1 hE => ?_)
  refine k_nn (G := fun z => Wk X 0 0 (SW D x tx S Q Xp V T) 8 [(0, .ref x), (1, .int a1), (2, .int a2)] [z, .int a1]) hE (fun b2 hE => ?_)
  refine t_callVI (pc := 8) (As := []) 19 (fun r => r) hC hDy cl_J5 (cw_L_size_X0 hC hrm (Nat.le_of_ble_eq_true rfl) (Nat.le_of_ble_eq_true rfl)) rfl rfl (Nat.le_of_ble_eq_true rfl) ⟨Nat.zero_le _, Nat.zero_le _⟩ dX0_give_8 hE (fun r h => ct_L_size _ _ _ _ T hDy b2 r h) (fun r3 hE => ?_)
  refine m_callSI (pc := 11) (As := [.int a1, .int r3]) (fun r => r) hC (cw_S_isOne_X0 hC hrm (Nat.le_of_ble_eq_true rfl) (Nat.le_of_ble_eq_true rfl)) rfl rfl (Nat.le_of_ble_eq_true rfl) ⟨Nat.zero_le _, Nat.zero_le _⟩ dX0_give_11 hE (fun r h => ct_S_isOne _ _ _ _ a1 r3 r h) (fun r4 hE => ?_)
  refine k_if_eq (pc := 14) (tgt := 25) hC dX0_give_14 (by decide) hE (fun hE => ?_) (fun hE => ?_)
  · refine k_iconst (pc := 25) (v := 0) hC dX0_give_25 (by decide) ?_
    exact k_zret (pc := 26) (by decide) hC hR ⟨Nat.le_refl 0, Nat.le_refl 0⟩ dX0_give_26 (by cases hE; rfl) (by cases hE; exact fun _ h => h)
  · refine k_aload_n (pc := 17) hC dX0_give_17 rfl 0 rfl ?_
    refine k_iload_n (pc := 18) hC dX0_give_18 rfl 2 rfl ?_
    refine s_ownI (pc := 19) (As := [.int a2]) (fun r => r) (fun r => S) (fun r => Q) (fun r => V) hM (cw_S_isMan_X0 hC hrm (Nat.le_of_ble_eq_true rfl) (Nat.le_of_ble_eq_true rfl)) rfl rfl (Nat.le_of_ble_eq_true rfl) dX0_give_19 hE (fun r h => ct_S_isMan _ _ _ x tx Xp T hM.2.1 a2 S Q V r h) (fun r5 hE => ?_)
    refine k_if_ne (pc := 22) (tgt := 27) hC dX0_give_22 (by decide) hE (fun hE => ?_) (fun hE => ?_)
    · refine k_iconst (pc := 25) (v := 0) hC dX0_give_25 (by decide) ?_
      exact k_zret (pc := 26) (by decide) hC hR ⟨Nat.le_refl 0, Nat.le_refl 0⟩ dX0_give_26 (by cases hE; rfl) (by cases hE; exact fun _ h => h)
    · refine k_aload_n (pc := 27) hC dX0_give_27 rfl 0 rfl ?_
      refine gS_46 (pc := 28) hM dX0_give_28 ?_
      refine gSV_209 (pc := 31) (by decide) hM dX0_give_31 ?_
      refine k_iload_n (pc := 34) hC dX0_give_34 rfl 1 rfl ?_
      refine k_bipush (pc := 35) (v := 100) hC dX0_give_35 (by decide) ?_
      refine k_iload_n (pc := 37) hC dX0_give_37 rfl 2 rfl ?_
      refine k_iadd (pc := 38) hC dX0_give_38 ?_
      refine sV_iast (pc := 39) (by decide) 11 lv_11 hM dX0_give_39 hE (fun V6 hE => ?_)
      refine k_iconst (pc := 40) (v := 1) hC dX0_give_40 (by decide) ?_
      exact k_zret (pc := 41) (by decide) hC hR ⟨Nat.le_refl 0, Nat.le_refl 0⟩ dX0_give_41 (by cases hE; rfl) (by cases hE; exact fun _ h => h)
theorem ct_S_give (l : Launch) (D : Dd) (A : Nat → Prop) (x tx : Nat) (Xp : Jr) (T : Th) (hA : ∀ o, o < 847 → A (x + o)) (a1 : Int32) (a2 : Int32) (S Q : Ji) (V : Nat → Ji) (out : Int32 × (Nat → Ji)) (hE : S_give T tx a1 a2 V = some out) : Ct l yX0_give (ws_ yX0_give cX0_give 3 (some .boolean)) rmS_give vwCl arTy D A [.ref x, .int a1, .int a2] (SW D x tx S Q Xp V T) (SW D x tx S Q Xp out.2 T) (some (.int out.1)) 0 0 := by
  refine Ct.of (by decide) (Nat.le_of_ble_eq_true rfl) rfl ?_
  intro X hl hrm hC hR hXA hnL _
  exact w_S_give ⟨hC, by show ∀ o, o < 847 → cxA X (x + o); unfold cxA; rw [hXA]; exact hA, hnL, hrm⟩ hR a1 a2 V hE
abbrev rmS_bar : Room := { frames := 2, cells := 0, slots := 0, locals := 43 }
set_option maxHeartbeats 4000000 in
theorem w_S_bar_B54 {X : Ctx} {D : Dd} {x tx : Nat} {Xp : Jr} {T : Th} {S : Ji} {Q : Ji} {out : Int32 × (Nat → Ji)} (hM : Sxx X cX0_bar D x 3 rmS_bar) (hR : Rt X (some .boolean) (SW D x tx S Q Xp out.2 T) (some (.int out.1)) 0 0) (s0 : Int32) (V : Nat → Ji) (hE : S_bar_B54 T tx s0 V = some out) : Wk X 0 0 (SW D x tx S Q Xp V T) 54 [] [.int s0, .ref (x + vo 0)] := by
  have hC := hM.1
  have hnL := hM.2.2.1
  have hrm := hM.2.2.2
  have hDy : ∀ {S Q : Ji} {V : Nat → Ji} (H : Heap), SW D x tx S Q Xp V T H → Dy D T H := fun _ h => h.2.2.2.1
  unfold S_bar_B54 at hE
  refine pSV_229 (pc := 54) (by decide) hM dX0_bar_54 hE (fun V5 hE => ?_)
  refine k_iconst (pc := 57) (v := 1) hC dX0_bar_57 (by decide) ?_
  exact k_zret (pc := 58) (by decide) hC hR ⟨Nat.le_refl 0, Nat.le_refl 0⟩ dX0_bar_58 (by cases hE; rfl) (by cases hE; exact fun _ h => h)
set_option maxHeartbeats 4000000 in
theorem w_S_bar {X : Ctx} {D : Dd} {x tx : Nat} {Xp : Jr} {T : Th} {S : Ji} {Q : Ji} {out : Int32 × (Nat → Ji)} (hM : Sxx X cX0_bar D x 3 rmS_bar) (hR : Rt X (some .boolean) (SW D x tx S Q Xp out.2 T) (some (.int out.1)) 0 0) (a1 : Int32) (a2 : Int32) (V : Nat → Ji) (hE : S_bar T tx a1 a2 V = some out) : Wk X 0 0 (SW D x tx S Q Xp V T) 0 [(0, .ref x), (1, .int a1), (2, .int a2)] [] := by
  have hC := hM.1
  have hnL := hM.2.2.1
  have hrm := hM.2.2.2
  have hDy : ∀ {S Q : Ji} {V : Nat → Ji} (H : Heap), SW D x tx S Q Xp V T H → Dy D T H := fun _ h => h.2.2.2.1
  unfold S_bar at hE
  refine k_iload_n (pc := 0) hC dX0_bar_0 rfl 1 rfl ?_
  refine k_aload_n (pc := 1) hC dX0_bar_1 rfl 0 rfl ?_
  refine gS_35 (pc := 2) hM dX0_bar_2 ?_
  refine gD_X0_226_X4 (pc := 5) hC hDy dX0_bar_5 hE (fun x1 hE => ?_)
  refine k_nn (G := fun z => Wk X 0 0 (SW D x tx S Q Xp V T) 8 [(0, .ref x), (1, .int a1), (2, .int a2)] [z, .int a1]) hE (fun b2 hE => ?_)
  refine t_callVI (pc := 8) (As := []) 19 (fun r => r) hC hDy cl_J5 (cw_L_size_X0 hC hrm (Nat.le_of_ble_eq_true rfl) (Nat.le_of_ble_eq_true rfl)) rfl rfl (Nat.le_of_ble_eq_true rfl) ⟨Nat.zero_le _, Nat.zero_le _⟩ dX0_bar_8 hE (fun r h => ct_L_size _ _ _ _ T hDy b2 r h) (fun r3 hE => ?_)
  refine m_callSI (pc := 11) (As := [.int a1, .int r3]) (fun r => r) hC (cw_S_isOne_X0 hC hrm (Nat.le_of_ble_eq_true rfl) (Nat.le_of_ble_eq_true rfl)) rfl rfl (Nat.le_of_ble_eq_true rfl) ⟨Nat.zero_le _, Nat.zero_le _⟩ dX0_bar_11 hE (fun r h => ct_S_isOne _ _ _ _ a1 r3 r h) (fun r4 hE => ?_)
  refine k_if_ne (pc := 14) (tgt := 19) hC dX0_bar_14 (by decide) hE (fun hE => ?_) (fun hE => ?_)
  · refine k_iconst (pc := 17) (v := 0) hC dX0_bar_17 (by decide) ?_
    exact k_zret (pc := 18) (by decide) hC hR ⟨Nat.le_refl 0, Nat.le_refl 0⟩ dX0_bar_18 (by cases hE; rfl) (by cases hE; exact fun _ h => h)
  · refine k_aload_n (pc := 19) hC dX0_bar_19 rfl 0 rfl ?_
    refine gS_46 (pc := 20) hM dX0_bar_20 ?_
    refine k_iload_n (pc := 23) hC dX0_bar_23 rfl 2 rfl ?_
    refine k_if_eq (pc := 24) (tgt := 41) hC dX0_bar_24 (by decide) hE (fun hE => ?_) (fun hE => ?_)
    · refine k_aload_n (pc := 41) hC dX0_bar_41 rfl 0 rfl ?_
      refine gS_46 (pc := 42) hM dX0_bar_42 ?_
      refine gSV_229 (pc := 45) (by decide) hM dX0_bar_45 ?_
      refine k_iconst (pc := 48) (v := 1) hC dX0_bar_48 (by decide) ?_
      refine k_iload_n (pc := 49) hC dX0_bar_49 rfl 1 rfl ?_
      refine k_ishl (pc := 50) hC dX0_bar_50 ?_
      refine k_iconst (pc := 51) (v := (-1)) hC dX0_bar_51 (by decide) ?_
      refine k_ixor (pc := 52) hC dX0_bar_52 ?_
      refine k_iand (pc := 53) hC dX0_bar_53 ?_
      refine k_sub [] rfl ?_
      exact w_S_bar_B54 hM hR  _ _  hE
    · refine k_aload_n (pc := 27) hC dX0_bar_27 rfl 0 rfl ?_
      refine gS_46 (pc := 28) hM dX0_bar_28 ?_
      refine gSV_229 (pc := 31) (by decide) hM dX0_bar_31 ?_
      refine k_iconst (pc := 34) (v := 1) hC dX0_bar_34 (by decide) ?_
      refine k_iload_n (pc := 35) hC dX0_bar_35 rfl 1 rfl ?_
      refine k_ishl (pc := 36) hC dX0_bar_36 ?_
      refine k_ior (pc := 37) hC dX0_bar_37 ?_
      refine k_goto (pc := 38) (tgt := 54) hC dX0_bar_38 (by decide) ?_
      refine k_sub [] rfl ?_
      exact w_S_bar_B54 hM hR  _ _  hE
theorem ct_S_bar (l : Launch) (D : Dd) (A : Nat → Prop) (x tx : Nat) (Xp : Jr) (T : Th) (hA : ∀ o, o < 847 → A (x + o)) (a1 : Int32) (a2 : Int32) (S Q : Ji) (V : Nat → Ji) (out : Int32 × (Nat → Ji)) (hE : S_bar T tx a1 a2 V = some out) : Ct l yX0_bar (ws_ yX0_bar cX0_bar 3 (some .boolean)) rmS_bar vwCl arTy D A [.ref x, .int a1, .int a2] (SW D x tx S Q Xp V T) (SW D x tx S Q Xp out.2 T) (some (.int out.1)) 0 0 := by
  refine Ct.of (by decide) (Nat.le_of_ble_eq_true rfl) rfl ?_
  intro X hl hrm hC hR hXA hnL _
  exact w_S_bar ⟨hC, by show ∀ o, o < 847 → cxA X (x + o); unfold cxA; rw [hXA]; exact hA, hnL, hrm⟩ hR a1 a2 V hE
abbrev rmS_night : Room := { frames := 506, cells := 0, slots := 0, locals := 12144 }
set_option maxHeartbeats 4000000 in
theorem w_S_night {X : Ctx} {D : Dd} {x tx : Nat} {Xp : Jr} {T : Th} {Q : Ji} {out : Int32 × Ji × (Nat → Ji)} (hM : Sxx X cX0_night D x 2 rmS_night) (hR : Rt X (some .int) (SW D x tx out.2.1 Q Xp out.2.2 T) (some (.int out.1)) 0 0) (F : Nat) (S : Ji) (V : Nat → Ji) (hE : S_night F T tx S V = some out) : Wk X 0 0 (SW D x tx S Q Xp V T) 0 [(0, .ref x)] [] := by
  have hC := hM.1
  have hnL := hM.2.2.1
  have hrm := hM.2.2.2
  have hDy : ∀ {S Q : Ji} {V : Nat → Ji} (H : Heap), SW D x tx S Q Xp V T H → Dy D T H := fun _ h => h.2.2.2.1
  unfold S_night at hE
  refine k_aload_n (pc := 0) hC dX0_night_0 rfl 0 rfl ?_
  refine gS_53 (pc := 1) hM dX0_night_1 ?_
  refine k_aload_n (pc := 4) hC dX0_night_4 rfl 0 rfl ?_
  refine gS_232 (pc := 5) hM dX0_night_5 ?_
  refine s_past (pc := 8) hM dX0_night_8 hE (fun q1 hq1 hE => ?_)
  refine k_aload_n (pc := 9) hC dX0_night_9 rfl 0 rfl ?_
  refine gS_46 (pc := 10) hM dX0_night_10 ?_
  refine s_takes (pc := 13) (2 + q1) 0 (by have := hq1; omega) (by decide) (by omega) hM (Nat.le_of_ble_eq_true rfl) (Nat.le_of_ble_eq_true rfl) (Nat.le_of_ble_eq_true rfl) dX0_night_13 ?_
  refine k_lt (G := fun Z => Wk X 0 0 (SW D x tx S Q Xp Z T) 16 [(0, .ref x)] []) hE (fun V2 hE => ?_)
  refine k_aload_n (pc := 16) hC dX0_night_16 rfl 0 rfl ?_
  refine k_aload_n (pc := 17) hC dX0_night_17 rfl 0 rfl ?_
  refine gS_232 (pc := 18) hM dX0_night_18 ?_
  refine k_iconst (pc := 21) (v := 1) hC dX0_night_21 (by decide) ?_
  refine k_iadd (pc := 22) hC dX0_night_22 ?_
  refine k_bipush (pc := 23) (v := 20) hC dX0_night_23 (by decide) ?_
  refine k_iremK (pc := 25) hC dX0_night_25 (by decide) ?_
  refine pS_232 (pc := 26) hM dX0_night_26 hE (fun S3 hE => ?_)
  refine k_aload_n (pc := 29) hC dX0_night_29 rfl 0 rfl ?_
  refine k_bipush (pc := 30) (v := 20) hC dX0_night_30 (by decide) ?_
  refine k_aload_n (pc := 32) hC dX0_night_32 rfl 0 rfl ?_
  refine gS_93 (pc := 33) hM dX0_night_33 ?_
  refine k_iconst (pc := 36) (v := 1) hC dX0_night_36 (by decide) ?_
  refine k_iadd (pc := 37) hC dX0_night_37 ?_
  refine k_mmin (pc := 38) hC q1351 hrm (Nat.le_of_ble_eq_true rfl) (Nat.le_of_ble_eq_true rfl) ⟨Nat.zero_le _, Nat.zero_le _⟩ dX0_night_38 ?_
  refine pS_93 (pc := 41) hM dX0_night_41 hE (fun S4 hE => ?_)
  refine k_aload_n (pc := 44) hC dX0_night_44 rfl 0 rfl ?_
  refine gS_46 (pc := 45) hM dX0_night_45 ?_
  refine k_aload_n (pc := 48) hC dX0_night_48 rfl 0 rfl ?_
  refine gS_35 (pc := 49) hM dX0_night_49 ?_
  refine s_vcallI (pc := 52) (As := [.ref tx]) (by decide) (fun r => r) (fun _ => V2 0) hM (cw_V_worthOfAll_X0 hC hrm (Nat.le_of_ble_eq_true rfl) (Nat.le_of_ble_eq_true rfl)) rfl rfl (Nat.le_of_ble_eq_true rfl) dX0_night_52 hE (fun r h => ct_V_worthOfAll _ _ _ _ T fpV_A F tx (V2 0) r h) (fun r5 hE => ?_)
  rw [vf_same]
  refine k_istore_n (pc := 55) (lv' := [(1, .int r5), (0, .ref x)]) hC dX0_night_55 rfl (by rw [hnL]; decide) rfl ?_
  refine k_aload_n (pc := 56) hC dX0_night_56 rfl 1 rfl ?_
  refine gS_46 (pc := 57) hM dX0_night_57 ?_
  refine k_aload_n (pc := 60) hC dX0_night_60 rfl 1 rfl ?_
  refine gS_35 (pc := 61) hM dX0_night_61 ?_
  refine s_vcallV (pc := 64) (As := [.ref tx]) (by decide) (fun r => r) hM (cw_V_night_X0 hC hrm (Nat.le_of_ble_eq_true rfl) (Nat.le_of_ble_eq_true rfl)) rfl rfl (Nat.le_of_ble_eq_true rfl) dX0_night_64 hE (fun r h => ct_V_night _ _ _ _ T fpV_A F tx (V2 0) r h) (fun r6 hE => ?_)
  refine k_aload_n (pc := 67) hC dX0_night_67 rfl 1 rfl ?_
  refine gS_46 (pc := 68) hM dX0_night_68 ?_
  refine k_aload_n (pc := 71) hC dX0_night_71 rfl 1 rfl ?_
  refine gS_35 (pc := 72) hM dX0_night_72 ?_
  refine s_vcallI (pc := 75) (As := [.ref tx]) (by decide) (fun r => r) (fun _ => (vf_upd V2 0 r6) 0) hM (cw_V_worthOfAll_X0 hC hrm (Nat.le_of_ble_eq_true rfl) (Nat.le_of_ble_eq_true rfl)) rfl rfl (Nat.le_of_ble_eq_true rfl) dX0_night_75 hE (fun r h => ct_V_worthOfAll _ _ _ _ T fpV_A F tx ((vf_upd V2 0 r6) 0) r h) (fun r7 hE => ?_)
  rw [vf_same]
  refine k_iload_n (pc := 78) hC dX0_night_78 rfl 0 rfl ?_
  refine k_isub (pc := 79) hC dX0_night_79 ?_
  exact k_iret (pc := 80) hC hR ⟨Nat.le_refl 0, Nat.le_refl 0⟩ dX0_night_80 (by cases hE; rfl) (by cases hE; exact fun _ h => h)
theorem ct_S_night (l : Launch) (D : Dd) (A : Nat → Prop) (x tx : Nat) (Xp : Jr) (T : Th) (hA : ∀ o, o < 847 → A (x + o)) (F : Nat) (S Q : Ji) (V : Nat → Ji) (out : Int32 × Ji × (Nat → Ji)) (hE : S_night F T tx S V = some out) : Ct l yX0_night (ws_ yX0_night cX0_night 2 (some .int)) rmS_night vwCl arTy D A [.ref x] (SW D x tx S Q Xp V T) (SW D x tx out.2.1 Q Xp out.2.2 T) (some (.int out.1)) 0 0 := by
  refine Ct.of (by decide) (Nat.le_of_ble_eq_true rfl) rfl ?_
  intro X hl hrm hC hR hXA hnL _
  exact w_S_night ⟨hC, by show ∀ o, o < 847 → cxA X (x + o); unfold cxA; rw [hXA]; exact hA, hnL, hrm⟩ hR F S V hE
abbrev rmS_undo : Room := { frames := 2, cells := 0, slots := 0, locals := 73 }
set_option maxHeartbeats 4000000 in
theorem w_S_undo {X : Ctx} {D : Dd} {x tx : Nat} {Xp : Jr} {T : Th} {Q : Ji} {out : Int32 × Ji × (Nat → Ji)} (hM : Sxx X cX0_undo D x 1 rmS_undo) (hR : Rt X (some .boolean) (SW D x tx out.2.1 Q Xp out.2.2 T) (some (.int out.1)) 0 0) (S : Ji) (V : Nat → Ji) (hE : S_undo T tx S V = some out) : Wk X 0 0 (SW D x tx S Q Xp V T) 0 [(0, .ref x)] [] := by
  have hC := hM.1
  have hnL := hM.2.2.1
  have hrm := hM.2.2.2
  have hDy : ∀ {S Q : Ji} {V : Nat → Ji} (H : Heap), SW D x tx S Q Xp V T H → Dy D T H := fun _ h => h.2.2.2.1
  unfold S_undo at hE
  refine k_aload_n (pc := 0) hC dX0_undo_0 rfl 0 rfl ?_
  refine gS_93 (pc := 1) hM dX0_undo_1 ?_
  refine k_if_ne (pc := 4) (tgt := 9) hC dX0_undo_4 (by decide) hE (fun hE => ?_) (fun hE => ?_)
  · refine k_iconst (pc := 7) (v := 0) hC dX0_undo_7 (by decide) ?_
    exact k_zret (pc := 8) (by decide) hC hR ⟨Nat.le_refl 0, Nat.le_refl 0⟩ dX0_undo_8 (by cases hE; rfl) (by cases hE; exact fun _ h => h)
  · refine k_aload_n (pc := 9) hC dX0_undo_9 rfl 0 rfl ?_
    refine k_dup (pc := 10) hC dX0_undo_10 rfl ?_
    refine gS_93 (pc := 11) hM dX0_undo_11 ?_
    refine k_iconst (pc := 14) (v := 1) hC dX0_undo_14 (by decide) ?_
    refine k_isub (pc := 15) hC dX0_undo_15 ?_
    refine pS_93 (pc := 16) hM dX0_undo_16 hE (fun S1 hE => ?_)
    refine k_aload_n (pc := 19) hC dX0_undo_19 rfl 0 rfl ?_
    refine k_aload_n (pc := 20) hC dX0_undo_20 rfl 0 rfl ?_
    refine gS_232 (pc := 21) hM dX0_undo_21 ?_
    refine k_bipush (pc := 24) (v := 20) hC dX0_undo_24 (by decide) ?_
    refine k_iadd (pc := 26) hC dX0_undo_26 ?_
    refine k_iconst (pc := 27) (v := 1) hC dX0_undo_27 (by decide) ?_
    refine k_isub (pc := 28) hC dX0_undo_28 ?_
    refine k_bipush (pc := 29) (v := 20) hC dX0_undo_29 (by decide) ?_
    refine k_iremK (pc := 31) hC dX0_undo_31 (by decide) ?_
    refine pS_232 (pc := 32) hM dX0_undo_32 hE (fun S2 hE => ?_)
    refine k_aload_n (pc := 35) hC dX0_undo_35 rfl 0 rfl ?_
    refine gS_46 (pc := 36) hM dX0_undo_36 ?_
    refine k_aload_n (pc := 39) hC dX0_undo_39 rfl 0 rfl ?_
    refine gS_53 (pc := 40) hM dX0_undo_40 ?_
    refine k_aload_n (pc := 43) hC dX0_undo_43 rfl 0 rfl ?_
    refine gS_232 (pc := 44) hM dX0_undo_44 ?_
    refine s_past (pc := 47) hM dX0_undo_47 hE (fun q3 hq3 hE => ?_)
    refine s_takes (pc := 48) 0 (2 + q3) (by decide) (by have := hq3; omega) (by omega) hM (Nat.le_of_ble_eq_true rfl) (Nat.le_of_ble_eq_true rfl) (Nat.le_of_ble_eq_true rfl) dX0_undo_48 ?_
    refine k_lt (G := fun Z => Wk X 0 0 (SW D x tx S2 Q Xp Z T) 51 [(0, .ref x)] []) hE (fun V4 hE => ?_)
    refine k_iconst (pc := 51) (v := 1) hC dX0_undo_51 (by decide) ?_
    exact k_zret (pc := 52) (by decide) hC hR ⟨Nat.le_refl 0, Nat.le_refl 0⟩ dX0_undo_52 (by cases hE; rfl) (by cases hE; exact fun _ h => h)
theorem ct_S_undo (l : Launch) (D : Dd) (A : Nat → Prop) (x tx : Nat) (Xp : Jr) (T : Th) (hA : ∀ o, o < 847 → A (x + o)) (S Q : Ji) (V : Nat → Ji) (out : Int32 × Ji × (Nat → Ji)) (hE : S_undo T tx S V = some out) : Ct l yX0_undo (ws_ yX0_undo cX0_undo 1 (some .boolean)) rmS_undo vwCl arTy D A [.ref x] (SW D x tx S Q Xp V T) (SW D x tx out.2.1 Q Xp out.2.2 T) (some (.int out.1)) 0 0 := by
  refine Ct.of (by decide) (Nat.le_of_ble_eq_true rfl) rfl ?_
  intro X hl hrm hC hR hXA hnL _
  exact w_S_undo ⟨hC, by show ∀ o, o < 847 → cxA X (x + o); unfold cxA; rw [hXA]; exact hA, hnL, hrm⟩ hR S V hE
abbrev rmS_brings : Room := { frames := 506, cells := 0, slots := 0, locals := 12144 }
set_option maxHeartbeats 4000000 in
theorem w_S_brings {X : Ctx} {D : Dd} {x tx : Nat} {Xp : Jr} {T : Th} {S : Ji} {Q : Ji} {out : Int32 × (Nat → Ji)} (hM : Sxx X cX0_brings D x 2 rmS_brings) (hR : Rt X (some .int) (SW D x tx S Q Xp out.2 T) (some (.int out.1)) 0 0) (F : Nat) (V : Nat → Ji) (hE : S_brings F T tx V = some out) : Wk X 0 0 (SW D x tx S Q Xp V T) 0 [(0, .ref x)] [] := by
  have hC := hM.1
  have hnL := hM.2.2.1
  have hrm := hM.2.2.2
  have hDy : ∀ {S Q : Ji} {V : Nat → Ji} (H : Heap), SW D x tx S Q Xp V T H → Dy D T H := fun _ h => h.2.2.2.1
  unfold S_brings at hE
  refine k_aload_n (pc := 0) hC dX0_brings_0 rfl 0 rfl ?_
  refine gS_50 (pc := 1) hM dX0_brings_1 ?_
  refine k_aload_n (pc := 4) hC dX0_brings_4 rfl 0 rfl ?_
  refine gS_35 (pc := 5) hM dX0_brings_5 ?_
  refine s_vcallI (pc := 8) (As := [.ref tx]) (by decide) (fun r => r) (fun _ => V 1) hM (cw_V_worthOfAll_X0 hC hrm (Nat.le_of_ble_eq_true rfl) (Nat.le_of_ble_eq_true rfl)) rfl rfl (Nat.le_of_ble_eq_true rfl) dX0_brings_8 hE (fun r h => ct_V_worthOfAll _ _ _ _ T fpV_A F tx (V 1) r h) (fun r1 hE => ?_)
  rw [vf_same]
  refine k_istore_n (pc := 11) (lv' := [(1, .int r1), (0, .ref x)]) hC dX0_brings_11 rfl (by rw [hnL]; decide) rfl ?_
  refine k_aload_n (pc := 12) hC dX0_brings_12 rfl 1 rfl ?_
  refine gS_50 (pc := 13) hM dX0_brings_13 ?_
  refine k_aload_n (pc := 16) hC dX0_brings_16 rfl 1 rfl ?_
  refine gS_35 (pc := 17) hM dX0_brings_17 ?_
  refine s_vcallV (pc := 20) (As := [.ref tx]) (by decide) (fun r => r) hM (cw_V_night_X0 hC hrm (Nat.le_of_ble_eq_true rfl) (Nat.le_of_ble_eq_true rfl)) rfl rfl (Nat.le_of_ble_eq_true rfl) dX0_brings_20 hE (fun r h => ct_V_night _ _ _ _ T fpV_A F tx (V 1) r h) (fun r2 hE => ?_)
  refine k_aload_n (pc := 23) hC dX0_brings_23 rfl 1 rfl ?_
  refine gS_50 (pc := 24) hM dX0_brings_24 ?_
  refine k_aload_n (pc := 27) hC dX0_brings_27 rfl 1 rfl ?_
  refine gS_35 (pc := 28) hM dX0_brings_28 ?_
  refine s_vcallI (pc := 31) (As := [.ref tx]) (by decide) (fun r => r) (fun _ => (vf_upd V 1 r2) 1) hM (cw_V_worthOfAll_X0 hC hrm (Nat.le_of_ble_eq_true rfl) (Nat.le_of_ble_eq_true rfl)) rfl rfl (Nat.le_of_ble_eq_true rfl) dX0_brings_31 hE (fun r h => ct_V_worthOfAll _ _ _ _ T fpV_A F tx ((vf_upd V 1 r2) 1) r h) (fun r3 hE => ?_)
  rw [vf_same]
  refine k_iload_n (pc := 34) hC dX0_brings_34 rfl 0 rfl ?_
  refine k_isub (pc := 35) hC dX0_brings_35 ?_
  exact k_iret (pc := 36) hC hR ⟨Nat.le_refl 0, Nat.le_refl 0⟩ dX0_brings_36 (by cases hE; rfl) (by cases hE; exact fun _ h => h)
theorem ct_S_brings (l : Launch) (D : Dd) (A : Nat → Prop) (x tx : Nat) (Xp : Jr) (T : Th) (hA : ∀ o, o < 847 → A (x + o)) (F : Nat) (S Q : Ji) (V : Nat → Ji) (out : Int32 × (Nat → Ji)) (hE : S_brings F T tx V = some out) : Ct l yX0_brings (ws_ yX0_brings cX0_brings 2 (some .int)) rmS_brings vwCl arTy D A [.ref x] (SW D x tx S Q Xp V T) (SW D x tx S Q Xp out.2 T) (some (.int out.1)) 0 0 := by
  refine Ct.of (by decide) (Nat.le_of_ble_eq_true rfl) rfl ?_
  intro X hl hrm hC hR hXA hnL _
  exact w_S_brings ⟨hC, by show ∀ o, o < 847 → cxA X (x + o); unfold cxA; rw [hXA]; exact hA, hnL, hrm⟩ hR F V hE
theorem cw_S_brings_X0 {X : Ctx} {cc : ByteArray} {D : Dd} {rm : Room} (hC : Cx X cc RX0 vwCl arTy D) (hrm : X.2.2.2.1 = rm) (h1 : rmS_brings.frames + 1 ≤ rm.frames) (h2 : 8 + (2 + 11) + rmS_brings.locals ≤ rm.locals) : CallW X.2.2.2.1 X.2.2.2.2.1 X.2.2.2.2.2.2.1 RX0 RX0 252 yX0_brings cX0_brings 2 (some .int) (ws_ yX0_brings cX0_brings 2 (some .int)) rmS_brings 0 0 0 := cwV 0 (cx_w hC) (lw_V q1429 q1431 qs40 q114 q1432) rfl rfl rfl (by decide +kernel) (by rw [hrm]; exact ⟨h1, h2⟩)
abbrev rmS_gain : Room := { frames := 507, cells := 0, slots := 0, locals := 12165 }
set_option maxHeartbeats 4000000 in
theorem w_S_gain {X : Ctx} {D : Dd} {x tx : Nat} {Xp : Jr} {T : Th} {S : Ji} {Q : Ji} {out : Int32 × (Nat → Ji)} (hM : Sxx X cX0_gain D x 1 rmS_gain) (hR : Rt X (some .int) (SW D x tx S Q Xp out.2 T) (some (.int out.1)) 0 0) (F : Nat) (V : Nat → Ji) (hE : S_gain F T tx V = some out) : Wk X 0 0 (SW D x tx S Q Xp V T) 0 [(0, .ref x)] [] := by
  have hC := hM.1
  have hnL := hM.2.2.1
  have hrm := hM.2.2.2
  have hDy : ∀ {S Q : Ji} {V : Nat → Ji} (H : Heap), SW D x tx S Q Xp V T H → Dy D T H := fun _ h => h.2.2.2.1
  unfold S_gain at hE
  refine k_aload_n (pc := 0) hC dX0_gain_0 rfl 0 rfl ?_
  refine gS_50 (pc := 1) hM dX0_gain_1 ?_
  refine k_aload_n (pc := 4) hC dX0_gain_4 rfl 0 rfl ?_
  refine gS_46 (pc := 5) hM dX0_gain_5 ?_
  refine s_takes (pc := 8) 1 0 (by decide) (by decide) (by decide) hM (Nat.le_of_ble_eq_true rfl) (Nat.le_of_ble_eq_true rfl) (Nat.le_of_ble_eq_true rfl) dX0_gain_8 ?_
  refine k_lt (G := fun Z => Wk X 0 0 (SW D x tx S Q Xp Z T) 11 [(0, .ref x)] []) hE (fun V1 hE => ?_)
  refine k_aload_n (pc := 11) hC dX0_gain_11 rfl 0 rfl ?_
  refine s_ownI (pc := 12) (As := []) (fun r => r.1) (fun r => S) (fun r => Q) (fun r => r.2) hM (cw_S_brings_X0 hC hrm (Nat.le_of_ble_eq_true rfl) (Nat.le_of_ble_eq_true rfl)) rfl rfl (Nat.le_of_ble_eq_true rfl) dX0_gain_12 hE (fun r h => ct_S_brings _ _ _ x tx Xp T hM.2.1 F S Q V1 r h) (fun r2 hE => ?_)
  exact k_iret (pc := 15) hC hR ⟨Nat.le_refl 0, Nat.le_refl 0⟩ dX0_gain_15 (by cases hE; rfl) (by cases hE; exact fun _ h => h)
theorem ct_S_gain (l : Launch) (D : Dd) (A : Nat → Prop) (x tx : Nat) (Xp : Jr) (T : Th) (hA : ∀ o, o < 847 → A (x + o)) (F : Nat) (S Q : Ji) (V : Nat → Ji) (out : Int32 × (Nat → Ji)) (hE : S_gain F T tx V = some out) : Ct l yX0_gain (ws_ yX0_gain cX0_gain 1 (some .int)) rmS_gain vwCl arTy D A [.ref x] (SW D x tx S Q Xp V T) (SW D x tx S Q Xp out.2 T) (some (.int out.1)) 0 0 := by
  refine Ct.of (by decide) (Nat.le_of_ble_eq_true rfl) rfl ?_
  intro X hl hrm hC hR hXA hnL _
  exact w_S_gain ⟨hC, by show ∀ o, o < 847 → cxA X (x + o); unfold cxA; rw [hXA]; exact hA, hnL, hrm⟩ hR F V hE
abbrev rmS_choices : Room := { frames := 3, cells := 0, slots := 0, locals := 64 }
set_option maxHeartbeats 4000000 in
theorem w_S_choices_B4 {X : Ctx} {D : Dd} {x tx : Nat} {Xp : Jr} {T : Th} {S : Ji} {Q : Ji} {V : Nat → Ji} {out : Int32} (hM : Sxx X cX0_choices D x 3 rmS_choices) (hR : Rt X (some .int) (SW D x tx S Q Xp V T) (some (.int out)) 0 0) (F : Nat) (k4 : Int32 → Int32 → Option (Int32)) (hk4 : ∀ (a1 : Int32) (a2 : Int32) , k4 a1 a2 = some out → Wk X 0 0 (SW D x tx S Q Xp V T) 4 [(0, .ref x), (1, .int a1), (2, .int a2)] []) (a1 : Int32) (a2 : Int32) (hE : S_choices_B4 F k4 T tx a1 a2 = some out) : Wk X 0 0 (SW D x tx S Q Xp V T) 4 [(0, .ref x), (1, .int a1), (2, .int a2)] [] := by
  have hC := hM.1
  have hnL := hM.2.2.1
  have hrm := hM.2.2.2
  have hDy : ∀ {S Q : Ji} {V : Nat → Ji} (H : Heap), SW D x tx S Q Xp V T H → Dy D T H := fun _ h => h.2.2.2.1
  unfold S_choices_B4 at hE
  refine k_iload_n (pc := 4) hC dX0_choices_4 rfl 2 rfl ?_
  refine k_aload_n (pc := 5) hC dX0_choices_5 rfl 0 rfl ?_
  refine gS_35 (pc := 6) hM dX0_choices_6 ?_
  refine gD_X0_107_X4 (pc := 9) hC hDy dX0_choices_9 hE (fun x1 hE => ?_)
  refine k_nn (G := fun z => Wk X 0 0 (SW D x tx S Q Xp V T) 12 [(0, .ref x), (1, .int a1), (2, .int a2)] [z, .int a2]) hE (fun b2 hE => ?_)
  refine t_callVI (pc := 12) (As := []) 19 (fun r => r) hC hDy cl_J5 (cw_L_size_X0 hC hrm (Nat.le_of_ble_eq_true rfl) (Nat.le_of_ble_eq_true rfl)) rfl rfl (Nat.le_of_ble_eq_true rfl) ⟨Nat.zero_le _, Nat.zero_le _⟩ dX0_choices_12 hE (fun r h => ct_L_size _ _ _ _ T hDy b2 r h) (fun r3 hE => ?_)
  refine k_icmp_ge (pc := 15) (tgt := 47) hC dX0_choices_15 (by decide) hE (fun hE => ?_) (fun hE => ?_)
  · refine k_iload_n (pc := 47) hC dX0_choices_47 rfl 1 rfl ?_
    exact k_iret (pc := 48) hC hR ⟨Nat.le_refl 0, Nat.le_refl 0⟩ dX0_choices_48 (by cases hE; rfl) (by cases hE; exact fun _ h => h)
  · refine k_iload_n (pc := 18) hC dX0_choices_18 rfl 1 rfl ?_
    refine k_aload_n (pc := 19) hC dX0_choices_19 rfl 0 rfl ?_
    refine gS_35 (pc := 20) hM dX0_choices_20 ?_
    refine gD_X0_107_X4 (pc := 23) hC hDy dX0_choices_23 hE (fun x4 hE => ?_)
    refine k_iload_n (pc := 26) hC dX0_choices_26 rfl 2 rfl ?_
    refine k_nn (G := fun z => Wk X 0 0 (SW D x tx S Q Xp V T) 27 [(0, .ref x), (1, .int a1), (2, .int a2)] [.int a2, z, .int a1]) hE (fun b5 hE => ?_)
    refine t_callVR (pc := 27) (As := [.int a2]) 19 (fun r => r) hC hDy cl_J5 (cw_L_get_X0 hC hrm (Nat.le_of_ble_eq_true rfl) (Nat.le_of_ble_eq_true rfl)) rfl rfl (Nat.le_of_ble_eq_true rfl) ⟨Nat.zero_le _, Nat.zero_le _⟩ dX0_choices_27 hE (fun r h => ct_L_get _ _ _ _ T hDy b5 a2 r h) (fun r6 hE => ?_)
    refine k_nn (G := fun z => Wk X 0 0 (SW D x tx S Q Xp V T) 30 [(0, .ref x), (1, .int a1), (2, .int a2)] [z, .int a1]) hE (fun b7 hE => ?_)
    refine dy_castS (pc := 30) hC hDy cl_X13 q1269 dX0_choices_30 hE (fun hE => ?_)
    refine gD_X0_143_X13 (pc := 33) hC hDy dX0_choices_33 hE (fun x8 hE => ?_)
    refine k_nn (G := fun z => Wk X 0 0 (SW D x tx S Q Xp V T) 36 [(0, .ref x), (1, .int a1), (2, .int a2)] [z, .int a1]) hE (fun b9 hE => ?_)
    refine t_callVI (pc := 36) (As := []) 19 (fun r => r) hC hDy cl_J5 (cw_L_size_X0 hC hrm (Nat.le_of_ble_eq_true rfl) (Nat.le_of_ble_eq_true rfl)) rfl rfl (Nat.le_of_ble_eq_true rfl) ⟨Nat.zero_le _, Nat.zero_le _⟩ dX0_choices_36 hE (fun r h => ct_L_size _ _ _ _ T hDy b9 r h) (fun r10 hE => ?_)
    refine k_iadd (pc := 39) hC dX0_choices_39 ?_
    refine k_istoreE_n (pc := 40) (lv' := fun x11 => [(1, .int x11), (0, .ref x), (2, .int a2)]) hC dX0_choices_40 rfl (by rw [hnL]; decide) hE (fun _ => rfl) (fun x11 hE => ?_)
    refine k_iincE (pc := 41) (k := 2) (d := 1) (lv' := fun x12 => [(2, .int x12), (1, .int x11), (0, .ref x)]) hC dX0_choices_41 rfl (by decide) (by rw [hnL]; decide) hE (fun _ => rfl) (fun x12 hE => ?_)
    refine k_goto (pc := 44) (tgt := 4) hC dX0_choices_44 (by decide) ?_
    refine k_sub [2, 1, 0] rfl ?_
    exact hk4 _ _  hE
theorem w_S_choices_L4 {X : Ctx} {D : Dd} {x tx : Nat} {Xp : Jr} {T : Th} {S : Ji} {Q : Ji} {V : Nat → Ji} {out : Int32} (hM : Sxx X cX0_choices D x 3 rmS_choices) (hR : Rt X (some .int) (SW D x tx S Q Xp V T) (some (.int out)) 0 0) (F : Nat) (n : Nat) : ∀ (a1 : Int32) (a2 : Int32) , S_choices_L4 F T tx n a1 a2 = some out → Wk X 0 0 (SW D x tx S Q Xp V T) 4 [(0, .ref x), (1, .int a1), (2, .int a2)] [] := by
  induction n with
  | zero => intro a1 a2 h; cases h
  | succ n ih => intro a1 a2 h; exact w_S_choices_B4 hM hR F (S_choices_L4 F T tx n) ih a1 a2 h
set_option maxHeartbeats 4000000 in
theorem w_S_choices {X : Ctx} {D : Dd} {x tx : Nat} {Xp : Jr} {T : Th} {S : Ji} {Q : Ji} {V : Nat → Ji} {out : Int32} (hM : Sxx X cX0_choices D x 3 rmS_choices) (hR : Rt X (some .int) (SW D x tx S Q Xp V T) (some (.int out)) 0 0) (F : Nat) (hE : S_choices F T tx = some out) : Wk X 0 0 (SW D x tx S Q Xp V T) 0 [(0, .ref x)] [] := by
  have hC := hM.1
  have hnL := hM.2.2.1
  have hrm := hM.2.2.2
  have hDy : ∀ {S Q : Ji} {V : Nat → Ji} (H : Heap), SW D x tx S Q Xp V T H → Dy D T H := fun _ h => h.2.2.2.1
  unfold S_choices at hE
  refine k_iconst (pc := 0) (v := 1) hC dX0_choices_0 (by decide) ?_
  refine k_istore_n (pc := 1) (lv' := [(1, .int 1), (0, .ref x)]) hC dX0_choices_1 rfl (by rw [hnL]; decide) rfl ?_
  refine k_iconst (pc := 2) (v := 0) hC dX0_choices_2 (by decide) ?_
  refine k_istore_n (pc := 3) (lv' := [(2, .int 0), (1, .int 1), (0, .ref x)]) hC dX0_choices_3 rfl (by rw [hnL]; decide) rfl ?_
  refine k_sub [2, 1, 0] rfl ?_
  exact w_S_choices_L4 hM hR F _ _ _  hE
theorem ct_S_choices (l : Launch) (D : Dd) (A : Nat → Prop) (x tx : Nat) (Xp : Jr) (T : Th) (hA : ∀ o, o < 847 → A (x + o)) (F : Nat) (S Q : Ji) (V : Nat → Ji) (out : Int32) (hE : S_choices F T tx = some out) : Ct l yX0_choices (ws_ yX0_choices cX0_choices 3 (some .int)) rmS_choices vwCl arTy D A [.ref x] (SW D x tx S Q Xp V T) (SW D x tx S Q Xp V T) (some (.int out)) 0 0 := by
  refine Ct.of (by decide) (Nat.le_of_ble_eq_true rfl) rfl ?_
  intro X hl hrm hC hR hXA hnL _
  exact w_S_choices ⟨hC, by show ∀ o, o < 847 → cxA X (x + o); unfold cxA; rw [hXA]; exact hA, hnL, hrm⟩ hR F hE
theorem cw_S_choices_X0 {X : Ctx} {cc : ByteArray} {D : Dd} {rm : Room} (hC : Cx X cc RX0 vwCl arTy D) (hrm : X.2.2.2.1 = rm) (h1 : rmS_choices.frames + 1 ≤ rm.frames) (h2 : 8 + (3 + 11) + rmS_choices.locals ≤ rm.locals) : CallW X.2.2.2.1 X.2.2.2.2.1 X.2.2.2.2.2.2.1 RX0 RX0 255 yX0_choices cX0_choices 3 (some .int) (ws_ yX0_choices cX0_choices 3 (some .int)) rmS_choices 0 0 0 := cwV 0 (cx_w hC) (lw_V q1441 q1443 qs42 q114 q1444) rfl rfl rfl (by decide +kernel) (by rw [hrm]; exact ⟨h1, h2⟩)
abbrev rmS_choice : Room := { frames := 3, cells := 0, slots := 0, locals := 64 }
set_option maxHeartbeats 4000000 in
theorem w_S_choice_B13 {X : Ctx} {D : Dd} {x tx : Nat} {Xp : Jr} {T : Th} {S : Ji} {Q : Ji} {V : Nat → Ji} {out : Int32} (hM : Sxx X cX0_choice D x 5 rmS_choice) (hR : Rt X (some .int) (SW D x tx S Q Xp V T) (some (.int out)) 0 0) (F : Nat) (k13 : Int32 → Int32 → Option (Int32)) (hk13 : ∀ (a2 : Int32) (a3 : Int32) , k13 a2 a3 = some out → Wk X 0 0 (SW D x tx S Q Xp V T) 13 [(0, .ref x), (2, .int a2), (3, .int a3)] []) (a2 : Int32) (a3 : Int32) (hE : S_choice_B13 F k13 T tx a2 a3 = some out) : Wk X 0 0 (SW D x tx S Q Xp V T) 13 [(0, .ref x), (2, .int a2), (3, .int a3)] [] := by
  have hC := hM.1
  have hnL := hM.2.2.1
  have hrm := hM.2.2.2
  have hDy : ∀ {S Q : Ji} {V : Nat → Ji} (H : Heap), SW D x tx S Q Xp V T H → Dy D T H := fun _ h => h.2.2.2.1
  unfold S_choice_B13 at hE
  refine k_iload_n (pc := 13) hC dX0_choice_13 rfl 2 rfl ?_
  refine k_aload_n (pc := 14) hC dX0_choice_14 rfl 0 rfl ?_
  refine gS_35 (pc := 15) hM dX0_choice_15 ?_
  refine gD_X0_107_X4 (pc := 18) hC hDy dX0_choice_18 hE (fun x2 hE => ?_)
  refine k_nn (G := fun z => Wk X 0 0 (SW D x tx S Q Xp V T) 21 [(0, .ref x), (2, .int a2), (3, .int a3)] [z, .int a3]) hE (fun b3 hE => ?_)
  refine t_callVI (pc := 21) (As := []) 19 (fun r => r) hC hDy cl_J5 (cw_L_size_X0 hC hrm (Nat.le_of_ble_eq_true rfl) (Nat.le_of_ble_eq_true rfl)) rfl rfl (Nat.le_of_ble_eq_true rfl) ⟨Nat.zero_le _, Nat.zero_le _⟩ dX0_choice_21 hE (fun r h => ct_L_size _ _ _ _ T hDy b3 r h) (fun r4 hE => ?_)
  refine k_icmp_ge (pc := 24) (tgt := 73) hC dX0_choice_24 (by decide) hE (fun hE => ?_) (fun hE => ?_)
  · refine k_bipush (pc := 73) (v := (-2)) hC dX0_choice_73 (by decide) ?_
    exact k_iret (pc := 75) hC hR ⟨Nat.le_refl 0, Nat.le_refl 0⟩ dX0_choice_75 (by cases hE; rfl) (by cases hE; exact fun _ h => h)
  · refine k_aload_n (pc := 27) hC dX0_choice_27 rfl 0 rfl ?_
    refine gS_35 (pc := 28) hM dX0_choice_28 ?_
    refine gD_X0_107_X4 (pc := 31) hC hDy dX0_choice_31 hE (fun x5 hE => ?_)
    refine k_iload_n (pc := 34) hC dX0_choice_34 rfl 2 rfl ?_
    refine k_nn (G := fun z => Wk X 0 0 (SW D x tx S Q Xp V T) 35 [(0, .ref x), (2, .int a2), (3, .int a3)] [.int a3, z]) hE (fun b6 hE => ?_)
    refine t_callVR (pc := 35) (As := [.int a3]) 19 (fun r => r) hC hDy cl_J5 (cw_L_get_X0 hC hrm (Nat.le_of_ble_eq_true rfl) (Nat.le_of_ble_eq_true rfl)) rfl rfl (Nat.le_of_ble_eq_true rfl) ⟨Nat.zero_le _, Nat.zero_le _⟩ dX0_choice_35 hE (fun r h => ct_L_get _ _ _ _ T hDy b6 a3 r h) (fun r7 hE => ?_)
    refine k_nn (G := fun z => Wk X 0 0 (SW D x tx S Q Xp V T) 38 [(0, .ref x), (2, .int a2), (3, .int a3)] [z]) hE (fun b8 hE => ?_)
    refine dy_castS (pc := 38) hC hDy cl_X13 q1269 dX0_choice_38 hE (fun hE => ?_)
    refine gD_X0_143_X13 (pc := 41) hC hDy dX0_choice_41 hE (fun x9 hE => ?_)
    refine k_nn (G := fun z => Wk X 0 0 (SW D x tx S Q Xp V T) 44 [(0, .ref x), (2, .int a2), (3, .int a3)] [z]) hE (fun b10 hE => ?_)
    refine t_callVI (pc := 44) (As := []) 19 (fun r => r) hC hDy cl_J5 (cw_L_size_X0 hC hrm (Nat.le_of_ble_eq_true rfl) (Nat.le_of_ble_eq_true rfl)) rfl rfl (Nat.le_of_ble_eq_true rfl) ⟨Nat.zero_le _, Nat.zero_le _⟩ dX0_choice_44 hE (fun r h => ct_L_size _ _ _ _ T hDy b10 r h) (fun r11 hE => ?_)
    refine k_istore (pc := 47) (lv' := [(4, .int r11), (0, .ref x), (2, .int a2), (3, .int a3)]) hC dX0_choice_47 (by rw [hnL]; decide) rfl ?_
    refine k_iload_n (pc := 49) hC dX0_choice_49 rfl 2 rfl ?_
    refine k_iload (pc := 50) hC dX0_choice_50 0 rfl ?_
    refine k_icmp_ge (pc := 52) (tgt := 62) hC dX0_choice_52 (by decide) hE (fun hE => ?_) (fun hE => ?_)
    · refine k_iload_n (pc := 62) hC dX0_choice_62 rfl 2 rfl ?_
      refine k_iload (pc := 63) hC dX0_choice_63 0 rfl ?_
      refine k_isub (pc := 65) hC dX0_choice_65 ?_
      refine k_istoreE_n (pc := 66) (lv' := fun x12 => [(2, .int x12), (4, .int r11), (0, .ref x), (3, .int a3)]) hC dX0_choice_66 rfl (by rw [hnL]; decide) hE (fun _ => rfl) (fun x12 hE => ?_)
      refine k_iincE (pc := 67) (k := 3) (d := 1) (lv' := fun x13 => [(3, .int x13), (2, .int x12), (4, .int r11), (0, .ref x)]) hC dX0_choice_67 rfl (by decide) (by rw [hnL]; decide) hE (fun _ => rfl) (fun x13 hE => ?_)
      refine k_goto (pc := 70) (tgt := 13) hC dX0_choice_70 (by decide) ?_
      refine k_sub [3, 1, 0] rfl ?_
      exact hk13 _ _  hE
    · refine k_bipush (pc := 55) (v := 10) hC dX0_choice_55 (by decide) ?_
      refine k_iload_n (pc := 57) hC dX0_choice_57 rfl 3 rfl ?_
      refine k_imul (pc := 58) hC dX0_choice_58 ?_
      refine k_iload_n (pc := 59) hC dX0_choice_59 rfl 2 rfl ?_
      refine k_iadd (pc := 60) hC dX0_choice_60 ?_
      exact k_iret (pc := 61) hC hR ⟨Nat.le_refl 0, Nat.le_refl 0⟩ dX0_choice_61 (by cases hE; rfl) (by cases hE; exact fun _ h => h)
theorem w_S_choice_L13 {X : Ctx} {D : Dd} {x tx : Nat} {Xp : Jr} {T : Th} {S : Ji} {Q : Ji} {V : Nat → Ji} {out : Int32} (hM : Sxx X cX0_choice D x 5 rmS_choice) (hR : Rt X (some .int) (SW D x tx S Q Xp V T) (some (.int out)) 0 0) (F : Nat) (n : Nat) : ∀ (a2 : Int32) (a3 : Int32) , S_choice_L13 F T tx n a2 a3 = some out → Wk X 0 0 (SW D x tx S Q Xp V T) 13 [(0, .ref x), (2, .int a2), (3, .int a3)] [] := by
  induction n with
  | zero => intro a2 a3 h; cases h
  | succ n ih => intro a2 a3 h; exact w_S_choice_B13 hM hR F (S_choice_L13 F T tx n) ih a2 a3 h
set_option maxHeartbeats 4000000 in
theorem w_S_choice {X : Ctx} {D : Dd} {x tx : Nat} {Xp : Jr} {T : Th} {S : Ji} {Q : Ji} {V : Nat → Ji} {out : Int32} (hM : Sxx X cX0_choice D x 5 rmS_choice) (hR : Rt X (some .int) (SW D x tx S Q Xp V T) (some (.int out)) 0 0) (F : Nat) (a1 : Int32) (hE : S_choice F T tx a1 = some out) : Wk X 0 0 (SW D x tx S Q Xp V T) 0 [(0, .ref x), (1, .int a1)] [] := by
  have hC := hM.1
  have hnL := hM.2.2.1
  have hrm := hM.2.2.2
  have hDy : ∀ {S Q : Ji} {V : Nat → Ji} (H : Heap), SW D x tx S Q Xp V T H → Dy D T H := fun _ h => h.2.2.2.1
  unfold S_choice at hE
  refine k_iload_n (pc := 0) hC dX0_choice_0 rfl 1 rfl ?_
  refine k_iconst (pc := 1) (v := 1) hC dX0_choice_1 (by decide) ?_
  refine k_isub (pc := 2) hC dX0_choice_2 ?_
  refine k_istoreE_n (pc := 3) (lv' := fun x1 => [(2, .int x1), (0, .ref x), (1, .int a1)]) hC dX0_choice_3 rfl (by rw [hnL]; decide) hE (fun _ => rfl) (fun x1 hE => ?_)
  refine k_iload_n (pc := 4) hC dX0_choice_4 rfl 0 rfl ?_
  refine k_if_ge (pc := 5) (tgt := 11) hC dX0_choice_5 (by decide) hE (fun hE => ?_) (fun hE => ?_)
  · refine k_iconst (pc := 11) (v := 0) hC dX0_choice_11 (by decide) ?_
    refine k_istore_n (pc := 12) (lv' := [(3, .int 0), (2, .int x1), (0, .ref x), (1, .int a1)]) hC dX0_choice_12 rfl (by rw [hnL]; decide) rfl ?_
    refine k_sub [2, 1, 0] rfl ?_
    exact w_S_choice_L13 hM hR F _ _ _  hE
  · refine k_bipush (pc := 8) (v := (-2)) hC dX0_choice_8 (by decide) ?_
    exact k_iret (pc := 10) hC hR ⟨Nat.le_refl 0, Nat.le_refl 0⟩ dX0_choice_10 (by cases hE; rfl) (by cases hE; exact fun _ h => h)
theorem ct_S_choice (l : Launch) (D : Dd) (A : Nat → Prop) (x tx : Nat) (Xp : Jr) (T : Th) (hA : ∀ o, o < 847 → A (x + o)) (F : Nat) (a1 : Int32) (S Q : Ji) (V : Nat → Ji) (out : Int32) (hE : S_choice F T tx a1 = some out) : Ct l yX0_choice (ws_ yX0_choice cX0_choice 5 (some .int)) rmS_choice vwCl arTy D A [.ref x, .int a1] (SW D x tx S Q Xp V T) (SW D x tx S Q Xp V T) (some (.int out)) 0 0 := by
  refine Ct.of (by decide) (Nat.le_of_ble_eq_true rfl) rfl ?_
  intro X hl hrm hC hR hXA hnL _
  exact w_S_choice ⟨hC, by show ∀ o, o < 847 → cxA X (x + o); unfold cxA; rw [hXA]; exact hA, hnL, hrm⟩ hR F a1 hE
theorem cw_S_choice_X0 {X : Ctx} {cc : ByteArray} {D : Dd} {rm : Room} (hC : Cx X cc RX0 vwCl arTy D) (hrm : X.2.2.2.1 = rm) (h1 : rmS_choice.frames + 1 ≤ rm.frames) (h2 : 8 + (5 + 11) + rmS_choice.locals ≤ rm.locals) : CallW X.2.2.2.1 X.2.2.2.2.1 X.2.2.2.2.2.2.1 RX0 RX0 258 yX0_choice cX0_choice 5 (some .int) (ws_ yX0_choice cX0_choice 5 (some .int)) rmS_choice 0 0 1 := cwV 1 (cx_w hC) (lw_V q1445 q1447 qs43 q114 q1448) rfl rfl rfl (by decide +kernel) (by rw [hrm]; exact ⟨h1, h2⟩)
abbrev rmS_leavesThen : Room := { frames := 0, cells := 0, slots := 0, locals := 0 }
set_option maxHeartbeats 4000000 in
theorem w_S_leavesThen_B43 {X : Ctx} {D : Dd} {x tx : Nat} {Xp : Jr} {T : Th} {S : Ji} {Q : Ji} {out : (Nat → Ji)} (hM : Sxx X cX0_leavesThen D x 3 rmS_leavesThen) (hR : Rt X none (SW D x tx S Q Xp out T) none 0 0) (s0 : Int32) (s1 : Int32) (V : Nat → Ji) (hE : S_leavesThen_B43 T tx s0 s1 V = some out) : Wk X 0 0 (SW D x tx S Q Xp V T) 43 [] [.int s0, .int s1, .ref (x + vo 1 + 10)] := by
  have hC := hM.1
  have hnL := hM.2.2.1
  have hrm := hM.2.2.2
  have hDy : ∀ {S Q : Ji} {V : Nat → Ji} (H : Heap), SW D x tx S Q Xp V T H → Dy D T H := fun _ h => h.2.2.2.1
  unfold S_leavesThen_B43 at hE
  refine sV_iast (pc := 43) (by decide) 10 lv_10 hM dX0_leavesThen_43 hE (fun V2 hE => ?_)
  exact k_vret (pc := 44) hC hR ⟨Nat.le_refl 0, Nat.le_refl 0⟩ dX0_leavesThen_44 (by cases hE; rfl) (by cases hE; exact fun _ h => h)
set_option maxHeartbeats 4000000 in
theorem w_S_leavesThen_B21 {X : Ctx} {D : Dd} {x tx : Nat} {Xp : Jr} {T : Th} {S : Ji} {Q : Ji} {out : (Nat → Ji)} (hM : Sxx X cX0_leavesThen D x 3 rmS_leavesThen) (hR : Rt X none (SW D x tx S Q Xp out T) none 0 0) (a1 : Int32) (a2 : Int32) (s0 : Int32) (s1 : Int32) (V : Nat → Ji) (hE : S_leavesThen_B21 T tx a1 a2 s0 s1 V = some out) : Wk X 0 0 (SW D x tx S Q Xp V T) 21 [(0, .ref x), (1, .int a1), (2, .int a2)] [.int s0, .int s1, .ref (x + vo 1 + 9)] := by
  have hC := hM.1
  have hnL := hM.2.2.1
  have hrm := hM.2.2.2
  have hDy : ∀ {S Q : Ji} {V : Nat → Ji} (H : Heap), SW D x tx S Q Xp V T H → Dy D T H := fun _ h => h.2.2.2.1
  unfold S_leavesThen_B21 at hE
  refine sV_iast (pc := 21) (by decide) 9 lv_9 hM dX0_leavesThen_21 hE (fun V1 hE => ?_)
  refine k_aload_n (pc := 22) hC dX0_leavesThen_22 rfl 0 rfl ?_
  refine gS_50 (pc := 23) hM dX0_leavesThen_23 ?_
  refine gSV_194 (pc := 26) (by decide) hM dX0_leavesThen_26 ?_
  refine k_iload_n (pc := 29) hC dX0_leavesThen_29 rfl 1 rfl ?_
  refine k_iload_n (pc := 30) hC dX0_leavesThen_30 rfl 2 rfl ?_
  refine k_if_ge (pc := 31) (tgt := 39) hC dX0_leavesThen_31 (by decide) hE (fun hE => ?_) (fun hE => ?_)
  · refine k_iload_n (pc := 39) hC dX0_leavesThen_39 rfl 2 rfl ?_
    refine k_bipush (pc := 40) (v := 10) hC dX0_leavesThen_40 (by decide) ?_
    refine k_iremK (pc := 42) hC dX0_leavesThen_42 (by decide) ?_
    refine k_sub [] rfl ?_
    exact w_S_leavesThen_B43 hM hR  _ _ _  hE
  · refine k_bipush (pc := 34) (v := (-2)) hC dX0_leavesThen_34 (by decide) ?_
    refine k_goto (pc := 36) (tgt := 43) hC dX0_leavesThen_36 (by decide) ?_
    refine k_sub [] rfl ?_
    exact w_S_leavesThen_B43 hM hR  _ _ _  hE
set_option maxHeartbeats 4000000 in
theorem w_S_leavesThen {X : Ctx} {D : Dd} {x tx : Nat} {Xp : Jr} {T : Th} {S : Ji} {Q : Ji} {out : (Nat → Ji)} (hM : Sxx X cX0_leavesThen D x 3 rmS_leavesThen) (hR : Rt X none (SW D x tx S Q Xp out T) none 0 0) (a1 : Int32) (a2 : Int32) (V : Nat → Ji) (hE : S_leavesThen T tx a1 a2 V = some out) : Wk X 0 0 (SW D x tx S Q Xp V T) 0 [(0, .ref x), (1, .int a1), (2, .int a2)] [] := by
  have hC := hM.1
  have hnL := hM.2.2.1
  have hrm := hM.2.2.2
  have hDy : ∀ {S Q : Ji} {V : Nat → Ji} (H : Heap), SW D x tx S Q Xp V T H → Dy D T H := fun _ h => h.2.2.2.1
  unfold S_leavesThen at hE
  refine k_aload_n (pc := 0) hC dX0_leavesThen_0 rfl 0 rfl ?_
  refine gS_50 (pc := 1) hM dX0_leavesThen_1 ?_
  refine gSV_191 (pc := 4) (by decide) hM dX0_leavesThen_4 ?_
  refine k_iload_n (pc := 7) hC dX0_leavesThen_7 rfl 1 rfl ?_
  refine k_iload_n (pc := 8) hC dX0_leavesThen_8 rfl 2 rfl ?_
  refine k_if_ge (pc := 9) (tgt := 17) hC dX0_leavesThen_9 (by decide) hE (fun hE => ?_) (fun hE => ?_)
  · refine k_iload_n (pc := 17) hC dX0_leavesThen_17 rfl 2 rfl ?_
    refine k_bipush (pc := 18) (v := 10) hC dX0_leavesThen_18 (by decide) ?_
    refine k_idivK (pc := 20) hC dX0_leavesThen_20 (by decide) ?_
    exact w_S_leavesThen_B21 hM hR  _ _ _ _ _  hE
  · refine k_bipush (pc := 12) (v := (-2)) hC dX0_leavesThen_12 (by decide) ?_
    refine k_goto (pc := 14) (tgt := 21) hC dX0_leavesThen_14 (by decide) ?_
    exact w_S_leavesThen_B21 hM hR  _ _ _ _ _  hE
theorem ct_S_leavesThen (l : Launch) (D : Dd) (A : Nat → Prop) (x tx : Nat) (Xp : Jr) (T : Th) (hA : ∀ o, o < 847 → A (x + o)) (a1 : Int32) (a2 : Int32) (S Q : Ji) (V : Nat → Ji) (out : (Nat → Ji)) (hE : S_leavesThen T tx a1 a2 V = some out) : Ct l yX0_leavesThen (ws_ yX0_leavesThen cX0_leavesThen 3 none) rmS_leavesThen vwCl arTy D A [.ref x, .int a1, .int a2] (SW D x tx S Q Xp V T) (SW D x tx S Q Xp out T) none 0 0 := by
  refine Ct.of (by decide) (Nat.le_of_ble_eq_true rfl) rfl ?_
  intro X hl hrm hC hR hXA hnL _
  exact w_S_leavesThen ⟨hC, by show ∀ o, o < 847 → cxA X (x + o); unfold cxA; rw [hXA]; exact hA, hnL, hrm⟩ hR a1 a2 V hE
theorem cw_S_leavesThen_X0 {X : Ctx} {cc : ByteArray} {D : Dd} {rm : Room} (hC : Cx X cc RX0 vwCl arTy D) (hrm : X.2.2.2.1 = rm) (h1 : rmS_leavesThen.frames + 1 ≤ rm.frames) (h2 : 8 + (3 + 11) + rmS_leavesThen.locals ≤ rm.locals) : CallW X.2.2.2.1 X.2.2.2.2.1 X.2.2.2.2.2.2.1 RX0 RX0 262 yX0_leavesThen cX0_leavesThen 3 none (ws_ yX0_leavesThen cX0_leavesThen 3 none) rmS_leavesThen 0 0 2 := cwV 2 (cx_w hC) (lw_V q1449 q1451 qs44 q114 q1452) rfl rfl rfl (by decide +kernel) (by rw [hrm]; exact ⟨h1, h2⟩)
abbrev rmS_evening : Room := { frames := 507, cells := 0, slots := 0, locals := 12165 }
set_option maxHeartbeats 4000000 in
theorem w_S_evening_B51 {X : Ctx} {D : Dd} {x tx : Nat} {Xp : Jr} {T : Th} {Q : Ji} {out : Ji × (Nat → Ji)} (hM : Sxx X cX0_evening D x 4 rmS_evening) (hR : Rt X none (SW D x tx out.1 Q Xp out.2 T) none 0 0) (F : Nat) (k2 : Int32 → Int32 → (Ji) → (Nat → Ji) → Option (Ji × (Nat → Ji))) (hk2 : ∀ (a1 : Int32) (a2 : Int32) (S : Ji) (V : Nat → Ji) , k2 a1 a2 S V = some out → Wk X 0 0 (SW D x tx S Q Xp V T) 2 [(0, .ref x), (1, .int a1), (2, .int a2)] []) (a1 : Int32) (a2 : Int32) (a3 : Int32) (S : Ji) (V : Nat → Ji) (hE : S_evening_B51 F k2 T tx a1 a2 a3 S V = some out) : Wk X 0 0 (SW D x tx S Q Xp V T) 51 [(0, .ref x), (1, .int a1), (2, .int a2), (3, .int a3)] [] := by
  have hC := hM.1
  have hnL := hM.2.2.1
  have hrm := hM.2.2.2
  have hDy : ∀ {S Q : Ji} {V : Nat → Ji} (H : Heap), SW D x tx S Q Xp V T H → Dy D T H := fun _ h => h.2.2.2.1
  unfold S_evening_B51 at hE
  refine k_aload_n (pc := 51) hC dX0_evening_51 rfl 0 rfl ?_
  refine k_iload_n (pc := 52) hC dX0_evening_52 rfl 3 rfl ?_
  refine pS_266 (pc := 53) hM dX0_evening_53 hE (fun S7 hE => ?_)
  refine k_aload_n (pc := 56) hC dX0_evening_56 rfl 0 rfl ?_
  refine k_aload_n (pc := 57) hC dX0_evening_57 rfl 0 rfl ?_
  refine k_iload_n (pc := 58) hC dX0_evening_58 rfl 2 rfl ?_
  refine s_ownI (pc := 59) (As := [.int a2]) (fun r => r) (fun r => S7) (fun r => Q) (fun r => V) hM (cw_S_choice_X0 hC hrm (Nat.le_of_ble_eq_true rfl) (Nat.le_of_ble_eq_true rfl)) rfl rfl (Nat.le_of_ble_eq_true rfl) dX0_evening_59 hE (fun r h => ct_S_choice _ _ _ x tx Xp T hM.2.1 F a2 S7 Q V r h) (fun r8 hE => ?_)
  refine pS_269 (pc := 62) hM dX0_evening_62 hE (fun S9 hE => ?_)
  refine k_iincE (pc := 65) (k := 2) (d := 1) (lv' := fun x10 => [(2, .int x10), (0, .ref x), (1, .int a1), (3, .int a3)]) hC dX0_evening_65 rfl (by decide) (by rw [hnL]; decide) hE (fun _ => rfl) (fun x10 hE => ?_)
  refine k_goto (pc := 68) (tgt := 2) hC dX0_evening_68 (by decide) ?_
  refine k_sub [1, 2, 0] rfl ?_
  exact hk2 _ _ _ _  hE
set_option maxHeartbeats 4000000 in
theorem w_S_evening_B2 {X : Ctx} {D : Dd} {x tx : Nat} {Xp : Jr} {T : Th} {Q : Ji} {out : Ji × (Nat → Ji)} (hM : Sxx X cX0_evening D x 4 rmS_evening) (hR : Rt X none (SW D x tx out.1 Q Xp out.2 T) none 0 0) (F : Nat) (k2 : Int32 → Int32 → (Ji) → (Nat → Ji) → Option (Ji × (Nat → Ji))) (hk2 : ∀ (a1 : Int32) (a2 : Int32) (S : Ji) (V : Nat → Ji) , k2 a1 a2 S V = some out → Wk X 0 0 (SW D x tx S Q Xp V T) 2 [(0, .ref x), (1, .int a1), (2, .int a2)] []) (a1 : Int32) (a2 : Int32) (S : Ji) (V : Nat → Ji) (hE : S_evening_B2 F k2 T tx a1 a2 S V = some out) : Wk X 0 0 (SW D x tx S Q Xp V T) 2 [(0, .ref x), (1, .int a1), (2, .int a2)] [] := by
  have hC := hM.1
  have hnL := hM.2.2.1
  have hrm := hM.2.2.2
  have hDy : ∀ {S Q : Ji} {V : Nat → Ji} (H : Heap), SW D x tx S Q Xp V T H → Dy D T H := fun _ h => h.2.2.2.1
  unfold S_evening_B2 at hE
  refine k_iload_n (pc := 2) hC dX0_evening_2 rfl 2 rfl ?_
  refine k_aload_n (pc := 3) hC dX0_evening_3 rfl 0 rfl ?_
  refine s_ownI (pc := 4) (As := []) (fun r => r) (fun r => S) (fun r => Q) (fun r => V) hM (cw_S_choices_X0 hC hrm (Nat.le_of_ble_eq_true rfl) (Nat.le_of_ble_eq_true rfl)) rfl rfl (Nat.le_of_ble_eq_true rfl) dX0_evening_4 hE (fun r h => ct_S_choices _ _ _ x tx Xp T hM.2.1 F S Q V r h) (fun r1 hE => ?_)
  refine k_icmp_ge (pc := 7) (tgt := 71) hC dX0_evening_7 (by decide) hE (fun hE => ?_) (fun hE => ?_)
  · exact k_vret (pc := 71) hC hR ⟨Nat.le_refl 0, Nat.le_refl 0⟩ dX0_evening_71 (by cases hE; rfl) (by cases hE; exact fun _ h => h)
  · refine k_aload_n (pc := 10) hC dX0_evening_10 rfl 0 rfl ?_
    refine gS_50 (pc := 11) hM dX0_evening_11 ?_
    refine k_aload_n (pc := 14) hC dX0_evening_14 rfl 0 rfl ?_
    refine gS_46 (pc := 15) hM dX0_evening_15 ?_
    refine s_takes (pc := 18) 1 0 (by decide) (by decide) (by decide) hM (Nat.le_of_ble_eq_true rfl) (Nat.le_of_ble_eq_true rfl) (Nat.le_of_ble_eq_true rfl) dX0_evening_18 ?_
    refine k_lt (G := fun Z => Wk X 0 0 (SW D x tx S Q Xp Z T) 21 [(0, .ref x), (1, .int a1), (2, .int a2)] []) hE (fun V2 hE => ?_)
    refine k_aload_n (pc := 21) hC dX0_evening_21 rfl 0 rfl ?_
    refine k_iload_n (pc := 22) hC dX0_evening_22 rfl 1 rfl ?_
    refine k_aload_n (pc := 23) hC dX0_evening_23 rfl 0 rfl ?_
    refine k_iload_n (pc := 24) hC dX0_evening_24 rfl 2 rfl ?_
    refine s_ownI (pc := 25) (As := [.int a2]) (fun r => r) (fun r => S) (fun r => Q) (fun r => V2) hM (cw_S_choice_X0 hC hrm (Nat.le_of_ble_eq_true rfl) (Nat.le_of_ble_eq_true rfl)) rfl rfl (Nat.le_of_ble_eq_true rfl) dX0_evening_25 hE (fun r h => ct_S_choice _ _ _ x tx Xp T hM.2.1 F a2 S Q V2 r h) (fun r3 hE => ?_)
    refine s_ownV (pc := 28) (As := [.int a1, .int r3]) (fun r => S) (fun r => Q) (fun r => r) hM (cw_S_leavesThen_X0 hC hrm (Nat.le_of_ble_eq_true rfl) (Nat.le_of_ble_eq_true rfl)) rfl rfl (Nat.le_of_ble_eq_true rfl) dX0_evening_28 hE (fun r h => ct_S_leavesThen _ _ _ x tx Xp T hM.2.1 a1 r3 S Q V2 r h) (fun r4 hE => ?_)
    refine k_aload_n (pc := 31) hC dX0_evening_31 rfl 0 rfl ?_
    refine s_ownI (pc := 32) (As := []) (fun r => r.1) (fun r => S) (fun r => Q) (fun r => r.2) hM (cw_S_brings_X0 hC hrm (Nat.le_of_ble_eq_true rfl) (Nat.le_of_ble_eq_true rfl)) rfl rfl (Nat.le_of_ble_eq_true rfl) dX0_evening_32 hE (fun r h => ct_S_brings _ _ _ x tx Xp T hM.2.1 F S Q r4 r h) (fun r5 hE => ?_)
    refine k_istore_n (pc := 35) (lv' := [(3, .int r5.1), (0, .ref x), (1, .int a1), (2, .int a2)]) hC dX0_evening_35 rfl (by rw [hnL]; decide) rfl ?_
    refine k_iload_n (pc := 36) hC dX0_evening_36 rfl 3 rfl ?_
    refine k_if_le (pc := 37) (tgt := 51) hC dX0_evening_37 (by decide) hE (fun hE => ?_) (fun hE => ?_)
    · refine k_sub [1, 2, 3, 0] rfl ?_
      exact w_S_evening_B51 hM hR F k2 hk2 _ _ _ _ _  hE
    · refine k_iload_n (pc := 40) hC dX0_evening_40 rfl 0 rfl ?_
      refine k_aload_n (pc := 41) hC dX0_evening_41 rfl 1 rfl ?_
      refine gS_266 (pc := 42) hM dX0_evening_42 ?_
      refine k_icmp_gt (pc := 45) (tgt := 51) hC dX0_evening_45 (by decide) hE (fun hE => ?_) (fun hE => ?_)
      · refine k_sub [1, 2, 3, 0] rfl ?_
        exact w_S_evening_B51 hM hR F k2 hk2 _ _ _ _ _  hE
      · refine k_goto (pc := 48) (tgt := 65) hC dX0_evening_48 (by decide) ?_
        refine k_iincE (pc := 65) (k := 3) (d := 1) (lv' := fun x6 => [(2, .int x6), (3, .int r5.1), (0, .ref x), (1, .int a1)]) hC dX0_evening_65 rfl (by decide) (by rw [hnL]; decide) hE (fun _ => rfl) (fun x6 hE => ?_)
        refine k_goto (pc := 68) (tgt := 2) hC dX0_evening_68 (by decide) ?_
        refine k_sub [2, 3, 0] rfl ?_
        exact hk2 _ _ _ _  hE
theorem w_S_evening_L2 {X : Ctx} {D : Dd} {x tx : Nat} {Xp : Jr} {T : Th} {Q : Ji} {out : Ji × (Nat → Ji)} (hM : Sxx X cX0_evening D x 4 rmS_evening) (hR : Rt X none (SW D x tx out.1 Q Xp out.2 T) none 0 0) (F : Nat) (n : Nat) : ∀ (a1 : Int32) (a2 : Int32) (S : Ji) (V : Nat → Ji) , S_evening_L2 F T tx n a1 a2 S V = some out → Wk X 0 0 (SW D x tx S Q Xp V T) 2 [(0, .ref x), (1, .int a1), (2, .int a2)] [] := by
  induction n with
  | zero => intro a1 a2 S V h; cases h
  | succ n ih => intro a1 a2 S V h; exact w_S_evening_B2 hM hR F (S_evening_L2 F T tx n) ih a1 a2 S V h
set_option maxHeartbeats 4000000 in
theorem w_S_evening {X : Ctx} {D : Dd} {x tx : Nat} {Xp : Jr} {T : Th} {Q : Ji} {out : Ji × (Nat → Ji)} (hM : Sxx X cX0_evening D x 4 rmS_evening) (hR : Rt X none (SW D x tx out.1 Q Xp out.2 T) none 0 0) (F : Nat) (a1 : Int32) (S : Ji) (V : Nat → Ji) (hE : S_evening F T tx a1 S V = some out) : Wk X 0 0 (SW D x tx S Q Xp V T) 0 [(0, .ref x), (1, .int a1)] [] := by
  have hC := hM.1
  have hnL := hM.2.2.1
  have hrm := hM.2.2.2
  have hDy : ∀ {S Q : Ji} {V : Nat → Ji} (H : Heap), SW D x tx S Q Xp V T H → Dy D T H := fun _ h => h.2.2.2.1
  unfold S_evening at hE
  refine k_iconst (pc := 0) (v := 0) hC dX0_evening_0 (by decide) ?_
  refine k_istore_n (pc := 1) (lv' := [(2, .int 0), (0, .ref x), (1, .int a1)]) hC dX0_evening_1 rfl (by rw [hnL]; decide) rfl ?_
  refine k_sub [1, 2, 0] rfl ?_
  exact w_S_evening_L2 hM hR F _ _ _ _ _  hE
theorem ct_S_evening (l : Launch) (D : Dd) (A : Nat → Prop) (x tx : Nat) (Xp : Jr) (T : Th) (hA : ∀ o, o < 847 → A (x + o)) (F : Nat) (a1 : Int32) (S Q : Ji) (V : Nat → Ji) (out : Ji × (Nat → Ji)) (hE : S_evening F T tx a1 S V = some out) : Ct l yX0_evening (ws_ yX0_evening cX0_evening 4 none) rmS_evening vwCl arTy D A [.ref x, .int a1] (SW D x tx S Q Xp V T) (SW D x tx out.1 Q Xp out.2 T) none 0 0 := by
  refine Ct.of (by decide) (Nat.le_of_ble_eq_true rfl) rfl ?_
  intro X hl hrm hC hR hXA hnL _
  exact w_S_evening ⟨hC, by show ∀ o, o < 847 → cxA X (x + o); unfold cxA; rw [hXA]; exact hA, hnL, hrm⟩ hR F a1 S V hE
theorem cw_S_evening_X0 {X : Ctx} {cc : ByteArray} {D : Dd} {rm : Room} (hC : Cx X cc RX0 vwCl arTy D) (hrm : X.2.2.2.1 = rm) (h1 : rmS_evening.frames + 1 ≤ rm.frames) (h2 : 8 + (4 + 11) + rmS_evening.locals ≤ rm.locals) : CallW X.2.2.2.1 X.2.2.2.2.1 X.2.2.2.2.2.2.1 RX0 RX0 272 yX0_evening cX0_evening 4 none (ws_ yX0_evening cX0_evening 4 none) rmS_evening 0 0 1 := cwV 1 (cx_w hC) (lw_V q1437 q1439 qs41 q114 q1440) rfl rfl rfl (by decide +kernel) (by rw [hrm]; exact ⟨h1, h2⟩)
abbrev rmS_best : Room := { frames := 508, cells := 0, slots := 0, locals := 12188 }
set_option maxHeartbeats 4000000 in
theorem w_S_best {X : Ctx} {D : Dd} {x tx : Nat} {Xp : Jr} {T : Th} {Q : Ji} {out : Int32 × Ji × (Nat → Ji)} (hM : Sxx X cX0_best D x 3 rmS_best) (hR : Rt X (some .int) (SW D x tx out.2.1 Q Xp out.2.2 T) (some (.int out.1)) 0 0) (F : Nat) (a1 : Int32) (a2 : Int32) (S : Ji) (V : Nat → Ji) (hE : S_best F T tx a1 a2 S V = some out) : Wk X 0 0 (SW D x tx S Q Xp V T) 0 [(0, .ref x), (1, .int a1), (2, .int a2)] [] := by
  have hC := hM.1
  have hnL := hM.2.2.1
  have hrm := hM.2.2.2
  have hDy : ∀ {S Q : Ji} {V : Nat → Ji} (H : Heap), SW D x tx S Q Xp V T H → Dy D T H := fun _ h => h.2.2.2.1
  unfold S_best at hE
  refine k_aload_n (pc := 0) hC dX0_best_0 rfl 0 rfl ?_
  refine k_iload_n (pc := 1) hC dX0_best_1 rfl 1 rfl ?_
  refine s_ownI (pc := 2) (As := [.int a1]) (fun r => r) (fun r => S) (fun r => Q) (fun r => V) hM (cw_S_isMan_X0 hC hrm (Nat.le_of_ble_eq_true rfl) (Nat.le_of_ble_eq_true rfl)) rfl rfl (Nat.le_of_ble_eq_true rfl) dX0_best_2 hE (fun r h => ct_S_isMan _ _ _ x tx Xp T hM.2.1 a1 S Q V r h) (fun r1 hE => ?_)
  refine k_if_eq (pc := 5) (tgt := 17) hC dX0_best_5 (by decide) hE (fun hE => ?_) (fun hE => ?_)
  · refine k_iconst (pc := 17) (v := (-1)) hC dX0_best_17 (by decide) ?_
    exact k_iret (pc := 18) hC hR ⟨Nat.le_refl 0, Nat.le_refl 0⟩ dX0_best_18 (by cases hE; rfl) (by cases hE; exact fun _ h => h)
  · refine k_iload_n (pc := 8) hC dX0_best_8 rfl 2 rfl ?_
    refine k_iconst (pc := 9) (v := 0) hC dX0_best_9 (by decide) ?_
    refine k_iconst (pc := 10) (v := 1) hC dX0_best_10 (by decide) ?_
    refine m_callSI (pc := 11) (As := [.int a2, .int 0, .int 1]) (fun r => r) hC (cw_S_isIn_X0 hC hrm (Nat.le_of_ble_eq_true rfl) (Nat.le_of_ble_eq_true rfl)) rfl rfl (Nat.le_of_ble_eq_true rfl) ⟨Nat.zero_le _, Nat.zero_le _⟩ dX0_best_11 hE (fun r h => ct_S_isIn _ _ _ _ a2 0 1 r h) (fun r2 hE => ?_)
    refine k_if_ne (pc := 14) (tgt := 19) hC dX0_best_14 (by decide) hE (fun hE => ?_) (fun hE => ?_)
    · refine k_iconst (pc := 17) (v := (-1)) hC dX0_best_17 (by decide) ?_
      exact k_iret (pc := 18) hC hR ⟨Nat.le_refl 0, Nat.le_refl 0⟩ dX0_best_18 (by cases hE; rfl) (by cases hE; exact fun _ h => h)
    · refine k_aload_n (pc := 19) hC dX0_best_19 rfl 0 rfl ?_
      refine k_iload_n (pc := 20) hC dX0_best_20 rfl 1 rfl ?_
      refine s_ownV (pc := 21) (As := [.int a1]) (fun r => r.1) (fun r => Q) (fun r => r.2) hM (cw_S_evening_X0 hC hrm (Nat.le_of_ble_eq_true rfl) (Nat.le_of_ble_eq_true rfl)) rfl rfl (Nat.le_of_ble_eq_true rfl) dX0_best_21 hE (fun r h => ct_S_evening _ _ _ x tx Xp T hM.2.1 F a1 S Q V r h) (fun r3 hE => ?_)
      refine k_iload_n (pc := 24) hC dX0_best_24 rfl 2 rfl ?_
      refine k_if_ne (pc := 25) (tgt := 35) hC dX0_best_25 (by decide) hE (fun hE => ?_) (fun hE => ?_)
      · refine k_aload_n (pc := 28) hC dX0_best_28 rfl 0 rfl ?_
        refine gS_266 (pc := 29) hM dX0_best_29 ?_
        refine k_goto (pc := 32) (tgt := 39) hC dX0_best_32 (by decide) ?_
        exact k_iret (pc := 39) hC hR ⟨Nat.le_refl 0, Nat.le_refl 0⟩ dX0_best_39 (by cases hE; rfl) (by cases hE; exact fun _ h => h)
      · refine k_aload_n (pc := 35) hC dX0_best_35 rfl 0 rfl ?_
        refine gS_269 (pc := 36) hM dX0_best_36 ?_
        exact k_iret (pc := 39) hC hR ⟨Nat.le_refl 0, Nat.le_refl 0⟩ dX0_best_39 (by cases hE; rfl) (by cases hE; exact fun _ h => h)
theorem ct_S_best (l : Launch) (D : Dd) (A : Nat → Prop) (x tx : Nat) (Xp : Jr) (T : Th) (hA : ∀ o, o < 847 → A (x + o)) (F : Nat) (a1 : Int32) (a2 : Int32) (S Q : Ji) (V : Nat → Ji) (out : Int32 × Ji × (Nat → Ji)) (hE : S_best F T tx a1 a2 S V = some out) : Ct l yX0_best (ws_ yX0_best cX0_best 3 (some .int)) rmS_best vwCl arTy D A [.ref x, .int a1, .int a2] (SW D x tx S Q Xp V T) (SW D x tx out.2.1 Q Xp out.2.2 T) (some (.int out.1)) 0 0 := by
  refine Ct.of (by decide) (Nat.le_of_ble_eq_true rfl) rfl ?_
  intro X hl hrm hC hR hXA hnL _
  exact w_S_best ⟨hC, by show ∀ o, o < 847 → cxA X (x + o); unfold cxA; rw [hXA]; exact hA, hnL, hrm⟩ hR F a1 a2 S V hE
abbrev rmS_areTwo : Room := { frames := 3, cells := 0, slots := 0, locals := 64 }
set_option maxHeartbeats 4000000 in
theorem w_S_areTwo {X : Ctx} {D : Dd} {x tx : Nat} {Xp : Jr} {T : Th} {S : Ji} {Q : Ji} {V : Nat → Ji} {out : Int32} (hM : Sxx X cX0_areTwo D x 3 rmS_areTwo) (hR : Rt X (some .boolean) (SW D x tx S Q Xp V T) (some (.int out)) 0 0) (a1 : Int32) (a2 : Int32) (hE : S_areTwo T tx a1 a2 = some out) : Wk X 0 0 (SW D x tx S Q Xp V T) 0 [(0, .ref x), (1, .int a1), (2, .int a2)] [] := by
  have hC := hM.1
  have hnL := hM.2.2.1
  have hrm := hM.2.2.2
  have hDy : ∀ {S Q : Ji} {V : Nat → Ji} (H : Heap), SW D x tx S Q Xp V T H → Dy D T H := fun _ h => h.2.2.2.1
  unfold S_areTwo at hE
  refine k_aload_n (pc := 0) hC dX0_areTwo_0 rfl 0 rfl ?_
  refine k_iload_n (pc := 1) hC dX0_areTwo_1 rfl 1 rfl ?_
  refine s_ownI (pc := 2) (As := [.int a1]) (fun r => r) (fun r => S) (fun r => Q) (fun r => V) hM (cw_S_isMan_X0 hC hrm (Nat.le_of_ble_eq_true rfl) (Nat.le_of_ble_eq_true rfl)) rfl rfl (Nat.le_of_ble_eq_true rfl) dX0_areTwo_2 hE (fun r h => ct_S_isMan _ _ _ x tx Xp T hM.2.1 a1 S Q V r h) (fun r1 hE => ?_)
  refine k_if_eq (pc := 5) (tgt := 25) hC dX0_areTwo_5 (by decide) hE (fun hE => ?_) (fun hE => ?_)
  · refine k_iconst (pc := 25) (v := 0) hC dX0_areTwo_25 (by decide) ?_
    exact k_zret (pc := 26) (by decide) hC hR ⟨Nat.le_refl 0, Nat.le_refl 0⟩ dX0_areTwo_26 (by cases hE; rfl) (by cases hE; exact fun _ h => h)
  · refine k_aload_n (pc := 8) hC dX0_areTwo_8 rfl 0 rfl ?_
    refine k_iload_n (pc := 9) hC dX0_areTwo_9 rfl 2 rfl ?_
    refine s_ownI (pc := 10) (As := [.int a2]) (fun r => r) (fun r => S) (fun r => Q) (fun r => V) hM (cw_S_isMan_X0 hC hrm (Nat.le_of_ble_eq_true rfl) (Nat.le_of_ble_eq_true rfl)) rfl rfl (Nat.le_of_ble_eq_true rfl) dX0_areTwo_10 hE (fun r h => ct_S_isMan _ _ _ x tx Xp T hM.2.1 a2 S Q V r h) (fun r2 hE => ?_)
    refine k_if_eq (pc := 13) (tgt := 25) hC dX0_areTwo_13 (by decide) hE (fun hE => ?_) (fun hE => ?_)
    · refine k_iconst (pc := 25) (v := 0) hC dX0_areTwo_25 (by decide) ?_
      exact k_zret (pc := 26) (by decide) hC hR ⟨Nat.le_refl 0, Nat.le_refl 0⟩ dX0_areTwo_26 (by cases hE; rfl) (by cases hE; exact fun _ h => h)
    · refine k_iload_n (pc := 16) hC dX0_areTwo_16 rfl 1 rfl ?_
      refine k_iload_n (pc := 17) hC dX0_areTwo_17 rfl 2 rfl ?_
      refine k_icmp_eq (pc := 18) (tgt := 25) hC dX0_areTwo_18 (by decide) hE (fun hE => ?_) (fun hE => ?_)
      · refine k_iconst (pc := 25) (v := 0) hC dX0_areTwo_25 (by decide) ?_
        exact k_zret (pc := 26) (by decide) hC hR ⟨Nat.le_refl 0, Nat.le_refl 0⟩ dX0_areTwo_26 (by cases hE; rfl) (by cases hE; exact fun _ h => h)
      · refine k_iconst (pc := 21) (v := 1) hC dX0_areTwo_21 (by decide) ?_
        refine k_goto (pc := 22) (tgt := 26) hC dX0_areTwo_22 (by decide) ?_
        exact k_zret (pc := 26) (by decide) hC hR ⟨Nat.le_refl 0, Nat.le_refl 0⟩ dX0_areTwo_26 (by cases hE; rfl) (by cases hE; exact fun _ h => h)
theorem ct_S_areTwo (l : Launch) (D : Dd) (A : Nat → Prop) (x tx : Nat) (Xp : Jr) (T : Th) (hA : ∀ o, o < 847 → A (x + o)) (a1 : Int32) (a2 : Int32) (S Q : Ji) (V : Nat → Ji) (out : Int32) (hE : S_areTwo T tx a1 a2 = some out) : Ct l yX0_areTwo (ws_ yX0_areTwo cX0_areTwo 3 (some .boolean)) rmS_areTwo vwCl arTy D A [.ref x, .int a1, .int a2] (SW D x tx S Q Xp V T) (SW D x tx S Q Xp V T) (some (.int out)) 0 0 := by
  refine Ct.of (by decide) (Nat.le_of_ble_eq_true rfl) rfl ?_
  intro X hl hrm hC hR hXA hnL _
  exact w_S_areTwo ⟨hC, by show ∀ o, o < 847 → cxA X (x + o); unfold cxA; rw [hXA]; exact hA, hnL, hrm⟩ hR a1 a2 hE
theorem cw_S_areTwo_X0 {X : Ctx} {cc : ByteArray} {D : Dd} {rm : Room} (hC : Cx X cc RX0 vwCl arTy D) (hrm : X.2.2.2.1 = rm) (h1 : rmS_areTwo.frames + 1 ≤ rm.frames) (h2 : 8 + (3 + 11) + rmS_areTwo.locals ≤ rm.locals) : CallW X.2.2.2.1 X.2.2.2.2.1 X.2.2.2.2.2.2.1 RX0 RX0 275 yX0_areTwo cX0_areTwo 3 (some .boolean) (ws_ yX0_areTwo cX0_areTwo 3 (some .boolean)) rmS_areTwo 0 0 2 := cwV 2 (cx_w hC) (lw_V q1457 q1459 qs45 q114 q1460) rfl rfl rfl (by decide +kernel) (by rw [hrm]; exact ⟨h1, h2⟩)
abbrev rmS_bestOfTwo : Room := { frames := 507, cells := 0, slots := 0, locals := 12165 }
set_option maxHeartbeats 4000000 in
theorem w_S_bestOfTwo_B103 {X : Ctx} {D : Dd} {x tx : Nat} {Xp : Jr} {T : Th} {Q : Ji} {out : Int32 × Ji × (Nat → Ji)} (hM : Sxx X cX0_bestOfTwo D x 7 rmS_bestOfTwo) (hR : Rt X (some .int) (SW D x tx out.2.1 Q Xp out.2.2 T) (some (.int out.1)) 0 0) (F : Nat) (k23 : Int32 → Int32 → Int32 → Int32 → (Ji) → (Nat → Ji) → Option (Int32 × Ji × (Nat → Ji))) (hk23 : ∀ (a1 : Int32) (a2 : Int32) (a3 : Int32) (a4 : Int32) (S : Ji) (V : Nat → Ji) , k23 a1 a2 a3 a4 S V = some out → Wk X 0 0 (SW D x tx S Q Xp V T) 23 [(0, .ref x), (1, .int a1), (2, .int a2), (3, .int a3), (4, .int a4)] []) (k35 : Int32 → Int32 → Int32 → Int32 → Int32 → (Ji) → (Nat → Ji) → Option (Int32 × Ji × (Nat → Ji))) (hk35 : ∀ (a1 : Int32) (a2 : Int32) (a3 : Int32) (a4 : Int32) (a5 : Int32) (S : Ji) (V : Nat → Ji) , k35 a1 a2 a3 a4 a5 S V = some out → Wk X 0 0 (SW D x tx S Q Xp V T) 35 [(0, .ref x), (1, .int a1), (2, .int a2), (3, .int a3), (4, .int a4), (5, .int a5)] []) (a1 : Int32) (a2 : Int32) (a3 : Int32) (a4 : Int32) (a5 : Int32) (a6 : Int32) (S : Ji) (V : Nat → Ji) (hE : S_bestOfTwo_B103 F k23 k35 T tx a1 a2 a3 a4 a5 a6 S V = some out) : Wk X 0 0 (SW D x tx S Q Xp V T) 103 [(0, .ref x), (1, .int a1), (2, .int a2), (3, .int a3), (4, .int a4), (5, .int a5), (6, .int a6)] [] := by
  have hC := hM.1
  have hnL := hM.2.2.1
  have hrm := hM.2.2.2
  have hDy : ∀ {S Q : Ji} {V : Nat → Ji} (H : Heap), SW D x tx S Q Xp V T H → Dy D T H := fun _ h => h.2.2.2.1
  unfold S_bestOfTwo_B103 at hE
  refine k_aload_n (pc := 103) hC dX0_bestOfTwo_103 rfl 0 rfl ?_
  refine k_iload (pc := 104) hC dX0_bestOfTwo_104 6 rfl ?_
  refine pS_266 (pc := 106) hM dX0_bestOfTwo_106 hE (fun S13 hE => ?_)
  refine k_aload_n (pc := 109) hC dX0_bestOfTwo_109 rfl 0 rfl ?_
  refine k_aload_n (pc := 110) hC dX0_bestOfTwo_110 rfl 0 rfl ?_
  refine k_iload (pc := 111) hC dX0_bestOfTwo_111 4 rfl ?_
  refine s_ownI (pc := 113) (As := [.int a4]) (fun r => r) (fun r => S13) (fun r => Q) (fun r => V) hM (cw_S_choice_X0 hC hrm (Nat.le_of_ble_eq_true rfl) (Nat.le_of_ble_eq_true rfl)) rfl rfl (Nat.le_of_ble_eq_true rfl) dX0_bestOfTwo_113 hE (fun r h => ct_S_choice _ _ _ x tx Xp T hM.2.1 F a4 S13 Q V r h) (fun r14 hE => ?_)
  refine pS_269 (pc := 116) hM dX0_bestOfTwo_116 hE (fun S15 hE => ?_)
  refine k_aload_n (pc := 119) hC dX0_bestOfTwo_119 rfl 0 rfl ?_
  refine k_aload_n (pc := 120) hC dX0_bestOfTwo_120 rfl 0 rfl ?_
  refine k_iload (pc := 121) hC dX0_bestOfTwo_121 5 rfl ?_
  refine s_ownI (pc := 123) (As := [.int a5]) (fun r => r) (fun r => S15) (fun r => Q) (fun r => V) hM (cw_S_choice_X0 hC hrm (Nat.le_of_ble_eq_true rfl) (Nat.le_of_ble_eq_true rfl)) rfl rfl (Nat.le_of_ble_eq_true rfl) dX0_bestOfTwo_123 hE (fun r h => ct_S_choice _ _ _ x tx Xp T hM.2.1 F a5 S15 Q V r h) (fun r16 hE => ?_)
  refine pS_278 (pc := 126) hM dX0_bestOfTwo_126 hE (fun S17 hE => ?_)
  refine k_iincE (pc := 129) (k := 5) (d := 1) (lv' := fun x18 => [(5, .int x18), (0, .ref x), (1, .int a1), (2, .int a2), (3, .int a3), (4, .int a4), (6, .int a6)]) hC dX0_bestOfTwo_129 rfl (by decide) (by rw [hnL]; decide) hE (fun _ => rfl) (fun x18 hE => ?_)
  refine k_goto (pc := 132) (tgt := 35) hC dX0_bestOfTwo_132 (by decide) ?_
  refine k_sub [1, 2, 3, 4, 5, 0] rfl ?_
  exact hk35 _ _ _ _ _ _ _  hE
set_option maxHeartbeats 4000000 in
theorem w_S_bestOfTwo_B35 {X : Ctx} {D : Dd} {x tx : Nat} {Xp : Jr} {T : Th} {Q : Ji} {out : Int32 × Ji × (Nat → Ji)} (hM : Sxx X cX0_bestOfTwo D x 7 rmS_bestOfTwo) (hR : Rt X (some .int) (SW D x tx out.2.1 Q Xp out.2.2 T) (some (.int out.1)) 0 0) (F : Nat) (k23 : Int32 → Int32 → Int32 → Int32 → (Ji) → (Nat → Ji) → Option (Int32 × Ji × (Nat → Ji))) (hk23 : ∀ (a1 : Int32) (a2 : Int32) (a3 : Int32) (a4 : Int32) (S : Ji) (V : Nat → Ji) , k23 a1 a2 a3 a4 S V = some out → Wk X 0 0 (SW D x tx S Q Xp V T) 23 [(0, .ref x), (1, .int a1), (2, .int a2), (3, .int a3), (4, .int a4)] []) (k35 : Int32 → Int32 → Int32 → Int32 → Int32 → (Ji) → (Nat → Ji) → Option (Int32 × Ji × (Nat → Ji))) (hk35 : ∀ (a1 : Int32) (a2 : Int32) (a3 : Int32) (a4 : Int32) (a5 : Int32) (S : Ji) (V : Nat → Ji) , k35 a1 a2 a3 a4 a5 S V = some out → Wk X 0 0 (SW D x tx S Q Xp V T) 35 [(0, .ref x), (1, .int a1), (2, .int a2), (3, .int a3), (4, .int a4), (5, .int a5)] []) (a1 : Int32) (a2 : Int32) (a3 : Int32) (a4 : Int32) (a5 : Int32) (S : Ji) (V : Nat → Ji) (hE : S_bestOfTwo_B35 F k23 k35 T tx a1 a2 a3 a4 a5 S V = some out) : Wk X 0 0 (SW D x tx S Q Xp V T) 35 [(0, .ref x), (1, .int a1), (2, .int a2), (3, .int a3), (4, .int a4), (5, .int a5)] [] := by
  have hC := hM.1
  have hnL := hM.2.2.1
  have hrm := hM.2.2.2
  have hDy : ∀ {S Q : Ji} {V : Nat → Ji} (H : Heap), SW D x tx S Q Xp V T H → Dy D T H := fun _ h => h.2.2.2.1
  unfold S_bestOfTwo_B35 at hE
  refine k_iload (pc := 35) hC dX0_bestOfTwo_35 5 rfl ?_
  refine k_aload_n (pc := 37) hC dX0_bestOfTwo_37 rfl 0 rfl ?_
  refine s_ownI (pc := 38) (As := []) (fun r => r) (fun r => S) (fun r => Q) (fun r => V) hM (cw_S_choices_X0 hC hrm (Nat.le_of_ble_eq_true rfl) (Nat.le_of_ble_eq_true rfl)) rfl rfl (Nat.le_of_ble_eq_true rfl) dX0_bestOfTwo_38 hE (fun r h => ct_S_choices _ _ _ x tx Xp T hM.2.1 F S Q V r h) (fun r4 hE => ?_)
  refine k_icmp_ge (pc := 41) (tgt := 135) hC dX0_bestOfTwo_41 (by decide) hE (fun hE => ?_) (fun hE => ?_)
  · refine k_iincE (pc := 135) (k := 4) (d := 1) (lv' := fun x5 => [(4, .int x5), (0, .ref x), (1, .int a1), (2, .int a2), (3, .int a3), (5, .int a5)]) hC dX0_bestOfTwo_135 rfl (by decide) (by rw [hnL]; decide) hE (fun _ => rfl) (fun x5 hE => ?_)
    refine k_goto (pc := 138) (tgt := 23) hC dX0_bestOfTwo_138 (by decide) ?_
    refine k_sub [1, 2, 3, 4, 0] rfl ?_
    exact hk23 _ _ _ _ _ _  hE
  · refine k_aload_n (pc := 44) hC dX0_bestOfTwo_44 rfl 0 rfl ?_
    refine gS_50 (pc := 45) hM dX0_bestOfTwo_45 ?_
    refine k_aload_n (pc := 48) hC dX0_bestOfTwo_48 rfl 0 rfl ?_
    refine gS_46 (pc := 49) hM dX0_bestOfTwo_49 ?_
    refine s_takes (pc := 52) 1 0 (by decide) (by decide) (by decide) hM (Nat.le_of_ble_eq_true rfl) (Nat.le_of_ble_eq_true rfl) (Nat.le_of_ble_eq_true rfl) dX0_bestOfTwo_52 ?_
    refine k_lt (G := fun Z => Wk X 0 0 (SW D x tx S Q Xp Z T) 55 [(0, .ref x), (1, .int a1), (2, .int a2), (3, .int a3), (4, .int a4), (5, .int a5)] []) hE (fun V6 hE => ?_)
    refine k_aload_n (pc := 55) hC dX0_bestOfTwo_55 rfl 0 rfl ?_
    refine k_iload_n (pc := 56) hC dX0_bestOfTwo_56 rfl 1 rfl ?_
    refine k_aload_n (pc := 57) hC dX0_bestOfTwo_57 rfl 0 rfl ?_
    refine k_iload (pc := 58) hC dX0_bestOfTwo_58 4 rfl ?_
    refine s_ownI (pc := 60) (As := [.int a4]) (fun r => r) (fun r => S) (fun r => Q) (fun r => V6) hM (cw_S_choice_X0 hC hrm (Nat.le_of_ble_eq_true rfl) (Nat.le_of_ble_eq_true rfl)) rfl rfl (Nat.le_of_ble_eq_true rfl) dX0_bestOfTwo_60 hE (fun r h => ct_S_choice _ _ _ x tx Xp T hM.2.1 F a4 S Q V6 r h) (fun r7 hE => ?_)
    refine s_ownV (pc := 63) (As := [.int a1, .int r7]) (fun r => S) (fun r => Q) (fun r => r) hM (cw_S_leavesThen_X0 hC hrm (Nat.le_of_ble_eq_true rfl) (Nat.le_of_ble_eq_true rfl)) rfl rfl (Nat.le_of_ble_eq_true rfl) dX0_bestOfTwo_63 hE (fun r h => ct_S_leavesThen _ _ _ x tx Xp T hM.2.1 a1 r7 S Q V6 r h) (fun r8 hE => ?_)
    refine k_aload_n (pc := 66) hC dX0_bestOfTwo_66 rfl 0 rfl ?_
    refine k_iload_n (pc := 67) hC dX0_bestOfTwo_67 rfl 2 rfl ?_
    refine k_aload_n (pc := 68) hC dX0_bestOfTwo_68 rfl 0 rfl ?_
    refine k_iload (pc := 69) hC dX0_bestOfTwo_69 5 rfl ?_
    refine s_ownI (pc := 71) (As := [.int a5]) (fun r => r) (fun r => S) (fun r => Q) (fun r => r8) hM (cw_S_choice_X0 hC hrm (Nat.le_of_ble_eq_true rfl) (Nat.le_of_ble_eq_true rfl)) rfl rfl (Nat.le_of_ble_eq_true rfl) dX0_bestOfTwo_71 hE (fun r h => ct_S_choice _ _ _ x tx Xp T hM.2.1 F a5 S Q r8 r h) (fun r9 hE => ?_)
    refine s_ownV (pc := 74) (As := [.int a2, .int r9]) (fun r => S) (fun r => Q) (fun r => r) hM (cw_S_leavesThen_X0 hC hrm (Nat.le_of_ble_eq_true rfl) (Nat.le_of_ble_eq_true rfl)) rfl rfl (Nat.le_of_ble_eq_true rfl) dX0_bestOfTwo_74 hE (fun r h => ct_S_leavesThen _ _ _ x tx Xp T hM.2.1 a2 r9 S Q r8 r h) (fun r10 hE => ?_)
    refine k_aload_n (pc := 77) hC dX0_bestOfTwo_77 rfl 0 rfl ?_
    refine s_ownI (pc := 78) (As := []) (fun r => r.1) (fun r => S) (fun r => Q) (fun r => r.2) hM (cw_S_brings_X0 hC hrm (Nat.le_of_ble_eq_true rfl) (Nat.le_of_ble_eq_true rfl)) rfl rfl (Nat.le_of_ble_eq_true rfl) dX0_bestOfTwo_78 hE (fun r h => ct_S_brings _ _ _ x tx Xp T hM.2.1 F S Q r10 r h) (fun r11 hE => ?_)
    refine k_istore (pc := 81) (lv' := [(6, .int r11.1), (0, .ref x), (1, .int a1), (2, .int a2), (3, .int a3), (4, .int a4), (5, .int a5)]) hC dX0_bestOfTwo_81 (by rw [hnL]; decide) rfl ?_
    refine k_iload (pc := 83) hC dX0_bestOfTwo_83 5 rfl ?_
    refine k_iload (pc := 85) hC dX0_bestOfTwo_85 6 rfl ?_
    refine k_iadd (pc := 87) hC dX0_bestOfTwo_87 ?_
    refine k_if_le (pc := 88) (tgt := 103) hC dX0_bestOfTwo_88 (by decide) hE (fun hE => ?_) (fun hE => ?_)
    · refine k_sub [1, 2, 3, 4, 5, 6, 0] rfl ?_
      exact w_S_bestOfTwo_B103 hM hR F k23 hk23 k35 hk35 _ _ _ _ _ _ _ _  hE
    · refine k_iload (pc := 91) hC dX0_bestOfTwo_91 0 rfl ?_
      refine k_aload_n (pc := 93) hC dX0_bestOfTwo_93 rfl 1 rfl ?_
      refine gS_266 (pc := 94) hM dX0_bestOfTwo_94 ?_
      refine k_icmp_gt (pc := 97) (tgt := 103) hC dX0_bestOfTwo_97 (by decide) hE (fun hE => ?_) (fun hE => ?_)
      · refine k_sub [1, 2, 3, 4, 5, 6, 0] rfl ?_
        exact w_S_bestOfTwo_B103 hM hR F k23 hk23 k35 hk35 _ _ _ _ _ _ _ _  hE
      · refine k_goto (pc := 100) (tgt := 129) hC dX0_bestOfTwo_100 (by decide) ?_
        refine k_iincE (pc := 129) (k := 6) (d := 1) (lv' := fun x12 => [(5, .int x12), (6, .int r11.1), (0, .ref x), (1, .int a1), (2, .int a2), (3, .int a3), (4, .int a4)]) hC dX0_bestOfTwo_129 rfl (by decide) (by rw [hnL]; decide) hE (fun _ => rfl) (fun x12 hE => ?_)
        refine k_goto (pc := 132) (tgt := 35) hC dX0_bestOfTwo_132 (by decide) ?_
        refine k_sub [2, 3, 4, 5, 6, 0] rfl ?_
        exact hk35 _ _ _ _ _ _ _  hE
theorem w_S_bestOfTwo_L35 {X : Ctx} {D : Dd} {x tx : Nat} {Xp : Jr} {T : Th} {Q : Ji} {out : Int32 × Ji × (Nat → Ji)} (hM : Sxx X cX0_bestOfTwo D x 7 rmS_bestOfTwo) (hR : Rt X (some .int) (SW D x tx out.2.1 Q Xp out.2.2 T) (some (.int out.1)) 0 0) (F : Nat) (k23 : Int32 → Int32 → Int32 → Int32 → (Ji) → (Nat → Ji) → Option (Int32 × Ji × (Nat → Ji))) (hk23 : ∀ (a1 : Int32) (a2 : Int32) (a3 : Int32) (a4 : Int32) (S : Ji) (V : Nat → Ji) , k23 a1 a2 a3 a4 S V = some out → Wk X 0 0 (SW D x tx S Q Xp V T) 23 [(0, .ref x), (1, .int a1), (2, .int a2), (3, .int a3), (4, .int a4)] []) (n : Nat) : ∀ (a1 : Int32) (a2 : Int32) (a3 : Int32) (a4 : Int32) (a5 : Int32) (S : Ji) (V : Nat → Ji) , S_bestOfTwo_L35 F k23 T tx n a1 a2 a3 a4 a5 S V = some out → Wk X 0 0 (SW D x tx S Q Xp V T) 35 [(0, .ref x), (1, .int a1), (2, .int a2), (3, .int a3), (4, .int a4), (5, .int a5)] [] := by
  induction n with
  | zero => intro a1 a2 a3 a4 a5 S V h; cases h
  | succ n ih => intro a1 a2 a3 a4 a5 S V h; exact w_S_bestOfTwo_B35 hM hR F k23 hk23 (S_bestOfTwo_L35 F k23 T tx n) ih a1 a2 a3 a4 a5 S V h
set_option maxHeartbeats 4000000 in
theorem w_S_bestOfTwo_B23 {X : Ctx} {D : Dd} {x tx : Nat} {Xp : Jr} {T : Th} {Q : Ji} {out : Int32 × Ji × (Nat → Ji)} (hM : Sxx X cX0_bestOfTwo D x 7 rmS_bestOfTwo) (hR : Rt X (some .int) (SW D x tx out.2.1 Q Xp out.2.2 T) (some (.int out.1)) 0 0) (F : Nat) (k23 : Int32 → Int32 → Int32 → Int32 → (Ji) → (Nat → Ji) → Option (Int32 × Ji × (Nat → Ji))) (hk23 : ∀ (a1 : Int32) (a2 : Int32) (a3 : Int32) (a4 : Int32) (S : Ji) (V : Nat → Ji) , k23 a1 a2 a3 a4 S V = some out → Wk X 0 0 (SW D x tx S Q Xp V T) 23 [(0, .ref x), (1, .int a1), (2, .int a2), (3, .int a3), (4, .int a4)] []) (a1 : Int32) (a2 : Int32) (a3 : Int32) (a4 : Int32) (S : Ji) (V : Nat → Ji) (hE : S_bestOfTwo_B23 F k23 T tx a1 a2 a3 a4 S V = some out) : Wk X 0 0 (SW D x tx S Q Xp V T) 23 [(0, .ref x), (1, .int a1), (2, .int a2), (3, .int a3), (4, .int a4)] [] := by
  have hC := hM.1
  have hnL := hM.2.2.1
  have hrm := hM.2.2.2
  have hDy : ∀ {S Q : Ji} {V : Nat → Ji} (H : Heap), SW D x tx S Q Xp V T H → Dy D T H := fun _ h => h.2.2.2.1
  unfold S_bestOfTwo_B23 at hE
  refine k_iload (pc := 23) hC dX0_bestOfTwo_23 4 rfl ?_
  refine k_aload_n (pc := 25) hC dX0_bestOfTwo_25 rfl 0 rfl ?_
  refine s_ownI (pc := 26) (As := []) (fun r => r) (fun r => S) (fun r => Q) (fun r => V) hM (cw_S_choices_X0 hC hrm (Nat.le_of_ble_eq_true rfl) (Nat.le_of_ble_eq_true rfl)) rfl rfl (Nat.le_of_ble_eq_true rfl) dX0_bestOfTwo_26 hE (fun r h => ct_S_choices _ _ _ x tx Xp T hM.2.1 F S Q V r h) (fun r3 hE => ?_)
  refine k_icmp_ge (pc := 29) (tgt := 141) hC dX0_bestOfTwo_29 (by decide) hE (fun hE => ?_) (fun hE => ?_)
  · refine k_iload_n (pc := 141) hC dX0_bestOfTwo_141 rfl 3 rfl ?_
    refine k_if_ne (pc := 142) (tgt := 152) hC dX0_bestOfTwo_142 (by decide) hE (fun hE => ?_) (fun hE => ?_)
    · refine k_aload_n (pc := 145) hC dX0_bestOfTwo_145 rfl 0 rfl ?_
      refine gS_266 (pc := 146) hM dX0_bestOfTwo_146 ?_
      refine k_goto (pc := 149) (tgt := 168) hC dX0_bestOfTwo_149 (by decide) ?_
      exact k_iret (pc := 168) hC hR ⟨Nat.le_refl 0, Nat.le_refl 0⟩ dX0_bestOfTwo_168 (by cases hE; rfl) (by cases hE; exact fun _ h => h)
    · refine k_iload_n (pc := 152) hC dX0_bestOfTwo_152 rfl 3 rfl ?_
      refine k_iconst (pc := 153) (v := 1) hC dX0_bestOfTwo_153 (by decide) ?_
      refine k_icmp_ne (pc := 154) (tgt := 164) hC dX0_bestOfTwo_154 (by decide) hE (fun hE => ?_) (fun hE => ?_)
      · refine k_aload_n (pc := 157) hC dX0_bestOfTwo_157 rfl 0 rfl ?_
        refine gS_269 (pc := 158) hM dX0_bestOfTwo_158 ?_
        refine k_goto (pc := 161) (tgt := 168) hC dX0_bestOfTwo_161 (by decide) ?_
        exact k_iret (pc := 168) hC hR ⟨Nat.le_refl 0, Nat.le_refl 0⟩ dX0_bestOfTwo_168 (by cases hE; rfl) (by cases hE; exact fun _ h => h)
      · refine k_aload_n (pc := 164) hC dX0_bestOfTwo_164 rfl 0 rfl ?_
        refine gS_278 (pc := 165) hM dX0_bestOfTwo_165 ?_
        exact k_iret (pc := 168) hC hR ⟨Nat.le_refl 0, Nat.le_refl 0⟩ dX0_bestOfTwo_168 (by cases hE; rfl) (by cases hE; exact fun _ h => h)
  · refine k_iconst (pc := 32) (v := 0) hC dX0_bestOfTwo_32 (by decide) ?_
    refine k_istore (pc := 33) (lv' := [(5, .int 0), (0, .ref x), (1, .int a1), (2, .int a2), (3, .int a3), (4, .int a4)]) hC dX0_bestOfTwo_33 (by rw [hnL]; decide) rfl ?_
    refine k_sub [1, 2, 3, 4, 5, 0] rfl ?_
    exact w_S_bestOfTwo_L35 hM hR F k23 hk23 _ _ _ _ _ _ _ _  hE
theorem w_S_bestOfTwo_L23 {X : Ctx} {D : Dd} {x tx : Nat} {Xp : Jr} {T : Th} {Q : Ji} {out : Int32 × Ji × (Nat → Ji)} (hM : Sxx X cX0_bestOfTwo D x 7 rmS_bestOfTwo) (hR : Rt X (some .int) (SW D x tx out.2.1 Q Xp out.2.2 T) (some (.int out.1)) 0 0) (F : Nat) (n : Nat) : ∀ (a1 : Int32) (a2 : Int32) (a3 : Int32) (a4 : Int32) (S : Ji) (V : Nat → Ji) , S_bestOfTwo_L23 F T tx n a1 a2 a3 a4 S V = some out → Wk X 0 0 (SW D x tx S Q Xp V T) 23 [(0, .ref x), (1, .int a1), (2, .int a2), (3, .int a3), (4, .int a4)] [] := by
  induction n with
  | zero => intro a1 a2 a3 a4 S V h; cases h
  | succ n ih => intro a1 a2 a3 a4 S V h; exact w_S_bestOfTwo_B23 hM hR F (S_bestOfTwo_L23 F T tx n) ih a1 a2 a3 a4 S V h
set_option maxHeartbeats 4000000 in
theorem w_S_bestOfTwo {X : Ctx} {D : Dd} {x tx : Nat} {Xp : Jr} {T : Th} {Q : Ji} {out : Int32 × Ji × (Nat → Ji)} (hM : Sxx X cX0_bestOfTwo D x 7 rmS_bestOfTwo) (hR : Rt X (some .int) (SW D x tx out.2.1 Q Xp out.2.2 T) (some (.int out.1)) 0 0) (F : Nat) (a1 : Int32) (a2 : Int32) (a3 : Int32) (S : Ji) (V : Nat → Ji) (hE : S_bestOfTwo F T tx a1 a2 a3 S V = some out) : Wk X 0 0 (SW D x tx S Q Xp V T) 0 [(0, .ref x), (1, .int a1), (2, .int a2), (3, .int a3)] [] := by
  have hC := hM.1
  have hnL := hM.2.2.1
  have hrm := hM.2.2.2
  have hDy : ∀ {S Q : Ji} {V : Nat → Ji} (H : Heap), SW D x tx S Q Xp V T H → Dy D T H := fun _ h => h.2.2.2.1
  unfold S_bestOfTwo at hE
  refine k_aload_n (pc := 0) hC dX0_bestOfTwo_0 rfl 0 rfl ?_
  refine k_iload_n (pc := 1) hC dX0_bestOfTwo_1 rfl 1 rfl ?_
  refine k_iload_n (pc := 2) hC dX0_bestOfTwo_2 rfl 2 rfl ?_
  refine s_ownI (pc := 3) (As := [.int a1, .int a2]) (fun r => r) (fun r => S) (fun r => Q) (fun r => V) hM (cw_S_areTwo_X0 hC hrm (Nat.le_of_ble_eq_true rfl) (Nat.le_of_ble_eq_true rfl)) rfl rfl (Nat.le_of_ble_eq_true rfl) dX0_bestOfTwo_3 hE (fun r h => ct_S_areTwo _ _ _ x tx Xp T hM.2.1 a1 a2 S Q V r h) (fun r1 hE => ?_)
  refine k_if_eq (pc := 6) (tgt := 18) hC dX0_bestOfTwo_6 (by decide) hE (fun hE => ?_) (fun hE => ?_)
  · refine k_iconst (pc := 18) (v := (-1)) hC dX0_bestOfTwo_18 (by decide) ?_
    exact k_iret (pc := 19) hC hR ⟨Nat.le_refl 0, Nat.le_refl 0⟩ dX0_bestOfTwo_19 (by cases hE; rfl) (by cases hE; exact fun _ h => h)
  · refine k_iload_n (pc := 9) hC dX0_bestOfTwo_9 rfl 3 rfl ?_
    refine k_iconst (pc := 10) (v := 0) hC dX0_bestOfTwo_10 (by decide) ?_
    refine k_iconst (pc := 11) (v := 2) hC dX0_bestOfTwo_11 (by decide) ?_
    refine m_callSI (pc := 12) (As := [.int a3, .int 0, .int 2]) (fun r => r) hC (cw_S_isIn_X0 hC hrm (Nat.le_of_ble_eq_true rfl) (Nat.le_of_ble_eq_true rfl)) rfl rfl (Nat.le_of_ble_eq_true rfl) ⟨Nat.zero_le _, Nat.zero_le _⟩ dX0_bestOfTwo_12 hE (fun r h => ct_S_isIn _ _ _ _ a3 0 2 r h) (fun r2 hE => ?_)
    refine k_if_ne (pc := 15) (tgt := 20) hC dX0_bestOfTwo_15 (by decide) hE (fun hE => ?_) (fun hE => ?_)
    · refine k_iconst (pc := 18) (v := (-1)) hC dX0_bestOfTwo_18 (by decide) ?_
      exact k_iret (pc := 19) hC hR ⟨Nat.le_refl 0, Nat.le_refl 0⟩ dX0_bestOfTwo_19 (by cases hE; rfl) (by cases hE; exact fun _ h => h)
    · refine k_iconst (pc := 20) (v := 0) hC dX0_bestOfTwo_20 (by decide) ?_
      refine k_istore (pc := 21) (lv' := [(4, .int 0), (0, .ref x), (1, .int a1), (2, .int a2), (3, .int a3)]) hC dX0_bestOfTwo_21 (by rw [hnL]; decide) rfl ?_
      refine k_sub [1, 2, 3, 4, 0] rfl ?_
      exact w_S_bestOfTwo_L23 hM hR F _ _ _ _ _ _ _  hE
theorem ct_S_bestOfTwo (l : Launch) (D : Dd) (A : Nat → Prop) (x tx : Nat) (Xp : Jr) (T : Th) (hA : ∀ o, o < 847 → A (x + o)) (F : Nat) (a1 : Int32) (a2 : Int32) (a3 : Int32) (S Q : Ji) (V : Nat → Ji) (out : Int32 × Ji × (Nat → Ji)) (hE : S_bestOfTwo F T tx a1 a2 a3 S V = some out) : Ct l yX0_bestOfTwo (ws_ yX0_bestOfTwo cX0_bestOfTwo 7 (some .int)) rmS_bestOfTwo vwCl arTy D A [.ref x, .int a1, .int a2, .int a3] (SW D x tx S Q Xp V T) (SW D x tx out.2.1 Q Xp out.2.2 T) (some (.int out.1)) 0 0 := by
  refine Ct.of (by decide) (Nat.le_of_ble_eq_true rfl) rfl ?_
  intro X hl hrm hC hR hXA hnL _
  exact w_S_bestOfTwo ⟨hC, by show ∀ o, o < 847 → cxA X (x + o); unfold cxA; rw [hXA]; exact hA, hnL, hrm⟩ hR F a1 a2 a3 S V hE
abbrev rmS_hire : Room := { frames := 508, cells := 0, slots := 0, locals := 12188 }
set_option maxHeartbeats 4000000 in
theorem w_S_hire {X : Ctx} {D : Dd} {x tx : Nat} {Xp : Jr} {T : Th} {Q : Ji} {out : Int32 × Ji × (Nat → Ji)} (hM : Sxx X cX0_hire D x 3 rmS_hire) (hR : Rt X (some .int) (SW D x tx out.2.1 Q Xp out.2.2 T) (some (.int out.1)) 0 0) (F : Nat) (a1 : Int32) (S : Ji) (V : Nat → Ji) (hE : S_hire F T tx a1 S V = some out) : Wk X 0 0 (SW D x tx S Q Xp V T) 0 [(0, .ref x), (1, .int a1)] [] := by
  have hC := hM.1
  have hnL := hM.2.2.1
  have hrm := hM.2.2.2
  have hDy : ∀ {S Q : Ji} {V : Nat → Ji} (H : Heap), SW D x tx S Q Xp V T H → Dy D T H := fun _ h => h.2.2.2.1
  unfold S_hire at hE
  refine k_aload_n (pc := 0) hC dX0_hire_0 rfl 0 rfl ?_
  refine k_iload_n (pc := 1) hC dX0_hire_1 rfl 1 rfl ?_
  refine s_ownI (pc := 2) (As := [.int a1]) (fun r => r) (fun r => S) (fun r => Q) (fun r => V) hM (cw_S_isMan_X0 hC hrm (Nat.le_of_ble_eq_true rfl) (Nat.le_of_ble_eq_true rfl)) rfl rfl (Nat.le_of_ble_eq_true rfl) dX0_hire_2 hE (fun r h => ct_S_isMan _ _ _ x tx Xp T hM.2.1 a1 S Q V r h) (fun r1 hE => ?_)
  refine k_if_ne (pc := 5) (tgt := 12) hC dX0_hire_5 (by decide) hE (fun hE => ?_) (fun hE => ?_)
  · refine k_ldcw (pc := 8) (v := (-1000000)) hC q1465 dX0_hire_8 ?_
    exact k_iret (pc := 11) hC hR ⟨Nat.le_refl 0, Nat.le_refl 0⟩ dX0_hire_11 (by cases hE; rfl) (by cases hE; exact fun _ h => h)
  · refine k_aload_n (pc := 12) hC dX0_hire_12 rfl 0 rfl ?_
    refine k_iload_n (pc := 13) hC dX0_hire_13 rfl 1 rfl ?_
    refine s_ownV (pc := 14) (As := [.int a1]) (fun r => r.1) (fun r => Q) (fun r => r.2) hM (cw_S_evening_X0 hC hrm (Nat.le_of_ble_eq_true rfl) (Nat.le_of_ble_eq_true rfl)) rfl rfl (Nat.le_of_ble_eq_true rfl) dX0_hire_14 hE (fun r h => ct_S_evening _ _ _ x tx Xp T hM.2.1 F a1 S Q V r h) (fun r2 hE => ?_)
    refine k_aload_n (pc := 17) hC dX0_hire_17 rfl 0 rfl ?_
    refine gS_266 (pc := 18) hM dX0_hire_18 ?_
    refine k_istoreE_n (pc := 21) (lv' := fun x3 => [(2, .int x3), (0, .ref x), (1, .int a1)]) hC dX0_hire_21 rfl (by rw [hnL]; decide) hE (fun _ => rfl) (fun x3 hE => ?_)
    refine k_aload_n (pc := 22) hC dX0_hire_22 rfl 1 rfl ?_
    refine gS_50 (pc := 23) hM dX0_hire_23 ?_
    refine k_aload_n (pc := 26) hC dX0_hire_26 rfl 1 rfl ?_
    refine gS_46 (pc := 27) hM dX0_hire_27 ?_
    refine s_takes (pc := 30) 1 0 (by decide) (by decide) (by decide) hM (Nat.le_of_ble_eq_true rfl) (Nat.le_of_ble_eq_true rfl) (Nat.le_of_ble_eq_true rfl) dX0_hire_30 ?_
    refine k_lt (G := fun Z => Wk X 0 0 (SW D x tx r2.1 Q Xp Z T) 33 [(2, .int x3), (0, .ref x), (1, .int a1)] []) hE (fun V4 hE => ?_)
    refine k_aload_n (pc := 33) hC dX0_hire_33 rfl 1 rfl ?_
    refine k_iload_n (pc := 34) hC dX0_hire_34 rfl 2 rfl ?_
    refine k_bipush (pc := 35) (v := (-2)) hC dX0_hire_35 (by decide) ?_
    refine s_ownV (pc := 37) (As := [.int a1, .int ((-2))]) (fun r => r2.1) (fun r => Q) (fun r => r) hM (cw_S_leavesThen_X0 hC hrm (Nat.le_of_ble_eq_true rfl) (Nat.le_of_ble_eq_true rfl)) rfl rfl (Nat.le_of_ble_eq_true rfl) dX0_hire_37 hE (fun r h => ct_S_leavesThen _ _ _ x tx Xp T hM.2.1 a1 ((-2)) r2.1 Q V4 r h) (fun r5 hE => ?_)
    refine k_iload_n (pc := 40) hC dX0_hire_40 rfl 0 rfl ?_
    refine k_aload_n (pc := 41) hC dX0_hire_41 rfl 1 rfl ?_
    refine s_ownI (pc := 42) (As := []) (fun r => r.1) (fun r => r2.1) (fun r => Q) (fun r => r.2) hM (cw_S_brings_X0 hC hrm (Nat.le_of_ble_eq_true rfl) (Nat.le_of_ble_eq_true rfl)) rfl rfl (Nat.le_of_ble_eq_true rfl) dX0_hire_42 hE (fun r h => ct_S_brings _ _ _ x tx Xp T hM.2.1 F r2.1 Q r5 r h) (fun r6 hE => ?_)
    refine k_isub (pc := 45) hC dX0_hire_45 ?_
    exact k_iret (pc := 46) hC hR ⟨Nat.le_refl 0, Nat.le_refl 0⟩ dX0_hire_46 (by cases hE; rfl) (by cases hE; exact fun _ h => h)
theorem ct_S_hire (l : Launch) (D : Dd) (A : Nat → Prop) (x tx : Nat) (Xp : Jr) (T : Th) (hA : ∀ o, o < 847 → A (x + o)) (F : Nat) (a1 : Int32) (S Q : Ji) (V : Nat → Ji) (out : Int32 × Ji × (Nat → Ji)) (hE : S_hire F T tx a1 S V = some out) : Ct l yX0_hire (ws_ yX0_hire cX0_hire 3 (some .int)) rmS_hire vwCl arTy D A [.ref x, .int a1] (SW D x tx S Q Xp V T) (SW D x tx out.2.1 Q Xp out.2.2 T) (some (.int out.1)) 0 0 := by
  refine Ct.of (by decide) (Nat.le_of_ble_eq_true rfl) rfl ?_
  intro X hl hrm hC hR hXA hnL _
  exact w_S_hire ⟨hC, by show ∀ o, o < 847 → cxA X (x + o); unfold cxA; rw [hXA]; exact hA, hnL, hrm⟩ hR F a1 S V hE
abbrev rmS_hide : Room := { frames := 507, cells := 0, slots := 0, locals := 12165 }
set_option maxHeartbeats 4000000 in
theorem w_S_hide_B130 {X : Ctx} {D : Dd} {x tx : Nat} {Xp : Jr} {T : Th} {S : Ji} {Q : Ji} {out : Int32 × (Nat → Ji)} (hM : Sxx X cX0_hide D x 9 rmS_hide) (hR : Rt X (some .int) (SW D x tx S Q Xp out.2 T) (some (.int out.1)) 0 0) (F : Nat) (k48 : Int32 → Int32 → Int32 → Int32 → Int32 → Int32 → (Nat → Ji) → Option (Int32 × (Nat → Ji))) (hk48 : ∀ (a1 : Int32) (a2 : Int32) (a3 : Int32) (a4 : Int32) (a5 : Int32) (a6 : Int32) (V : Nat → Ji) , k48 a1 a2 a3 a4 a5 a6 V = some out → Wk X 0 0 (SW D x tx S Q Xp V T) 48 [(0, .ref x), (1, .int a1), (2, .int a2), (3, .int a3), (4, .int a4), (5, .int a5), (6, .int a6)] []) (a1 : Int32) (a2 : Int32) (a5 : Int32) (a6 : Int32) (a7 : Int32) (a8 : Int32) (V : Nat → Ji) (hE : S_hide_B130 F k48 T tx a1 a2 a5 a6 a7 a8 V = some out) : Wk X 0 0 (SW D x tx S Q Xp V T) 130 [(0, .ref x), (1, .int a1), (2, .int a2), (5, .int a5), (6, .int a6), (7, .int a7), (8, .int a8)] [] := by
  have hC := hM.1
  have hnL := hM.2.2.1
  have hrm := hM.2.2.2
  have hDy : ∀ {S Q : Ji} {V : Nat → Ji} (H : Heap), SW D x tx S Q Xp V T H → Dy D T H := fun _ h => h.2.2.2.1
  unfold S_hide_B130 at hE
  refine k_iload (pc := 130) hC dX0_hide_130 6 rfl ?_
  refine k_istore_n (pc := 132) (lv' := [(3, .int a8), (0, .ref x), (1, .int a1), (2, .int a2), (5, .int a5), (6, .int a6), (7, .int a7), (8, .int a8)]) hC dX0_hide_132 rfl (by rw [hnL]; decide) rfl ?_
  refine k_iload (pc := 133) hC dX0_hide_133 6 rfl ?_
  refine k_istore (pc := 135) (lv' := [(4, .int a7), (3, .int a8), (0, .ref x), (1, .int a1), (2, .int a2), (5, .int a5), (6, .int a6), (7, .int a7), (8, .int a8)]) hC dX0_hide_135 (by rw [hnL]; decide) rfl ?_
  refine k_iincE (pc := 137) (k := 6) (d := 1) (lv' := fun x16 => [(6, .int x16), (4, .int a7), (3, .int a8), (0, .ref x), (1, .int a1), (2, .int a2), (5, .int a5), (7, .int a7), (8, .int a8)]) hC dX0_hide_137 rfl (by decide) (by rw [hnL]; decide) hE (fun _ => rfl) (fun x16 hE => ?_)
  refine k_goto (pc := 140) (tgt := 48) hC dX0_hide_140 (by decide) ?_
  refine k_sub [3, 4, 5, 2, 1, 6, 0] rfl ?_
  exact hk48 _ _ _ _ _ _ _  hE
set_option maxHeartbeats 4000000 in
theorem w_S_hide_B86 {X : Ctx} {D : Dd} {x tx : Nat} {Xp : Jr} {T : Th} {S : Ji} {Q : Ji} {out : Int32 × (Nat → Ji)} (hM : Sxx X cX0_hide D x 9 rmS_hide) (hR : Rt X (some .int) (SW D x tx S Q Xp out.2 T) (some (.int out.1)) 0 0) (F : Nat) (k48 : Int32 → Int32 → Int32 → Int32 → Int32 → Int32 → (Nat → Ji) → Option (Int32 × (Nat → Ji))) (hk48 : ∀ (a1 : Int32) (a2 : Int32) (a3 : Int32) (a4 : Int32) (a5 : Int32) (a6 : Int32) (V : Nat → Ji) , k48 a1 a2 a3 a4 a5 a6 V = some out → Wk X 0 0 (SW D x tx S Q Xp V T) 48 [(0, .ref x), (1, .int a1), (2, .int a2), (3, .int a3), (4, .int a4), (5, .int a5), (6, .int a6)] []) (a1 : Int32) (a2 : Int32) (a3 : Int32) (a4 : Int32) (a5 : Int32) (a6 : Int32) (s0 : Int32) (V : Nat → Ji) (hE : S_hide_B86 F k48 T tx a1 a2 a3 a4 a5 a6 s0 V = some out) : Wk X 0 0 (SW D x tx S Q Xp V T) 86 [(0, .ref x), (1, .int a1), (2, .int a2), (3, .int a3), (4, .int a4), (5, .int a5), (6, .int a6)] [.int s0] := by
  have hC := hM.1
  have hnL := hM.2.2.1
  have hrm := hM.2.2.2
  have hDy : ∀ {S Q : Ji} {V : Nat → Ji} (H : Heap), SW D x tx S Q Xp V T H → Dy D T H := fun _ h => h.2.2.2.1
  unfold S_hide_B86 at hE
  refine k_istore (pc := 86) (lv' := [(7, .int s0), (0, .ref x), (1, .int a1), (2, .int a2), (3, .int a3), (4, .int a4), (5, .int a5), (6, .int a6)]) hC dX0_hide_86 (by rw [hnL]; decide) rfl ?_
  refine k_aload_n (pc := 88) hC dX0_hide_88 rfl 1 rfl ?_
  refine gS_50 (pc := 89) hM dX0_hide_89 ?_
  refine k_aload_n (pc := 92) hC dX0_hide_92 rfl 1 rfl ?_
  refine gS_46 (pc := 93) hM dX0_hide_93 ?_
  refine s_takes (pc := 96) 1 0 (by decide) (by decide) (by decide) hM (Nat.le_of_ble_eq_true rfl) (Nat.le_of_ble_eq_true rfl) (Nat.le_of_ble_eq_true rfl) dX0_hide_96 ?_
  refine k_lt (G := fun Z => Wk X 0 0 (SW D x tx S Q Xp Z T) 99 [(7, .int s0), (0, .ref x), (1, .int a1), (2, .int a2), (3, .int a3), (4, .int a4), (5, .int a5), (6, .int a6)] []) hE (fun V12 hE => ?_)
  refine k_aload_n (pc := 99) hC dX0_hide_99 rfl 1 rfl ?_
  refine gS_50 (pc := 100) hM dX0_hide_100 ?_
  refine gSV_209 (pc := 103) (by decide) hM dX0_hide_103 ?_
  refine k_iload_n (pc := 106) hC dX0_hide_106 rfl 2 rfl ?_
  refine k_iload (pc := 107) hC dX0_hide_107 0 rfl ?_
  refine sV_iast (pc := 109) (by decide) 11 lv_11 hM dX0_hide_109 hE (fun V13 hE => ?_)
  refine k_aload_n (pc := 110) hC dX0_hide_110 rfl 1 rfl ?_
  refine s_ownI (pc := 111) (As := []) (fun r => r.1) (fun r => S) (fun r => Q) (fun r => r.2) hM (cw_S_brings_X0 hC hrm (Nat.le_of_ble_eq_true rfl) (Nat.le_of_ble_eq_true rfl)) rfl rfl (Nat.le_of_ble_eq_true rfl) dX0_hide_111 hE (fun r h => ct_S_brings _ _ _ x tx Xp T hM.2.1 F S Q V13 r h) (fun r14 hE => ?_)
  refine k_istore (pc := 114) (lv' := [(8, .int r14.1), (7, .int s0), (0, .ref x), (1, .int a1), (2, .int a2), (3, .int a3), (4, .int a4), (5, .int a5), (6, .int a6)]) hC dX0_hide_114 (by rw [hnL]; decide) rfl ?_
  refine k_iload (pc := 116) hC dX0_hide_116 6 rfl ?_
  refine k_if_lt (pc := 118) (tgt := 130) hC dX0_hide_118 (by decide) hE (fun hE => ?_) (fun hE => ?_)
  · refine k_sub [2, 3, 4, 7, 8, 1, 0] rfl ?_
    exact w_S_hide_B130 hM hR F k48 hk48 _ _ _ _ _ _ _  hE
  · refine k_iload (pc := 121) hC dX0_hide_121 0 rfl ?_
    refine k_iload_n (pc := 123) hC dX0_hide_123 rfl 5 rfl ?_
    refine k_icmp_gt (pc := 124) (tgt := 130) hC dX0_hide_124 (by decide) hE (fun hE => ?_) (fun hE => ?_)
    · refine k_sub [2, 3, 4, 7, 8, 1, 0] rfl ?_
      exact w_S_hide_B130 hM hR F k48 hk48 _ _ _ _ _ _ _  hE
    · refine k_goto (pc := 127) (tgt := 137) hC dX0_hide_127 (by decide) ?_
      refine k_iincE (pc := 137) (k := 8) (d := 1) (lv' := fun x15 => [(6, .int x15), (8, .int r14.1), (7, .int s0), (0, .ref x), (1, .int a1), (2, .int a2), (3, .int a3), (4, .int a4), (5, .int a5)]) hC dX0_hide_137 rfl (by decide) (by rw [hnL]; decide) hE (fun _ => rfl) (fun x15 hE => ?_)
      refine k_goto (pc := 140) (tgt := 48) hC dX0_hide_140 (by decide) ?_
      refine k_sub [3, 4, 5, 6, 7, 8, 0] rfl ?_
      exact hk48 _ _ _ _ _ _ _  hE
set_option maxHeartbeats 4000000 in
theorem w_S_hide_B48 {X : Ctx} {D : Dd} {x tx : Nat} {Xp : Jr} {T : Th} {S : Ji} {Q : Ji} {out : Int32 × (Nat → Ji)} (hM : Sxx X cX0_hide D x 9 rmS_hide) (hR : Rt X (some .int) (SW D x tx S Q Xp out.2 T) (some (.int out.1)) 0 0) (F : Nat) (k48 : Int32 → Int32 → Int32 → Int32 → Int32 → Int32 → (Nat → Ji) → Option (Int32 × (Nat → Ji))) (hk48 : ∀ (a1 : Int32) (a2 : Int32) (a3 : Int32) (a4 : Int32) (a5 : Int32) (a6 : Int32) (V : Nat → Ji) , k48 a1 a2 a3 a4 a5 a6 V = some out → Wk X 0 0 (SW D x tx S Q Xp V T) 48 [(0, .ref x), (1, .int a1), (2, .int a2), (3, .int a3), (4, .int a4), (5, .int a5), (6, .int a6)] []) (a1 : Int32) (a2 : Int32) (a3 : Int32) (a4 : Int32) (a5 : Int32) (a6 : Int32) (V : Nat → Ji) (hE : S_hide_B48 F k48 T tx a1 a2 a3 a4 a5 a6 V = some out) : Wk X 0 0 (SW D x tx S Q Xp V T) 48 [(0, .ref x), (1, .int a1), (2, .int a2), (3, .int a3), (4, .int a4), (5, .int a5), (6, .int a6)] [] := by
  have hC := hM.1
  have hnL := hM.2.2.1
  have hrm := hM.2.2.2
  have hDy : ∀ {S Q : Ji} {V : Nat → Ji} (H : Heap), SW D x tx S Q Xp V T H → Dy D T H := fun _ h => h.2.2.2.1
  unfold S_hide_B48 at hE
  refine k_iload (pc := 48) hC dX0_hide_48 6 rfl ?_
  refine k_iload (pc := 50) hC dX0_hide_50 5 rfl ?_
  refine k_aload_n (pc := 52) hC dX0_hide_52 rfl 0 rfl ?_
  refine gS_35 (pc := 53) hM dX0_hide_53 ?_
  refine gD_X0_121_X4 (pc := 56) hC hDy dX0_hide_56 hE (fun x9 hE => ?_)
  refine k_nn (G := fun z => Wk X 0 0 (SW D x tx S Q Xp V T) 59 [(0, .ref x), (1, .int a1), (2, .int a2), (3, .int a3), (4, .int a4), (5, .int a5), (6, .int a6)] [z, .int a5, .int a6]) hE (fun b10 hE => ?_)
  refine t_callVI (pc := 59) (As := []) 19 (fun r => r) hC hDy cl_J5 (cw_L_size_X0 hC hrm (Nat.le_of_ble_eq_true rfl) (Nat.le_of_ble_eq_true rfl)) rfl rfl (Nat.le_of_ble_eq_true rfl) ⟨Nat.zero_le _, Nat.zero_le _⟩ dX0_hide_59 hE (fun r h => ct_L_size _ _ _ _ T hDy b10 r h) (fun r11 hE => ?_)
  refine k_iadd (pc := 62) hC dX0_hide_62 ?_
  refine k_icmp_ge (pc := 63) (tgt := 143) hC dX0_hide_63 (by decide) hE (fun hE => ?_) (fun hE => ?_)
  · refine k_iload_n (pc := 143) hC dX0_hide_143 rfl 2 rfl ?_
    refine k_if_ne (pc := 144) (tgt := 151) hC dX0_hide_144 (by decide) hE (fun hE => ?_) (fun hE => ?_)
    · refine k_iload_n (pc := 147) hC dX0_hide_147 rfl 3 rfl ?_
      refine k_goto (pc := 148) (tgt := 153) hC dX0_hide_148 (by decide) ?_
      exact k_iret (pc := 153) hC hR ⟨Nat.le_refl 0, Nat.le_refl 0⟩ dX0_hide_153 (by cases hE; rfl) (by cases hE; exact fun _ h => h)
    · refine k_iload (pc := 151) hC dX0_hide_151 4 rfl ?_
      exact k_iret (pc := 153) hC hR ⟨Nat.le_refl 0, Nat.le_refl 0⟩ dX0_hide_153 (by cases hE; rfl) (by cases hE; exact fun _ h => h)
  · refine k_iload (pc := 66) hC dX0_hide_66 6 rfl ?_
    refine k_iload (pc := 68) hC dX0_hide_68 5 rfl ?_
    refine k_icmp_ge (pc := 70) (tgt := 78) hC dX0_hide_70 (by decide) hE (fun hE => ?_) (fun hE => ?_)
    · refine k_bipush (pc := 78) (v := 100) hC dX0_hide_78 (by decide) ?_
      refine k_iload (pc := 80) hC dX0_hide_80 6 rfl ?_
      refine k_iadd (pc := 82) hC dX0_hide_82 ?_
      refine k_iload (pc := 83) hC dX0_hide_83 5 rfl ?_
      refine k_isub (pc := 85) hC dX0_hide_85 ?_
      exact w_S_hide_B86 hM hR F k48 hk48 _ _ _ _ _ _ _ _  hE
    · refine k_iload (pc := 73) hC dX0_hide_73 6 rfl ?_
      refine k_goto (pc := 75) (tgt := 86) hC dX0_hide_75 (by decide) ?_
      exact w_S_hide_B86 hM hR F k48 hk48 _ _ _ _ _ _ _ _  hE
theorem w_S_hide_L48 {X : Ctx} {D : Dd} {x tx : Nat} {Xp : Jr} {T : Th} {S : Ji} {Q : Ji} {out : Int32 × (Nat → Ji)} (hM : Sxx X cX0_hide D x 9 rmS_hide) (hR : Rt X (some .int) (SW D x tx S Q Xp out.2 T) (some (.int out.1)) 0 0) (F : Nat) (n : Nat) : ∀ (a1 : Int32) (a2 : Int32) (a3 : Int32) (a4 : Int32) (a5 : Int32) (a6 : Int32) (V : Nat → Ji) , S_hide_L48 F T tx n a1 a2 a3 a4 a5 a6 V = some out → Wk X 0 0 (SW D x tx S Q Xp V T) 48 [(0, .ref x), (1, .int a1), (2, .int a2), (3, .int a3), (4, .int a4), (5, .int a5), (6, .int a6)] [] := by
  induction n with
  | zero => intro a1 a2 a3 a4 a5 a6 V h; cases h
  | succ n ih => intro a1 a2 a3 a4 a5 a6 V h; exact w_S_hide_B48 hM hR F (S_hide_L48 F T tx n) ih a1 a2 a3 a4 a5 a6 V h
set_option maxHeartbeats 4000000 in
theorem w_S_hide {X : Ctx} {D : Dd} {x tx : Nat} {Xp : Jr} {T : Th} {S : Ji} {Q : Ji} {out : Int32 × (Nat → Ji)} (hM : Sxx X cX0_hide D x 9 rmS_hide) (hR : Rt X (some .int) (SW D x tx S Q Xp out.2 T) (some (.int out.1)) 0 0) (F : Nat) (a1 : Int32) (a2 : Int32) (V : Nat → Ji) (hE : S_hide F T tx a1 a2 V = some out) : Wk X 0 0 (SW D x tx S Q Xp V T) 0 [(0, .ref x), (1, .int a1), (2, .int a2)] [] := by
  have hC := hM.1
  have hnL := hM.2.2.1
  have hrm := hM.2.2.2
  have hDy : ∀ {S Q : Ji} {V : Nat → Ji} (H : Heap), SW D x tx S Q Xp V T H → Dy D T H := fun _ h => h.2.2.2.1
  unfold S_hide at hE
  refine k_iload_n (pc := 0) hC dX0_hide_0 rfl 1 rfl ?_
  refine k_aload_n (pc := 1) hC dX0_hide_1 rfl 0 rfl ?_
  refine gS_35 (pc := 2) hM dX0_hide_2 ?_
  refine gD_X0_206_X4 (pc := 5) hC hDy dX0_hide_5 hE (fun x1 hE => ?_)
  refine k_nn (G := fun z => Wk X 0 0 (SW D x tx S Q Xp V T) 8 [(0, .ref x), (1, .int a1), (2, .int a2)] [z, .int a1]) hE (fun b2 hE => ?_)
  refine t_callVI (pc := 8) (As := []) 19 (fun r => r) hC hDy cl_J5 (cw_L_size_X0 hC hrm (Nat.le_of_ble_eq_true rfl) (Nat.le_of_ble_eq_true rfl)) rfl rfl (Nat.le_of_ble_eq_true rfl) ⟨Nat.zero_le _, Nat.zero_le _⟩ dX0_hide_8 hE (fun r h => ct_L_size _ _ _ _ T hDy b2 r h) (fun r3 hE => ?_)
  refine m_callSI (pc := 11) (As := [.int a1, .int r3]) (fun r => r) hC (cw_S_isOne_X0 hC hrm (Nat.le_of_ble_eq_true rfl) (Nat.le_of_ble_eq_true rfl)) rfl rfl (Nat.le_of_ble_eq_true rfl) ⟨Nat.zero_le _, Nat.zero_le _⟩ dX0_hide_11 hE (fun r h => ct_S_isOne _ _ _ _ a1 r3 r h) (fun r4 hE => ?_)
  refine k_if_eq (pc := 14) (tgt := 26) hC dX0_hide_14 (by decide) hE (fun hE => ?_) (fun hE => ?_)
  · refine k_iconst (pc := 26) (v := (-1)) hC dX0_hide_26 (by decide) ?_
    exact k_iret (pc := 27) hC hR ⟨Nat.le_refl 0, Nat.le_refl 0⟩ dX0_hide_27 (by cases hE; rfl) (by cases hE; exact fun _ h => h)
  · refine k_iload_n (pc := 17) hC dX0_hide_17 rfl 2 rfl ?_
    refine k_iconst (pc := 18) (v := 0) hC dX0_hide_18 (by decide) ?_
    refine k_iconst (pc := 19) (v := 1) hC dX0_hide_19 (by decide) ?_
    refine m_callSI (pc := 20) (As := [.int a2, .int 0, .int 1]) (fun r => r) hC (cw_S_isIn_X0 hC hrm (Nat.le_of_ble_eq_true rfl) (Nat.le_of_ble_eq_true rfl)) rfl rfl (Nat.le_of_ble_eq_true rfl) ⟨Nat.zero_le _, Nat.zero_le _⟩ dX0_hide_20 hE (fun r h => ct_S_isIn _ _ _ _ a2 0 1 r h) (fun r5 hE => ?_)
    refine k_if_ne (pc := 23) (tgt := 28) hC dX0_hide_23 (by decide) hE (fun hE => ?_) (fun hE => ?_)
    · refine k_iconst (pc := 26) (v := (-1)) hC dX0_hide_26 (by decide) ?_
      exact k_iret (pc := 27) hC hR ⟨Nat.le_refl 0, Nat.le_refl 0⟩ dX0_hide_27 (by cases hE; rfl) (by cases hE; exact fun _ h => h)
    · refine k_iconst (pc := 28) (v := 0) hC dX0_hide_28 (by decide) ?_
      refine k_istore_n (pc := 29) (lv' := [(3, .int 0), (0, .ref x), (1, .int a1), (2, .int a2)]) hC dX0_hide_29 rfl (by rw [hnL]; decide) rfl ?_
      refine k_iconst (pc := 30) (v := (-1)) hC dX0_hide_30 (by decide) ?_
      refine k_istore (pc := 31) (lv' := [(4, .int ((-1))), (3, .int 0), (0, .ref x), (1, .int a1), (2, .int a2)]) hC dX0_hide_31 (by rw [hnL]; decide) rfl ?_
      refine k_aload_n (pc := 33) hC dX0_hide_33 rfl 2 rfl ?_
      refine gS_35 (pc := 34) hM dX0_hide_34 ?_
      refine gD_X0_124_X4 (pc := 37) hC hDy dX0_hide_37 hE (fun x6 hE => ?_)
      refine k_nn (G := fun z => Wk X 0 0 (SW D x tx S Q Xp V T) 40 [(4, .int ((-1))), (3, .int 0), (0, .ref x), (1, .int a1), (2, .int a2)] [z]) hE (fun b7 hE => ?_)
      refine t_callVI (pc := 40) (As := []) 19 (fun r => r) hC hDy cl_J5 (cw_L_size_X0 hC hrm (Nat.le_of_ble_eq_true rfl) (Nat.le_of_ble_eq_true rfl)) rfl rfl (Nat.le_of_ble_eq_true rfl) ⟨Nat.zero_le _, Nat.zero_le _⟩ dX0_hide_40 hE (fun r h => ct_L_size _ _ _ _ T hDy b7 r h) (fun r8 hE => ?_)
      refine k_istore (pc := 43) (lv' := [(5, .int r8), (4, .int ((-1))), (3, .int 0), (0, .ref x), (1, .int a1), (2, .int a2)]) hC dX0_hide_43 (by rw [hnL]; decide) rfl ?_
      refine k_iconst (pc := 45) (v := 0) hC dX0_hide_45 (by decide) ?_
      refine k_istore (pc := 46) (lv' := [(6, .int 0), (5, .int r8), (4, .int ((-1))), (3, .int 0), (0, .ref x), (1, .int a1), (2, .int a2)]) hC dX0_hide_46 (by rw [hnL]; decide) rfl ?_
      refine k_sub [4, 5, 6, 3, 2, 1, 0] rfl ?_
      exact w_S_hide_L48 hM hR F _ _ _ _ _ _ _ _  hE
theorem ct_S_hide (l : Launch) (D : Dd) (A : Nat → Prop) (x tx : Nat) (Xp : Jr) (T : Th) (hA : ∀ o, o < 847 → A (x + o)) (F : Nat) (a1 : Int32) (a2 : Int32) (S Q : Ji) (V : Nat → Ji) (out : Int32 × (Nat → Ji)) (hE : S_hide F T tx a1 a2 V = some out) : Ct l yX0_hide (ws_ yX0_hide cX0_hide 9 (some .int)) rmS_hide vwCl arTy D A [.ref x, .int a1, .int a2] (SW D x tx S Q Xp V T) (SW D x tx S Q Xp out.2 T) (some (.int out.1)) 0 0 := by
  refine Ct.of (by decide) (Nat.le_of_ble_eq_true rfl) rfl ?_
  intro X hl hrm hC hR hXA hnL _
  exact w_S_hide ⟨hC, by show ∀ o, o < 847 → cxA X (x + o); unfold cxA; rw [hXA]; exact hA, hnL, hrm⟩ hR F a1 a2 V hE
abbrev rmS_bars : Room := { frames := 507, cells := 0, slots := 0, locals := 12165 }
set_option maxHeartbeats 4000000 in
theorem w_S_bars_B92 {X : Ctx} {D : Dd} {x tx : Nat} {Xp : Jr} {T : Th} {S : Ji} {Q : Ji} {out : Int32 × (Nat → Ji)} (hM : Sxx X cX0_bars D x 6 rmS_bars) (hR : Rt X (some .int) (SW D x tx S Q Xp out.2 T) (some (.int out.1)) 0 0) (F : Nat) (k18 : Int32 → Int32 → Int32 → Int32 → (Nat → Ji) → Option (Int32 × (Nat → Ji))) (hk18 : ∀ (a1 : Int32) (a2 : Int32) (a3 : Int32) (a4 : Int32) (V : Nat → Ji) , k18 a1 a2 a3 a4 V = some out → Wk X 0 0 (SW D x tx S Q Xp V T) 18 [(0, .ref x), (1, .int a1), (2, .int a2), (3, .int a3), (4, .int a4)] []) (a1 : Int32) (a4 : Int32) (a5 : Int32) (V : Nat → Ji) (hE : S_bars_B92 F k18 T tx a1 a4 a5 V = some out) : Wk X 0 0 (SW D x tx S Q Xp V T) 92 [(0, .ref x), (1, .int a1), (4, .int a4), (5, .int a5)] [] := by
  have hC := hM.1
  have hnL := hM.2.2.1
  have hrm := hM.2.2.2
  have hDy : ∀ {S Q : Ji} {V : Nat → Ji} (H : Heap), SW D x tx S Q Xp V T H → Dy D T H := fun _ h => h.2.2.2.1
  unfold S_bars_B92 at hE
  refine k_iload (pc := 92) hC dX0_bars_92 3 rfl ?_
  refine k_istore_n (pc := 94) (lv' := [(2, .int a5), (0, .ref x), (1, .int a1), (4, .int a4), (5, .int a5)]) hC dX0_bars_94 rfl (by rw [hnL]; decide) rfl ?_
  refine k_iload (pc := 95) hC dX0_bars_95 3 rfl ?_
  refine k_istore_n (pc := 97) (lv' := [(3, .int a4), (2, .int a5), (0, .ref x), (1, .int a1), (4, .int a4), (5, .int a5)]) hC dX0_bars_97 rfl (by rw [hnL]; decide) rfl ?_
  refine k_iincE (pc := 98) (k := 4) (d := 1) (lv' := fun x12 => [(4, .int x12), (3, .int a4), (2, .int a5), (0, .ref x), (1, .int a1), (5, .int a5)]) hC dX0_bars_98 rfl (by decide) (by rw [hnL]; decide) hE (fun _ => rfl) (fun x12 hE => ?_)
  refine k_goto (pc := 101) (tgt := 18) hC dX0_bars_101 (by decide) ?_
  refine k_sub [3, 4, 2, 1, 0] rfl ?_
  exact hk18 _ _ _ _ _  hE
set_option maxHeartbeats 4000000 in
theorem w_S_bars_B18 {X : Ctx} {D : Dd} {x tx : Nat} {Xp : Jr} {T : Th} {S : Ji} {Q : Ji} {out : Int32 × (Nat → Ji)} (hM : Sxx X cX0_bars D x 6 rmS_bars) (hR : Rt X (some .int) (SW D x tx S Q Xp out.2 T) (some (.int out.1)) 0 0) (F : Nat) (k18 : Int32 → Int32 → Int32 → Int32 → (Nat → Ji) → Option (Int32 × (Nat → Ji))) (hk18 : ∀ (a1 : Int32) (a2 : Int32) (a3 : Int32) (a4 : Int32) (V : Nat → Ji) , k18 a1 a2 a3 a4 V = some out → Wk X 0 0 (SW D x tx S Q Xp V T) 18 [(0, .ref x), (1, .int a1), (2, .int a2), (3, .int a3), (4, .int a4)] []) (a1 : Int32) (a2 : Int32) (a3 : Int32) (a4 : Int32) (V : Nat → Ji) (hE : S_bars_B18 F k18 T tx a1 a2 a3 a4 V = some out) : Wk X 0 0 (SW D x tx S Q Xp V T) 18 [(0, .ref x), (1, .int a1), (2, .int a2), (3, .int a3), (4, .int a4)] [] := by
  have hC := hM.1
  have hnL := hM.2.2.1
  have hrm := hM.2.2.2
  have hDy : ∀ {S Q : Ji} {V : Nat → Ji} (H : Heap), SW D x tx S Q Xp V T H → Dy D T H := fun _ h => h.2.2.2.1
  unfold S_bars_B18 at hE
  refine k_iload (pc := 18) hC dX0_bars_18 4 rfl ?_
  refine k_iconst (pc := 20) (v := 1) hC dX0_bars_20 (by decide) ?_
  refine k_aload_n (pc := 21) hC dX0_bars_21 rfl 0 rfl ?_
  refine gS_35 (pc := 22) hM dX0_bars_22 ?_
  refine gD_X0_226_X4 (pc := 25) hC hDy dX0_bars_25 hE (fun x2 hE => ?_)
  refine k_nn (G := fun z => Wk X 0 0 (SW D x tx S Q Xp V T) 28 [(0, .ref x), (1, .int a1), (2, .int a2), (3, .int a3), (4, .int a4)] [z, .int 1, .int a4]) hE (fun b3 hE => ?_)
  refine t_callVI (pc := 28) (As := []) 19 (fun r => r) hC hDy cl_J5 (cw_L_size_X0 hC hrm (Nat.le_of_ble_eq_true rfl) (Nat.le_of_ble_eq_true rfl)) rfl rfl (Nat.le_of_ble_eq_true rfl) ⟨Nat.zero_le _, Nat.zero_le _⟩ dX0_bars_28 hE (fun r h => ct_L_size _ _ _ _ T hDy b3 r h) (fun r4 hE => ?_)
  refine k_ishl (pc := 31) hC dX0_bars_31 ?_
  refine k_icmp_ge (pc := 32) (tgt := 104) hC dX0_bars_32 (by decide) hE (fun hE => ?_) (fun hE => ?_)
  · refine k_iload_n (pc := 104) hC dX0_bars_104 rfl 1 rfl ?_
    refine k_if_ne (pc := 105) (tgt := 112) hC dX0_bars_105 (by decide) hE (fun hE => ?_) (fun hE => ?_)
    · refine k_iload_n (pc := 108) hC dX0_bars_108 rfl 2 rfl ?_
      refine k_goto (pc := 109) (tgt := 113) hC dX0_bars_109 (by decide) ?_
      exact k_iret (pc := 113) hC hR ⟨Nat.le_refl 0, Nat.le_refl 0⟩ dX0_bars_113 (by cases hE; rfl) (by cases hE; exact fun _ h => h)
    · refine k_iload_n (pc := 112) hC dX0_bars_112 rfl 3 rfl ?_
      exact k_iret (pc := 113) hC hR ⟨Nat.le_refl 0, Nat.le_refl 0⟩ dX0_bars_113 (by cases hE; rfl) (by cases hE; exact fun _ h => h)
  · refine k_aload_n (pc := 35) hC dX0_bars_35 rfl 0 rfl ?_
    refine gS_50 (pc := 36) hM dX0_bars_36 ?_
    refine k_aload_n (pc := 39) hC dX0_bars_39 rfl 0 rfl ?_
    refine gS_46 (pc := 40) hM dX0_bars_40 ?_
    refine s_takes (pc := 43) 1 0 (by decide) (by decide) (by decide) hM (Nat.le_of_ble_eq_true rfl) (Nat.le_of_ble_eq_true rfl) (Nat.le_of_ble_eq_true rfl) dX0_bars_43 ?_
    refine k_lt (G := fun Z => Wk X 0 0 (SW D x tx S Q Xp Z T) 46 [(0, .ref x), (1, .int a1), (2, .int a2), (3, .int a3), (4, .int a4)] []) hE (fun V5 hE => ?_)
    refine k_aload_n (pc := 46) hC dX0_bars_46 rfl 0 rfl ?_
    refine gS_50 (pc := 47) hM dX0_bars_47 ?_
    refine k_iload (pc := 50) hC dX0_bars_50 4 rfl ?_
    refine pSV_229 (pc := 52) (by decide) hM dX0_bars_52 hE (fun V6 hE => ?_)
    refine k_aload_n (pc := 55) hC dX0_bars_55 rfl 0 rfl ?_
    refine s_ownI (pc := 56) (As := []) (fun r => r.1) (fun r => S) (fun r => Q) (fun r => r.2) hM (cw_S_brings_X0 hC hrm (Nat.le_of_ble_eq_true rfl) (Nat.le_of_ble_eq_true rfl)) rfl rfl (Nat.le_of_ble_eq_true rfl) dX0_bars_56 hE (fun r h => ct_S_brings _ _ _ x tx Xp T hM.2.1 F S Q V6 r h) (fun r7 hE => ?_)
    refine k_istore (pc := 59) (lv' := [(5, .int r7.1), (0, .ref x), (1, .int a1), (2, .int a2), (3, .int a3), (4, .int a4)]) hC dX0_bars_59 (by rw [hnL]; decide) rfl ?_
    refine k_iload_n (pc := 61) hC dX0_bars_61 rfl 4 rfl ?_
    refine k_if_lt (pc := 62) (tgt := 92) hC dX0_bars_62 (by decide) hE (fun hE => ?_) (fun hE => ?_)
    · refine k_sub [1, 2, 5, 0] rfl ?_
      exact w_S_bars_B92 hM hR F k18 hk18 _ _ _ _  hE
    · refine k_iload (pc := 65) hC dX0_bars_65 0 rfl ?_
      refine k_iload_n (pc := 67) hC dX0_bars_67 rfl 3 rfl ?_
      refine k_icmp_lt (pc := 68) (tgt := 98) hC dX0_bars_68 (by decide) hE (fun hE => ?_) (fun hE => ?_)
      · refine k_iincE (pc := 98) (k := 5) (d := 1) (lv' := fun x8 => [(4, .int x8), (5, .int r7.1), (0, .ref x), (1, .int a1), (2, .int a2), (3, .int a3)]) hC dX0_bars_98 rfl (by decide) (by rw [hnL]; decide) hE (fun _ => rfl) (fun x8 hE => ?_)
        refine k_goto (pc := 101) (tgt := 18) hC dX0_bars_101 (by decide) ?_
        refine k_sub [2, 3, 4, 5, 0] rfl ?_
        exact hk18 _ _ _ _ _  hE
      · refine k_iload (pc := 71) hC dX0_bars_71 0 rfl ?_
        refine k_iload_n (pc := 73) hC dX0_bars_73 rfl 3 rfl ?_
        refine k_icmp_ne (pc := 74) (tgt := 92) hC dX0_bars_74 (by decide) hE (fun hE => ?_) (fun hE => ?_)
        · refine k_iload (pc := 77) hC dX0_bars_77 5 rfl ?_
          refine m_callSI (pc := 79) (As := [.int a4]) (fun r => r) hC (cw_J_bitCount_X0 hC hrm (Nat.le_of_ble_eq_true rfl) (Nat.le_of_ble_eq_true rfl)) rfl rfl (Nat.le_of_ble_eq_true rfl) ⟨Nat.zero_le _, Nat.zero_le _⟩ dX0_bars_79 hE (fun r h => ct_J_bitCount _ _ _ _ a4 r h) (fun r9 hE => ?_)
          refine k_iload_n (pc := 82) hC dX0_bars_82 rfl 4 rfl ?_
          refine m_callSI (pc := 83) (As := [.int a3]) (fun r => r) hC (cw_J_bitCount_X0 hC hrm (Nat.le_of_ble_eq_true rfl) (Nat.le_of_ble_eq_true rfl)) rfl rfl (Nat.le_of_ble_eq_true rfl) ⟨Nat.zero_le _, Nat.zero_le _⟩ dX0_bars_83 hE (fun r h => ct_J_bitCount _ _ _ _ a3 r h) (fun r10 hE => ?_)
          refine k_icmp_lt (pc := 86) (tgt := 92) hC dX0_bars_86 (by decide) hE (fun hE => ?_) (fun hE => ?_)
          · refine k_sub [1, 2, 5, 0] rfl ?_
            exact w_S_bars_B92 hM hR F k18 hk18 _ _ _ _  hE
          · refine k_goto (pc := 89) (tgt := 98) hC dX0_bars_89 (by decide) ?_
            refine k_iincE (pc := 98) (k := 5) (d := 1) (lv' := fun x11 => [(4, .int x11), (5, .int r7.1), (0, .ref x), (1, .int a1), (2, .int a2), (3, .int a3)]) hC dX0_bars_98 rfl (by decide) (by rw [hnL]; decide) hE (fun _ => rfl) (fun x11 hE => ?_)
            refine k_goto (pc := 101) (tgt := 18) hC dX0_bars_101 (by decide) ?_
            refine k_sub [2, 3, 4, 5, 0] rfl ?_
            exact hk18 _ _ _ _ _  hE
        · refine k_sub [1, 2, 5, 0] rfl ?_
          exact w_S_bars_B92 hM hR F k18 hk18 _ _ _ _  hE
theorem w_S_bars_L18 {X : Ctx} {D : Dd} {x tx : Nat} {Xp : Jr} {T : Th} {S : Ji} {Q : Ji} {out : Int32 × (Nat → Ji)} (hM : Sxx X cX0_bars D x 6 rmS_bars) (hR : Rt X (some .int) (SW D x tx S Q Xp out.2 T) (some (.int out.1)) 0 0) (F : Nat) (n : Nat) : ∀ (a1 : Int32) (a2 : Int32) (a3 : Int32) (a4 : Int32) (V : Nat → Ji) , S_bars_L18 F T tx n a1 a2 a3 a4 V = some out → Wk X 0 0 (SW D x tx S Q Xp V T) 18 [(0, .ref x), (1, .int a1), (2, .int a2), (3, .int a3), (4, .int a4)] [] := by
  induction n with
  | zero => intro a1 a2 a3 a4 V h; cases h
  | succ n ih => intro a1 a2 a3 a4 V h; exact w_S_bars_B18 hM hR F (S_bars_L18 F T tx n) ih a1 a2 a3 a4 V h
set_option maxHeartbeats 4000000 in
theorem w_S_bars {X : Ctx} {D : Dd} {x tx : Nat} {Xp : Jr} {T : Th} {S : Ji} {Q : Ji} {out : Int32 × (Nat → Ji)} (hM : Sxx X cX0_bars D x 6 rmS_bars) (hR : Rt X (some .int) (SW D x tx S Q Xp out.2 T) (some (.int out.1)) 0 0) (F : Nat) (a1 : Int32) (V : Nat → Ji) (hE : S_bars F T tx a1 V = some out) : Wk X 0 0 (SW D x tx S Q Xp V T) 0 [(0, .ref x), (1, .int a1)] [] := by
  have hC := hM.1
  have hnL := hM.2.2.1
  have hrm := hM.2.2.2
  have hDy : ∀ {S Q : Ji} {V : Nat → Ji} (H : Heap), SW D x tx S Q Xp V T H → Dy D T H := fun _ h => h.2.2.2.1
  unfold S_bars at hE
  refine k_iload_n (pc := 0) hC dX0_bars_0 rfl 1 rfl ?_
  refine k_iconst (pc := 1) (v := 0) hC dX0_bars_1 (by decide) ?_
  refine k_iconst (pc := 2) (v := 1) hC dX0_bars_2 (by decide) ?_
  refine m_callSI (pc := 3) (As := [.int a1, .int 0, .int 1]) (fun r => r) hC (cw_S_isIn_X0 hC hrm (Nat.le_of_ble_eq_true rfl) (Nat.le_of_ble_eq_true rfl)) rfl rfl (Nat.le_of_ble_eq_true rfl) ⟨Nat.zero_le _, Nat.zero_le _⟩ dX0_bars_3 hE (fun r h => ct_S_isIn _ _ _ _ a1 0 1 r h) (fun r1 hE => ?_)
  refine k_if_ne (pc := 6) (tgt := 11) hC dX0_bars_6 (by decide) hE (fun hE => ?_) (fun hE => ?_)
  · refine k_iconst (pc := 9) (v := (-1)) hC dX0_bars_9 (by decide) ?_
    exact k_iret (pc := 10) hC hR ⟨Nat.le_refl 0, Nat.le_refl 0⟩ dX0_bars_10 (by cases hE; rfl) (by cases hE; exact fun _ h => h)
  · refine k_iconst (pc := 11) (v := 0) hC dX0_bars_11 (by decide) ?_
    refine k_istore_n (pc := 12) (lv' := [(2, .int 0), (0, .ref x), (1, .int a1)]) hC dX0_bars_12 rfl (by rw [hnL]; decide) rfl ?_
    refine k_iconst (pc := 13) (v := (-1)) hC dX0_bars_13 (by decide) ?_
    refine k_istore_n (pc := 14) (lv' := [(3, .int ((-1))), (2, .int 0), (0, .ref x), (1, .int a1)]) hC dX0_bars_14 rfl (by rw [hnL]; decide) rfl ?_
    refine k_iconst (pc := 15) (v := 0) hC dX0_bars_15 (by decide) ?_
    refine k_istore (pc := 16) (lv' := [(4, .int 0), (3, .int ((-1))), (2, .int 0), (0, .ref x), (1, .int a1)]) hC dX0_bars_16 (by rw [hnL]; decide) rfl ?_
    refine k_sub [3, 4, 2, 1, 0] rfl ?_
    exact w_S_bars_L18 hM hR F _ _ _ _ _ _  hE
theorem ct_S_bars (l : Launch) (D : Dd) (A : Nat → Prop) (x tx : Nat) (Xp : Jr) (T : Th) (hA : ∀ o, o < 847 → A (x + o)) (F : Nat) (a1 : Int32) (S Q : Ji) (V : Nat → Ji) (out : Int32 × (Nat → Ji)) (hE : S_bars F T tx a1 V = some out) : Ct l yX0_bars (ws_ yX0_bars cX0_bars 6 (some .int)) rmS_bars vwCl arTy D A [.ref x, .int a1] (SW D x tx S Q Xp V T) (SW D x tx S Q Xp out.2 T) (some (.int out.1)) 0 0 := by
  refine Ct.of (by decide) (Nat.le_of_ble_eq_true rfl) rfl ?_
  intro X hl hrm hC hR hXA hnL _
  exact w_S_bars ⟨hC, by show ∀ o, o < 847 → cxA X (x + o); unfold cxA; rw [hXA]; exact hA, hnL, hrm⟩ hR F a1 V hE
abbrev rmS_isMinute : Room := { frames := 1, cells := 0, slots := 0, locals := 22 }
set_option maxHeartbeats 4000000 in
theorem w_S_isMinute {X : Ctx} {D : Dd} {x tx : Nat} {Xp : Jr} {T : Th} {S : Ji} {Q : Ji} {V : Nat → Ji} {out : Int32} (hM : Sxx X cX0_isMinute D x 2 rmS_isMinute) (hR : Rt X (some .boolean) (SW D x tx S Q Xp V T) (some (.int out)) 0 0) (a1 : Int32) (hE : S_isMinute T tx a1 = some out) : Wk X 0 0 (SW D x tx S Q Xp V T) 0 [(0, .ref x), (1, .int a1)] [] := by
  have hC := hM.1
  have hnL := hM.2.2.1
  have hrm := hM.2.2.2
  have hDy : ∀ {S Q : Ji} {V : Nat → Ji} (H : Heap), SW D x tx S Q Xp V T H → Dy D T H := fun _ h => h.2.2.2.1
  unfold S_isMinute at hE
  refine k_iload_n (pc := 0) hC dX0_isMinute_0 rfl 1 rfl ?_
  refine k_iconst (pc := 1) (v := 0) hC dX0_isMinute_1 (by decide) ?_
  refine k_aload_n (pc := 2) hC dX0_isMinute_2 rfl 0 rfl ?_
  refine gS_35 (pc := 3) hM dX0_isMinute_3 ?_
  refine gD_X0_287_X4 (pc := 6) hC hDy dX0_isMinute_6 hE (fun x1 hE => ?_)
  refine m_callSI (pc := 9) (As := [.int a1, .int 0, .int x1]) (fun r => r) hC (cw_S_isIn_X0 hC hrm (Nat.le_of_ble_eq_true rfl) (Nat.le_of_ble_eq_true rfl)) rfl rfl (Nat.le_of_ble_eq_true rfl) ⟨Nat.zero_le _, Nat.zero_le _⟩ dX0_isMinute_9 hE (fun r h => ct_S_isIn _ _ _ _ a1 0 x1 r h) (fun r2 hE => ?_)
  obtain ⟨r3, hz, hE⟩ := ob_ hE
  obtain ⟨hz1, hz⟩ := bz_some hz
  rw [hz1]
  exact k_zret (pc := 12) hz hC hR ⟨Nat.le_refl 0, Nat.le_refl 0⟩ dX0_isMinute_12 (by cases hE; rfl) (by cases hE; exact fun _ h => h)
theorem ct_S_isMinute (l : Launch) (D : Dd) (A : Nat → Prop) (x tx : Nat) (Xp : Jr) (T : Th) (hA : ∀ o, o < 847 → A (x + o)) (a1 : Int32) (S Q : Ji) (V : Nat → Ji) (out : Int32) (hE : S_isMinute T tx a1 = some out) : Ct l yX0_isMinute (ws_ yX0_isMinute cX0_isMinute 2 (some .boolean)) rmS_isMinute vwCl arTy D A [.ref x, .int a1] (SW D x tx S Q Xp V T) (SW D x tx S Q Xp V T) (some (.int out)) 0 0 := by
  refine Ct.of (by decide) (Nat.le_of_ble_eq_true rfl) rfl ?_
  intro X hl hrm hC hR hXA hnL _
  exact w_S_isMinute ⟨hC, by show ∀ o, o < 847 → cxA X (x + o); unfold cxA; rw [hXA]; exact hA, hnL, hrm⟩ hR a1 hE
theorem cw_S_isMinute_X0 {X : Ctx} {cc : ByteArray} {D : Dd} {rm : Room} (hC : Cx X cc RX0 vwCl arTy D) (hrm : X.2.2.2.1 = rm) (h1 : rmS_isMinute.frames + 1 ≤ rm.frames) (h2 : 8 + (2 + 11) + rmS_isMinute.locals ≤ rm.locals) : CallW X.2.2.2.1 X.2.2.2.2.1 X.2.2.2.2.2.2.1 RX0 RX0 289 yX0_isMinute cX0_isMinute 2 (some .boolean) (ws_ yX0_isMinute cX0_isMinute 2 (some .boolean)) rmS_isMinute 0 0 1 := cwV 1 (cx_w hC) (lw_V q1484 q1486 qs46 q114 q1487) rfl rfl rfl (by decide +kernel) (by rw [hrm]; exact ⟨h1, h2⟩)
abbrev rmS_where : Room := { frames := 4, cells := 0, slots := 0, locals := 89 }
set_option maxHeartbeats 4000000 in
theorem w_S_where {X : Ctx} {D : Dd} {x tx : Nat} {Xp : Jr} {T : Th} {S : Ji} {Q : Ji} {out : Int32 × (Nat → Ji)} (hM : Sxx X cX0_where D x 6 rmS_where) (hR : Rt X (some .int) (SW D x tx S Q Xp out.2 T) (some (.int out.1)) 0 0) (F : Nat) (a1 : Int32) (a2 : Int32) (V : Nat → Ji) (hE : S_where F T tx a1 a2 V = some out) : Wk X 0 0 (SW D x tx S Q Xp V T) 0 [(0, .ref x), (1, .int a1), (2, .int a2)] [] := by
  have hC := hM.1
  have hnL := hM.2.2.1
  have hrm := hM.2.2.2
  have hDy : ∀ {S Q : Ji} {V : Nat → Ji} (H : Heap), SW D x tx S Q Xp V T H → Dy D T H := fun _ h => h.2.2.2.1
  unfold S_where at hE
  refine k_aload_n (pc := 0) hC dX0_where_0 rfl 0 rfl ?_
  refine k_iload_n (pc := 1) hC dX0_where_1 rfl 1 rfl ?_
  refine s_ownI (pc := 2) (As := [.int a1]) (fun r => r) (fun r => S) (fun r => Q) (fun r => V) hM (cw_S_isMan_X0 hC hrm (Nat.le_of_ble_eq_true rfl) (Nat.le_of_ble_eq_true rfl)) rfl rfl (Nat.le_of_ble_eq_true rfl) dX0_where_2 hE (fun r h => ct_S_isMan _ _ _ x tx Xp T hM.2.1 a1 S Q V r h) (fun r1 hE => ?_)
  refine k_if_eq (pc := 5) (tgt := 16) hC dX0_where_5 (by decide) hE (fun hE => ?_) (fun hE => ?_)
  · refine k_iconst (pc := 16) (v := (-1)) hC dX0_where_16 (by decide) ?_
    exact k_iret (pc := 17) hC hR ⟨Nat.le_refl 0, Nat.le_refl 0⟩ dX0_where_17 (by cases hE; rfl) (by cases hE; exact fun _ h => h)
  · refine k_aload_n (pc := 8) hC dX0_where_8 rfl 0 rfl ?_
    refine k_iload_n (pc := 9) hC dX0_where_9 rfl 2 rfl ?_
    refine s_ownI (pc := 10) (As := [.int a2]) (fun r => r) (fun r => S) (fun r => Q) (fun r => V) hM (cw_S_isMinute_X0 hC hrm (Nat.le_of_ble_eq_true rfl) (Nat.le_of_ble_eq_true rfl)) rfl rfl (Nat.le_of_ble_eq_true rfl) dX0_where_10 hE (fun r h => ct_S_isMinute _ _ _ x tx Xp T hM.2.1 a2 S Q V r h) (fun r2 hE => ?_)
    refine k_if_ne (pc := 13) (tgt := 18) hC dX0_where_13 (by decide) hE (fun hE => ?_) (fun hE => ?_)
    · refine k_iconst (pc := 16) (v := (-1)) hC dX0_where_16 (by decide) ?_
      exact k_iret (pc := 17) hC hR ⟨Nat.le_refl 0, Nat.le_refl 0⟩ dX0_where_17 (by cases hE; rfl) (by cases hE; exact fun _ h => h)
    · refine k_aload_n (pc := 18) hC dX0_where_18 rfl 0 rfl ?_
      refine gS_35 (pc := 19) hM dX0_where_19 ?_
      refine gD_X0_121_X4 (pc := 22) hC hDy dX0_where_22 hE (fun x3 hE => ?_)
      refine k_iload_n (pc := 25) hC dX0_where_25 rfl 1 rfl ?_
      refine k_nn (G := fun z => Wk X 0 0 (SW D x tx S Q Xp V T) 26 [(0, .ref x), (1, .int a1), (2, .int a2)] [.int a1, z]) hE (fun b4 hE => ?_)
      refine t_callVR (pc := 26) (As := [.int a1]) 19 (fun r => r) hC hDy cl_J5 (cw_L_get_X0 hC hrm (Nat.le_of_ble_eq_true rfl) (Nat.le_of_ble_eq_true rfl)) rfl rfl (Nat.le_of_ble_eq_true rfl) ⟨Nat.zero_le _, Nat.zero_le _⟩ dX0_where_26 hE (fun r h => ct_L_get _ _ _ _ T hDy b4 a1 r h) (fun r5 hE => ?_)
      refine k_nn (G := fun z => Wk X 0 0 (SW D x tx S Q Xp V T) 29 [(0, .ref x), (1, .int a1), (2, .int a2)] [z]) hE (fun b6 hE => ?_)
      refine dy_castS (pc := 29) hC hDy cl_X15 q1299 dX0_where_29 hE (fun hE => ?_)
      refine gD_X0_188_X15 (pc := 32) hC hDy dX0_where_32 hE (fun x7 hE => ?_)
      refine k_istore_n (pc := 35) (lv' := [(3, .int x7), (0, .ref x), (1, .int a1), (2, .int a2)]) hC dX0_where_35 rfl (by rw [hnL]; decide) rfl ?_
      refine k_aload_n (pc := 36) hC dX0_where_36 rfl 1 rfl ?_
      refine gS_46 (pc := 37) hM dX0_where_37 ?_
      refine gSV_191 (pc := 40) (by decide) hM dX0_where_40 ?_
      refine k_iload_n (pc := 43) hC dX0_where_43 rfl 2 rfl ?_
      refine sV_iald (pc := 44) (by decide) 9 lv_9 hM dX0_where_44 hE (fun x8 hE => ?_)
      refine k_istore (pc := 45) (lv' := [(4, .int x8), (3, .int x7), (0, .ref x), (1, .int a1), (2, .int a2)]) hC dX0_where_45 (by rw [hnL]; decide) rfl ?_
      refine k_iload (pc := 47) hC dX0_where_47 0 rfl ?_
      refine k_if_ge (pc := 49) (tgt := 54) hC dX0_where_49 (by decide) hE (fun hE => ?_) (fun hE => ?_)
      · refine k_aload_n (pc := 54) hC dX0_where_54 rfl 2 rfl ?_
        refine gS_46 (pc := 55) hM dX0_where_55 ?_
        refine k_aload_n (pc := 58) hC dX0_where_58 rfl 2 rfl ?_
        refine gS_35 (pc := 59) hM dX0_where_59 ?_
        refine s_vcallV (pc := 62) (As := [.ref tx]) (by decide) (fun r => r) hM (cw_V_laysWays_X0 hC hrm (Nat.le_of_ble_eq_true rfl) (Nat.le_of_ble_eq_true rfl)) rfl rfl (Nat.le_of_ble_eq_true rfl) dX0_where_62 hE (fun r h => ct_V_laysWays _ _ _ _ T fpV_A F tx (V 0) r h) (fun r9 hE => ?_)
        refine k_aload_n (pc := 65) hC dX0_where_65 rfl 2 rfl ?_
        refine gS_35 (pc := 66) hM dX0_where_66 ?_
        refine gD_X0_107_X4 (pc := 69) hC hDy dX0_where_69 hE (fun x10 hE => ?_)
        refine k_iload (pc := 72) hC dX0_where_72 0 rfl ?_
        refine k_nn (G := fun z => Wk X 0 0 (SW D x tx S Q Xp (vf_upd V 0 r9) T) 74 [(4, .int x8), (3, .int x7), (0, .ref x), (1, .int a1), (2, .int a2)] [.int x8, z]) hE (fun b11 hE => ?_)
        refine t_callVR (pc := 74) (As := [.int x8]) 19 (fun r => r) hC hDy cl_J5 (cw_L_get_X0 hC hrm (Nat.le_of_ble_eq_true rfl) (Nat.le_of_ble_eq_true rfl)) rfl rfl (Nat.le_of_ble_eq_true rfl) ⟨Nat.zero_le _, Nat.zero_le _⟩ dX0_where_74 hE (fun r h => ct_L_get _ _ _ _ T hDy b11 x8 r h) (fun r12 hE => ?_)
        refine k_nn (G := fun z => Wk X 0 0 (SW D x tx S Q Xp (vf_upd V 0 r9) T) 77 [(4, .int x8), (3, .int x7), (0, .ref x), (1, .int a1), (2, .int a2)] [z]) hE (fun b13 hE => ?_)
        refine dy_castS (pc := 77) hC hDy cl_X13 q1269 dX0_where_77 hE (fun hE => ?_)
        refine gD_X0_140_X13 (pc := 80) hC hDy dX0_where_80 hE (fun x14 hE => ?_)
        refine k_istore (pc := 83) (lv' := [(5, .int x14), (4, .int x8), (3, .int x7), (0, .ref x), (1, .int a1), (2, .int a2)]) hC dX0_where_83 (by rw [hnL]; decide) rfl ?_
        refine k_iload_n (pc := 85) hC dX0_where_85 rfl 5 rfl ?_
        refine k_aload_n (pc := 86) hC dX0_where_86 rfl 3 rfl ?_
        refine gS_46 (pc := 87) hM dX0_where_87 ?_
        refine gSV_218 (pc := 90) (by decide) hM dX0_where_90 ?_
        refine k_iload_n (pc := 93) hC dX0_where_93 rfl 2 rfl ?_
        refine sV_aald (pc := 94) (by decide) 15 lv_15 (by simp [arTy]) rfl hM dX0_where_94 hE (fun q15 hq15 hE => ?_)
        refine k_iload (pc := 95) hC dX0_where_95 0 rfl ?_
        refine sV_iald (pc := 97) (by decide) (16 + q15) (lv_apart hq15) hM dX0_where_97 hE (fun x16 hE => ?_)
        refine k_icmp_lt (pc := 98) (tgt := 106) hC dX0_where_98 (by decide) hE (fun hE => ?_) (fun hE => ?_)
        · refine k_iload_n (pc := 106) hC dX0_where_106 rfl 2 rfl ?_
          exact k_iret (pc := 107) hC hR ⟨Nat.le_refl 0, Nat.le_refl 0⟩ dX0_where_107 (by cases hE; rfl) (by cases hE; exact fun _ h => h)
        · refine k_iload (pc := 101) hC dX0_where_101 0 rfl ?_
          refine k_goto (pc := 103) (tgt := 107) hC dX0_where_103 (by decide) ?_
          exact k_iret (pc := 107) hC hR ⟨Nat.le_refl 0, Nat.le_refl 0⟩ dX0_where_107 (by cases hE; rfl) (by cases hE; exact fun _ h => h)
      · refine k_iload_n (pc := 52) hC dX0_where_52 rfl 1 rfl ?_
        exact k_iret (pc := 53) hC hR ⟨Nat.le_refl 0, Nat.le_refl 0⟩ dX0_where_53 (by cases hE; rfl) (by cases hE; exact fun _ h => h)
theorem ct_S_where (l : Launch) (D : Dd) (A : Nat → Prop) (x tx : Nat) (Xp : Jr) (T : Th) (hA : ∀ o, o < 847 → A (x + o)) (F : Nat) (a1 : Int32) (a2 : Int32) (S Q : Ji) (V : Nat → Ji) (out : Int32 × (Nat → Ji)) (hE : S_where F T tx a1 a2 V = some out) : Ct l yX0_where (ws_ yX0_where cX0_where 6 (some .int)) rmS_where vwCl arTy D A [.ref x, .int a1, .int a2] (SW D x tx S Q Xp V T) (SW D x tx S Q Xp out.2 T) (some (.int out.1)) 0 0 := by
  refine Ct.of (by decide) (Nat.le_of_ble_eq_true rfl) rfl ?_
  intro X hl hrm hC hR hXA hnL _
  exact w_S_where ⟨hC, by show ∀ o, o < 847 → cxA X (x + o); unfold cxA; rw [hXA]; exact hA, hnL, hrm⟩ hR F a1 a2 V hE
abbrev rmS_strokes : Room := { frames := 505, cells := 0, slots := 0, locals := 12123 }
set_option maxHeartbeats 4000000 in
theorem w_S_strokes {X : Ctx} {D : Dd} {x tx : Nat} {Xp : Jr} {T : Th} {S : Ji} {Q : Ji} {out : Int32 × (Nat → Ji)} (hM : Sxx X cX0_strokes D x 3 rmS_strokes) (hR : Rt X (some .int) (SW D x tx S Q Xp out.2 T) (some (.int out.1)) 0 0) (F : Nat) (a1 : Int32) (a2 : Int32) (V : Nat → Ji) (hE : S_strokes F T tx a1 a2 V = some out) : Wk X 0 0 (SW D x tx S Q Xp V T) 0 [(0, .ref x), (1, .int a1), (2, .int a2)] [] := by
  have hC := hM.1
  have hnL := hM.2.2.1
  have hrm := hM.2.2.2
  have hDy : ∀ {S Q : Ji} {V : Nat → Ji} (H : Heap), SW D x tx S Q Xp V T H → Dy D T H := fun _ h => h.2.2.2.1
  unfold S_strokes at hE
  refine k_aload_n (pc := 0) hC dX0_strokes_0 rfl 0 rfl ?_
  refine k_iload_n (pc := 1) hC dX0_strokes_1 rfl 1 rfl ?_
  refine s_ownI (pc := 2) (As := [.int a1]) (fun r => r) (fun r => S) (fun r => Q) (fun r => V) hM (cw_S_isMan_X0 hC hrm (Nat.le_of_ble_eq_true rfl) (Nat.le_of_ble_eq_true rfl)) rfl rfl (Nat.le_of_ble_eq_true rfl) dX0_strokes_2 hE (fun r h => ct_S_isMan _ _ _ x tx Xp T hM.2.1 a1 S Q V r h) (fun r1 hE => ?_)
  refine k_if_eq (pc := 5) (tgt := 16) hC dX0_strokes_5 (by decide) hE (fun hE => ?_) (fun hE => ?_)
  · refine k_iconst (pc := 16) (v := (-1)) hC dX0_strokes_16 (by decide) ?_
    exact k_iret (pc := 17) hC hR ⟨Nat.le_refl 0, Nat.le_refl 0⟩ dX0_strokes_17 (by cases hE; rfl) (by cases hE; exact fun _ h => h)
  · refine k_aload_n (pc := 8) hC dX0_strokes_8 rfl 0 rfl ?_
    refine k_iload_n (pc := 9) hC dX0_strokes_9 rfl 2 rfl ?_
    refine s_ownI (pc := 10) (As := [.int a2]) (fun r => r) (fun r => S) (fun r => Q) (fun r => V) hM (cw_S_isMinute_X0 hC hrm (Nat.le_of_ble_eq_true rfl) (Nat.le_of_ble_eq_true rfl)) rfl rfl (Nat.le_of_ble_eq_true rfl) dX0_strokes_10 hE (fun r h => ct_S_isMinute _ _ _ x tx Xp T hM.2.1 a2 S Q V r h) (fun r2 hE => ?_)
    refine k_if_ne (pc := 13) (tgt := 18) hC dX0_strokes_13 (by decide) hE (fun hE => ?_) (fun hE => ?_)
    · refine k_iconst (pc := 16) (v := (-1)) hC dX0_strokes_16 (by decide) ?_
      exact k_iret (pc := 17) hC hR ⟨Nat.le_refl 0, Nat.le_refl 0⟩ dX0_strokes_17 (by cases hE; rfl) (by cases hE; exact fun _ h => h)
    · refine k_aload_n (pc := 18) hC dX0_strokes_18 rfl 0 rfl ?_
      refine gS_50 (pc := 19) hM dX0_strokes_19 ?_
      refine k_aload_n (pc := 22) hC dX0_strokes_22 rfl 0 rfl ?_
      refine gS_46 (pc := 23) hM dX0_strokes_23 ?_
      refine s_takes (pc := 26) 1 0 (by decide) (by decide) (by decide) hM (Nat.le_of_ble_eq_true rfl) (Nat.le_of_ble_eq_true rfl) (Nat.le_of_ble_eq_true rfl) dX0_strokes_26 ?_
      refine k_lt (G := fun Z => Wk X 0 0 (SW D x tx S Q Xp Z T) 29 [(0, .ref x), (1, .int a1), (2, .int a2)] []) hE (fun V3 hE => ?_)
      refine k_aload_n (pc := 29) hC dX0_strokes_29 rfl 0 rfl ?_
      refine gS_50 (pc := 30) hM dX0_strokes_30 ?_
      refine k_aload_n (pc := 33) hC dX0_strokes_33 rfl 0 rfl ?_
      refine gS_35 (pc := 34) hM dX0_strokes_34 ?_
      refine k_iload_n (pc := 37) hC dX0_strokes_37 rfl 2 rfl ?_
      refine s_vcallV (pc := 38) (As := [.ref tx, .int a2]) (by decide) (fun r => r) hM (cw_V_nightTill_X0 hC hrm (Nat.le_of_ble_eq_true rfl) (Nat.le_of_ble_eq_true rfl)) rfl rfl (Nat.le_of_ble_eq_true rfl) dX0_strokes_38 hE (fun r h => ct_V_nightTill _ _ _ _ T fpV_A F tx a2 (V3 1) r h) (fun r4 hE => ?_)
      refine k_aload_n (pc := 41) hC dX0_strokes_41 rfl 0 rfl ?_
      refine gS_50 (pc := 42) hM dX0_strokes_42 ?_
      refine gSV_197 (pc := 45) (by decide) hM dX0_strokes_45 ?_
      refine k_iload_n (pc := 48) hC dX0_strokes_48 rfl 1 rfl ?_
      refine sV_iald (pc := 49) (by decide) 12 lv_12 hM dX0_strokes_49 hE (fun x5 hE => ?_)
      exact k_iret (pc := 50) hC hR ⟨Nat.le_refl 0, Nat.le_refl 0⟩ dX0_strokes_50 (by cases hE; rfl) (by cases hE; exact fun _ h => h)
theorem ct_S_strokes (l : Launch) (D : Dd) (A : Nat → Prop) (x tx : Nat) (Xp : Jr) (T : Th) (hA : ∀ o, o < 847 → A (x + o)) (F : Nat) (a1 : Int32) (a2 : Int32) (S Q : Ji) (V : Nat → Ji) (out : Int32 × (Nat → Ji)) (hE : S_strokes F T tx a1 a2 V = some out) : Ct l yX0_strokes (ws_ yX0_strokes cX0_strokes 3 (some .int)) rmS_strokes vwCl arTy D A [.ref x, .int a1, .int a2] (SW D x tx S Q Xp V T) (SW D x tx S Q Xp out.2 T) (some (.int out.1)) 0 0 := by
  refine Ct.of (by decide) (Nat.le_of_ble_eq_true rfl) rfl ?_
  intro X hl hrm hC hR hXA hnL _
  exact w_S_strokes ⟨hC, by show ∀ o, o < 847 → cxA X (x + o); unfold cxA; rw [hXA]; exact hA, hnL, hrm⟩ hR F a1 a2 V hE
abbrev rmS_tell : Room := { frames := 4, cells := 0, slots := 0, locals := 86 }
set_option maxHeartbeats 4000000 in
theorem w_S_tell {X : Ctx} {D : Dd} {x tx : Nat} {Xp : Jr} {T : Th} {Q : Ji} {V : Nat → Ji} {out : Int32 × Ji} (hM : Sxx X cX0_tell D x 4 rmS_tell) (hR : Rt X (some .int) (SW D x tx out.2 Q Xp V T) (some (.int out.1)) 0 0) (a1 : Int32) (a2 : Int32) (a3 : Int32) (S : Ji) (hE : S_tell T tx a1 a2 a3 S = some out) : Wk X 0 0 (SW D x tx S Q Xp V T) 0 [(0, .ref x), (1, .int a1), (2, .int a2), (3, .int a3)] [] := by
  have hC := hM.1
  have hnL := hM.2.2.1
  have hrm := hM.2.2.2
  have hDy : ∀ {S Q : Ji} {V : Nat → Ji} (H : Heap), SW D x tx S Q Xp V T H → Dy D T H := fun _ h => h.2.2.2.1
  unfold S_tell at hE
  refine k_aload_n (pc := 0) hC dX0_tell_0 rfl 0 rfl ?_
  refine k_iload_n (pc := 1) hC dX0_tell_1 rfl 1 rfl ?_
  refine k_iload_n (pc := 2) hC dX0_tell_2 rfl 2 rfl ?_
  refine s_ownI (pc := 3) (As := [.int a1, .int a2]) (fun r => r) (fun r => S) (fun r => Q) (fun r => V) hM (cw_S_isStep_X0 hC hrm (Nat.le_of_ble_eq_true rfl) (Nat.le_of_ble_eq_true rfl)) rfl rfl (Nat.le_of_ble_eq_true rfl) dX0_tell_3 hE (fun r h => ct_S_isStep _ _ _ x tx Xp T hM.2.1 a1 a2 S Q V r h) (fun r1 hE => ?_)
  refine k_if_eq (pc := 6) (tgt := 29) hC dX0_tell_6 (by decide) hE (fun hE => ?_) (fun hE => ?_)
  · refine k_iconst (pc := 29) (v := (-1)) hC dX0_tell_29 (by decide) ?_
    exact k_iret (pc := 30) hC hR ⟨Nat.le_refl 0, Nat.le_refl 0⟩ dX0_tell_30 (by cases hE; rfl) (by cases hE; exact fun _ h => h)
  · refine k_iload_n (pc := 9) hC dX0_tell_9 rfl 3 rfl ?_
    refine k_iconst (pc := 10) (v := 0) hC dX0_tell_10 (by decide) ?_
    refine k_sipush (pc := 11) (v := 999) hC dX0_tell_11 (by decide) ?_
    refine m_callSI (pc := 14) (As := [.int a3, .int 0, .int 999]) (fun r => r) hC (cw_S_isIn_X0 hC hrm (Nat.le_of_ble_eq_true rfl) (Nat.le_of_ble_eq_true rfl)) rfl rfl (Nat.le_of_ble_eq_true rfl) ⟨Nat.zero_le _, Nat.zero_le _⟩ dX0_tell_14 hE (fun r h => ct_S_isIn _ _ _ _ a3 0 999 r h) (fun r2 hE => ?_)
    refine k_if_eq (pc := 17) (tgt := 29) hC dX0_tell_17 (by decide) hE (fun hE => ?_) (fun hE => ?_)
    · refine k_iconst (pc := 29) (v := (-1)) hC dX0_tell_29 (by decide) ?_
      exact k_iret (pc := 30) hC hR ⟨Nat.le_refl 0, Nat.le_refl 0⟩ dX0_tell_30 (by cases hE; rfl) (by cases hE; exact fun _ h => h)
    · refine k_aload_n (pc := 20) hC dX0_tell_20 rfl 0 rfl ?_
      refine gS_96 (pc := 21) hM dX0_tell_21 ?_
      refine k_bipush (pc := 24) (v := 30) hC dX0_tell_24 (by decide) ?_
      refine k_icmp_ne (pc := 26) (tgt := 31) hC dX0_tell_26 (by decide) hE (fun hE => ?_) (fun hE => ?_)
      · refine k_iconst (pc := 29) (v := (-1)) hC dX0_tell_29 (by decide) ?_
        exact k_iret (pc := 30) hC hR ⟨Nat.le_refl 0, Nat.le_refl 0⟩ dX0_tell_30 (by cases hE; rfl) (by cases hE; exact fun _ h => h)
      · refine k_aload_n (pc := 31) hC dX0_tell_31 rfl 0 rfl ?_
        refine gS_64 (pc := 32) hM dX0_tell_32 ?_
        refine k_aload_n (pc := 35) hC dX0_tell_35 rfl 0 rfl ?_
        refine gS_96 (pc := 36) hM dX0_tell_36 ?_
        refine k_iload_n (pc := 39) hC dX0_tell_39 rfl 1 rfl ?_
        refine sS_iast (pc := 40) 184 ls_184 hM dX0_tell_40 hE (fun S3 hE => ?_)
        refine k_aload_n (pc := 41) hC dX0_tell_41 rfl 0 rfl ?_
        refine gS_68 (pc := 42) hM dX0_tell_42 ?_
        refine k_aload_n (pc := 45) hC dX0_tell_45 rfl 0 rfl ?_
        refine gS_96 (pc := 46) hM dX0_tell_46 ?_
        refine k_iload_n (pc := 49) hC dX0_tell_49 rfl 2 rfl ?_
        refine sS_iast (pc := 50) 185 ls_185 hM dX0_tell_50 hE (fun S4 hE => ?_)
        refine k_aload_n (pc := 51) hC dX0_tell_51 rfl 0 rfl ?_
        refine gS_71 (pc := 52) hM dX0_tell_52 ?_
        refine k_aload_n (pc := 55) hC dX0_tell_55 rfl 0 rfl ?_
        refine gS_96 (pc := 56) hM dX0_tell_56 ?_
        refine k_iload_n (pc := 59) hC dX0_tell_59 rfl 3 rfl ?_
        refine sS_iast (pc := 60) 186 ls_186 hM dX0_tell_60 hE (fun S5 hE => ?_)
        refine k_aload_n (pc := 61) hC dX0_tell_61 rfl 0 rfl ?_
        refine k_dup (pc := 62) hC dX0_tell_62 rfl ?_
        refine gS_96 (pc := 63) hM dX0_tell_63 ?_
        refine k_iconst (pc := 66) (v := 1) hC dX0_tell_66 (by decide) ?_
        refine k_iadd (pc := 67) hC dX0_tell_67 ?_
        refine pS_96 (pc := 68) hM dX0_tell_68 hE (fun S6 hE => ?_)
        refine k_aload_n (pc := 71) hC dX0_tell_71 rfl 0 rfl ?_
        refine gS_96 (pc := 72) hM dX0_tell_72 ?_
        refine k_iconst (pc := 75) (v := 1) hC dX0_tell_75 (by decide) ?_
        refine k_isub (pc := 76) hC dX0_tell_76 ?_
        exact k_iret (pc := 77) hC hR ⟨Nat.le_refl 0, Nat.le_refl 0⟩ dX0_tell_77 (by cases hE; rfl) (by cases hE; exact fun _ h => h)
theorem ct_S_tell (l : Launch) (D : Dd) (A : Nat → Prop) (x tx : Nat) (Xp : Jr) (T : Th) (hA : ∀ o, o < 847 → A (x + o)) (a1 : Int32) (a2 : Int32) (a3 : Int32) (S Q : Ji) (V : Nat → Ji) (out : Int32 × Ji) (hE : S_tell T tx a1 a2 a3 S = some out) : Ct l yX0_tell (ws_ yX0_tell cX0_tell 4 (some .int)) rmS_tell vwCl arTy D A [.ref x, .int a1, .int a2, .int a3] (SW D x tx S Q Xp V T) (SW D x tx out.2 Q Xp V T) (some (.int out.1)) 0 0 := by
  refine Ct.of (by decide) (Nat.le_of_ble_eq_true rfl) rfl ?_
  intro X hl hrm hC hR hXA hnL _
  exact w_S_tell ⟨hC, by show ∀ o, o < 847 → cxA X (x + o); unfold cxA; rw [hXA]; exact hA, hnL, hrm⟩ hR a1 a2 a3 S hE
abbrev rmS_forget : Room := { frames := 0, cells := 0, slots := 0, locals := 0 }
set_option maxHeartbeats 4000000 in
theorem w_S_forget {X : Ctx} {D : Dd} {x tx : Nat} {Xp : Jr} {T : Th} {Q : Ji} {V : Nat → Ji} {out : Int32 × Ji} (hM : Sxx X cX0_forget D x 2 rmS_forget) (hR : Rt X (some .int) (SW D x tx out.2 Q Xp V T) (some (.int out.1)) 0 0) (S : Ji) (hE : S_forget T tx S = some out) : Wk X 0 0 (SW D x tx S Q Xp V T) 0 [(0, .ref x)] [] := by
  have hC := hM.1
  have hnL := hM.2.2.1
  have hrm := hM.2.2.2
  have hDy : ∀ {S Q : Ji} {V : Nat → Ji} (H : Heap), SW D x tx S Q Xp V T H → Dy D T H := fun _ h => h.2.2.2.1
  unfold S_forget at hE
  refine k_aload_n (pc := 0) hC dX0_forget_0 rfl 0 rfl ?_
  refine gS_96 (pc := 1) hM dX0_forget_1 ?_
  refine k_istoreE_n (pc := 4) (lv' := fun x1 => [(1, .int x1), (0, .ref x)]) hC dX0_forget_4 rfl (by rw [hnL]; decide) hE (fun _ => rfl) (fun x1 hE => ?_)
  refine k_aload_n (pc := 5) hC dX0_forget_5 rfl 1 rfl ?_
  refine k_iconst (pc := 6) (v := 0) hC dX0_forget_6 (by decide) ?_
  refine pS_96 (pc := 7) hM dX0_forget_7 hE (fun S2 hE => ?_)
  refine k_iload_n (pc := 10) hC dX0_forget_10 rfl 0 rfl ?_
  exact k_iret (pc := 11) hC hR ⟨Nat.le_refl 0, Nat.le_refl 0⟩ dX0_forget_11 (by cases hE; rfl) (by cases hE; exact fun _ h => h)
theorem ct_S_forget (l : Launch) (D : Dd) (A : Nat → Prop) (x tx : Nat) (Xp : Jr) (T : Th) (hA : ∀ o, o < 847 → A (x + o)) (S Q : Ji) (V : Nat → Ji) (out : Int32 × Ji) (hE : S_forget T tx S = some out) : Ct l yX0_forget (ws_ yX0_forget cX0_forget 2 (some .int)) rmS_forget vwCl arTy D A [.ref x] (SW D x tx S Q Xp V T) (SW D x tx out.2 Q Xp V T) (some (.int out.1)) 0 0 := by
  refine Ct.of (by decide) (Nat.le_of_ble_eq_true rfl) rfl ?_
  intro X hl hrm hC hR hXA hnL _
  exact w_S_forget ⟨hC, by show ∀ o, o < 847 → cxA X (x + o); unfold cxA; rw [hXA]; exact hA, hnL, hrm⟩ hR S hE
abbrev rmS_isKnown : Room := { frames := 1, cells := 0, slots := 0, locals := 22 }
set_option maxHeartbeats 4000000 in
theorem w_S_isKnown {X : Ctx} {D : Dd} {x tx : Nat} {Xp : Jr} {T : Th} {S : Ji} {Q : Ji} {V : Nat → Ji} {out : Int32} (hM : Sxx X cX0_isKnown D x 2 rmS_isKnown) (hR : Rt X (some .boolean) (SW D x tx S Q Xp V T) (some (.int out)) 0 0) (a1 : Int32) (hE : S_isKnown T tx S a1 = some out) : Wk X 0 0 (SW D x tx S Q Xp V T) 0 [(0, .ref x), (1, .int a1)] [] := by
  have hC := hM.1
  have hnL := hM.2.2.1
  have hrm := hM.2.2.2
  have hDy : ∀ {S Q : Ji} {V : Nat → Ji} (H : Heap), SW D x tx S Q Xp V T H → Dy D T H := fun _ h => h.2.2.2.1
  unfold S_isKnown at hE
  refine k_iload_n (pc := 0) hC dX0_isKnown_0 rfl 1 rfl ?_
  refine k_iconst (pc := 1) (v := 0) hC dX0_isKnown_1 (by decide) ?_
  refine k_aload_n (pc := 2) hC dX0_isKnown_2 rfl 0 rfl ?_
  refine gS_96 (pc := 3) hM dX0_isKnown_3 ?_
  refine m_callSI (pc := 6) (As := [.int a1, .int 0, .int (S 0 15)]) (fun r => r) hC (cw_S_isIn_X0 hC hrm (Nat.le_of_ble_eq_true rfl) (Nat.le_of_ble_eq_true rfl)) rfl rfl (Nat.le_of_ble_eq_true rfl) ⟨Nat.zero_le _, Nat.zero_le _⟩ dX0_isKnown_6 hE (fun r h => ct_S_isIn _ _ _ _ a1 0 (S 0 15) r h) (fun r1 hE => ?_)
  obtain ⟨r2, hz, hE⟩ := ob_ hE
  obtain ⟨hz1, hz⟩ := bz_some hz
  rw [hz1]
  exact k_zret (pc := 9) hz hC hR ⟨Nat.le_refl 0, Nat.le_refl 0⟩ dX0_isKnown_9 (by cases hE; rfl) (by cases hE; exact fun _ h => h)
theorem ct_S_isKnown (l : Launch) (D : Dd) (A : Nat → Prop) (x tx : Nat) (Xp : Jr) (T : Th) (hA : ∀ o, o < 847 → A (x + o)) (a1 : Int32) (S Q : Ji) (V : Nat → Ji) (out : Int32) (hE : S_isKnown T tx S a1 = some out) : Ct l yX0_isKnown (ws_ yX0_isKnown cX0_isKnown 2 (some .boolean)) rmS_isKnown vwCl arTy D A [.ref x, .int a1] (SW D x tx S Q Xp V T) (SW D x tx S Q Xp V T) (some (.int out)) 0 0 := by
  refine Ct.of (by decide) (Nat.le_of_ble_eq_true rfl) rfl ?_
  intro X hl hrm hC hR hXA hnL _
  exact w_S_isKnown ⟨hC, by show ∀ o, o < 847 → cxA X (x + o); unfold cxA; rw [hXA]; exact hA, hnL, hrm⟩ hR a1 hE
theorem cw_S_isKnown_X0 {X : Ctx} {cc : ByteArray} {D : Dd} {rm : Room} (hC : Cx X cc RX0 vwCl arTy D) (hrm : X.2.2.2.1 = rm) (h1 : rmS_isKnown.frames + 1 ≤ rm.frames) (h2 : 8 + (2 + 11) + rmS_isKnown.locals ≤ rm.locals) : CallW X.2.2.2.1 X.2.2.2.2.1 X.2.2.2.2.2.2.1 RX0 RX0 299 yX0_isKnown cX0_isKnown 2 (some .boolean) (ws_ yX0_isKnown cX0_isKnown 2 (some .boolean)) rmS_isKnown 0 0 1 := cwV 1 (cx_w hC) (lw_V q1505 q1507 qs47 q114 q1508) rfl rfl rfl (by decide +kernel) (by rw [hrm]; exact ⟨h1, h2⟩)
abbrev rmS_isSo : Room := { frames := 506, cells := 0, slots := 0, locals := 12144 }
set_option maxHeartbeats 4000000 in
theorem w_S_isSo_B13 {X : Ctx} {D : Dd} {x tx : Nat} {Xp : Jr} {T : Th} {S : Ji} {Q : Ji} {out : Int32 × (Nat → Ji)} (hM : Sxx X cX0_isSo D x 3 rmS_isSo) (hR : Rt X (some .boolean) (SW D x tx S Q Xp out.2 T) (some (.int out.1)) 0 0) (F : Nat) (k13 : Int32 → Int32 → (Nat → Ji) → Option (Int32 × (Nat → Ji))) (hk13 : ∀ (a1 : Int32) (a2 : Int32) (V : Nat → Ji) , k13 a1 a2 V = some out → Wk X 0 0 (SW D x tx S Q Xp V T) 13 [(0, .ref x), (1, .int a1), (2, .int a2)] []) (a1 : Int32) (a2 : Int32) (V : Nat → Ji) (hE : S_isSo_B13 F k13 T tx S a1 a2 V = some out) : Wk X 0 0 (SW D x tx S Q Xp V T) 13 [(0, .ref x), (1, .int a1), (2, .int a2)] [] := by
  have hC := hM.1
  have hnL := hM.2.2.1
  have hrm := hM.2.2.2
  have hDy : ∀ {S Q : Ji} {V : Nat → Ji} (H : Heap), SW D x tx S Q Xp V T H → Dy D T H := fun _ h => h.2.2.2.1
  unfold S_isSo_B13 at hE
  refine k_iload_n (pc := 13) hC dX0_isSo_13 rfl 2 rfl ?_
  refine k_iload_n (pc := 14) hC dX0_isSo_14 rfl 1 rfl ?_
  refine k_icmp_ge (pc := 15) (tgt := 56) hC dX0_isSo_15 (by decide) hE (fun hE => ?_) (fun hE => ?_)
  · refine k_iconst (pc := 56) (v := 1) hC dX0_isSo_56 (by decide) ?_
    exact k_zret (pc := 57) (by decide) hC hR ⟨Nat.le_refl 0, Nat.le_refl 0⟩ dX0_isSo_57 (by cases hE; rfl) (by cases hE; exact fun _ h => h)
  · refine k_aload_n (pc := 18) hC dX0_isSo_18 rfl 0 rfl ?_
    refine gS_50 (pc := 19) hM dX0_isSo_19 ?_
    refine gSV_161 (pc := 22) (by decide) hM dX0_isSo_22 ?_
    refine k_aload_n (pc := 25) hC dX0_isSo_25 rfl 0 rfl ?_
    refine gS_64 (pc := 26) hM dX0_isSo_26 ?_
    refine k_iload_n (pc := 29) hC dX0_isSo_29 rfl 2 rfl ?_
    refine sS_iald (pc := 30) 184 ls_184 hM dX0_isSo_30 hE (fun x2 hE => ?_)
    refine sV_aald (pc := 31) (by decide) 1 lv_1 (by simp [arTy]) rfl hM dX0_isSo_31 hE (fun q3 hq3 hE => ?_)
    refine k_aload_n (pc := 32) hC dX0_isSo_32 rfl 0 rfl ?_
    refine gS_68 (pc := 33) hM dX0_isSo_33 ?_
    refine k_iload_n (pc := 36) hC dX0_isSo_36 rfl 2 rfl ?_
    refine sS_iald (pc := 37) 185 ls_185 hM dX0_isSo_37 hE (fun x4 hE => ?_)
    refine sV_iald (pc := 38) (by decide) (2 + q3) (lv_done hq3) hM dX0_isSo_38 hE (fun x5 hE => ?_)
    refine k_aload_n (pc := 39) hC dX0_isSo_39 rfl 0 rfl ?_
    refine gS_71 (pc := 40) hM dX0_isSo_40 ?_
    refine k_iload_n (pc := 43) hC dX0_isSo_43 rfl 2 rfl ?_
    refine sS_iald (pc := 44) 186 ls_186 hM dX0_isSo_44 hE (fun x6 hE => ?_)
    refine k_icmp_eq (pc := 45) (tgt := 50) hC dX0_isSo_45 (by decide) hE (fun hE => ?_) (fun hE => ?_)
    · refine k_iincE (pc := 50) (k := 2) (d := 1) (lv' := fun x7 => [(2, .int x7), (0, .ref x), (1, .int a1)]) hC dX0_isSo_50 rfl (by decide) (by rw [hnL]; decide) hE (fun _ => rfl) (fun x7 hE => ?_)
      refine k_goto (pc := 53) (tgt := 13) hC dX0_isSo_53 (by decide) ?_
      refine k_sub [1, 2, 0] rfl ?_
      exact hk13 _ _ _  hE
    · refine k_iconst (pc := 48) (v := 0) hC dX0_isSo_48 (by decide) ?_
      exact k_zret (pc := 49) (by decide) hC hR ⟨Nat.le_refl 0, Nat.le_refl 0⟩ dX0_isSo_49 (by cases hE; rfl) (by cases hE; exact fun _ h => h)
theorem w_S_isSo_L13 {X : Ctx} {D : Dd} {x tx : Nat} {Xp : Jr} {T : Th} {S : Ji} {Q : Ji} {out : Int32 × (Nat → Ji)} (hM : Sxx X cX0_isSo D x 3 rmS_isSo) (hR : Rt X (some .boolean) (SW D x tx S Q Xp out.2 T) (some (.int out.1)) 0 0) (F : Nat) (n : Nat) : ∀ (a1 : Int32) (a2 : Int32) (V : Nat → Ji) , S_isSo_L13 F T tx S n a1 a2 V = some out → Wk X 0 0 (SW D x tx S Q Xp V T) 13 [(0, .ref x), (1, .int a1), (2, .int a2)] [] := by
  induction n with
  | zero => intro a1 a2 V h; cases h
  | succ n ih => intro a1 a2 V h; exact w_S_isSo_B13 hM hR F (S_isSo_L13 F T tx S n) ih a1 a2 V h
set_option maxHeartbeats 4000000 in
theorem w_S_isSo {X : Ctx} {D : Dd} {x tx : Nat} {Xp : Jr} {T : Th} {S : Ji} {Q : Ji} {out : Int32 × (Nat → Ji)} (hM : Sxx X cX0_isSo D x 3 rmS_isSo) (hR : Rt X (some .boolean) (SW D x tx S Q Xp out.2 T) (some (.int out.1)) 0 0) (F : Nat) (a1 : Int32) (V : Nat → Ji) (hE : S_isSo F T tx S a1 V = some out) : Wk X 0 0 (SW D x tx S Q Xp V T) 0 [(0, .ref x), (1, .int a1)] [] := by
  have hC := hM.1
  have hnL := hM.2.2.1
  have hrm := hM.2.2.2
  have hDy : ∀ {S Q : Ji} {V : Nat → Ji} (H : Heap), SW D x tx S Q Xp V T H → Dy D T H := fun _ h => h.2.2.2.1
  unfold S_isSo at hE
  refine k_aload_n (pc := 0) hC dX0_isSo_0 rfl 0 rfl ?_
  refine gS_50 (pc := 1) hM dX0_isSo_1 ?_
  refine k_aload_n (pc := 4) hC dX0_isSo_4 rfl 0 rfl ?_
  refine gS_35 (pc := 5) hM dX0_isSo_5 ?_
  refine s_vcallV (pc := 8) (As := [.ref tx]) (by decide) (fun r => r) hM (cw_V_night_X0 hC hrm (Nat.le_of_ble_eq_true rfl) (Nat.le_of_ble_eq_true rfl)) rfl rfl (Nat.le_of_ble_eq_true rfl) dX0_isSo_8 hE (fun r h => ct_V_night _ _ _ _ T fpV_A F tx (V 1) r h) (fun r1 hE => ?_)
  refine k_iconst (pc := 11) (v := 0) hC dX0_isSo_11 (by decide) ?_
  refine k_istore_n (pc := 12) (lv' := [(2, .int 0), (0, .ref x), (1, .int a1)]) hC dX0_isSo_12 rfl (by rw [hnL]; decide) rfl ?_
  refine k_sub [1, 2, 0] rfl ?_
  exact w_S_isSo_L13 hM hR F _ _ _ _  hE
theorem ct_S_isSo (l : Launch) (D : Dd) (A : Nat → Prop) (x tx : Nat) (Xp : Jr) (T : Th) (hA : ∀ o, o < 847 → A (x + o)) (F : Nat) (a1 : Int32) (S Q : Ji) (V : Nat → Ji) (out : Int32 × (Nat → Ji)) (hE : S_isSo F T tx S a1 V = some out) : Ct l yX0_isSo (ws_ yX0_isSo cX0_isSo 3 (some .boolean)) rmS_isSo vwCl arTy D A [.ref x, .int a1] (SW D x tx S Q Xp V T) (SW D x tx S Q Xp out.2 T) (some (.int out.1)) 0 0 := by
  refine Ct.of (by decide) (Nat.le_of_ble_eq_true rfl) rfl ?_
  intro X hl hrm hC hR hXA hnL _
  exact w_S_isSo ⟨hC, by show ∀ o, o < 847 → cxA X (x + o); unfold cxA; rw [hXA]; exact hA, hnL, hrm⟩ hR F a1 V hE
theorem cw_S_isSo_X0 {X : Ctx} {cc : ByteArray} {D : Dd} {rm : Room} (hC : Cx X cc RX0 vwCl arTy D) (hrm : X.2.2.2.1 = rm) (h1 : rmS_isSo.frames + 1 ≤ rm.frames) (h2 : 8 + (3 + 11) + rmS_isSo.locals ≤ rm.locals) : CallW X.2.2.2.1 X.2.2.2.2.1 X.2.2.2.2.2.2.1 RX0 RX0 296 yX0_isSo cX0_isSo 3 (some .boolean) (ws_ yX0_isSo cX0_isSo 3 (some .boolean)) rmS_isSo 0 0 1 := cwV 1 (cx_w hC) (lw_V q1513 q1515 qs49 q114 q1516) rfl rfl rfl (by decide +kernel) (by rw [hrm]; exact ⟨h1, h2⟩)
abbrev rmS_isFit : Room := { frames := 507, cells := 0, slots := 0, locals := 12166 }
set_option maxHeartbeats 4000000 in
theorem w_S_isFit {X : Ctx} {D : Dd} {x tx : Nat} {Xp : Jr} {T : Th} {S : Ji} {Q : Ji} {out : Int32 × (Nat → Ji)} (hM : Sxx X cX0_isFit D x 4 rmS_isFit) (hR : Rt X (some .boolean) (SW D x tx S Q Xp out.2 T) (some (.int out.1)) 0 0) (F : Nat) (a1 : Int32) (a2 : Int32) (a3 : Int32) (V : Nat → Ji) (hE : S_isFit F T tx S a1 a2 a3 V = some out) : Wk X 0 0 (SW D x tx S Q Xp V T) 0 [(0, .ref x), (1, .int a1), (2, .int a2), (3, .int a3)] [] := by
  have hC := hM.1
  have hnL := hM.2.2.1
  have hrm := hM.2.2.2
  have hDy : ∀ {S Q : Ji} {V : Nat → Ji} (H : Heap), SW D x tx S Q Xp V T H → Dy D T H := fun _ h => h.2.2.2.1
  unfold S_isFit at hE
  refine k_aload_n (pc := 0) hC dX0_isFit_0 rfl 0 rfl ?_
  refine gS_50 (pc := 1) hM dX0_isFit_1 ?_
  refine k_aload_n (pc := 4) hC dX0_isFit_4 rfl 0 rfl ?_
  refine gS_46 (pc := 5) hM dX0_isFit_5 ?_
  refine s_takes (pc := 8) 1 0 (by decide) (by decide) (by decide) hM (Nat.le_of_ble_eq_true rfl) (Nat.le_of_ble_eq_true rfl) (Nat.le_of_ble_eq_true rfl) dX0_isFit_8 ?_
  refine k_lt (G := fun Z => Wk X 0 0 (SW D x tx S Q Xp Z T) 11 [(0, .ref x), (1, .int a1), (2, .int a2), (3, .int a3)] []) hE (fun V1 hE => ?_)
  refine k_aload_n (pc := 11) hC dX0_isFit_11 rfl 0 rfl ?_
  refine k_iload_n (pc := 12) hC dX0_isFit_12 rfl 1 rfl ?_
  refine k_iload_n (pc := 13) hC dX0_isFit_13 rfl 2 rfl ?_
  refine s_ownV (pc := 14) (As := [.int a1, .int a2]) (fun r => S) (fun r => Q) (fun r => r) hM (cw_S_leavesThen_X0 hC hrm (Nat.le_of_ble_eq_true rfl) (Nat.le_of_ble_eq_true rfl)) rfl rfl (Nat.le_of_ble_eq_true rfl) dX0_isFit_14 hE (fun r h => ct_S_leavesThen _ _ _ x tx Xp T hM.2.1 a1 a2 S Q V1 r h) (fun r2 hE => ?_)
  refine k_aload_n (pc := 17) hC dX0_isFit_17 rfl 0 rfl ?_
  refine k_iload_n (pc := 18) hC dX0_isFit_18 rfl 3 rfl ?_
  refine s_ownI (pc := 19) (As := [.int a3]) (fun r => r.1) (fun r => S) (fun r => Q) (fun r => r.2) hM (cw_S_isSo_X0 hC hrm (Nat.le_of_ble_eq_true rfl) (Nat.le_of_ble_eq_true rfl)) rfl rfl (Nat.le_of_ble_eq_true rfl) dX0_isFit_19 hE (fun r h => ct_S_isSo _ _ _ x tx Xp T hM.2.1 F a3 S Q r2 r h) (fun r3 hE => ?_)
  obtain ⟨r4, hz, hE⟩ := ob_ hE
  obtain ⟨hz1, hz⟩ := bz_some hz
  rw [hz1]
  exact k_zret (pc := 22) hz hC hR ⟨Nat.le_refl 0, Nat.le_refl 0⟩ dX0_isFit_22 (by cases hE; rfl) (by cases hE; exact fun _ h => h)
theorem ct_S_isFit (l : Launch) (D : Dd) (A : Nat → Prop) (x tx : Nat) (Xp : Jr) (T : Th) (hA : ∀ o, o < 847 → A (x + o)) (F : Nat) (a1 : Int32) (a2 : Int32) (a3 : Int32) (S Q : Ji) (V : Nat → Ji) (out : Int32 × (Nat → Ji)) (hE : S_isFit F T tx S a1 a2 a3 V = some out) : Ct l yX0_isFit (ws_ yX0_isFit cX0_isFit 4 (some .boolean)) rmS_isFit vwCl arTy D A [.ref x, .int a1, .int a2, .int a3] (SW D x tx S Q Xp V T) (SW D x tx S Q Xp out.2 T) (some (.int out.1)) 0 0 := by
  refine Ct.of (by decide) (Nat.le_of_ble_eq_true rfl) rfl ?_
  intro X hl hrm hC hR hXA hnL _
  exact w_S_isFit ⟨hC, by show ∀ o, o < 847 → cxA X (x + o); unfold cxA; rw [hXA]; exact hA, hnL, hrm⟩ hR F a1 a2 a3 V hE
theorem cw_S_isFit_X0 {X : Ctx} {cc : ByteArray} {D : Dd} {rm : Room} (hC : Cx X cc RX0 vwCl arTy D) (hrm : X.2.2.2.1 = rm) (h1 : rmS_isFit.frames + 1 ≤ rm.frames) (h2 : 8 + (4 + 11) + rmS_isFit.locals ≤ rm.locals) : CallW X.2.2.2.1 X.2.2.2.2.1 X.2.2.2.2.2.2.1 RX0 RX0 302 yX0_isFit cX0_isFit 4 (some .boolean) (ws_ yX0_isFit cX0_isFit 4 (some .boolean)) rmS_isFit 0 0 3 := cwV 3 (cx_w hC) (lw_V q1509 q1511 qs48 q114 q1512) rfl rfl rfl (by decide +kernel) (by rw [hrm]; exact ⟨h1, h2⟩)
abbrev rmS_fits : Room := { frames := 508, cells := 0, slots := 0, locals := 12189 }
set_option maxHeartbeats 4000000 in
theorem w_S_fits_B29 {X : Ctx} {D : Dd} {x tx : Nat} {Xp : Jr} {T : Th} {S : Ji} {Q : Ji} {out : Int32 × (Nat → Ji)} (hM : Sxx X cX0_fits D x 6 rmS_fits) (hR : Rt X (some .int) (SW D x tx S Q Xp out.2 T) (some (.int out.1)) 0 0) (F : Nat) (k29 : Int32 → Int32 → Int32 → Int32 → Int32 → (Nat → Ji) → Option (Int32 × (Nat → Ji))) (hk29 : ∀ (a1 : Int32) (a2 : Int32) (a3 : Int32) (a4 : Int32) (a5 : Int32) (V : Nat → Ji) , k29 a1 a2 a3 a4 a5 V = some out → Wk X 0 0 (SW D x tx S Q Xp V T) 29 [(0, .ref x), (1, .int a1), (2, .int a2), (3, .int a3), (4, .int a4), (5, .int a5)] []) (a1 : Int32) (a2 : Int32) (a3 : Int32) (a4 : Int32) (a5 : Int32) (V : Nat → Ji) (hE : S_fits_B29 F k29 T tx S a1 a2 a3 a4 a5 V = some out) : Wk X 0 0 (SW D x tx S Q Xp V T) 29 [(0, .ref x), (1, .int a1), (2, .int a2), (3, .int a3), (4, .int a4), (5, .int a5)] [] := by
  have hC := hM.1
  have hnL := hM.2.2.1
  have hrm := hM.2.2.2
  have hDy : ∀ {S Q : Ji} {V : Nat → Ji} (H : Heap), SW D x tx S Q Xp V T H → Dy D T H := fun _ h => h.2.2.2.1
  unfold S_fits_B29 at hE
  refine k_iload (pc := 29) hC dX0_fits_29 5 rfl ?_
  refine k_aload_n (pc := 31) hC dX0_fits_31 rfl 0 rfl ?_
  refine s_ownI (pc := 32) (As := []) (fun r => r) (fun r => S) (fun r => Q) (fun r => V) hM (cw_S_choices_X0 hC hrm (Nat.le_of_ble_eq_true rfl) (Nat.le_of_ble_eq_true rfl)) rfl rfl (Nat.le_of_ble_eq_true rfl) dX0_fits_32 hE (fun r h => ct_S_choices _ _ _ x tx Xp T hM.2.1 F S Q V r h) (fun r3 hE => ?_)
  refine k_icmp_ge (pc := 35) (tgt := 78) hC dX0_fits_35 (by decide) hE (fun hE => ?_) (fun hE => ?_)
  · refine k_iload_n (pc := 78) hC dX0_fits_78 rfl 3 rfl ?_
    refine k_iconst (pc := 79) (v := (-1)) hC dX0_fits_79 (by decide) ?_
    refine k_icmp_ne (pc := 80) (tgt := 88) hC dX0_fits_80 (by decide) hE (fun hE => ?_) (fun hE => ?_)
    · refine k_iload (pc := 83) hC dX0_fits_83 4 rfl ?_
      refine k_goto (pc := 85) (tgt := 89) hC dX0_fits_85 (by decide) ?_
      exact k_iret (pc := 89) hC hR ⟨Nat.le_refl 0, Nat.le_refl 0⟩ dX0_fits_89 (by cases hE; rfl) (by cases hE; exact fun _ h => h)
    · refine k_iconst (pc := 88) (v := (-1)) hC dX0_fits_88 (by decide) ?_
      exact k_iret (pc := 89) hC hR ⟨Nat.le_refl 0, Nat.le_refl 0⟩ dX0_fits_89 (by cases hE; rfl) (by cases hE; exact fun _ h => h)
  · refine k_aload_n (pc := 38) hC dX0_fits_38 rfl 0 rfl ?_
    refine k_iload_n (pc := 39) hC dX0_fits_39 rfl 1 rfl ?_
    refine k_aload_n (pc := 40) hC dX0_fits_40 rfl 0 rfl ?_
    refine k_iload (pc := 41) hC dX0_fits_41 5 rfl ?_
    refine s_ownI (pc := 43) (As := [.int a5]) (fun r => r) (fun r => S) (fun r => Q) (fun r => V) hM (cw_S_choice_X0 hC hrm (Nat.le_of_ble_eq_true rfl) (Nat.le_of_ble_eq_true rfl)) rfl rfl (Nat.le_of_ble_eq_true rfl) dX0_fits_43 hE (fun r h => ct_S_choice _ _ _ x tx Xp T hM.2.1 F a5 S Q V r h) (fun r4 hE => ?_)
    refine k_iload_n (pc := 46) hC dX0_fits_46 rfl 2 rfl ?_
    refine s_ownI (pc := 47) (As := [.int a1, .int r4, .int a2]) (fun r => r.1) (fun r => S) (fun r => Q) (fun r => r.2) hM (cw_S_isFit_X0 hC hrm (Nat.le_of_ble_eq_true rfl) (Nat.le_of_ble_eq_true rfl)) rfl rfl (Nat.le_of_ble_eq_true rfl) dX0_fits_47 hE (fun r h => ct_S_isFit _ _ _ x tx Xp T hM.2.1 F a1 r4 a2 S Q V r h) (fun r5 hE => ?_)
    refine k_if_ne (pc := 50) (tgt := 56) hC dX0_fits_50 (by decide) hE (fun hE => ?_) (fun hE => ?_)
    · refine k_goto (pc := 53) (tgt := 72) hC dX0_fits_53 (by decide) ?_
      refine k_iincE (pc := 72) (k := 5) (d := 1) (lv' := fun x6 => [(5, .int x6), (0, .ref x), (1, .int a1), (2, .int a2), (3, .int a3), (4, .int a4)]) hC dX0_fits_72 rfl (by decide) (by rw [hnL]; decide) hE (fun _ => rfl) (fun x6 hE => ?_)
      refine k_goto (pc := 75) (tgt := 29) hC dX0_fits_75 (by decide) ?_
      refine k_sub [1, 2, 3, 4, 5, 0] rfl ?_
      exact hk29 _ _ _ _ _ _  hE
    · refine k_iload (pc := 56) hC dX0_fits_56 4 rfl ?_
      refine k_iload_n (pc := 58) hC dX0_fits_58 rfl 3 rfl ?_
      refine k_icmp_ne (pc := 59) (tgt := 69) hC dX0_fits_59 (by decide) hE (fun hE => ?_) (fun hE => ?_)
      · refine k_aload_n (pc := 62) hC dX0_fits_62 rfl 0 rfl ?_
        refine k_iload (pc := 63) hC dX0_fits_63 5 rfl ?_
        refine s_ownI (pc := 65) (As := [.int a5]) (fun r => r) (fun r => S) (fun r => Q) (fun r => r5.2) hM (cw_S_choice_X0 hC hrm (Nat.le_of_ble_eq_true rfl) (Nat.le_of_ble_eq_true rfl)) rfl rfl (Nat.le_of_ble_eq_true rfl) dX0_fits_65 hE (fun r h => ct_S_choice _ _ _ x tx Xp T hM.2.1 F a5 S Q r5.2 r h) (fun r7 hE => ?_)
        exact k_iret (pc := 68) hC hR ⟨Nat.le_refl 0, Nat.le_refl 0⟩ dX0_fits_68 (by cases hE; rfl) (by cases hE; exact fun _ h => h)
      · refine k_iincE (pc := 69) (k := 4) (d := 1) (lv' := fun x8 => [(4, .int x8), (0, .ref x), (1, .int a1), (2, .int a2), (3, .int a3), (5, .int a5)]) hC dX0_fits_69 rfl (by decide) (by rw [hnL]; decide) hE (fun _ => rfl) (fun x8 hE => ?_)
        refine k_iincE (pc := 72) (k := 5) (d := 1) (lv' := fun x9 => [(5, .int x9), (4, .int x8), (0, .ref x), (1, .int a1), (2, .int a2), (3, .int a3)]) hC dX0_fits_72 rfl (by decide) (by rw [hnL]; decide) hE (fun _ => rfl) (fun x9 hE => ?_)
        refine k_goto (pc := 75) (tgt := 29) hC dX0_fits_75 (by decide) ?_
        refine k_sub [2, 3, 4, 5, 1, 0] rfl ?_
        exact hk29 _ _ _ _ _ _  hE
theorem w_S_fits_L29 {X : Ctx} {D : Dd} {x tx : Nat} {Xp : Jr} {T : Th} {S : Ji} {Q : Ji} {out : Int32 × (Nat → Ji)} (hM : Sxx X cX0_fits D x 6 rmS_fits) (hR : Rt X (some .int) (SW D x tx S Q Xp out.2 T) (some (.int out.1)) 0 0) (F : Nat) (n : Nat) : ∀ (a1 : Int32) (a2 : Int32) (a3 : Int32) (a4 : Int32) (a5 : Int32) (V : Nat → Ji) , S_fits_L29 F T tx S n a1 a2 a3 a4 a5 V = some out → Wk X 0 0 (SW D x tx S Q Xp V T) 29 [(0, .ref x), (1, .int a1), (2, .int a2), (3, .int a3), (4, .int a4), (5, .int a5)] [] := by
  induction n with
  | zero => intro a1 a2 a3 a4 a5 V h; cases h
  | succ n ih => intro a1 a2 a3 a4 a5 V h; exact w_S_fits_B29 hM hR F (S_fits_L29 F T tx S n) ih a1 a2 a3 a4 a5 V h
set_option maxHeartbeats 4000000 in
theorem w_S_fits {X : Ctx} {D : Dd} {x tx : Nat} {Xp : Jr} {T : Th} {S : Ji} {Q : Ji} {out : Int32 × (Nat → Ji)} (hM : Sxx X cX0_fits D x 6 rmS_fits) (hR : Rt X (some .int) (SW D x tx S Q Xp out.2 T) (some (.int out.1)) 0 0) (F : Nat) (a1 : Int32) (a2 : Int32) (a3 : Int32) (V : Nat → Ji) (hE : S_fits F T tx S a1 a2 a3 V = some out) : Wk X 0 0 (SW D x tx S Q Xp V T) 0 [(0, .ref x), (1, .int a1), (2, .int a2), (3, .int a3)] [] := by
  have hC := hM.1
  have hnL := hM.2.2.1
  have hrm := hM.2.2.2
  have hDy : ∀ {S Q : Ji} {V : Nat → Ji} (H : Heap), SW D x tx S Q Xp V T H → Dy D T H := fun _ h => h.2.2.2.1
  unfold S_fits at hE
  refine k_aload_n (pc := 0) hC dX0_fits_0 rfl 0 rfl ?_
  refine k_iload_n (pc := 1) hC dX0_fits_1 rfl 1 rfl ?_
  refine s_ownI (pc := 2) (As := [.int a1]) (fun r => r) (fun r => S) (fun r => Q) (fun r => V) hM (cw_S_isMan_X0 hC hrm (Nat.le_of_ble_eq_true rfl) (Nat.le_of_ble_eq_true rfl)) rfl rfl (Nat.le_of_ble_eq_true rfl) dX0_fits_2 hE (fun r h => ct_S_isMan _ _ _ x tx Xp T hM.2.1 a1 S Q V r h) (fun r1 hE => ?_)
  refine k_if_eq (pc := 5) (tgt := 21) hC dX0_fits_5 (by decide) hE (fun hE => ?_) (fun hE => ?_)
  · refine k_iconst (pc := 21) (v := (-1)) hC dX0_fits_21 (by decide) ?_
    exact k_iret (pc := 22) hC hR ⟨Nat.le_refl 0, Nat.le_refl 0⟩ dX0_fits_22 (by cases hE; rfl) (by cases hE; exact fun _ h => h)
  · refine k_aload_n (pc := 8) hC dX0_fits_8 rfl 0 rfl ?_
    refine k_iload_n (pc := 9) hC dX0_fits_9 rfl 2 rfl ?_
    refine s_ownI (pc := 10) (As := [.int a2]) (fun r => r) (fun r => S) (fun r => Q) (fun r => V) hM (cw_S_isKnown_X0 hC hrm (Nat.le_of_ble_eq_true rfl) (Nat.le_of_ble_eq_true rfl)) rfl rfl (Nat.le_of_ble_eq_true rfl) dX0_fits_10 hE (fun r h => ct_S_isKnown _ _ _ x tx Xp T hM.2.1 a2 S Q V r h) (fun r2 hE => ?_)
    refine k_if_eq (pc := 13) (tgt := 21) hC dX0_fits_13 (by decide) hE (fun hE => ?_) (fun hE => ?_)
    · refine k_iconst (pc := 21) (v := (-1)) hC dX0_fits_21 (by decide) ?_
      exact k_iret (pc := 22) hC hR ⟨Nat.le_refl 0, Nat.le_refl 0⟩ dX0_fits_22 (by cases hE; rfl) (by cases hE; exact fun _ h => h)
    · refine k_iload_n (pc := 16) hC dX0_fits_16 rfl 3 rfl ?_
      refine k_iconst (pc := 17) (v := (-1)) hC dX0_fits_17 (by decide) ?_
      refine k_icmp_ge (pc := 18) (tgt := 23) hC dX0_fits_18 (by decide) hE (fun hE => ?_) (fun hE => ?_)
      · refine k_iconst (pc := 23) (v := 0) hC dX0_fits_23 (by decide) ?_
        refine k_istore (pc := 24) (lv' := [(4, .int 0), (0, .ref x), (1, .int a1), (2, .int a2), (3, .int a3)]) hC dX0_fits_24 (by rw [hnL]; decide) rfl ?_
        refine k_iconst (pc := 26) (v := 0) hC dX0_fits_26 (by decide) ?_
        refine k_istore (pc := 27) (lv' := [(5, .int 0), (4, .int 0), (0, .ref x), (1, .int a1), (2, .int a2), (3, .int a3)]) hC dX0_fits_27 (by rw [hnL]; decide) rfl ?_
        refine k_sub [2, 3, 4, 5, 1, 0] rfl ?_
        exact w_S_fits_L29 hM hR F _ _ _ _ _ _ _  hE
      · refine k_iconst (pc := 21) (v := (-1)) hC dX0_fits_21 (by decide) ?_
        exact k_iret (pc := 22) hC hR ⟨Nat.le_refl 0, Nat.le_refl 0⟩ dX0_fits_22 (by cases hE; rfl) (by cases hE; exact fun _ h => h)
theorem ct_S_fits (l : Launch) (D : Dd) (A : Nat → Prop) (x tx : Nat) (Xp : Jr) (T : Th) (hA : ∀ o, o < 847 → A (x + o)) (F : Nat) (a1 : Int32) (a2 : Int32) (a3 : Int32) (S Q : Ji) (V : Nat → Ji) (out : Int32 × (Nat → Ji)) (hE : S_fits F T tx S a1 a2 a3 V = some out) : Ct l yX0_fits (ws_ yX0_fits cX0_fits 6 (some .int)) rmS_fits vwCl arTy D A [.ref x, .int a1, .int a2, .int a3] (SW D x tx S Q Xp V T) (SW D x tx S Q Xp out.2 T) (some (.int out.1)) 0 0 := by
  refine Ct.of (by decide) (Nat.le_of_ble_eq_true rfl) rfl ?_
  intro X hl hrm hC hR hXA hnL _
  exact w_S_fits ⟨hC, by show ∀ o, o < 847 → cxA X (x + o); unfold cxA; rw [hXA]; exact hA, hnL, hrm⟩ hR F a1 a2 a3 V hE
abbrev rmS_leftNow : Room := { frames := 0, cells := 0, slots := 0, locals := 0 }
set_option maxHeartbeats 4000000 in
theorem w_S_leftNow {X : Ctx} {D : Dd} {x tx : Nat} {Xp : Jr} {T : Th} {S : Ji} {Q : Ji} {V : Nat → Ji} {out : Int32} (hM : Sxx X cX0_leftNow D x 2 rmS_leftNow) (hR : Rt X (some .int) (SW D x tx S Q Xp V T) (some (.int out)) 0 0) (a1 : Int32) (hE : S_leftNow T tx V a1 = some out) : Wk X 0 0 (SW D x tx S Q Xp V T) 0 [(0, .ref x), (1, .int a1)] [] := by
  have hC := hM.1
  have hnL := hM.2.2.1
  have hrm := hM.2.2.2
  have hDy : ∀ {S Q : Ji} {V : Nat → Ji} (H : Heap), SW D x tx S Q Xp V T H → Dy D T H := fun _ h => h.2.2.2.1
  unfold S_leftNow at hE
  refine k_aload_n (pc := 0) hC dX0_leftNow_0 rfl 0 rfl ?_
  refine gS_46 (pc := 1) hM dX0_leftNow_1 ?_
  refine gSV_191 (pc := 4) (by decide) hM dX0_leftNow_4 ?_
  refine k_iload_n (pc := 7) hC dX0_leftNow_7 rfl 1 rfl ?_
  refine sV_iald (pc := 8) (by decide) 9 lv_9 hM dX0_leftNow_8 hE (fun x1 hE => ?_)
  refine k_if_ge (pc := 9) (tgt := 17) hC dX0_leftNow_9 (by decide) hE (fun hE => ?_) (fun hE => ?_)
  · refine k_bipush (pc := 17) (v := 10) hC dX0_leftNow_17 (by decide) ?_
    refine k_aload_n (pc := 19) hC dX0_leftNow_19 rfl 0 rfl ?_
    refine gS_46 (pc := 20) hM dX0_leftNow_20 ?_
    refine gSV_191 (pc := 23) (by decide) hM dX0_leftNow_23 ?_
    refine k_iload_n (pc := 26) hC dX0_leftNow_26 rfl 1 rfl ?_
    refine sV_iald (pc := 27) (by decide) 9 lv_9 hM dX0_leftNow_27 hE (fun x2 hE => ?_)
    refine k_imul (pc := 28) hC dX0_leftNow_28 ?_
    refine k_aload_n (pc := 29) hC dX0_leftNow_29 rfl 0 rfl ?_
    refine gS_46 (pc := 30) hM dX0_leftNow_30 ?_
    refine gSV_194 (pc := 33) (by decide) hM dX0_leftNow_33 ?_
    refine k_iload_n (pc := 36) hC dX0_leftNow_36 rfl 1 rfl ?_
    refine sV_iald (pc := 37) (by decide) 10 lv_10 hM dX0_leftNow_37 hE (fun x3 hE => ?_)
    refine k_iadd (pc := 38) hC dX0_leftNow_38 ?_
    exact k_iret (pc := 39) hC hR ⟨Nat.le_refl 0, Nat.le_refl 0⟩ dX0_leftNow_39 (by cases hE; rfl) (by cases hE; exact fun _ h => h)
  · refine k_bipush (pc := 12) (v := (-2)) hC dX0_leftNow_12 (by decide) ?_
    refine k_goto (pc := 14) (tgt := 39) hC dX0_leftNow_14 (by decide) ?_
    exact k_iret (pc := 39) hC hR ⟨Nat.le_refl 0, Nat.le_refl 0⟩ dX0_leftNow_39 (by cases hE; rfl) (by cases hE; exact fun _ h => h)
theorem ct_S_leftNow (l : Launch) (D : Dd) (A : Nat → Prop) (x tx : Nat) (Xp : Jr) (T : Th) (hA : ∀ o, o < 847 → A (x + o)) (a1 : Int32) (S Q : Ji) (V : Nat → Ji) (out : Int32) (hE : S_leftNow T tx V a1 = some out) : Ct l yX0_leftNow (ws_ yX0_leftNow cX0_leftNow 2 (some .int)) rmS_leftNow vwCl arTy D A [.ref x, .int a1] (SW D x tx S Q Xp V T) (SW D x tx S Q Xp V T) (some (.int out)) 0 0 := by
  refine Ct.of (by decide) (Nat.le_of_ble_eq_true rfl) rfl ?_
  intro X hl hrm hC hR hXA hnL _
  exact w_S_leftNow ⟨hC, by show ∀ o, o < 847 → cxA X (x + o); unfold cxA; rw [hXA]; exact hA, hnL, hrm⟩ hR a1 hE
theorem cw_S_leftNow_X0 {X : Ctx} {cc : ByteArray} {D : Dd} {rm : Room} (hC : Cx X cc RX0 vwCl arTy D) (hrm : X.2.2.2.1 = rm) (h1 : rmS_leftNow.frames + 1 ≤ rm.frames) (h2 : 8 + (2 + 11) + rmS_leftNow.locals ≤ rm.locals) : CallW X.2.2.2.1 X.2.2.2.2.1 X.2.2.2.2.2.2.1 RX0 RX0 305 yX0_leftNow cX0_leftNow 2 (some .int) (ws_ yX0_leftNow cX0_leftNow 2 (some .int)) rmS_leftNow 0 0 1 := cwV 1 (cx_w hC) (lw_V q1521 q1523 qs50 q114 q1524) rfl rfl rfl (by decide +kernel) (by rw [hrm]; exact ⟨h1, h2⟩)
abbrev rmS_suspects : Room := { frames := 508, cells := 0, slots := 0, locals := 12189 }
set_option maxHeartbeats 4000000 in
theorem w_S_suspects_B31 {X : Ctx} {D : Dd} {x tx : Nat} {Xp : Jr} {T : Th} {S : Ji} {Q : Ji} {out : Int32 × (Nat → Ji)} (hM : Sxx X cX0_suspects D x 5 rmS_suspects) (hR : Rt X (some .int) (SW D x tx S Q Xp out.2 T) (some (.int out.1)) 0 0) (F : Nat) (k14 : Int32 → Int32 → Int32 → (Nat → Ji) → Option (Int32 × (Nat → Ji))) (hk14 : ∀ (a1 : Int32) (a2 : Int32) (a3 : Int32) (V : Nat → Ji) , k14 a1 a2 a3 V = some out → Wk X 0 0 (SW D x tx S Q Xp V T) 14 [(0, .ref x), (1, .int a1), (2, .int a2), (3, .int a3)] []) (k31 : Int32 → Int32 → Int32 → Int32 → (Nat → Ji) → Option (Int32 × (Nat → Ji))) (hk31 : ∀ (a1 : Int32) (a2 : Int32) (a3 : Int32) (a4 : Int32) (V : Nat → Ji) , k31 a1 a2 a3 a4 V = some out → Wk X 0 0 (SW D x tx S Q Xp V T) 31 [(0, .ref x), (1, .int a1), (2, .int a2), (3, .int a3), (4, .int a4)] []) (a1 : Int32) (a2 : Int32) (a3 : Int32) (a4 : Int32) (V : Nat → Ji) (hE : S_suspects_B31 F k14 k31 T tx S a1 a2 a3 a4 V = some out) : Wk X 0 0 (SW D x tx S Q Xp V T) 31 [(0, .ref x), (1, .int a1), (2, .int a2), (3, .int a3), (4, .int a4)] [] := by
  have hC := hM.1
  have hnL := hM.2.2.1
  have hrm := hM.2.2.2
  have hDy : ∀ {S Q : Ji} {V : Nat → Ji} (H : Heap), SW D x tx S Q Xp V T H → Dy D T H := fun _ h => h.2.2.2.1
  unfold S_suspects_B31 at hE
  refine k_iload (pc := 31) hC dX0_suspects_31 4 rfl ?_
  refine k_aload_n (pc := 33) hC dX0_suspects_33 rfl 0 rfl ?_
  refine s_ownI (pc := 34) (As := []) (fun r => r) (fun r => S) (fun r => Q) (fun r => V) hM (cw_S_choices_X0 hC hrm (Nat.le_of_ble_eq_true rfl) (Nat.le_of_ble_eq_true rfl)) rfl rfl (Nat.le_of_ble_eq_true rfl) dX0_suspects_34 hE (fun r h => ct_S_choices _ _ _ x tx Xp T hM.2.1 F S Q V r h) (fun r5 hE => ?_)
  refine k_icmp_ge (pc := 37) (tgt := 81) hC dX0_suspects_37 (by decide) hE (fun hE => ?_) (fun hE => ?_)
  · refine k_iincE (pc := 81) (k := 3) (d := 1) (lv' := fun x6 => [(3, .int x6), (0, .ref x), (1, .int a1), (2, .int a2), (4, .int a4)]) hC dX0_suspects_81 rfl (by decide) (by rw [hnL]; decide) hE (fun _ => rfl) (fun x6 hE => ?_)
    refine k_goto (pc := 84) (tgt := 14) hC dX0_suspects_84 (by decide) ?_
    refine k_sub [1, 2, 3, 0] rfl ?_
    exact hk14 _ _ _ _  hE
  · refine k_aload_n (pc := 40) hC dX0_suspects_40 rfl 0 rfl ?_
    refine k_iload (pc := 41) hC dX0_suspects_41 4 rfl ?_
    refine s_ownI (pc := 43) (As := [.int a4]) (fun r => r) (fun r => S) (fun r => Q) (fun r => V) hM (cw_S_choice_X0 hC hrm (Nat.le_of_ble_eq_true rfl) (Nat.le_of_ble_eq_true rfl)) rfl rfl (Nat.le_of_ble_eq_true rfl) dX0_suspects_43 hE (fun r h => ct_S_choice _ _ _ x tx Xp T hM.2.1 F a4 S Q V r h) (fun r7 hE => ?_)
    refine k_aload_n (pc := 46) hC dX0_suspects_46 rfl 0 rfl ?_
    refine k_iload_n (pc := 47) hC dX0_suspects_47 rfl 3 rfl ?_
    refine s_ownI (pc := 48) (As := [.int a3]) (fun r => r) (fun r => S) (fun r => Q) (fun r => V) hM (cw_S_leftNow_X0 hC hrm (Nat.le_of_ble_eq_true rfl) (Nat.le_of_ble_eq_true rfl)) rfl rfl (Nat.le_of_ble_eq_true rfl) dX0_suspects_48 hE (fun r h => ct_S_leftNow _ _ _ x tx Xp T hM.2.1 a3 S Q V r h) (fun r8 hE => ?_)
    refine k_icmp_eq (pc := 51) (tgt := 75) hC dX0_suspects_51 (by decide) hE (fun hE => ?_) (fun hE => ?_)
    · refine k_iincE (pc := 75) (k := 4) (d := 1) (lv' := fun x9 => [(4, .int x9), (0, .ref x), (1, .int a1), (2, .int a2), (3, .int a3)]) hC dX0_suspects_75 rfl (by decide) (by rw [hnL]; decide) hE (fun _ => rfl) (fun x9 hE => ?_)
      refine k_goto (pc := 78) (tgt := 31) hC dX0_suspects_78 (by decide) ?_
      refine k_sub [1, 2, 3, 4, 0] rfl ?_
      exact hk31 _ _ _ _ _  hE
    · refine k_aload_n (pc := 54) hC dX0_suspects_54 rfl 0 rfl ?_
      refine k_iload_n (pc := 55) hC dX0_suspects_55 rfl 3 rfl ?_
      refine k_aload_n (pc := 56) hC dX0_suspects_56 rfl 0 rfl ?_
      refine k_iload (pc := 57) hC dX0_suspects_57 4 rfl ?_
      refine s_ownI (pc := 59) (As := [.int a4]) (fun r => r) (fun r => S) (fun r => Q) (fun r => V) hM (cw_S_choice_X0 hC hrm (Nat.le_of_ble_eq_true rfl) (Nat.le_of_ble_eq_true rfl)) rfl rfl (Nat.le_of_ble_eq_true rfl) dX0_suspects_59 hE (fun r h => ct_S_choice _ _ _ x tx Xp T hM.2.1 F a4 S Q V r h) (fun r10 hE => ?_)
      refine k_iload_n (pc := 62) hC dX0_suspects_62 rfl 1 rfl ?_
      refine s_ownI (pc := 63) (As := [.int a3, .int r10, .int a1]) (fun r => r.1) (fun r => S) (fun r => Q) (fun r => r.2) hM (cw_S_isFit_X0 hC hrm (Nat.le_of_ble_eq_true rfl) (Nat.le_of_ble_eq_true rfl)) rfl rfl (Nat.le_of_ble_eq_true rfl) dX0_suspects_63 hE (fun r h => ct_S_isFit _ _ _ x tx Xp T hM.2.1 F a3 r10 a1 S Q V r h) (fun r11 hE => ?_)
      refine k_if_eq (pc := 66) (tgt := 75) hC dX0_suspects_66 (by decide) hE (fun hE => ?_) (fun hE => ?_)
      · refine k_iincE (pc := 75) (k := 4) (d := 1) (lv' := fun x12 => [(4, .int x12), (0, .ref x), (1, .int a1), (2, .int a2), (3, .int a3)]) hC dX0_suspects_75 rfl (by decide) (by rw [hnL]; decide) hE (fun _ => rfl) (fun x12 hE => ?_)
        refine k_goto (pc := 78) (tgt := 31) hC dX0_suspects_78 (by decide) ?_
        refine k_sub [1, 2, 3, 4, 0] rfl ?_
        exact hk31 _ _ _ _ _  hE
      · refine k_iload_n (pc := 69) hC dX0_suspects_69 rfl 2 rfl ?_
        refine k_iconst (pc := 70) (v := 1) hC dX0_suspects_70 (by decide) ?_
        refine k_iload_n (pc := 71) hC dX0_suspects_71 rfl 3 rfl ?_
        refine k_ishl (pc := 72) hC dX0_suspects_72 ?_
        refine k_ior (pc := 73) hC dX0_suspects_73 ?_
        refine k_istoreE_n (pc := 74) (lv' := fun x13 => [(2, .int x13), (0, .ref x), (1, .int a1), (3, .int a3), (4, .int a4)]) hC dX0_suspects_74 rfl (by rw [hnL]; decide) hE (fun _ => rfl) (fun x13 hE => ?_)
        refine k_iincE (pc := 75) (k := 4) (d := 1) (lv' := fun x14 => [(4, .int x14), (2, .int x13), (0, .ref x), (1, .int a1), (3, .int a3)]) hC dX0_suspects_75 rfl (by decide) (by rw [hnL]; decide) hE (fun _ => rfl) (fun x14 hE => ?_)
        refine k_goto (pc := 78) (tgt := 31) hC dX0_suspects_78 (by decide) ?_
        refine k_sub [2, 3, 1, 4, 0] rfl ?_
        exact hk31 _ _ _ _ _  hE
theorem w_S_suspects_L31 {X : Ctx} {D : Dd} {x tx : Nat} {Xp : Jr} {T : Th} {S : Ji} {Q : Ji} {out : Int32 × (Nat → Ji)} (hM : Sxx X cX0_suspects D x 5 rmS_suspects) (hR : Rt X (some .int) (SW D x tx S Q Xp out.2 T) (some (.int out.1)) 0 0) (F : Nat) (k14 : Int32 → Int32 → Int32 → (Nat → Ji) → Option (Int32 × (Nat → Ji))) (hk14 : ∀ (a1 : Int32) (a2 : Int32) (a3 : Int32) (V : Nat → Ji) , k14 a1 a2 a3 V = some out → Wk X 0 0 (SW D x tx S Q Xp V T) 14 [(0, .ref x), (1, .int a1), (2, .int a2), (3, .int a3)] []) (n : Nat) : ∀ (a1 : Int32) (a2 : Int32) (a3 : Int32) (a4 : Int32) (V : Nat → Ji) , S_suspects_L31 F k14 T tx S n a1 a2 a3 a4 V = some out → Wk X 0 0 (SW D x tx S Q Xp V T) 31 [(0, .ref x), (1, .int a1), (2, .int a2), (3, .int a3), (4, .int a4)] [] := by
  induction n with
  | zero => intro a1 a2 a3 a4 V h; cases h
  | succ n ih => intro a1 a2 a3 a4 V h; exact w_S_suspects_B31 hM hR F k14 hk14 (S_suspects_L31 F k14 T tx S n) ih a1 a2 a3 a4 V h
set_option maxHeartbeats 4000000 in
theorem w_S_suspects_B14 {X : Ctx} {D : Dd} {x tx : Nat} {Xp : Jr} {T : Th} {S : Ji} {Q : Ji} {out : Int32 × (Nat → Ji)} (hM : Sxx X cX0_suspects D x 5 rmS_suspects) (hR : Rt X (some .int) (SW D x tx S Q Xp out.2 T) (some (.int out.1)) 0 0) (F : Nat) (k14 : Int32 → Int32 → Int32 → (Nat → Ji) → Option (Int32 × (Nat → Ji))) (hk14 : ∀ (a1 : Int32) (a2 : Int32) (a3 : Int32) (V : Nat → Ji) , k14 a1 a2 a3 V = some out → Wk X 0 0 (SW D x tx S Q Xp V T) 14 [(0, .ref x), (1, .int a1), (2, .int a2), (3, .int a3)] []) (a1 : Int32) (a2 : Int32) (a3 : Int32) (V : Nat → Ji) (hE : S_suspects_B14 F k14 T tx S a1 a2 a3 V = some out) : Wk X 0 0 (SW D x tx S Q Xp V T) 14 [(0, .ref x), (1, .int a1), (2, .int a2), (3, .int a3)] [] := by
  have hC := hM.1
  have hnL := hM.2.2.1
  have hrm := hM.2.2.2
  have hDy : ∀ {S Q : Ji} {V : Nat → Ji} (H : Heap), SW D x tx S Q Xp V T H → Dy D T H := fun _ h => h.2.2.2.1
  unfold S_suspects_B14 at hE
  refine k_iload_n (pc := 14) hC dX0_suspects_14 rfl 3 rfl ?_
  refine k_aload_n (pc := 15) hC dX0_suspects_15 rfl 0 rfl ?_
  refine gS_35 (pc := 16) hM dX0_suspects_16 ?_
  refine gD_X0_121_X4 (pc := 19) hC hDy dX0_suspects_19 hE (fun x2 hE => ?_)
  refine k_nn (G := fun z => Wk X 0 0 (SW D x tx S Q Xp V T) 22 [(0, .ref x), (1, .int a1), (2, .int a2), (3, .int a3)] [z, .int a3]) hE (fun b3 hE => ?_)
  refine t_callVI (pc := 22) (As := []) 19 (fun r => r) hC hDy cl_J5 (cw_L_size_X0 hC hrm (Nat.le_of_ble_eq_true rfl) (Nat.le_of_ble_eq_true rfl)) rfl rfl (Nat.le_of_ble_eq_true rfl) ⟨Nat.zero_le _, Nat.zero_le _⟩ dX0_suspects_22 hE (fun r h => ct_L_size _ _ _ _ T hDy b3 r h) (fun r4 hE => ?_)
  refine k_icmp_ge (pc := 25) (tgt := 87) hC dX0_suspects_25 (by decide) hE (fun hE => ?_) (fun hE => ?_)
  · refine k_iload_n (pc := 87) hC dX0_suspects_87 rfl 2 rfl ?_
    exact k_iret (pc := 88) hC hR ⟨Nat.le_refl 0, Nat.le_refl 0⟩ dX0_suspects_88 (by cases hE; rfl) (by cases hE; exact fun _ h => h)
  · refine k_iconst (pc := 28) (v := 0) hC dX0_suspects_28 (by decide) ?_
    refine k_istore (pc := 29) (lv' := [(4, .int 0), (0, .ref x), (1, .int a1), (2, .int a2), (3, .int a3)]) hC dX0_suspects_29 (by rw [hnL]; decide) rfl ?_
    refine k_sub [1, 2, 3, 4, 0] rfl ?_
    exact w_S_suspects_L31 hM hR F k14 hk14 _ _ _ _ _ _  hE
theorem w_S_suspects_L14 {X : Ctx} {D : Dd} {x tx : Nat} {Xp : Jr} {T : Th} {S : Ji} {Q : Ji} {out : Int32 × (Nat → Ji)} (hM : Sxx X cX0_suspects D x 5 rmS_suspects) (hR : Rt X (some .int) (SW D x tx S Q Xp out.2 T) (some (.int out.1)) 0 0) (F : Nat) (n : Nat) : ∀ (a1 : Int32) (a2 : Int32) (a3 : Int32) (V : Nat → Ji) , S_suspects_L14 F T tx S n a1 a2 a3 V = some out → Wk X 0 0 (SW D x tx S Q Xp V T) 14 [(0, .ref x), (1, .int a1), (2, .int a2), (3, .int a3)] [] := by
  induction n with
  | zero => intro a1 a2 a3 V h; cases h
  | succ n ih => intro a1 a2 a3 V h; exact w_S_suspects_B14 hM hR F (S_suspects_L14 F T tx S n) ih a1 a2 a3 V h
set_option maxHeartbeats 4000000 in
theorem w_S_suspects {X : Ctx} {D : Dd} {x tx : Nat} {Xp : Jr} {T : Th} {S : Ji} {Q : Ji} {out : Int32 × (Nat → Ji)} (hM : Sxx X cX0_suspects D x 5 rmS_suspects) (hR : Rt X (some .int) (SW D x tx S Q Xp out.2 T) (some (.int out.1)) 0 0) (F : Nat) (a1 : Int32) (V : Nat → Ji) (hE : S_suspects F T tx S a1 V = some out) : Wk X 0 0 (SW D x tx S Q Xp V T) 0 [(0, .ref x), (1, .int a1)] [] := by
  have hC := hM.1
  have hnL := hM.2.2.1
  have hrm := hM.2.2.2
  have hDy : ∀ {S Q : Ji} {V : Nat → Ji} (H : Heap), SW D x tx S Q Xp V T H → Dy D T H := fun _ h => h.2.2.2.1
  unfold S_suspects at hE
  refine k_aload_n (pc := 0) hC dX0_suspects_0 rfl 0 rfl ?_
  refine k_iload_n (pc := 1) hC dX0_suspects_1 rfl 1 rfl ?_
  refine s_ownI (pc := 2) (As := [.int a1]) (fun r => r) (fun r => S) (fun r => Q) (fun r => V) hM (cw_S_isKnown_X0 hC hrm (Nat.le_of_ble_eq_true rfl) (Nat.le_of_ble_eq_true rfl)) rfl rfl (Nat.le_of_ble_eq_true rfl) dX0_suspects_2 hE (fun r h => ct_S_isKnown _ _ _ x tx Xp T hM.2.1 a1 S Q V r h) (fun r1 hE => ?_)
  refine k_if_ne (pc := 5) (tgt := 10) hC dX0_suspects_5 (by decide) hE (fun hE => ?_) (fun hE => ?_)
  · refine k_iconst (pc := 8) (v := (-1)) hC dX0_suspects_8 (by decide) ?_
    exact k_iret (pc := 9) hC hR ⟨Nat.le_refl 0, Nat.le_refl 0⟩ dX0_suspects_9 (by cases hE; rfl) (by cases hE; exact fun _ h => h)
  · refine k_iconst (pc := 10) (v := 0) hC dX0_suspects_10 (by decide) ?_
    refine k_istore_n (pc := 11) (lv' := [(2, .int 0), (0, .ref x), (1, .int a1)]) hC dX0_suspects_11 rfl (by rw [hnL]; decide) rfl ?_
    refine k_iconst (pc := 12) (v := 0) hC dX0_suspects_12 (by decide) ?_
    refine k_istore_n (pc := 13) (lv' := [(3, .int 0), (2, .int 0), (0, .ref x), (1, .int a1)]) hC dX0_suspects_13 rfl (by rw [hnL]; decide) rfl ?_
    refine k_sub [2, 3, 1, 0] rfl ?_
    exact w_S_suspects_L14 hM hR F _ _ _ _ _  hE
theorem ct_S_suspects (l : Launch) (D : Dd) (A : Nat → Prop) (x tx : Nat) (Xp : Jr) (T : Th) (hA : ∀ o, o < 847 → A (x + o)) (F : Nat) (a1 : Int32) (S Q : Ji) (V : Nat → Ji) (out : Int32 × (Nat → Ji)) (hE : S_suspects F T tx S a1 V = some out) : Ct l yX0_suspects (ws_ yX0_suspects cX0_suspects 5 (some .int)) rmS_suspects vwCl arTy D A [.ref x, .int a1] (SW D x tx S Q Xp V T) (SW D x tx S Q Xp out.2 T) (some (.int out.1)) 0 0 := by
  refine Ct.of (by decide) (Nat.le_of_ble_eq_true rfl) rfl ?_
  intro X hl hrm hC hR hXA hnL _
  exact w_S_suspects ⟨hC, by show ∀ o, o < 847 → cxA X (x + o); unfold cxA; rw [hXA]; exact hA, hnL, hrm⟩ hR F a1 V hE
abbrev rmS_pairs : Room := { frames := 507, cells := 0, slots := 0, locals := 12166 }
set_option maxHeartbeats 4000000 in
theorem w_S_pairs_B94 {X : Ctx} {D : Dd} {x tx : Nat} {Xp : Jr} {T : Th} {S : Ji} {Q : Ji} {out : Int32 × (Nat → Ji)} (hM : Sxx X cX0_pairs D x 7 rmS_pairs) (hR : Rt X (some .int) (SW D x tx S Q Xp out.2 T) (some (.int out.1)) 0 0) (F : Nat) (k25 : Int32 → Int32 → Int32 → Int32 → Int32 → (Nat → Ji) → Option (Int32 × (Nat → Ji))) (hk25 : ∀ (a1 : Int32) (a2 : Int32) (a3 : Int32) (a4 : Int32) (a5 : Int32) (V : Nat → Ji) , k25 a1 a2 a3 a4 a5 V = some out → Wk X 0 0 (SW D x tx S Q Xp V T) 25 [(0, .ref x), (1, .int a1), (2, .int a2), (3, .int a3), (4, .int a4), (5, .int a5)] []) (k37 : Int32 → Int32 → Int32 → Int32 → Int32 → Int32 → (Nat → Ji) → Option (Int32 × (Nat → Ji))) (hk37 : ∀ (a1 : Int32) (a2 : Int32) (a3 : Int32) (a4 : Int32) (a5 : Int32) (a6 : Int32) (V : Nat → Ji) , k37 a1 a2 a3 a4 a5 a6 V = some out → Wk X 0 0 (SW D x tx S Q Xp V T) 37 [(0, .ref x), (1, .int a1), (2, .int a2), (3, .int a3), (4, .int a4), (5, .int a5), (6, .int a6)] []) (a1 : Int32) (a2 : Int32) (a3 : Int32) (a5 : Int32) (a6 : Int32) (s0 : Int32) (s1 : Int32) (V : Nat → Ji) (hE : S_pairs_B94 F k25 k37 T tx S a1 a2 a3 a5 a6 s0 s1 V = some out) : Wk X 0 0 (SW D x tx S Q Xp V T) 94 [(0, .ref x), (1, .int a1), (2, .int a2), (3, .int a3), (5, .int a5), (6, .int a6)] [.int s0, .int s1] := by
  have hC := hM.1
  have hnL := hM.2.2.1
  have hrm := hM.2.2.2
  have hDy : ∀ {S Q : Ji} {V : Nat → Ji} (H : Heap), SW D x tx S Q Xp V T H → Dy D T H := fun _ h => h.2.2.2.1
  unfold S_pairs_B94 at hE
  refine k_iadd (pc := 94) hC dX0_pairs_94 ?_
  refine k_istoreE (pc := 95) (lv' := fun x12 => [(4, .int x12), (0, .ref x), (1, .int a1), (2, .int a2), (3, .int a3), (5, .int a5), (6, .int a6)]) hC dX0_pairs_95 (by rw [hnL]; decide) hE (fun _ => rfl) (fun x12 hE => ?_)
  refine k_iincE (pc := 97) (k := 6) (d := 1) (lv' := fun x13 => [(6, .int x13), (4, .int x12), (0, .ref x), (1, .int a1), (2, .int a2), (3, .int a3), (5, .int a5)]) hC dX0_pairs_97 rfl (by decide) (by rw [hnL]; decide) hE (fun _ => rfl) (fun x13 hE => ?_)
  refine k_goto (pc := 100) (tgt := 37) hC dX0_pairs_100 (by decide) ?_
  refine k_sub [2, 3, 4, 5, 1, 6, 0] rfl ?_
  exact hk37 _ _ _ _ _ _ _  hE
set_option maxHeartbeats 4000000 in
theorem w_S_pairs_B37 {X : Ctx} {D : Dd} {x tx : Nat} {Xp : Jr} {T : Th} {S : Ji} {Q : Ji} {out : Int32 × (Nat → Ji)} (hM : Sxx X cX0_pairs D x 7 rmS_pairs) (hR : Rt X (some .int) (SW D x tx S Q Xp out.2 T) (some (.int out.1)) 0 0) (F : Nat) (k25 : Int32 → Int32 → Int32 → Int32 → Int32 → (Nat → Ji) → Option (Int32 × (Nat → Ji))) (hk25 : ∀ (a1 : Int32) (a2 : Int32) (a3 : Int32) (a4 : Int32) (a5 : Int32) (V : Nat → Ji) , k25 a1 a2 a3 a4 a5 V = some out → Wk X 0 0 (SW D x tx S Q Xp V T) 25 [(0, .ref x), (1, .int a1), (2, .int a2), (3, .int a3), (4, .int a4), (5, .int a5)] []) (k37 : Int32 → Int32 → Int32 → Int32 → Int32 → Int32 → (Nat → Ji) → Option (Int32 × (Nat → Ji))) (hk37 : ∀ (a1 : Int32) (a2 : Int32) (a3 : Int32) (a4 : Int32) (a5 : Int32) (a6 : Int32) (V : Nat → Ji) , k37 a1 a2 a3 a4 a5 a6 V = some out → Wk X 0 0 (SW D x tx S Q Xp V T) 37 [(0, .ref x), (1, .int a1), (2, .int a2), (3, .int a3), (4, .int a4), (5, .int a5), (6, .int a6)] []) (a1 : Int32) (a2 : Int32) (a3 : Int32) (a4 : Int32) (a5 : Int32) (a6 : Int32) (V : Nat → Ji) (hE : S_pairs_B37 F k25 k37 T tx S a1 a2 a3 a4 a5 a6 V = some out) : Wk X 0 0 (SW D x tx S Q Xp V T) 37 [(0, .ref x), (1, .int a1), (2, .int a2), (3, .int a3), (4, .int a4), (5, .int a5), (6, .int a6)] [] := by
  have hC := hM.1
  have hnL := hM.2.2.1
  have hrm := hM.2.2.2
  have hDy : ∀ {S Q : Ji} {V : Nat → Ji} (H : Heap), SW D x tx S Q Xp V T H → Dy D T H := fun _ h => h.2.2.2.1
  unfold S_pairs_B37 at hE
  refine k_iload (pc := 37) hC dX0_pairs_37 6 rfl ?_
  refine k_aload_n (pc := 39) hC dX0_pairs_39 rfl 0 rfl ?_
  refine s_ownI (pc := 40) (As := []) (fun r => r) (fun r => S) (fun r => Q) (fun r => V) hM (cw_S_choices_X0 hC hrm (Nat.le_of_ble_eq_true rfl) (Nat.le_of_ble_eq_true rfl)) rfl rfl (Nat.le_of_ble_eq_true rfl) dX0_pairs_40 hE (fun r h => ct_S_choices _ _ _ x tx Xp T hM.2.1 F S Q V r h) (fun r4 hE => ?_)
  refine k_icmp_ge (pc := 43) (tgt := 103) hC dX0_pairs_43 (by decide) hE (fun hE => ?_) (fun hE => ?_)
  · refine k_iincE (pc := 103) (k := 5) (d := 1) (lv' := fun x5 => [(5, .int x5), (0, .ref x), (1, .int a1), (2, .int a2), (3, .int a3), (4, .int a4), (6, .int a6)]) hC dX0_pairs_103 rfl (by decide) (by rw [hnL]; decide) hE (fun _ => rfl) (fun x5 hE => ?_)
    refine k_goto (pc := 106) (tgt := 25) hC dX0_pairs_106 (by decide) ?_
    refine k_sub [1, 2, 3, 4, 5, 0] rfl ?_
    exact hk25 _ _ _ _ _ _  hE
  · refine k_aload_n (pc := 46) hC dX0_pairs_46 rfl 0 rfl ?_
    refine gS_50 (pc := 47) hM dX0_pairs_47 ?_
    refine k_aload_n (pc := 50) hC dX0_pairs_50 rfl 0 rfl ?_
    refine gS_46 (pc := 51) hM dX0_pairs_51 ?_
    refine s_takes (pc := 54) 1 0 (by decide) (by decide) (by decide) hM (Nat.le_of_ble_eq_true rfl) (Nat.le_of_ble_eq_true rfl) (Nat.le_of_ble_eq_true rfl) dX0_pairs_54 ?_
    refine k_lt (G := fun Z => Wk X 0 0 (SW D x tx S Q Xp Z T) 57 [(0, .ref x), (1, .int a1), (2, .int a2), (3, .int a3), (4, .int a4), (5, .int a5), (6, .int a6)] []) hE (fun V6 hE => ?_)
    refine k_aload_n (pc := 57) hC dX0_pairs_57 rfl 0 rfl ?_
    refine k_iload_n (pc := 58) hC dX0_pairs_58 rfl 1 rfl ?_
    refine k_aload_n (pc := 59) hC dX0_pairs_59 rfl 0 rfl ?_
    refine k_iload (pc := 60) hC dX0_pairs_60 5 rfl ?_
    refine s_ownI (pc := 62) (As := [.int a5]) (fun r => r) (fun r => S) (fun r => Q) (fun r => V6) hM (cw_S_choice_X0 hC hrm (Nat.le_of_ble_eq_true rfl) (Nat.le_of_ble_eq_true rfl)) rfl rfl (Nat.le_of_ble_eq_true rfl) dX0_pairs_62 hE (fun r h => ct_S_choice _ _ _ x tx Xp T hM.2.1 F a5 S Q V6 r h) (fun r7 hE => ?_)
    refine s_ownV (pc := 65) (As := [.int a1, .int r7]) (fun r => S) (fun r => Q) (fun r => r) hM (cw_S_leavesThen_X0 hC hrm (Nat.le_of_ble_eq_true rfl) (Nat.le_of_ble_eq_true rfl)) rfl rfl (Nat.le_of_ble_eq_true rfl) dX0_pairs_65 hE (fun r h => ct_S_leavesThen _ _ _ x tx Xp T hM.2.1 a1 r7 S Q V6 r h) (fun r8 hE => ?_)
    refine k_aload_n (pc := 68) hC dX0_pairs_68 rfl 0 rfl ?_
    refine k_iload_n (pc := 69) hC dX0_pairs_69 rfl 2 rfl ?_
    refine k_aload_n (pc := 70) hC dX0_pairs_70 rfl 0 rfl ?_
    refine k_iload (pc := 71) hC dX0_pairs_71 6 rfl ?_
    refine s_ownI (pc := 73) (As := [.int a6]) (fun r => r) (fun r => S) (fun r => Q) (fun r => r8) hM (cw_S_choice_X0 hC hrm (Nat.le_of_ble_eq_true rfl) (Nat.le_of_ble_eq_true rfl)) rfl rfl (Nat.le_of_ble_eq_true rfl) dX0_pairs_73 hE (fun r h => ct_S_choice _ _ _ x tx Xp T hM.2.1 F a6 S Q r8 r h) (fun r9 hE => ?_)
    refine s_ownV (pc := 76) (As := [.int a2, .int r9]) (fun r => S) (fun r => Q) (fun r => r) hM (cw_S_leavesThen_X0 hC hrm (Nat.le_of_ble_eq_true rfl) (Nat.le_of_ble_eq_true rfl)) rfl rfl (Nat.le_of_ble_eq_true rfl) dX0_pairs_76 hE (fun r h => ct_S_leavesThen _ _ _ x tx Xp T hM.2.1 a2 r9 S Q r8 r h) (fun r10 hE => ?_)
    refine k_iload (pc := 79) hC dX0_pairs_79 4 rfl ?_
    refine k_aload_n (pc := 81) hC dX0_pairs_81 rfl 0 rfl ?_
    refine k_iload_n (pc := 82) hC dX0_pairs_82 rfl 3 rfl ?_
    refine s_ownI (pc := 83) (As := [.int a3]) (fun r => r.1) (fun r => S) (fun r => Q) (fun r => r.2) hM (cw_S_isSo_X0 hC hrm (Nat.le_of_ble_eq_true rfl) (Nat.le_of_ble_eq_true rfl)) rfl rfl (Nat.le_of_ble_eq_true rfl) dX0_pairs_83 hE (fun r h => ct_S_isSo _ _ _ x tx Xp T hM.2.1 F a3 S Q r10 r h) (fun r11 hE => ?_)
    refine k_if_eq (pc := 86) (tgt := 93) hC dX0_pairs_86 (by decide) hE (fun hE => ?_) (fun hE => ?_)
    · refine k_iconst (pc := 93) (v := 0) hC dX0_pairs_93 (by decide) ?_
      refine k_sub [0, 1, 2, 3, 5, 6] rfl ?_
      exact w_S_pairs_B94 hM hR F k25 hk25 k37 hk37 _ _ _ _ _ _ _ _  hE
    · refine k_iconst (pc := 89) (v := 1) hC dX0_pairs_89 (by decide) ?_
      refine k_goto (pc := 90) (tgt := 94) hC dX0_pairs_90 (by decide) ?_
      refine k_sub [0, 1, 2, 3, 5, 6] rfl ?_
      exact w_S_pairs_B94 hM hR F k25 hk25 k37 hk37 _ _ _ _ _ _ _ _  hE
theorem w_S_pairs_L37 {X : Ctx} {D : Dd} {x tx : Nat} {Xp : Jr} {T : Th} {S : Ji} {Q : Ji} {out : Int32 × (Nat → Ji)} (hM : Sxx X cX0_pairs D x 7 rmS_pairs) (hR : Rt X (some .int) (SW D x tx S Q Xp out.2 T) (some (.int out.1)) 0 0) (F : Nat) (k25 : Int32 → Int32 → Int32 → Int32 → Int32 → (Nat → Ji) → Option (Int32 × (Nat → Ji))) (hk25 : ∀ (a1 : Int32) (a2 : Int32) (a3 : Int32) (a4 : Int32) (a5 : Int32) (V : Nat → Ji) , k25 a1 a2 a3 a4 a5 V = some out → Wk X 0 0 (SW D x tx S Q Xp V T) 25 [(0, .ref x), (1, .int a1), (2, .int a2), (3, .int a3), (4, .int a4), (5, .int a5)] []) (n : Nat) : ∀ (a1 : Int32) (a2 : Int32) (a3 : Int32) (a4 : Int32) (a5 : Int32) (a6 : Int32) (V : Nat → Ji) , S_pairs_L37 F k25 T tx S n a1 a2 a3 a4 a5 a6 V = some out → Wk X 0 0 (SW D x tx S Q Xp V T) 37 [(0, .ref x), (1, .int a1), (2, .int a2), (3, .int a3), (4, .int a4), (5, .int a5), (6, .int a6)] [] := by
  induction n with
  | zero => intro a1 a2 a3 a4 a5 a6 V h; cases h
  | succ n ih => intro a1 a2 a3 a4 a5 a6 V h; exact w_S_pairs_B37 hM hR F k25 hk25 (S_pairs_L37 F k25 T tx S n) ih a1 a2 a3 a4 a5 a6 V h
set_option maxHeartbeats 4000000 in
theorem w_S_pairs_B25 {X : Ctx} {D : Dd} {x tx : Nat} {Xp : Jr} {T : Th} {S : Ji} {Q : Ji} {out : Int32 × (Nat → Ji)} (hM : Sxx X cX0_pairs D x 7 rmS_pairs) (hR : Rt X (some .int) (SW D x tx S Q Xp out.2 T) (some (.int out.1)) 0 0) (F : Nat) (k25 : Int32 → Int32 → Int32 → Int32 → Int32 → (Nat → Ji) → Option (Int32 × (Nat → Ji))) (hk25 : ∀ (a1 : Int32) (a2 : Int32) (a3 : Int32) (a4 : Int32) (a5 : Int32) (V : Nat → Ji) , k25 a1 a2 a3 a4 a5 V = some out → Wk X 0 0 (SW D x tx S Q Xp V T) 25 [(0, .ref x), (1, .int a1), (2, .int a2), (3, .int a3), (4, .int a4), (5, .int a5)] []) (a1 : Int32) (a2 : Int32) (a3 : Int32) (a4 : Int32) (a5 : Int32) (V : Nat → Ji) (hE : S_pairs_B25 F k25 T tx S a1 a2 a3 a4 a5 V = some out) : Wk X 0 0 (SW D x tx S Q Xp V T) 25 [(0, .ref x), (1, .int a1), (2, .int a2), (3, .int a3), (4, .int a4), (5, .int a5)] [] := by
  have hC := hM.1
  have hnL := hM.2.2.1
  have hrm := hM.2.2.2
  have hDy : ∀ {S Q : Ji} {V : Nat → Ji} (H : Heap), SW D x tx S Q Xp V T H → Dy D T H := fun _ h => h.2.2.2.1
  unfold S_pairs_B25 at hE
  refine k_iload (pc := 25) hC dX0_pairs_25 5 rfl ?_
  refine k_aload_n (pc := 27) hC dX0_pairs_27 rfl 0 rfl ?_
  refine s_ownI (pc := 28) (As := []) (fun r => r) (fun r => S) (fun r => Q) (fun r => V) hM (cw_S_choices_X0 hC hrm (Nat.le_of_ble_eq_true rfl) (Nat.le_of_ble_eq_true rfl)) rfl rfl (Nat.le_of_ble_eq_true rfl) dX0_pairs_28 hE (fun r h => ct_S_choices _ _ _ x tx Xp T hM.2.1 F S Q V r h) (fun r3 hE => ?_)
  refine k_icmp_ge (pc := 31) (tgt := 109) hC dX0_pairs_31 (by decide) hE (fun hE => ?_) (fun hE => ?_)
  · refine k_iload (pc := 109) hC dX0_pairs_109 4 rfl ?_
    exact k_iret (pc := 111) hC hR ⟨Nat.le_refl 0, Nat.le_refl 0⟩ dX0_pairs_111 (by cases hE; rfl) (by cases hE; exact fun _ h => h)
  · refine k_iconst (pc := 34) (v := 0) hC dX0_pairs_34 (by decide) ?_
    refine k_istore (pc := 35) (lv' := [(6, .int 0), (0, .ref x), (1, .int a1), (2, .int a2), (3, .int a3), (4, .int a4), (5, .int a5)]) hC dX0_pairs_35 (by rw [hnL]; decide) rfl ?_
    refine k_sub [1, 2, 3, 4, 5, 6, 0] rfl ?_
    exact w_S_pairs_L37 hM hR F k25 hk25 _ _ _ _ _ _ _ _  hE
theorem w_S_pairs_L25 {X : Ctx} {D : Dd} {x tx : Nat} {Xp : Jr} {T : Th} {S : Ji} {Q : Ji} {out : Int32 × (Nat → Ji)} (hM : Sxx X cX0_pairs D x 7 rmS_pairs) (hR : Rt X (some .int) (SW D x tx S Q Xp out.2 T) (some (.int out.1)) 0 0) (F : Nat) (n : Nat) : ∀ (a1 : Int32) (a2 : Int32) (a3 : Int32) (a4 : Int32) (a5 : Int32) (V : Nat → Ji) , S_pairs_L25 F T tx S n a1 a2 a3 a4 a5 V = some out → Wk X 0 0 (SW D x tx S Q Xp V T) 25 [(0, .ref x), (1, .int a1), (2, .int a2), (3, .int a3), (4, .int a4), (5, .int a5)] [] := by
  induction n with
  | zero => intro a1 a2 a3 a4 a5 V h; cases h
  | succ n ih => intro a1 a2 a3 a4 a5 V h; exact w_S_pairs_B25 hM hR F (S_pairs_L25 F T tx S n) ih a1 a2 a3 a4 a5 V h
set_option maxHeartbeats 4000000 in
theorem w_S_pairs {X : Ctx} {D : Dd} {x tx : Nat} {Xp : Jr} {T : Th} {S : Ji} {Q : Ji} {out : Int32 × (Nat → Ji)} (hM : Sxx X cX0_pairs D x 7 rmS_pairs) (hR : Rt X (some .int) (SW D x tx S Q Xp out.2 T) (some (.int out.1)) 0 0) (F : Nat) (a1 : Int32) (a2 : Int32) (a3 : Int32) (V : Nat → Ji) (hE : S_pairs F T tx S a1 a2 a3 V = some out) : Wk X 0 0 (SW D x tx S Q Xp V T) 0 [(0, .ref x), (1, .int a1), (2, .int a2), (3, .int a3)] [] := by
  have hC := hM.1
  have hnL := hM.2.2.1
  have hrm := hM.2.2.2
  have hDy : ∀ {S Q : Ji} {V : Nat → Ji} (H : Heap), SW D x tx S Q Xp V T H → Dy D T H := fun _ h => h.2.2.2.1
  unfold S_pairs at hE
  refine k_aload_n (pc := 0) hC dX0_pairs_0 rfl 0 rfl ?_
  refine k_iload_n (pc := 1) hC dX0_pairs_1 rfl 1 rfl ?_
  refine k_iload_n (pc := 2) hC dX0_pairs_2 rfl 2 rfl ?_
  refine s_ownI (pc := 3) (As := [.int a1, .int a2]) (fun r => r) (fun r => S) (fun r => Q) (fun r => V) hM (cw_S_areTwo_X0 hC hrm (Nat.le_of_ble_eq_true rfl) (Nat.le_of_ble_eq_true rfl)) rfl rfl (Nat.le_of_ble_eq_true rfl) dX0_pairs_3 hE (fun r h => ct_S_areTwo _ _ _ x tx Xp T hM.2.1 a1 a2 S Q V r h) (fun r1 hE => ?_)
  refine k_if_eq (pc := 6) (tgt := 17) hC dX0_pairs_6 (by decide) hE (fun hE => ?_) (fun hE => ?_)
  · refine k_iconst (pc := 17) (v := (-1)) hC dX0_pairs_17 (by decide) ?_
    exact k_iret (pc := 18) hC hR ⟨Nat.le_refl 0, Nat.le_refl 0⟩ dX0_pairs_18 (by cases hE; rfl) (by cases hE; exact fun _ h => h)
  · refine k_aload_n (pc := 9) hC dX0_pairs_9 rfl 0 rfl ?_
    refine k_iload_n (pc := 10) hC dX0_pairs_10 rfl 3 rfl ?_
    refine s_ownI (pc := 11) (As := [.int a3]) (fun r => r) (fun r => S) (fun r => Q) (fun r => V) hM (cw_S_isKnown_X0 hC hrm (Nat.le_of_ble_eq_true rfl) (Nat.le_of_ble_eq_true rfl)) rfl rfl (Nat.le_of_ble_eq_true rfl) dX0_pairs_11 hE (fun r h => ct_S_isKnown _ _ _ x tx Xp T hM.2.1 a3 S Q V r h) (fun r2 hE => ?_)
    refine k_if_ne (pc := 14) (tgt := 19) hC dX0_pairs_14 (by decide) hE (fun hE => ?_) (fun hE => ?_)
    · refine k_iconst (pc := 17) (v := (-1)) hC dX0_pairs_17 (by decide) ?_
      exact k_iret (pc := 18) hC hR ⟨Nat.le_refl 0, Nat.le_refl 0⟩ dX0_pairs_18 (by cases hE; rfl) (by cases hE; exact fun _ h => h)
    · refine k_iconst (pc := 19) (v := 0) hC dX0_pairs_19 (by decide) ?_
      refine k_istore (pc := 20) (lv' := [(4, .int 0), (0, .ref x), (1, .int a1), (2, .int a2), (3, .int a3)]) hC dX0_pairs_20 (by rw [hnL]; decide) rfl ?_
      refine k_iconst (pc := 22) (v := 0) hC dX0_pairs_22 (by decide) ?_
      refine k_istore (pc := 23) (lv' := [(5, .int 0), (4, .int 0), (0, .ref x), (1, .int a1), (2, .int a2), (3, .int a3)]) hC dX0_pairs_23 (by rw [hnL]; decide) rfl ?_
      refine k_sub [2, 3, 4, 5, 1, 0] rfl ?_
      exact w_S_pairs_L25 hM hR F _ _ _ _ _ _ _  hE
theorem ct_S_pairs (l : Launch) (D : Dd) (A : Nat → Prop) (x tx : Nat) (Xp : Jr) (T : Th) (hA : ∀ o, o < 847 → A (x + o)) (F : Nat) (a1 : Int32) (a2 : Int32) (a3 : Int32) (S Q : Ji) (V : Nat → Ji) (out : Int32 × (Nat → Ji)) (hE : S_pairs F T tx S a1 a2 a3 V = some out) : Ct l yX0_pairs (ws_ yX0_pairs cX0_pairs 7 (some .int)) rmS_pairs vwCl arTy D A [.ref x, .int a1, .int a2, .int a3] (SW D x tx S Q Xp V T) (SW D x tx S Q Xp out.2 T) (some (.int out.1)) 0 0 := by
  refine Ct.of (by decide) (Nat.le_of_ble_eq_true rfl) rfl ?_
  intro X hl hrm hC hR hXA hnL _
  exact w_S_pairs ⟨hC, by show ∀ o, o < 847 → cxA X (x + o); unfold cxA; rw [hXA]; exact hA, hnL, hrm⟩ hR F a1 a2 a3 V hE
abbrev rmS_hold : Room := { frames := 2, cells := 0, slots := 0, locals := 73 }
set_option maxHeartbeats 4000000 in
theorem w_S_hold {X : Ctx} {D : Dd} {x tx : Nat} {Xp : Jr} {T : Th} {Q : Ji} {out : Int32 × Ji × (Nat → Ji)} (hM : Sxx X cX0_hold D x 2 rmS_hold) (hR : Rt X (some .boolean) (SW D x tx out.2.1 Q Xp out.2.2 T) (some (.int out.1)) 0 0) (a1 : Int32) (S : Ji) (V : Nat → Ji) (hE : S_hold T tx a1 S V = some out) : Wk X 0 0 (SW D x tx S Q Xp V T) 0 [(0, .ref x), (1, .int a1)] [] := by
  have hC := hM.1
  have hnL := hM.2.2.1
  have hrm := hM.2.2.2
  have hDy : ∀ {S Q : Ji} {V : Nat → Ji} (H : Heap), SW D x tx S Q Xp V T H → Dy D T H := fun _ h => h.2.2.2.1
  unfold S_hold at hE
  refine k_iload_n (pc := 0) hC dX0_hold_0 rfl 1 rfl ?_
  refine k_iconst (pc := 1) (v := 0) hC dX0_hold_1 (by decide) ?_
  refine k_iconst (pc := 2) (v := 2) hC dX0_hold_2 (by decide) ?_
  refine m_callSI (pc := 3) (As := [.int a1, .int 0, .int 2]) (fun r => r) hC (cw_S_isIn_X0 hC hrm (Nat.le_of_ble_eq_true rfl) (Nat.le_of_ble_eq_true rfl)) rfl rfl (Nat.le_of_ble_eq_true rfl) ⟨Nat.zero_le _, Nat.zero_le _⟩ dX0_hold_3 hE (fun r h => ct_S_isIn _ _ _ _ a1 0 2 r h) (fun r1 hE => ?_)
  refine k_if_ne (pc := 6) (tgt := 11) hC dX0_hold_6 (by decide) hE (fun hE => ?_) (fun hE => ?_)
  · refine k_iconst (pc := 9) (v := 0) hC dX0_hold_9 (by decide) ?_
    exact k_zret (pc := 10) (by decide) hC hR ⟨Nat.le_refl 0, Nat.le_refl 0⟩ dX0_hold_10 (by cases hE; rfl) (by cases hE; exact fun _ h => h)
  · refine k_aload_n (pc := 11) hC dX0_hold_11 rfl 0 rfl ?_
    refine gS_57 (pc := 12) hM dX0_hold_12 ?_
    refine k_iload_n (pc := 15) hC dX0_hold_15 rfl 1 rfl ?_
    refine s_slots (pc := 16) hM dX0_hold_16 hE (fun q2 hq2 hE => ?_)
    refine k_aload_n (pc := 17) hC dX0_hold_17 rfl 0 rfl ?_
    refine gS_46 (pc := 18) hM dX0_hold_18 ?_
    refine s_takes (pc := 21) (22 + q2) 0 (by have := hq2; omega) (by decide) (by omega) hM (Nat.le_of_ble_eq_true rfl) (Nat.le_of_ble_eq_true rfl) (Nat.le_of_ble_eq_true rfl) dX0_hold_21 ?_
    refine k_lt (G := fun Z => Wk X 0 0 (SW D x tx S Q Xp Z T) 24 [(0, .ref x), (1, .int a1)] []) hE (fun V3 hE => ?_)
    refine k_aload_n (pc := 24) hC dX0_hold_24 rfl 0 rfl ?_
    refine gS_60 (pc := 25) hM dX0_hold_25 ?_
    refine k_iload_n (pc := 28) hC dX0_hold_28 rfl 1 rfl ?_
    refine k_iconst (pc := 29) (v := 1) hC dX0_hold_29 (by decide) ?_
    refine sS_zast (pc := 30) 183 ls_183 hM dX0_hold_30 hE (fun S4 hE => ?_)
    refine k_iconst (pc := 31) (v := 1) hC dX0_hold_31 (by decide) ?_
    exact k_zret (pc := 32) (by decide) hC hR ⟨Nat.le_refl 0, Nat.le_refl 0⟩ dX0_hold_32 (by cases hE; rfl) (by cases hE; exact fun _ h => h)
theorem ct_S_hold (l : Launch) (D : Dd) (A : Nat → Prop) (x tx : Nat) (Xp : Jr) (T : Th) (hA : ∀ o, o < 847 → A (x + o)) (a1 : Int32) (S Q : Ji) (V : Nat → Ji) (out : Int32 × Ji × (Nat → Ji)) (hE : S_hold T tx a1 S V = some out) : Ct l yX0_hold (ws_ yX0_hold cX0_hold 2 (some .boolean)) rmS_hold vwCl arTy D A [.ref x, .int a1] (SW D x tx S Q Xp V T) (SW D x tx out.2.1 Q Xp out.2.2 T) (some (.int out.1)) 0 0 := by
  refine Ct.of (by decide) (Nat.le_of_ble_eq_true rfl) rfl ?_
  intro X hl hrm hC hR hXA hnL _
  exact w_S_hold ⟨hC, by show ∀ o, o < 847 → cxA X (x + o); unfold cxA; rw [hXA]; exact hA, hnL, hrm⟩ hR a1 S V hE
abbrev rmS_restore : Room := { frames := 2, cells := 0, slots := 0, locals := 73 }
set_option maxHeartbeats 4000000 in
theorem w_S_restore {X : Ctx} {D : Dd} {x tx : Nat} {Xp : Jr} {T : Th} {Q : Ji} {out : Int32 × Ji × (Nat → Ji)} (hM : Sxx X cX0_restore D x 2 rmS_restore) (hR : Rt X (some .boolean) (SW D x tx out.2.1 Q Xp out.2.2 T) (some (.int out.1)) 0 0) (a1 : Int32) (S : Ji) (V : Nat → Ji) (hE : S_restore T tx a1 S V = some out) : Wk X 0 0 (SW D x tx S Q Xp V T) 0 [(0, .ref x), (1, .int a1)] [] := by
  have hC := hM.1
  have hnL := hM.2.2.1
  have hrm := hM.2.2.2
  have hDy : ∀ {S Q : Ji} {V : Nat → Ji} (H : Heap), SW D x tx S Q Xp V T H → Dy D T H := fun _ h => h.2.2.2.1
  unfold S_restore at hE
  refine k_iload_n (pc := 0) hC dX0_restore_0 rfl 1 rfl ?_
  refine k_iconst (pc := 1) (v := 0) hC dX0_restore_1 (by decide) ?_
  refine k_iconst (pc := 2) (v := 2) hC dX0_restore_2 (by decide) ?_
  refine m_callSI (pc := 3) (As := [.int a1, .int 0, .int 2]) (fun r => r) hC (cw_S_isIn_X0 hC hrm (Nat.le_of_ble_eq_true rfl) (Nat.le_of_ble_eq_true rfl)) rfl rfl (Nat.le_of_ble_eq_true rfl) ⟨Nat.zero_le _, Nat.zero_le _⟩ dX0_restore_3 hE (fun r h => ct_S_isIn _ _ _ _ a1 0 2 r h) (fun r1 hE => ?_)
  refine k_if_eq (pc := 6) (tgt := 18) hC dX0_restore_6 (by decide) hE (fun hE => ?_) (fun hE => ?_)
  · refine k_iconst (pc := 18) (v := 0) hC dX0_restore_18 (by decide) ?_
    exact k_zret (pc := 19) (by decide) hC hR ⟨Nat.le_refl 0, Nat.le_refl 0⟩ dX0_restore_19 (by cases hE; rfl) (by cases hE; exact fun _ h => h)
  · refine k_aload_n (pc := 9) hC dX0_restore_9 rfl 0 rfl ?_
    refine gS_60 (pc := 10) hM dX0_restore_10 ?_
    refine k_iload_n (pc := 13) hC dX0_restore_13 rfl 1 rfl ?_
    refine sS_zald (pc := 14) 183 ls_183 hM dX0_restore_14 hE (fun x2 hE => ?_)
    refine k_if_ne (pc := 15) (tgt := 20) hC dX0_restore_15 (by decide) hE (fun hE => ?_) (fun hE => ?_)
    · refine k_iconst (pc := 18) (v := 0) hC dX0_restore_18 (by decide) ?_
      exact k_zret (pc := 19) (by decide) hC hR ⟨Nat.le_refl 0, Nat.le_refl 0⟩ dX0_restore_19 (by cases hE; rfl) (by cases hE; exact fun _ h => h)
    · refine k_aload_n (pc := 20) hC dX0_restore_20 rfl 0 rfl ?_
      refine gS_46 (pc := 21) hM dX0_restore_21 ?_
      refine k_aload_n (pc := 24) hC dX0_restore_24 rfl 0 rfl ?_
      refine gS_57 (pc := 25) hM dX0_restore_25 ?_
      refine k_iload_n (pc := 28) hC dX0_restore_28 rfl 1 rfl ?_
      refine s_slots (pc := 29) hM dX0_restore_29 hE (fun q3 hq3 hE => ?_)
      refine s_takes (pc := 30) 0 (22 + q3) (by decide) (by have := hq3; omega) (by omega) hM (Nat.le_of_ble_eq_true rfl) (Nat.le_of_ble_eq_true rfl) (Nat.le_of_ble_eq_true rfl) dX0_restore_30 ?_
      refine k_lt (G := fun Z => Wk X 0 0 (SW D x tx S Q Xp Z T) 33 [(0, .ref x), (1, .int a1)] []) hE (fun V4 hE => ?_)
      refine k_aload_n (pc := 33) hC dX0_restore_33 rfl 0 rfl ?_
      refine k_iconst (pc := 34) (v := 0) hC dX0_restore_34 (by decide) ?_
      refine pS_93 (pc := 35) hM dX0_restore_35 hE (fun S5 hE => ?_)
      refine k_iconst (pc := 38) (v := 1) hC dX0_restore_38 (by decide) ?_
      exact k_zret (pc := 39) (by decide) hC hR ⟨Nat.le_refl 0, Nat.le_refl 0⟩ dX0_restore_39 (by cases hE; rfl) (by cases hE; exact fun _ h => h)
theorem ct_S_restore (l : Launch) (D : Dd) (A : Nat → Prop) (x tx : Nat) (Xp : Jr) (T : Th) (hA : ∀ o, o < 847 → A (x + o)) (a1 : Int32) (S Q : Ji) (V : Nat → Ji) (out : Int32 × Ji × (Nat → Ji)) (hE : S_restore T tx a1 S V = some out) : Ct l yX0_restore (ws_ yX0_restore cX0_restore 2 (some .boolean)) rmS_restore vwCl arTy D A [.ref x, .int a1] (SW D x tx S Q Xp V T) (SW D x tx out.2.1 Q Xp out.2.2 T) (some (.int out.1)) 0 0 := by
  refine Ct.of (by decide) (Nat.le_of_ble_eq_true rfl) rfl ?_
  intro X hl hrm hC hR hXA hnL _
  exact w_S_restore ⟨hC, by show ∀ o, o < 847 → cxA X (x + o); unfold cxA; rw [hXA]; exact hA, hnL, hrm⟩ hR a1 S V hE
abbrev rmS_count : Room := { frames := 5, cells := 0, slots := 0, locals := 114 }
set_option maxHeartbeats 4000000 in
theorem w_S_count_B208 {X : Ctx} {D : Dd} {x tx : Nat} {Xp : Jr} {T : Th} {S : Ji} {Q : Ji} {V : Nat → Ji} {out : Int32} (hM : Sxx X cX0_count D x 2 rmS_count) (hR : Rt X (some .int) (SW D x tx S Q Xp V T) (some (.int out)) 0 0) (F : Nat) (s0 : Int32) (s1 : Int32) (hE : S_count_B208 F T tx S Q V s0 s1 = some out) : Wk X 0 0 (SW D x tx S Q Xp V T) 208 [(0, .ref x)] [.int s0, .int s1] := by
  have hC := hM.1
  have hnL := hM.2.2.1
  have hrm := hM.2.2.2
  have hDy : ∀ {S Q : Ji} {V : Nat → Ji} (H : Heap), SW D x tx S Q Xp V T H → Dy D T H := fun _ h => h.2.2.2.1
  unfold S_count_B208 at hE
  refine k_iadd (pc := 208) hC dX0_count_208 ?_
  refine k_aload_n (pc := 209) hC dX0_count_209 rfl 0 rfl ?_
  refine gS_60 (pc := 210) hM dX0_count_210 ?_
  refine k_iconst (pc := 213) (v := 2) hC dX0_count_213 (by decide) ?_
  refine sS_zald (pc := 214) 183 ls_183 hM dX0_count_214 hE (fun x21 hE => ?_)
  refine k_if_eq (pc := 215) (tgt := 222) hC dX0_count_215 (by decide) hE (fun hE => ?_) (fun hE => ?_)
  · refine k_iconst (pc := 222) (v := 0) hC dX0_count_222 (by decide) ?_
    refine k_iadd (pc := 223) hC dX0_count_223 ?_
    exact k_iret (pc := 224) hC hR ⟨Nat.le_refl 0, Nat.le_refl 0⟩ dX0_count_224 (by cases hE; rfl) (by cases hE; exact fun _ h => h)
  · refine k_iconst (pc := 218) (v := 1) hC dX0_count_218 (by decide) ?_
    refine k_goto (pc := 219) (tgt := 223) hC dX0_count_219 (by decide) ?_
    refine k_iadd (pc := 223) hC dX0_count_223 ?_
    exact k_iret (pc := 224) hC hR ⟨Nat.le_refl 0, Nat.le_refl 0⟩ dX0_count_224 (by cases hE; rfl) (by cases hE; exact fun _ h => h)
set_option maxHeartbeats 4000000 in
theorem w_S_count_B194 {X : Ctx} {D : Dd} {x tx : Nat} {Xp : Jr} {T : Th} {S : Ji} {Q : Ji} {V : Nat → Ji} {out : Int32} (hM : Sxx X cX0_count D x 2 rmS_count) (hR : Rt X (some .int) (SW D x tx S Q Xp V T) (some (.int out)) 0 0) (F : Nat) (s0 : Int32) (hE : S_count_B194 F T tx S Q V s0 = some out) : Wk X 0 0 (SW D x tx S Q Xp V T) 194 [(0, .ref x)] [.int s0] := by
  have hC := hM.1
  have hnL := hM.2.2.1
  have hrm := hM.2.2.2
  have hDy : ∀ {S Q : Ji} {V : Nat → Ji} (H : Heap), SW D x tx S Q Xp V T H → Dy D T H := fun _ h => h.2.2.2.1
  unfold S_count_B194 at hE
  refine k_aload_n (pc := 194) hC dX0_count_194 rfl 0 rfl ?_
  refine gS_60 (pc := 195) hM dX0_count_195 ?_
  refine k_iconst (pc := 198) (v := 1) hC dX0_count_198 (by decide) ?_
  refine sS_zald (pc := 199) 183 ls_183 hM dX0_count_199 hE (fun x20 hE => ?_)
  refine k_if_eq (pc := 200) (tgt := 207) hC dX0_count_200 (by decide) hE (fun hE => ?_) (fun hE => ?_)
  · refine k_iconst (pc := 207) (v := 0) hC dX0_count_207 (by decide) ?_
    exact w_S_count_B208 hM hR F _ _  hE
  · refine k_iconst (pc := 203) (v := 1) hC dX0_count_203 (by decide) ?_
    refine k_goto (pc := 204) (tgt := 208) hC dX0_count_204 (by decide) ?_
    exact w_S_count_B208 hM hR F _ _  hE
set_option maxHeartbeats 4000000 in
theorem w_S_count {X : Ctx} {D : Dd} {x tx : Nat} {Xp : Jr} {T : Th} {S : Ji} {Q : Ji} {V : Nat → Ji} {out : Int32} (hM : Sxx X cX0_count D x 2 rmS_count) (hR : Rt X (some .int) (SW D x tx S Q Xp V T) (some (.int out)) 0 0) (F : Nat) (a1 : Int32) (hE : S_count F T tx S Q V a1 = some out) : Wk X 0 0 (SW D x tx S Q Xp V T) 0 [(0, .ref x), (1, .int a1)] [] := by
  have hC := hM.1
  have hnL := hM.2.2.1
  have hrm := hM.2.2.2
  have hDy : ∀ {S Q : Ji} {V : Nat → Ji} (H : Heap), SW D x tx S Q Xp V T H → Dy D T H := fun _ h => h.2.2.2.1
  unfold S_count at hE
  refine k_iload_n (pc := 0) hC dX0_count_0 rfl 1 rfl ?_
  refine sw_E hE (fun hx hE => ?_) (fun n0 hE => ?_)
  · refine k_tswI (pc := 1) (k := 0) (tgt := 68) hC dX0_count_1 hx (by decide) (by decide) rfl (by decide) ?_
    refine k_aload_n (pc := 68) hC dX0_count_68 rfl 0 rfl ?_
    refine gS_35 (pc := 69) hM dX0_count_69 ?_
    refine gD_X0_124_X4 (pc := 72) hC hDy dX0_count_72 hE (fun x1 hE => ?_)
    refine k_nn (G := fun z => Wk X 0 0 (SW D x tx S Q Xp V T) 75 [(0, .ref x), (1, .int a1)] [z]) hE (fun b2 hE => ?_)
    refine t_callVI (pc := 75) (As := []) 19 (fun r => r) hC hDy cl_J5 (cw_L_size_X0 hC hrm (Nat.le_of_ble_eq_true rfl) (Nat.le_of_ble_eq_true rfl)) rfl rfl (Nat.le_of_ble_eq_true rfl) ⟨Nat.zero_le _, Nat.zero_le _⟩ dX0_count_75 hE (fun r h => ct_L_size _ _ _ _ T hDy b2 r h) (fun r3 hE => ?_)
    exact k_iret (pc := 78) hC hR ⟨Nat.le_refl 0, Nat.le_refl 0⟩ dX0_count_78 (by cases hE; rfl) (by cases hE; exact fun _ h => h)
  refine sw_E hE (fun hx hE => ?_) (fun n1 hE => ?_)
  · refine k_tswI (pc := 1) (k := 1) (tgt := 79) hC dX0_count_1 hx (by decide) (by decide) rfl (by decide) ?_
    refine k_aload_n (pc := 79) hC dX0_count_79 rfl 0 rfl ?_
    refine gS_35 (pc := 80) hM dX0_count_80 ?_
    refine gD_X0_226_X4 (pc := 83) hC hDy dX0_count_83 hE (fun x4 hE => ?_)
    refine k_nn (G := fun z => Wk X 0 0 (SW D x tx S Q Xp V T) 86 [(0, .ref x), (1, .int a1)] [z]) hE (fun b5 hE => ?_)
    refine t_callVI (pc := 86) (As := []) 19 (fun r => r) hC hDy cl_J5 (cw_L_size_X0 hC hrm (Nat.le_of_ble_eq_true rfl) (Nat.le_of_ble_eq_true rfl)) rfl rfl (Nat.le_of_ble_eq_true rfl) ⟨Nat.zero_le _, Nat.zero_le _⟩ dX0_count_86 hE (fun r h => ct_L_size _ _ _ _ T hDy b5 r h) (fun r6 hE => ?_)
    exact k_iret (pc := 89) hC hR ⟨Nat.le_refl 0, Nat.le_refl 0⟩ dX0_count_89 (by cases hE; rfl) (by cases hE; exact fun _ h => h)
  refine sw_E hE (fun hx hE => ?_) (fun n2 hE => ?_)
  · refine k_tswI (pc := 1) (k := 2) (tgt := 90) hC dX0_count_1 hx (by decide) (by decide) rfl (by decide) ?_
    refine k_aload_n (pc := 90) hC dX0_count_90 rfl 0 rfl ?_
    refine gS_35 (pc := 91) hM dX0_count_91 ?_
    refine gD_X0_206_X4 (pc := 94) hC hDy dX0_count_94 hE (fun x7 hE => ?_)
    refine k_nn (G := fun z => Wk X 0 0 (SW D x tx S Q Xp V T) 97 [(0, .ref x), (1, .int a1)] [z]) hE (fun b8 hE => ?_)
    refine t_callVI (pc := 97) (As := []) 19 (fun r => r) hC hDy cl_J5 (cw_L_size_X0 hC hrm (Nat.le_of_ble_eq_true rfl) (Nat.le_of_ble_eq_true rfl)) rfl rfl (Nat.le_of_ble_eq_true rfl) ⟨Nat.zero_le _, Nat.zero_le _⟩ dX0_count_97 hE (fun r h => ct_L_size _ _ _ _ T hDy b8 r h) (fun r9 hE => ?_)
    exact k_iret (pc := 100) hC hR ⟨Nat.le_refl 0, Nat.le_refl 0⟩ dX0_count_100 (by cases hE; rfl) (by cases hE; exact fun _ h => h)
  refine sw_E hE (fun hx hE => ?_) (fun n3 hE => ?_)
  · refine k_tswI (pc := 1) (k := 3) (tgt := 101) hC dX0_count_1 hx (by decide) (by decide) rfl (by decide) ?_
    refine k_aload_n (pc := 101) hC dX0_count_101 rfl 0 rfl ?_
    refine gS_35 (pc := 102) hM dX0_count_102 ?_
    refine gD_X0_107_X4 (pc := 105) hC hDy dX0_count_105 hE (fun x10 hE => ?_)
    refine k_nn (G := fun z => Wk X 0 0 (SW D x tx S Q Xp V T) 108 [(0, .ref x), (1, .int a1)] [z]) hE (fun b11 hE => ?_)
    refine t_callVI (pc := 108) (As := []) 19 (fun r => r) hC hDy cl_J5 (cw_L_size_X0 hC hrm (Nat.le_of_ble_eq_true rfl) (Nat.le_of_ble_eq_true rfl)) rfl rfl (Nat.le_of_ble_eq_true rfl) ⟨Nat.zero_le _, Nat.zero_le _⟩ dX0_count_108 hE (fun r h => ct_L_size _ _ _ _ T hDy b11 r h) (fun r12 hE => ?_)
    exact k_iret (pc := 111) hC hR ⟨Nat.le_refl 0, Nat.le_refl 0⟩ dX0_count_111 (by cases hE; rfl) (by cases hE; exact fun _ h => h)
  refine sw_E hE (fun hx hE => ?_) (fun n4 hE => ?_)
  · refine k_tswI (pc := 1) (k := 4) (tgt := 112) hC dX0_count_1 hx (by decide) (by decide) rfl (by decide) ?_
    refine k_aload_n (pc := 112) hC dX0_count_112 rfl 0 rfl ?_
    refine gS_35 (pc := 113) hM dX0_count_113 ?_
    refine gD_X0_121_X4 (pc := 116) hC hDy dX0_count_116 hE (fun x13 hE => ?_)
    refine k_nn (G := fun z => Wk X 0 0 (SW D x tx S Q Xp V T) 119 [(0, .ref x), (1, .int a1)] [z]) hE (fun b14 hE => ?_)
    refine t_callVI (pc := 119) (As := []) 19 (fun r => r) hC hDy cl_J5 (cw_L_size_X0 hC hrm (Nat.le_of_ble_eq_true rfl) (Nat.le_of_ble_eq_true rfl)) rfl rfl (Nat.le_of_ble_eq_true rfl) ⟨Nat.zero_le _, Nat.zero_le _⟩ dX0_count_119 hE (fun r h => ct_L_size _ _ _ _ T hDy b14 r h) (fun r15 hE => ?_)
    exact k_iret (pc := 122) hC hR ⟨Nat.le_refl 0, Nat.le_refl 0⟩ dX0_count_122 (by cases hE; rfl) (by cases hE; exact fun _ h => h)
  refine sw_E hE (fun hx hE => ?_) (fun n5 hE => ?_)
  · refine k_tswI (pc := 1) (k := 5) (tgt := 123) hC dX0_count_1 hx (by decide) (by decide) rfl (by decide) ?_
    refine k_aload_n (pc := 123) hC dX0_count_123 rfl 0 rfl ?_
    refine gS_35 (pc := 124) hM dX0_count_124 ?_
    refine gD_X0_287_X4 (pc := 127) hC hDy dX0_count_127 hE (fun x16 hE => ?_)
    exact k_iret (pc := 130) hC hR ⟨Nat.le_refl 0, Nat.le_refl 0⟩ dX0_count_130 (by cases hE; rfl) (by cases hE; exact fun _ h => h)
  refine sw_E hE (fun hx hE => ?_) (fun n6 hE => ?_)
  · refine k_tswI (pc := 1) (k := 6) (tgt := 131) hC dX0_count_1 hx (by decide) (by decide) rfl (by decide) ?_
    refine k_aload_n (pc := 131) hC dX0_count_131 rfl 0 rfl ?_
    refine gS_46 (pc := 132) hM dX0_count_132 ?_
    refine gSV_308 (pc := 135) (by decide) hM dX0_count_135 ?_
    exact k_iret (pc := 138) hC hR ⟨Nat.le_refl 0, Nat.le_refl 0⟩ dX0_count_138 (by cases hE; rfl) (by cases hE; exact fun _ h => h)
  refine sw_E hE (fun hx hE => ?_) (fun n7 hE => ?_)
  · refine k_tswI (pc := 1) (k := 7) (tgt := 139) hC dX0_count_1 hx (by decide) (by decide) rfl (by decide) ?_
    refine k_aload_n (pc := 139) hC dX0_count_139 rfl 0 rfl ?_
    refine gS_46 (pc := 140) hM dX0_count_140 ?_
    refine gSV_229 (pc := 143) (by decide) hM dX0_count_143 ?_
    refine m_callSI (pc := 146) (As := [.int (V 0 0 8)]) (fun r => r) hC (cw_J_bitCount_X0 hC hrm (Nat.le_of_ble_eq_true rfl) (Nat.le_of_ble_eq_true rfl)) rfl rfl (Nat.le_of_ble_eq_true rfl) ⟨Nat.zero_le _, Nat.zero_le _⟩ dX0_count_146 hE (fun r h => ct_J_bitCount _ _ _ _ (V 0 0 8) r h) (fun r17 hE => ?_)
    exact k_iret (pc := 149) hC hR ⟨Nat.le_refl 0, Nat.le_refl 0⟩ dX0_count_149 (by cases hE; rfl) (by cases hE; exact fun _ h => h)
  refine sw_E hE (fun hx hE => ?_) (fun n8 hE => ?_)
  · refine k_tswI (pc := 1) (k := 8) (tgt := 150) hC dX0_count_1 hx (by decide) (by decide) rfl (by decide) ?_
    refine k_aload_n (pc := 150) hC dX0_count_150 rfl 0 rfl ?_
    refine gS_46 (pc := 151) hM dX0_count_151 ?_
    refine k_aload_n (pc := 154) hC dX0_count_154 rfl 0 rfl ?_
    refine gS_35 (pc := 155) hM dX0_count_155 ?_
    refine s_vcallI (pc := 158) (As := [.ref tx]) (by decide) (fun r => r) (fun _ => V 0) hM (cw_V_worthOfAll_X0 hC hrm (Nat.le_of_ble_eq_true rfl) (Nat.le_of_ble_eq_true rfl)) rfl rfl (Nat.le_of_ble_eq_true rfl) dX0_count_158 hE (fun r h => ct_V_worthOfAll _ _ _ _ T fpV_A F tx (V 0) r h) (fun r18 hE => ?_)
    rw [vf_same]
    exact k_iret (pc := 161) hC hR ⟨Nat.le_refl 0, Nat.le_refl 0⟩ dX0_count_161 (by cases hE; rfl) (by cases hE; exact fun _ h => h)
  refine sw_E hE (fun hx hE => ?_) (fun n9 hE => ?_)
  · refine k_tswI (pc := 1) (k := 9) (tgt := 162) hC dX0_count_1 hx (by decide) (by decide) rfl (by decide) ?_
    refine k_aload_n (pc := 162) hC dX0_count_162 rfl 0 rfl ?_
    refine gS_19 (pc := 163) hM dX0_count_163 ?_
    refine gS_74 (pc := 166) hM dX0_count_166 ?_
    exact k_iret (pc := 169) hC hR ⟨Nat.le_refl 0, Nat.le_refl 0⟩ dX0_count_169 (by cases hE; rfl) (by cases hE; exact fun _ h => h)
  refine sw_E hE (fun hx hE => ?_) (fun n10 hE => ?_)
  · refine k_tswI (pc := 1) (k := 10) (tgt := 170) hC dX0_count_1 hx (by decide) (by decide) rfl (by decide) ?_
    refine k_aload_n (pc := 170) hC dX0_count_170 rfl 0 rfl ?_
    refine gS_93 (pc := 171) hM dX0_count_171 ?_
    exact k_iret (pc := 174) hC hR ⟨Nat.le_refl 0, Nat.le_refl 0⟩ dX0_count_174 (by cases hE; rfl) (by cases hE; exact fun _ h => h)
  refine sw_E hE (fun hx hE => ?_) (fun n11 hE => ?_)
  · refine k_tswI (pc := 1) (k := 11) (tgt := 175) hC dX0_count_1 hx (by decide) (by decide) rfl (by decide) ?_
    refine k_aload_n (pc := 175) hC dX0_count_175 rfl 0 rfl ?_
    refine gS_96 (pc := 176) hM dX0_count_176 ?_
    exact k_iret (pc := 179) hC hR ⟨Nat.le_refl 0, Nat.le_refl 0⟩ dX0_count_179 (by cases hE; rfl) (by cases hE; exact fun _ h => h)
  refine sw_E hE (fun hx hE => ?_) (fun n12 hE => ?_)
  · refine k_tswI (pc := 1) (k := 12) (tgt := 180) hC dX0_count_1 hx (by decide) (by decide) rfl (by decide) ?_
    refine k_aload_n (pc := 180) hC dX0_count_180 rfl 0 rfl ?_
    refine gS_60 (pc := 181) hM dX0_count_181 ?_
    refine k_iconst (pc := 184) (v := 0) hC dX0_count_184 (by decide) ?_
    refine sS_zald (pc := 185) 183 ls_183 hM dX0_count_185 hE (fun x19 hE => ?_)
    refine k_if_eq (pc := 186) (tgt := 193) hC dX0_count_186 (by decide) hE (fun hE => ?_) (fun hE => ?_)
    · refine k_iconst (pc := 193) (v := 0) hC dX0_count_193 (by decide) ?_
      refine k_sub [0] rfl ?_
      exact w_S_count_B194 hM hR F _  hE
    · refine k_iconst (pc := 189) (v := 1) hC dX0_count_189 (by decide) ?_
      refine k_goto (pc := 190) (tgt := 194) hC dX0_count_190 (by decide) ?_
      refine k_sub [0] rfl ?_
      exact w_S_count_B194 hM hR F _  hE
  have z0 := sw_ne (z := 0) n0 rfl
  have z1 := sw_ne (z := 1) n1 rfl
  have z2 := sw_ne (z := 2) n2 rfl
  have z3 := sw_ne (z := 3) n3 rfl
  have z4 := sw_ne (z := 4) n4 rfl
  have z5 := sw_ne (z := 5) n5 rfl
  have z6 := sw_ne (z := 6) n6 rfl
  have z7 := sw_ne (z := 7) n7 rfl
  have z8 := sw_ne (z := 8) n8 rfl
  have z9 := sw_ne (z := 9) n9 rfl
  have z10 := sw_ne (z := 10) n10 rfl
  have z11 := sw_ne (z := 11) n11 rfl
  have z12 := sw_ne (z := 12) n12 rfl
  refine k_tswO (pc := 1) (tgt := 225) hC dX0_count_1 (by omega) (by decide) ?_
  refine k_iconst (pc := 225) (v := (-1)) hC dX0_count_225 (by decide) ?_
  exact k_iret (pc := 226) hC hR ⟨Nat.le_refl 0, Nat.le_refl 0⟩ dX0_count_226 (by cases hE; rfl) (by cases hE; exact fun _ h => h)
theorem ct_S_count (l : Launch) (D : Dd) (A : Nat → Prop) (x tx : Nat) (Xp : Jr) (T : Th) (hA : ∀ o, o < 847 → A (x + o)) (F : Nat) (a1 : Int32) (S Q : Ji) (V : Nat → Ji) (out : Int32) (hE : S_count F T tx S Q V a1 = some out) : Ct l yX0_count (ws_ yX0_count cX0_count 2 (some .int)) rmS_count vwCl arTy D A [.ref x, .int a1] (SW D x tx S Q Xp V T) (SW D x tx S Q Xp V T) (some (.int out)) 0 0 := by
  refine Ct.of (by decide) (Nat.le_of_ble_eq_true rfl) rfl ?_
  intro X hl hrm hC hR hXA hnL _
  exact w_S_count ⟨hC, by show ∀ o, o < 847 → cxA X (x + o); unfold cxA; rw [hXA]; exact hA, hnL, hrm⟩ hR F a1 hE
