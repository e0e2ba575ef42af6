set_option maxRecDepth 100000
abbrev rmM_failAt : Room := { frames := 0, cells := 0, slots := 0, locals := 0 }
set_option maxHeartbeats 4000000 in
theorem w_M_failAt {X : Ctx} {D : Dd} {th : Nat} {K : Jl} {out : Ji} (hM : Mx X cX8_failAt D th 3 rmM_failAt) (hR : Rt X none (RM D th out K) none 0 0) (a1 : Int32) (a2 : Int32) (J : Ji) (hE : M_failAt a1 a2 J = some out) : Wk X 0 0 (RM D th J K) 0 [(0, .ref th), (1, .int a1), (2, .int a2)] [] := by
  have hC := hM.1
  have hnL := hM.2.2.1
  have hrm := hM.2.2.2
  unfold M_failAt at hE
  refine k_aload_n (pc := 0) hC dX8_failAt_0 rfl 0 rfl ?_
  refine gM_13 (pc := 1) hM dX8_failAt_1 ?_
  refine k_if_le (pc := 4) (tgt := 8) hC dX8_failAt_4 (by decide) hE (fun hE => ?_) (fun hE => ?_)
  · refine k_aload_n (pc := 8) hC dX8_failAt_8 rfl 0 rfl ?_
    refine k_iload_n (pc := 9) hC dX8_failAt_9 rfl 1 rfl ?_
    refine pM_13 (pc := 10) hM dX8_failAt_10 hE (fun J1 hE => ?_)
    refine k_aload_n (pc := 13) hC dX8_failAt_13 rfl 0 rfl ?_
    refine k_aload_n (pc := 14) hC dX8_failAt_14 rfl 0 rfl ?_
    refine gM_6 (pc := 15) hM dX8_failAt_15 ?_
    refine k_iload_n (pc := 18) hC dX8_failAt_18 rfl 2 rfl ?_
    refine m_iald (pc := 19) 4 ly_4 hM dX8_failAt_19 hE (fun x2 hE => ?_)
    refine pM_14 (pc := 20) hM dX8_failAt_20 hE (fun J3 hE => ?_)
    exact k_vret (pc := 23) hC hR ⟨Nat.le_refl 0, Nat.le_refl 0⟩ dX8_failAt_23 (by cases hE; rfl) (by cases hE; exact fun _ h => h)
  · exact k_vret (pc := 7) hC hR ⟨Nat.le_refl 0, Nat.le_refl 0⟩ dX8_failAt_7 (by cases hE; rfl) (by cases hE; exact fun _ h => h)
theorem ct_M_failAt (l : Launch) (D : Dd) (A : Nat → Prop) (th : Nat) (hA : ∀ (off : Nat) (kd : Kd), layM off = some kd → A (th + off)) (a1 : Int32) (a2 : Int32) (J : Ji) (K : Jl) (out : Ji) (hE : M_failAt a1 a2 J = some out) : Ct l yX8_failAt (ws_ yX8_failAt cX8_failAt 3 none) rmM_failAt vwCl arTy D A [.ref th, .int a1, .int a2] (RM D th J K) (RM D th out K) none 0 0 := by
  refine Ct.of (by decide) (Nat.le_of_ble_eq_true rfl) rfl ?_
  intro X hl hrm hC hR hXA hnL _
  exact w_M_failAt ⟨hC, by unfold Ft; rw [hXA]; exact hA, hnL, hrm⟩ hR a1 a2 J hE
theorem cw_M_failAt {X : Ctx} {cc : ByteArray} {D : Dd} {th mL : Nat} {rm : Room} (hM : Mx X cc D th mL rm) (h1 : rmM_failAt.frames + 1 ≤ rm.frames) (h2 : 8 + (3 + 11) + rmM_failAt.locals ≤ rm.locals) : CallW X.2.2.2.1 X.2.2.2.2.1 X.2.2.2.2.2.2.1 RX8 RX8 351 yX8_failAt cX8_failAt 3 none (ws_ yX8_failAt cX8_failAt 3 none) rmM_failAt 0 0 2 := cwV 2 (cx_w hM.1) (lw_V q1906 q1908 qs72 q128 q1909) rfl rfl rfl (by decide +kernel) (by rw [hM.2.2.2]; exact ⟨h1, h2⟩)
abbrev rmM_tellStep : Room := { frames := 4, cells := 0, slots := 0, locals := 85 }
set_option maxHeartbeats 4000000 in
theorem w_M_tellStep_B174 {X : Ctx} {D : Dd} {th : Nat} {K : Jl} {out : Ji} (hM : Mx X cX8_tellStep D th 11 rmM_tellStep) (hR : Rt X none (RM D th out K) none 0 0) (F : Nat) (a2 : Int32) (a4 : Int32) (a5 : Int32) (a6 : Int32) (a7 : Int32) (a8 : Int32) (a9 : Int32) (a10 : Int32) (J : Ji) (hE : M_tellStep_B174 F K a2 a4 a5 a6 a7 a8 a9 a10 J = some out) : Wk X 0 0 (RM D th J K) 174 [(0, .ref th), (2, .int a2), (4, .int a4), (5, .int a5), (6, .int a6), (7, .int a7), (8, .int a8), (9, .int a9), (10, .int a10)] [] := by
  have hC := hM.1
  have hnL := hM.2.2.1
  have hrm := hM.2.2.2
  unfold M_tellStep_B174 at hE
  refine k_aload_n (pc := 174) hC dX8_tellStep_174 rfl 0 rfl ?_
  refine k_iconst (pc := 175) (v := 4) hC dX8_tellStep_175 (by decide) ?_
  refine m_clVj (pc := 176) (As := [.int 4]) hM (cw_M_must hM (Nat.le_of_ble_eq_true rfl) (Nat.le_of_ble_eq_true rfl)) rfl rfl (Nat.le_of_ble_eq_true rfl) dX8_tellStep_176 hE (fun r h => ct_M_must _ _ _ _ hM.2.1 4 J K r h) (fun r15 hE => ?_)
  refine k_aload_n (pc := 179) hC dX8_tellStep_179 rfl 0 rfl ?_
  refine gM_13 (pc := 180) hM dX8_tellStep_180 ?_
  refine k_if_gt (pc := 183) (tgt := 190) hC dX8_tellStep_183 (by decide) hE (fun hE => ?_) (fun hE => ?_)
  · exact k_vret (pc := 190) hC hR ⟨Nat.le_refl 0, Nat.le_refl 0⟩ dX8_tellStep_190 (by cases hE; rfl) (by cases hE; exact fun _ h => h)
  · refine k_iload_n (pc := 186) hC dX8_tellStep_186 rfl 1 rfl ?_
    refine k_if_ge (pc := 187) (tgt := 191) hC dX8_tellStep_187 (by decide) hE (fun hE => ?_) (fun hE => ?_)
    · refine k_aload_n (pc := 191) hC dX8_tellStep_191 rfl 0 rfl ?_
      refine gM_36 (pc := 192) hM dX8_tellStep_192 ?_
      refine k_iload (pc := 195) hC dX8_tellStep_195 2 rfl ?_
      refine k_iload (pc := 197) hC dX8_tellStep_197 3 rfl ?_
      refine m_iast (pc := 199) 23 ly_23 hM dX8_tellStep_199 hE (fun J16 hE => ?_)
      refine k_aload_n (pc := 200) hC dX8_tellStep_200 rfl 0 rfl ?_
      refine gM_37 (pc := 201) hM dX8_tellStep_201 ?_
      refine k_iload (pc := 204) hC dX8_tellStep_204 2 rfl ?_
      refine k_iload (pc := 206) hC dX8_tellStep_206 4 rfl ?_
      refine m_iast (pc := 208) 24 ly_24 hM dX8_tellStep_208 hE (fun J17 hE => ?_)
      refine k_aload_n (pc := 209) hC dX8_tellStep_209 rfl 0 rfl ?_
      refine gM_38 (pc := 210) hM dX8_tellStep_210 ?_
      refine k_iload (pc := 213) hC dX8_tellStep_213 2 rfl ?_
      refine k_iload (pc := 215) hC dX8_tellStep_215 5 rfl ?_
      refine m_iast (pc := 217) 25 ly_25 hM dX8_tellStep_217 hE (fun J18 hE => ?_)
      refine k_aload_n (pc := 218) hC dX8_tellStep_218 rfl 0 rfl ?_
      refine gM_39 (pc := 219) hM dX8_tellStep_219 ?_
      refine k_iload (pc := 222) hC dX8_tellStep_222 2 rfl ?_
      refine k_iload (pc := 224) hC dX8_tellStep_224 6 rfl ?_
      refine m_iast (pc := 226) 26 ly_26 hM dX8_tellStep_226 hE (fun J19 hE => ?_)
      refine k_aload_n (pc := 227) hC dX8_tellStep_227 rfl 0 rfl ?_
      refine gM_40 (pc := 228) hM dX8_tellStep_228 ?_
      refine k_iload (pc := 231) hC dX8_tellStep_231 2 rfl ?_
      refine k_iload (pc := 233) hC dX8_tellStep_233 7 rfl ?_
      refine m_iast (pc := 235) 27 ly_27 hM dX8_tellStep_235 hE (fun J20 hE => ?_)
      refine k_aload_n (pc := 236) hC dX8_tellStep_236 rfl 0 rfl ?_
      refine gM_41 (pc := 237) hM dX8_tellStep_237 ?_
      refine k_iload (pc := 240) hC dX8_tellStep_240 2 rfl ?_
      refine k_iload (pc := 242) hC dX8_tellStep_242 8 rfl ?_
      refine m_iast (pc := 244) 28 ly_28 hM dX8_tellStep_244 hE (fun J21 hE => ?_)
      refine k_aload_n (pc := 245) hC dX8_tellStep_245 rfl 0 rfl ?_
      refine gM_35 (pc := 246) hM dX8_tellStep_246 ?_
      refine k_bipush (pc := 249) (v := 6) hC dX8_tellStep_249 (by decide) ?_
      refine k_aload_n (pc := 251) hC dX8_tellStep_251 rfl 0 rfl ?_
      refine gM_19 (pc := 252) hM dX8_tellStep_252 ?_
      refine k_imul (pc := 255) hC dX8_tellStep_255 ?_
      refine k_iload_n (pc := 256) hC dX8_tellStep_256 rfl 1 rfl ?_
      refine k_iadd (pc := 257) hC dX8_tellStep_257 ?_
      refine k_dup2 (pc := 258) hC dX8_tellStep_258 rfl rfl ?_
      refine m_iald (pc := 259) 22 ly_22 hM dX8_tellStep_259 hE (fun x22 hE => ?_)
      refine k_iconst (pc := 260) (v := 1) hC dX8_tellStep_260 (by decide) ?_
      refine k_iadd (pc := 261) hC dX8_tellStep_261 ?_
      refine m_iast (pc := 262) 22 ly_22 hM dX8_tellStep_262 hE (fun J23 hE => ?_)
      exact k_vret (pc := 263) hC hR ⟨Nat.le_refl 0, Nat.le_refl 0⟩ dX8_tellStep_263 (by cases hE; rfl) (by cases hE; exact fun _ h => h)
    · exact k_vret (pc := 190) hC hR ⟨Nat.le_refl 0, Nat.le_refl 0⟩ dX8_tellStep_190 (by cases hE; rfl) (by cases hE; exact fun _ h => h)
set_option maxHeartbeats 4000000 in
theorem w_M_tellStep_B169 {X : Ctx} {D : Dd} {th : Nat} {K : Jl} {out : Ji} (hM : Mx X cX8_tellStep D th 11 rmM_tellStep) (hR : Rt X none (RM D th out K) none 0 0) (F : Nat) (a2 : Int32) (a4 : Int32) (a5 : Int32) (a6 : Int32) (a7 : Int32) (a8 : Int32) (a9 : Int32) (s0 : Int32) (s1 : Int32) (J : Ji) (hE : M_tellStep_B169 F K a2 a4 a5 a6 a7 a8 a9 s0 s1 J = some out) : Wk X 0 0 (RM D th J K) 169 [(0, .ref th), (2, .int a2), (4, .int a4), (5, .int a5), (6, .int a6), (7, .int a7), (8, .int a8), (9, .int a9)] [.int s0, .int s1, .ref th] := by
  have hC := hM.1
  have hnL := hM.2.2.1
  have hrm := hM.2.2.2
  unfold M_tellStep_B169 at hE
  refine m_clIj (pc := 169) (As := [.int s1, .int s0]) hM (cw_M_bounded hM (Nat.le_of_ble_eq_true rfl) (Nat.le_of_ble_eq_true rfl)) rfl rfl (Nat.le_of_ble_eq_true rfl) dX8_tellStep_169 hE (fun r h => ct_M_bounded _ _ _ _ hM.2.1 s1 s0 J K r h) (fun r14 hE => ?_)
  refine k_istore (pc := 172) (lv' := [(10, .int r14.1), (0, .ref th), (2, .int a2), (4, .int a4), (5, .int a5), (6, .int a6), (7, .int a7), (8, .int a8), (9, .int a9)]) hC dX8_tellStep_172 (by rw [hnL]; decide) rfl ?_
  refine k_sub [1, 2, 3, 4, 5, 6, 7, 8, 0] rfl ?_
  exact w_M_tellStep_B174 hM hR F _ _ _ _ _ _ _ _ _ hE
set_option maxHeartbeats 4000000 in
theorem w_M_tellStep_B134 {X : Ctx} {D : Dd} {th : Nat} {K : Jl} {out : Ji} (hM : Mx X cX8_tellStep D th 11 rmM_tellStep) (hR : Rt X none (RM D th out K) none 0 0) (F : Nat) (a2 : Int32) (a3 : Int32) (a4 : Int32) (a5 : Int32) (a6 : Int32) (a7 : Int32) (a8 : Int32) (a9 : Int32) (a10 : Int32) (J : Ji) (hE : M_tellStep_B134 F K a2 a3 a4 a5 a6 a7 a8 a9 a10 J = some out) : Wk X 0 0 (RM D th J K) 134 [(0, .ref th), (2, .int a2), (3, .int a3), (4, .int a4), (5, .int a5), (6, .int a6), (7, .int a7), (8, .int a8), (9, .int a9), (10, .int a10)] [] := by
  have hC := hM.1
  have hnL := hM.2.2.1
  have hrm := hM.2.2.2
  unfold M_tellStep_B134 at hE
  refine k_aload_n (pc := 134) hC dX8_tellStep_134 rfl 0 rfl ?_
  refine gM_13 (pc := 135) hM dX8_tellStep_135 ?_
  refine k_if_ne (pc := 138) (tgt := 174) hC dX8_tellStep_138 (by decide) hE (fun hE => ?_) (fun hE => ?_)
  · refine k_aload_n (pc := 141) hC dX8_tellStep_141 rfl 0 rfl ?_
    refine k_bipush (pc := 142) (v := 27) hC dX8_tellStep_142 (by decide) ?_
    refine m_clI (pc := 144) (As := [.int 27]) hM (cw_M_is hM (Nat.le_of_ble_eq_true rfl) (Nat.le_of_ble_eq_true rfl)) rfl rfl (Nat.le_of_ble_eq_true rfl) dX8_tellStep_144 hE (fun r h => ct_M_is _ _ _ _ hM.2.1 27 J K r h) (fun r12 hE => ?_)
    refine k_if_eq (pc := 147) (tgt := 174) hC dX8_tellStep_147 (by decide) hE (fun hE => ?_) (fun hE => ?_)
    · refine k_sub [0, 1, 3, 4, 5, 6, 7, 8, 9] rfl ?_
      exact w_M_tellStep_B174 hM hR F _ _ _ _ _ _ _ _ _ hE
    · refine k_aload_n (pc := 150) hC dX8_tellStep_150 rfl 0 rfl ?_
      refine m_clVj (pc := 151) (As := []) hM (cw_M_goesOn hM (Nat.le_of_ble_eq_true rfl) (Nat.le_of_ble_eq_true rfl)) rfl rfl (Nat.le_of_ble_eq_true rfl) dX8_tellStep_151 hE (fun r h => ct_M_goesOn _ _ _ _ hM.2.1  J K r h) (fun r13 hE => ?_)
      refine k_aload_n (pc := 154) hC dX8_tellStep_154 rfl 0 rfl ?_
      refine k_iconst (pc := 155) (v := 0) hC dX8_tellStep_155 (by decide) ?_
      refine k_iload_n (pc := 156) hC dX8_tellStep_156 rfl 1 rfl ?_
      refine k_if_ge (pc := 157) (tgt := 166) hC dX8_tellStep_157 (by decide) hE (fun hE => ?_) (fun hE => ?_)
      · refine k_iload_n (pc := 166) hC dX8_tellStep_166 rfl 2 rfl ?_
        refine k_iconst (pc := 167) (v := 1) hC dX8_tellStep_167 (by decide) ?_
        refine k_isub (pc := 168) hC dX8_tellStep_168 ?_
        refine k_sub [0, 1, 3, 4, 5, 6, 7, 8] rfl ?_
        exact w_M_tellStep_B169 hM hR F _ _ _ _ _ _ _ _ _ _ hE
      · refine k_sipush (pc := 160) (v := 9999) hC dX8_tellStep_160 (by decide) ?_
        refine k_goto (pc := 163) (tgt := 169) hC dX8_tellStep_163 (by decide) ?_
        refine k_sub [0, 1, 3, 4, 5, 6, 7, 8] rfl ?_
        exact w_M_tellStep_B169 hM hR F _ _ _ _ _ _ _ _ _ _ hE
  · refine k_sub [0, 1, 3, 4, 5, 6, 7, 8, 9] rfl ?_
    exact w_M_tellStep_B174 hM hR F _ _ _ _ _ _ _ _ _ hE
set_option maxHeartbeats 4000000 in
theorem w_M_tellStep_B59 {X : Ctx} {D : Dd} {th : Nat} {K : Jl} {out : Ji} (hM : Mx X cX8_tellStep D th 11 rmM_tellStep) (hR : Rt X none (RM D th out K) none 0 0) (F : Nat) (a2 : Int32) (a3 : Int32) (s0 : Int32) (s1 : Int32) (s2 : Int32) (J : Ji) (hE : M_tellStep_B59 F K a2 a3 s0 s1 s2 J = some out) : Wk X 0 0 (RM D th J K) 59 [(0, .ref th), (2, .int a2), (3, .int a3)] [.int s0, .int s1, .int s2] := by
  have hC := hM.1
  have hnL := hM.2.2.1
  have hrm := hM.2.2.2
  unfold M_tellStep_B59 at hE
  refine k_iadd (pc := 59) hC dX8_tellStep_59 ?_
  refine k_imul (pc := 60) hC dX8_tellStep_60 ?_
  refine k_iload_n (pc := 61) hC dX8_tellStep_61 rfl 2 rfl ?_
  refine k_iadd (pc := 62) hC dX8_tellStep_62 ?_
  refine k_istoreE (pc := 63) (lv' := fun x4 => [(4, .int x4), (0, .ref th), (2, .int a2), (3, .int a3)]) hC dX8_tellStep_63 (by rw [hnL]; decide) hE (fun _ => rfl) (fun x4 hE => ?_)
  refine k_aload_n (pc := 65) hC dX8_tellStep_65 rfl 1 rfl ?_
  refine k_iconst (pc := 66) (v := 1) hC dX8_tellStep_66 (by decide) ?_
  refine k_bipush (pc := 67) (v := 120) hC dX8_tellStep_67 (by decide) ?_
  refine m_clIj (pc := 69) (As := [.int 1, .int 120]) hM (cw_M_bounded hM (Nat.le_of_ble_eq_true rfl) (Nat.le_of_ble_eq_true rfl)) rfl rfl (Nat.le_of_ble_eq_true rfl) dX8_tellStep_69 hE (fun r h => ct_M_bounded _ _ _ _ hM.2.1 1 120 J K r h) (fun r5 hE => ?_)
  refine k_istore (pc := 72) (lv' := [(5, .int r5.1), (4, .int x4), (0, .ref th), (2, .int a2), (3, .int a3)]) hC dX8_tellStep_72 (by rw [hnL]; decide) rfl ?_
  refine k_aload_n (pc := 74) hC dX8_tellStep_74 rfl 2 rfl ?_
  refine k_iconst (pc := 75) (v := 0) hC dX8_tellStep_75 (by decide) ?_
  refine k_bipush (pc := 76) (v := 99) hC dX8_tellStep_76 (by decide) ?_
  refine m_clIj (pc := 78) (As := [.int 0, .int 99]) hM (cw_M_bounded hM (Nat.le_of_ble_eq_true rfl) (Nat.le_of_ble_eq_true rfl)) rfl rfl (Nat.le_of_ble_eq_true rfl) dX8_tellStep_78 hE (fun r h => ct_M_bounded _ _ _ _ hM.2.1 0 99 r5.2 K r h) (fun r6 hE => ?_)
  refine k_istore (pc := 81) (lv' := [(6, .int r6.1), (5, .int r5.1), (4, .int x4), (0, .ref th), (2, .int a2), (3, .int a3)]) hC dX8_tellStep_81 (by rw [hnL]; decide) rfl ?_
  refine k_aload_n (pc := 83) hC dX8_tellStep_83 rfl 3 rfl ?_
  refine k_iconst (pc := 84) (v := 0) hC dX8_tellStep_84 (by decide) ?_
  refine k_bipush (pc := 85) (v := 99) hC dX8_tellStep_85 (by decide) ?_
  refine m_clIj (pc := 87) (As := [.int 0, .int 99]) hM (cw_M_bounded hM (Nat.le_of_ble_eq_true rfl) (Nat.le_of_ble_eq_true rfl)) rfl rfl (Nat.le_of_ble_eq_true rfl) dX8_tellStep_87 hE (fun r h => ct_M_bounded _ _ _ _ hM.2.1 0 99 r6.2 K r h) (fun r7 hE => ?_)
  refine k_istore (pc := 90) (lv' := [(7, .int r7.1), (6, .int r6.1), (5, .int r5.1), (4, .int x4), (0, .ref th), (2, .int a2), (3, .int a3)]) hC dX8_tellStep_90 (by rw [hnL]; decide) rfl ?_
  refine k_aload_n (pc := 92) hC dX8_tellStep_92 rfl 4 rfl ?_
  refine k_iconst (pc := 93) (v := 0) hC dX8_tellStep_93 (by decide) ?_
  refine k_bipush (pc := 94) (v := 99) hC dX8_tellStep_94 (by decide) ?_
  refine m_clIj (pc := 96) (As := [.int 0, .int 99]) hM (cw_M_bounded hM (Nat.le_of_ble_eq_true rfl) (Nat.le_of_ble_eq_true rfl)) rfl rfl (Nat.le_of_ble_eq_true rfl) dX8_tellStep_96 hE (fun r h => ct_M_bounded _ _ _ _ hM.2.1 0 99 r7.2 K r h) (fun r8 hE => ?_)
  refine k_istore (pc := 99) (lv' := [(8, .int r8.1), (7, .int r7.1), (6, .int r6.1), (5, .int r5.1), (4, .int x4), (0, .ref th), (2, .int a2), (3, .int a3)]) hC dX8_tellStep_99 (by rw [hnL]; decide) rfl ?_
  refine k_iconst (pc := 101) (v := (-1)) hC dX8_tellStep_101 (by decide) ?_
  refine k_istore (pc := 102) (lv' := [(9, .int ((-1))), (8, .int r8.1), (7, .int r7.1), (6, .int r6.1), (5, .int r5.1), (4, .int x4), (0, .ref th), (2, .int a2), (3, .int a3)]) hC dX8_tellStep_102 (by rw [hnL]; decide) rfl ?_
  refine k_iconst (pc := 104) (v := (-1)) hC dX8_tellStep_104 (by decide) ?_
  refine k_istore (pc := 105) (lv' := [(10, .int ((-1))), (9, .int ((-1))), (8, .int r8.1), (7, .int r7.1), (6, .int r6.1), (5, .int r5.1), (4, .int x4), (0, .ref th), (2, .int a2), (3, .int a3)]) hC dX8_tellStep_105 (by rw [hnL]; decide) rfl ?_
  refine k_aload_n (pc := 107) hC dX8_tellStep_107 rfl 7 rfl ?_
  refine gM_13 (pc := 108) hM dX8_tellStep_108 ?_
  refine k_if_ne (pc := 111) (tgt := 134) hC dX8_tellStep_111 (by decide) hE (fun hE => ?_) (fun hE => ?_)
  · refine k_aload_n (pc := 114) hC dX8_tellStep_114 rfl 7 rfl ?_
    refine k_bipush (pc := 115) (v := 26) hC dX8_tellStep_115 (by decide) ?_
    refine m_clI (pc := 117) (As := [.int 26]) hM (cw_M_is hM (Nat.le_of_ble_eq_true rfl) (Nat.le_of_ble_eq_true rfl)) rfl rfl (Nat.le_of_ble_eq_true rfl) dX8_tellStep_117 hE (fun r h => ct_M_is _ _ _ _ hM.2.1 26 r8.2 K r h) (fun r9 hE => ?_)
    refine k_if_eq (pc := 120) (tgt := 134) hC dX8_tellStep_120 (by decide) hE (fun hE => ?_) (fun hE => ?_)
    · refine k_sub [7, 8, 9, 6, 5, 4, 3, 2, 1, 0] rfl ?_
      exact w_M_tellStep_B134 hM hR F _ _ _ _ _ _ _ _ _ _ hE
    · refine k_aload_n (pc := 123) hC dX8_tellStep_123 rfl 7 rfl ?_
      refine m_clVj (pc := 124) (As := []) hM (cw_M_goesOn hM (Nat.le_of_ble_eq_true rfl) (Nat.le_of_ble_eq_true rfl)) rfl rfl (Nat.le_of_ble_eq_true rfl) dX8_tellStep_124 hE (fun r h => ct_M_goesOn _ _ _ _ hM.2.1  r8.2 K r h) (fun r10 hE => ?_)
      refine k_aload_n (pc := 127) hC dX8_tellStep_127 rfl 7 rfl ?_
      refine k_iconst (pc := 128) (v := 1) hC dX8_tellStep_128 (by decide) ?_
      refine m_clIj (pc := 129) (As := [.int 1]) hM (cw_M_known hM (Nat.le_of_ble_eq_true rfl) (Nat.le_of_ble_eq_true rfl)) rfl rfl (Nat.le_of_ble_eq_true rfl) dX8_tellStep_129 hE (fun r h => ct_M_known _ _ _ _ hM.2.1 F 1 r10 K r h) (fun r11 hE => ?_)
      refine k_istore (pc := 132) (lv' := [(9, .int r11.1), (10, .int ((-1))), (8, .int r8.1), (7, .int r7.1), (6, .int r6.1), (5, .int r5.1), (4, .int x4), (0, .ref th), (2, .int a2), (3, .int a3)]) hC dX8_tellStep_132 (by rw [hnL]; decide) rfl ?_
      refine k_sub [7, 8, 9, 6, 5, 4, 3, 2, 0, 1] rfl ?_
      exact w_M_tellStep_B134 hM hR F _ _ _ _ _ _ _ _ _ _ hE
  · refine k_sub [7, 8, 9, 6, 5, 4, 3, 2, 1, 0] rfl ?_
    exact w_M_tellStep_B134 hM hR F _ _ _ _ _ _ _ _ _ _ hE
set_option maxHeartbeats 4000000 in
theorem w_M_tellStep_B41 {X : Ctx} {D : Dd} {th : Nat} {K : Jl} {out : Ji} (hM : Mx X cX8_tellStep D th 11 rmM_tellStep) (hR : Rt X none (RM D th out K) none 0 0) (F : Nat) (a2 : Int32) (a3 : Int32) (J : Ji) (hE : M_tellStep_B41 F K a2 a3 J = some out) : Wk X 0 0 (RM D th J K) 41 [(0, .ref th), (2, .int a2), (3, .int a3)] [] := by
  have hC := hM.1
  have hnL := hM.2.2.1
  have hrm := hM.2.2.2
  unfold M_tellStep_B41 at hE
  refine k_bipush (pc := 41) (v := 6) hC dX8_tellStep_41 (by decide) ?_
  refine k_bipush (pc := 43) (v := 6) hC dX8_tellStep_43 (by decide) ?_
  refine k_aload_n (pc := 45) hC dX8_tellStep_45 rfl 0 rfl ?_
  refine gM_19 (pc := 46) hM dX8_tellStep_46 ?_
  refine k_imul (pc := 49) hC dX8_tellStep_49 ?_
  refine k_iload_n (pc := 50) hC dX8_tellStep_50 rfl 1 rfl ?_
  refine k_if_ge (pc := 51) (tgt := 58) hC dX8_tellStep_51 (by decide) hE (fun hE => ?_) (fun hE => ?_)
  · refine k_iload_n (pc := 58) hC dX8_tellStep_58 rfl 1 rfl ?_
    exact w_M_tellStep_B59 hM hR F _ _ _ _ _ _ hE
  · refine k_iconst (pc := 54) (v := 0) hC dX8_tellStep_54 (by decide) ?_
    refine k_goto (pc := 55) (tgt := 59) hC dX8_tellStep_55 (by decide) ?_
    exact w_M_tellStep_B59 hM hR F _ _ _ _ _ _ hE
set_option maxHeartbeats 4000000 in
theorem w_M_tellStep_B28 {X : Ctx} {D : Dd} {th : Nat} {K : Jl} {out : Ji} (hM : Mx X cX8_tellStep D th 11 rmM_tellStep) (hR : Rt X none (RM D th out K) none 0 0) (F : Nat) (a1 : Int32) (a2 : Int32) (s0 : Int32) (J : Ji) (hE : M_tellStep_B28 F K a1 a2 s0 J = some out) : Wk X 0 0 (RM D th J K) 28 [(0, .ref th), (1, .int a1), (2, .int a2)] [.int s0] := by
  have hC := hM.1
  have hnL := hM.2.2.1
  have hrm := hM.2.2.2
  unfold M_tellStep_B28 at hE
  refine k_istore_n (pc := 28) (lv' := [(3, .int s0), (0, .ref th), (1, .int a1), (2, .int a2)]) hC dX8_tellStep_28 rfl (by rw [hnL]; decide) rfl ?_
  refine k_iload_n (pc := 29) hC dX8_tellStep_29 rfl 0 rfl ?_
  refine k_bipush (pc := 30) (v := 6) hC dX8_tellStep_30 (by decide) ?_
  refine k_icmp_ne (pc := 32) (tgt := 41) hC dX8_tellStep_32 (by decide) hE (fun hE => ?_) (fun hE => ?_)
  · refine k_aload_n (pc := 35) hC dX8_tellStep_35 rfl 1 rfl ?_
    refine k_iconst (pc := 36) (v := 2) hC dX8_tellStep_36 (by decide) ?_
    refine k_iload_n (pc := 37) hC dX8_tellStep_37 rfl 2 rfl ?_
    refine m_clVj (pc := 38) (As := [.int 2, .int a1]) hM (cw_M_failAt hM (Nat.le_of_ble_eq_true rfl) (Nat.le_of_ble_eq_true rfl)) rfl rfl (Nat.le_of_ble_eq_true rfl) dX8_tellStep_38 hE (fun r h => ct_M_failAt _ _ _ _ hM.2.1 2 a1 J K r h) (fun r3 hE => ?_)
    refine k_sub [1, 3, 0] rfl ?_
    exact w_M_tellStep_B41 hM hR F _ _ _ hE
  · refine k_sub [1, 3, 0] rfl ?_
    exact w_M_tellStep_B41 hM hR F _ _ _ hE
set_option maxHeartbeats 4000000 in
theorem w_M_tellStep {X : Ctx} {D : Dd} {th : Nat} {K : Jl} {out : Ji} (hM : Mx X cX8_tellStep D th 11 rmM_tellStep) (hR : Rt X none (RM D th out K) none 0 0) (F : Nat) (a1 : Int32) (J : Ji) (hE : M_tellStep F K a1 J = some out) : Wk X 0 0 (RM D th J K) 0 [(0, .ref th), (1, .int a1)] [] := by
  have hC := hM.1
  have hnL := hM.2.2.1
  have hrm := hM.2.2.2
  unfold M_tellStep at hE
  refine k_aload_n (pc := 0) hC dX8_tellStep_0 rfl 0 rfl ?_
  refine k_iconst (pc := 1) (v := 2) hC dX8_tellStep_1 (by decide) ?_
  refine m_clIj (pc := 2) (As := [.int 2]) hM (cw_M_known hM (Nat.le_of_ble_eq_true rfl) (Nat.le_of_ble_eq_true rfl)) rfl rfl (Nat.le_of_ble_eq_true rfl) dX8_tellStep_2 hE (fun r h => ct_M_known _ _ _ _ hM.2.1 F 2 J K r h) (fun r1 hE => ?_)
  refine k_istore_n (pc := 5) (lv' := [(2, .int r1.1), (0, .ref th), (1, .int a1)]) hC dX8_tellStep_5 rfl (by rw [hnL]; decide) rfl ?_
  refine k_iload_n (pc := 6) hC dX8_tellStep_6 rfl 0 rfl ?_
  refine k_if_ge (pc := 7) (tgt := 14) hC dX8_tellStep_7 (by decide) hE (fun hE => ?_) (fun hE => ?_)
  · refine k_aload_n (pc := 14) hC dX8_tellStep_14 rfl 1 rfl ?_
    refine gM_35 (pc := 15) hM dX8_tellStep_15 ?_
    refine k_bipush (pc := 18) (v := 6) hC dX8_tellStep_18 (by decide) ?_
    refine k_aload_n (pc := 20) hC dX8_tellStep_20 rfl 1 rfl ?_
    refine gM_19 (pc := 21) hM dX8_tellStep_21 ?_
    refine k_imul (pc := 24) hC dX8_tellStep_24 ?_
    refine k_iload_n (pc := 25) hC dX8_tellStep_25 rfl 0 rfl ?_
    refine k_iadd (pc := 26) hC dX8_tellStep_26 ?_
    refine m_iald (pc := 27) 22 ly_22 hM dX8_tellStep_27 hE (fun x2 hE => ?_)
    refine k_sub [1, 2, 0] rfl ?_
    exact w_M_tellStep_B28 hM hR F _ _ _ _ hE
  · refine k_iconst (pc := 10) (v := 0) hC dX8_tellStep_10 (by decide) ?_
    refine k_goto (pc := 11) (tgt := 28) hC dX8_tellStep_11 (by decide) ?_
    refine k_sub [1, 2, 0] rfl ?_
    exact w_M_tellStep_B28 hM hR F _ _ _ _ hE
theorem ct_M_tellStep (l : Launch) (D : Dd) (A : Nat → Prop) (th : Nat) (hA : ∀ (off : Nat) (kd : Kd), layM off = some kd → A (th + off)) (F : Nat) (a1 : Int32) (J : Ji) (K : Jl) (out : Ji) (hE : M_tellStep F K a1 J = some out) : Ct l yX8_tellStep (ws_ yX8_tellStep cX8_tellStep 11 none) rmM_tellStep vwCl arTy D A [.ref th, .int a1] (RM D th J K) (RM D th out K) none 0 0 := by
  refine Ct.of (by decide) (Nat.le_of_ble_eq_true rfl) rfl ?_
  intro X hl hrm hC hR hXA hnL _
  exact w_M_tellStep ⟨hC, by unfold Ft; rw [hXA]; exact hA, hnL, hrm⟩ hR F a1 J hE
theorem cw_M_tellStep {X : Ctx} {cc : ByteArray} {D : Dd} {th mL : Nat} {rm : Room} (hM : Mx X cc D th mL rm) (h1 : rmM_tellStep.frames + 1 ≤ rm.frames) (h2 : 8 + (11 + 11) + rmM_tellStep.locals ≤ rm.locals) : CallW X.2.2.2.1 X.2.2.2.2.1 X.2.2.2.2.2.2.1 RX8 RX8 321 yX8_tellStep cX8_tellStep 11 none (ws_ yX8_tellStep cX8_tellStep 11 none) rmM_tellStep 0 0 1 := cwV 1 (cx_w hM.1) (lw_V q1902 q1904 qs71 q128 q1905) rfl rfl rfl (by decide +kernel) (by rw [hM.2.2.2]; exact ⟨h1, h2⟩)
abbrev rmM_tellTask : Room := { frames := 4, cells := 0, slots := 0, locals := 85 }
set_option maxHeartbeats 4000000 in
theorem w_M_tellTask {X : Ctx} {D : Dd} {th : Nat} {out : Ji × Jl} (hM : Mx X cX8_tellTask D th 3 rmM_tellTask) (hR : Rt X none (RM D th out.1 out.2) none 0 0) (F : Nat) (J : Ji) (K : Jl) (hE : M_tellTask F J K = some out) : Wk X 0 0 (RM D th J K) 0 [(0, .ref th)] [] := by
  have hC := hM.1
  have hnL := hM.2.2.1
  have hrm := hM.2.2.2
  unfold M_tellTask at hE
  refine k_bipush (pc := 0) (v := 6) hC dX8_tellTask_0 (by decide) ?_
  refine k_aload_n (pc := 2) hC dX8_tellTask_2 rfl 0 rfl ?_
  refine gM_19 (pc := 3) hM dX8_tellTask_3 ?_
  refine k_imul (pc := 6) hC dX8_tellTask_6 ?_
  refine k_aload_n (pc := 7) hC dX8_tellTask_7 rfl 0 rfl ?_
  refine gM_32 (pc := 8) hM dX8_tellTask_8 ?_
  refine k_aload_n (pc := 11) hC dX8_tellTask_11 rfl 0 rfl ?_
  refine gM_19 (pc := 12) hM dX8_tellTask_12 ?_
  refine m_iald (pc := 15) 19 ly_19 hM dX8_tellTask_15 hE (fun x1 hE => ?_)
  refine k_iadd (pc := 16) hC dX8_tellTask_16 ?_
  refine k_istoreE_n (pc := 17) (lv' := fun x2 => [(1, .int x2), (0, .ref th)]) hC dX8_tellTask_17 rfl (by rw [hnL]; decide) hE (fun _ => rfl) (fun x2 hE => ?_)
  refine k_aload_n (pc := 18) hC dX8_tellTask_18 rfl 1 rfl ?_
  refine m_clIj (pc := 19) (As := []) hM (cw_M_named hM (Nat.le_of_ble_eq_true rfl) (Nat.le_of_ble_eq_true rfl)) rfl rfl (Nat.le_of_ble_eq_true rfl) dX8_tellTask_19 hE (fun r h => ct_M_named _ _ _ _ hM.2.1 F J K r h) (fun r3 hE => ?_)
  refine k_istore_n (pc := 22) (lv' := [(2, .int r3.1), (1, .int x2), (0, .ref th)]) hC dX8_tellTask_22 rfl (by rw [hnL]; decide) rfl ?_
  refine k_aload_n (pc := 23) hC dX8_tellTask_23 rfl 2 rfl ?_
  refine gM_33 (pc := 24) hM dX8_tellTask_24 ?_
  refine k_iload_n (pc := 27) hC dX8_tellTask_27 rfl 1 rfl ?_
  refine k_aload_n (pc := 28) hC dX8_tellTask_28 rfl 2 rfl ?_
  refine k_iconst (pc := 29) (v := 0) hC dX8_tellTask_29 (by decide) ?_
  refine m_clIj (pc := 30) (As := [.int 0]) hM (cw_M_known hM (Nat.le_of_ble_eq_true rfl) (Nat.le_of_ble_eq_true rfl)) rfl rfl (Nat.le_of_ble_eq_true rfl) dX8_tellTask_30 hE (fun r h => ct_M_known _ _ _ _ hM.2.1 F 0 r3.2 K r h) (fun r4 hE => ?_)
  refine m_iast (pc := 33) 20 ly_20 hM dX8_tellTask_33 hE (fun J5 hE => ?_)
  refine k_aload_n (pc := 34) hC dX8_tellTask_34 rfl 2 rfl ?_
  refine gM_34 (pc := 35) hM dX8_tellTask_35 ?_
  refine k_iload_n (pc := 38) hC dX8_tellTask_38 rfl 1 rfl ?_
  refine k_aload_n (pc := 39) hC dX8_tellTask_39 rfl 2 rfl ?_
  refine k_iconst (pc := 40) (v := 0) hC dX8_tellTask_40 (by decide) ?_
  refine k_sipush (pc := 41) (v := 999) hC dX8_tellTask_41 (by decide) ?_
  refine m_clIj (pc := 44) (As := [.int 0, .int 999]) hM (cw_M_bounded hM (Nat.le_of_ble_eq_true rfl) (Nat.le_of_ble_eq_true rfl)) rfl rfl (Nat.le_of_ble_eq_true rfl) dX8_tellTask_44 hE (fun r h => ct_M_bounded _ _ _ _ hM.2.1 0 999 J5 K r h) (fun r6 hE => ?_)
  refine m_iast (pc := 47) 21 ly_21 hM dX8_tellTask_47 hE (fun J7 hE => ?_)
  refine k_aload_n (pc := 48) hC dX8_tellTask_48 rfl 2 rfl ?_
  refine gM_35 (pc := 49) hM dX8_tellTask_49 ?_
  refine k_iload_n (pc := 52) hC dX8_tellTask_52 rfl 1 rfl ?_
  refine k_iconst (pc := 53) (v := 0) hC dX8_tellTask_53 (by decide) ?_
  refine m_iast (pc := 54) 22 ly_22 hM dX8_tellTask_54 hE (fun J8 hE => ?_)
  refine k_aload_n (pc := 55) hC dX8_tellTask_55 rfl 2 rfl ?_
  refine k_iconst (pc := 56) (v := 4) hC dX8_tellTask_56 (by decide) ?_
  refine m_clVj (pc := 57) (As := [.int 4]) hM (cw_M_must hM (Nat.le_of_ble_eq_true rfl) (Nat.le_of_ble_eq_true rfl)) rfl rfl (Nat.le_of_ble_eq_true rfl) dX8_tellTask_57 hE (fun r h => ct_M_must _ _ _ _ hM.2.1 4 J8 K r h) (fun r9 hE => ?_)
  refine k_aload_n (pc := 60) hC dX8_tellTask_60 rfl 2 rfl ?_
  refine gM_13 (pc := 61) hM dX8_tellTask_61 ?_
  refine k_if_le (pc := 64) (tgt := 68) hC dX8_tellTask_64 (by decide) hE (fun hE => ?_) (fun hE => ?_)
  · refine k_aload_n (pc := 68) hC dX8_tellTask_68 rfl 2 rfl ?_
    refine k_iload_n (pc := 69) hC dX8_tellTask_69 rfl 0 rfl ?_
    refine k_iconst (pc := 70) (v := 2) hC dX8_tellTask_70 (by decide) ?_
    refine k_aload_n (pc := 71) hC dX8_tellTask_71 rfl 2 rfl ?_
    refine gM_32 (pc := 72) hM dX8_tellTask_72 ?_
    refine k_aload_n (pc := 75) hC dX8_tellTask_75 rfl 2 rfl ?_
    refine gM_19 (pc := 76) hM dX8_tellTask_76 ?_
    refine m_iald (pc := 79) 19 ly_19 hM dX8_tellTask_79 hE (fun x10 hE => ?_)
    refine m_clVjk (pc := 80) (As := [.int r3.1, .int 2, .int x10]) hM (cw_M_notes hM (Nat.le_of_ble_eq_true rfl) (Nat.le_of_ble_eq_true rfl)) rfl rfl (Nat.le_of_ble_eq_true rfl) dX8_tellTask_80 hE (fun r h => ct_M_notes _ _ _ _ hM.2.1 r3.1 2 x10 r9 K r h) (fun r11 hE => ?_)
    refine k_aload_n (pc := 83) hC dX8_tellTask_83 rfl 2 rfl ?_
    refine gM_32 (pc := 84) hM dX8_tellTask_84 ?_
    refine k_aload_n (pc := 87) hC dX8_tellTask_87 rfl 2 rfl ?_
    refine gM_19 (pc := 88) hM dX8_tellTask_88 ?_
    refine k_dup2 (pc := 91) hC dX8_tellTask_91 rfl rfl ?_
    refine m_iald (pc := 92) 19 ly_19 hM dX8_tellTask_92 hE (fun x12 hE => ?_)
    refine k_iconst (pc := 93) (v := 1) hC dX8_tellTask_93 (by decide) ?_
    refine k_iadd (pc := 94) hC dX8_tellTask_94 ?_
    refine m_iast (pc := 95) 19 ly_19 hM dX8_tellTask_95 hE (fun J13 hE => ?_)
    exact k_vret (pc := 96) hC hR ⟨Nat.le_refl 0, Nat.le_refl 0⟩ dX8_tellTask_96 (by cases hE; rfl) (by cases hE; exact fun _ h => h)
  · exact k_vret (pc := 67) hC hR ⟨Nat.le_refl 0, Nat.le_refl 0⟩ dX8_tellTask_67 (by cases hE; rfl) (by cases hE; exact fun _ h => h)
theorem ct_M_tellTask (l : Launch) (D : Dd) (A : Nat → Prop) (th : Nat) (hA : ∀ (off : Nat) (kd : Kd), layM off = some kd → A (th + off)) (F : Nat) (J : Ji) (K : Jl) (out : Ji × Jl) (hE : M_tellTask F J K = some out) : Ct l yX8_tellTask (ws_ yX8_tellTask cX8_tellTask 3 none) rmM_tellTask vwCl arTy D A [.ref th] (RM D th J K) (RM D th out.1 out.2) none 0 0 := by
  refine Ct.of (by decide) (Nat.le_of_ble_eq_true rfl) rfl ?_
  intro X hl hrm hC hR hXA hnL _
  exact w_M_tellTask ⟨hC, by unfold Ft; rw [hXA]; exact hA, hnL, hrm⟩ hR F J K hE
theorem cw_M_tellTask {X : Ctx} {cc : ByteArray} {D : Dd} {th mL : Nat} {rm : Room} (hM : Mx X cc D th mL rm) (h1 : rmM_tellTask.frames + 1 ≤ rm.frames) (h2 : 8 + (3 + 11) + rmM_tellTask.locals ≤ rm.locals) : CallW X.2.2.2.1 X.2.2.2.2.1 X.2.2.2.2.2.2.1 RX8 RX8 318 yX8_tellTask cX8_tellTask 3 none (ws_ yX8_tellTask cX8_tellTask 3 none) rmM_tellTask 0 0 0 := cwV 0 (cx_w hM.1) (lw_V q1898 q1900 qs70 q128 q1901) rfl rfl rfl (by decide +kernel) (by rw [hM.2.2.2]; exact ⟨h1, h2⟩)
abbrev rmM_tellTool : Room := { frames := 4, cells := 0, slots := 0, locals := 85 }
set_option maxHeartbeats 4000000 in
theorem w_M_tellTool {X : Ctx} {D : Dd} {th : Nat} {out : Ji × Jl} (hM : Mx X cX8_tellTool D th 2 rmM_tellTool) (hR : Rt X none (RM D th out.1 out.2) none 0 0) (F : Nat) (J : Ji) (K : Jl) (hE : M_tellTool F J K = some out) : Wk X 0 0 (RM D th J K) 0 [(0, .ref th)] [] := by
  have hC := hM.1
  have hnL := hM.2.2.1
  have hrm := hM.2.2.2
  unfold M_tellTool at hE
  refine k_aload_n (pc := 0) hC dX8_tellTool_0 rfl 0 rfl ?_
  refine m_clIj (pc := 1) (As := []) hM (cw_M_named hM (Nat.le_of_ble_eq_true rfl) (Nat.le_of_ble_eq_true rfl)) rfl rfl (Nat.le_of_ble_eq_true rfl) dX8_tellTool_1 hE (fun r h => ct_M_named _ _ _ _ hM.2.1 F J K r h) (fun r1 hE => ?_)
  refine k_istore_n (pc := 4) (lv' := [(1, .int r1.1), (0, .ref th)]) hC dX8_tellTool_4 rfl (by rw [hnL]; decide) rfl ?_
  refine k_aload_n (pc := 5) hC dX8_tellTool_5 rfl 1 rfl ?_
  refine gM_31 (pc := 6) hM dX8_tellTool_6 ?_
  refine k_bipush (pc := 9) (v := 6) hC dX8_tellTool_9 (by decide) ?_
  refine k_aload_n (pc := 11) hC dX8_tellTool_11 rfl 1 rfl ?_
  refine gM_19 (pc := 12) hM dX8_tellTool_12 ?_
  refine k_imul (pc := 15) hC dX8_tellTool_15 ?_
  refine k_aload_n (pc := 16) hC dX8_tellTool_16 rfl 1 rfl ?_
  refine gM_30 (pc := 17) hM dX8_tellTool_17 ?_
  refine k_aload_n (pc := 20) hC dX8_tellTool_20 rfl 1 rfl ?_
  refine gM_19 (pc := 21) hM dX8_tellTool_21 ?_
  refine m_iald (pc := 24) 17 ly_17 hM dX8_tellTool_24 hE (fun x2 hE => ?_)
  refine k_iadd (pc := 25) hC dX8_tellTool_25 ?_
  refine k_aload_n (pc := 26) hC dX8_tellTool_26 rfl 1 rfl ?_
  refine k_iconst (pc := 27) (v := 0) hC dX8_tellTool_27 (by decide) ?_
  refine m_clIj (pc := 28) (As := [.int 0]) hM (cw_M_known hM (Nat.le_of_ble_eq_true rfl) (Nat.le_of_ble_eq_true rfl)) rfl rfl (Nat.le_of_ble_eq_true rfl) dX8_tellTool_28 hE (fun r h => ct_M_known _ _ _ _ hM.2.1 F 0 r1.2 K r h) (fun r3 hE => ?_)
  refine m_iast (pc := 31) 18 ly_18 hM dX8_tellTool_31 hE (fun J4 hE => ?_)
  refine k_aload_n (pc := 32) hC dX8_tellTool_32 rfl 1 rfl ?_
  refine k_iconst (pc := 33) (v := 4) hC dX8_tellTool_33 (by decide) ?_
  refine m_clVj (pc := 34) (As := [.int 4]) hM (cw_M_must hM (Nat.le_of_ble_eq_true rfl) (Nat.le_of_ble_eq_true rfl)) rfl rfl (Nat.le_of_ble_eq_true rfl) dX8_tellTool_34 hE (fun r h => ct_M_must _ _ _ _ hM.2.1 4 J4 K r h) (fun r5 hE => ?_)
  refine k_aload_n (pc := 37) hC dX8_tellTool_37 rfl 1 rfl ?_
  refine gM_13 (pc := 38) hM dX8_tellTool_38 ?_
  refine k_if_le (pc := 41) (tgt := 45) hC dX8_tellTool_41 (by decide) hE (fun hE => ?_) (fun hE => ?_)
  · refine k_aload_n (pc := 45) hC dX8_tellTool_45 rfl 1 rfl ?_
    refine k_iload_n (pc := 46) hC dX8_tellTool_46 rfl 0 rfl ?_
    refine k_iconst (pc := 47) (v := 1) hC dX8_tellTool_47 (by decide) ?_
    refine k_aload_n (pc := 48) hC dX8_tellTool_48 rfl 1 rfl ?_
    refine gM_30 (pc := 49) hM dX8_tellTool_49 ?_
    refine k_aload_n (pc := 52) hC dX8_tellTool_52 rfl 1 rfl ?_
    refine gM_19 (pc := 53) hM dX8_tellTool_53 ?_
    refine m_iald (pc := 56) 17 ly_17 hM dX8_tellTool_56 hE (fun x6 hE => ?_)
    refine m_clVjk (pc := 57) (As := [.int r1.1, .int 1, .int x6]) hM (cw_M_notes hM (Nat.le_of_ble_eq_true rfl) (Nat.le_of_ble_eq_true rfl)) rfl rfl (Nat.le_of_ble_eq_true rfl) dX8_tellTool_57 hE (fun r h => ct_M_notes _ _ _ _ hM.2.1 r1.1 1 x6 r5 K r h) (fun r7 hE => ?_)
    refine k_aload_n (pc := 60) hC dX8_tellTool_60 rfl 1 rfl ?_
    refine gM_30 (pc := 61) hM dX8_tellTool_61 ?_
    refine k_aload_n (pc := 64) hC dX8_tellTool_64 rfl 1 rfl ?_
    refine gM_19 (pc := 65) hM dX8_tellTool_65 ?_
    refine k_dup2 (pc := 68) hC dX8_tellTool_68 rfl rfl ?_
    refine m_iald (pc := 69) 17 ly_17 hM dX8_tellTool_69 hE (fun x8 hE => ?_)
    refine k_iconst (pc := 70) (v := 1) hC dX8_tellTool_70 (by decide) ?_
    refine k_iadd (pc := 71) hC dX8_tellTool_71 ?_
    refine m_iast (pc := 72) 17 ly_17 hM dX8_tellTool_72 hE (fun J9 hE => ?_)
    exact k_vret (pc := 73) hC hR ⟨Nat.le_refl 0, Nat.le_refl 0⟩ dX8_tellTool_73 (by cases hE; rfl) (by cases hE; exact fun _ h => h)
  · exact k_vret (pc := 44) hC hR ⟨Nat.le_refl 0, Nat.le_refl 0⟩ dX8_tellTool_44 (by cases hE; rfl) (by cases hE; exact fun _ h => h)
theorem ct_M_tellTool (l : Launch) (D : Dd) (A : Nat → Prop) (th : Nat) (hA : ∀ (off : Nat) (kd : Kd), layM off = some kd → A (th + off)) (F : Nat) (J : Ji) (K : Jl) (out : Ji × Jl) (hE : M_tellTool F J K = some out) : Ct l yX8_tellTool (ws_ yX8_tellTool cX8_tellTool 2 none) rmM_tellTool vwCl arTy D A [.ref th] (RM D th J K) (RM D th out.1 out.2) none 0 0 := by
  refine Ct.of (by decide) (Nat.le_of_ble_eq_true rfl) rfl ?_
  intro X hl hrm hC hR hXA hnL _
  exact w_M_tellTool ⟨hC, by unfold Ft; rw [hXA]; exact hA, hnL, hrm⟩ hR F J K hE
theorem cw_M_tellTool {X : Ctx} {cc : ByteArray} {D : Dd} {th mL : Nat} {rm : Room} (hM : Mx X cc D th mL rm) (h1 : rmM_tellTool.frames + 1 ≤ rm.frames) (h2 : 8 + (2 + 11) + rmM_tellTool.locals ≤ rm.locals) : CallW X.2.2.2.1 X.2.2.2.2.1 X.2.2.2.2.2.2.1 RX8 RX8 315 yX8_tellTool cX8_tellTool 2 none (ws_ yX8_tellTool cX8_tellTool 2 none) rmM_tellTool 0 0 0 := cwV 0 (cx_w hM.1) (lw_V q1894 q1896 qs69 q128 q1897) rfl rfl rfl (by decide +kernel) (by rw [hM.2.2.2]; exact ⟨h1, h2⟩)
abbrev rmM_tell : Room := { frames := 6, cells := 0, slots := 0, locals := 126 }
set_option maxHeartbeats 4000000 in
theorem w_M_tell {X : Ctx} {D : Dd} {th : Nat} {out : Ji × Jl} (hM : Mx X cX8_tell D th 1 rmM_tell) (hR : Rt X none (RM D th out.1 out.2) none 0 0) (F : Nat) (J : Ji) (K : Jl) (hE : M_tell F J K = some out) : Wk X 0 0 (RM D th J K) 0 [(0, .ref th)] [] := by
  have hC := hM.1
  have hnL := hM.2.2.1
  have hrm := hM.2.2.2
  unfold M_tell at hE
  refine k_aload_n (pc := 0) hC dX8_tell_0 rfl 0 rfl ?_
  refine gM_5 (pc := 1) hM dX8_tell_1 ?_
  refine k_aload_n (pc := 4) hC dX8_tell_4 rfl 0 rfl ?_
  refine gM_11 (pc := 5) hM dX8_tell_5 ?_
  refine m_iald (pc := 8) 3 ly_3 hM dX8_tell_8 hE (fun x1 hE => ?_)
  refine sw_E hE (fun hx hE => ?_) (fun n20 hE => ?_)
  · refine k_tswI (pc := 9) (k := 20) (tgt := 84) hC dX8_tell_9 hx (by decide) (by decide) rfl (by decide) ?_
    refine k_aload_n (pc := 84) hC dX8_tell_84 rfl 0 rfl ?_
    refine k_aload_n (pc := 85) hC dX8_tell_85 rfl 0 rfl ?_
    refine gM_24 (pc := 86) hM dX8_tell_86 ?_
    refine k_aload_n (pc := 89) hC dX8_tell_89 rfl 0 rfl ?_
    refine gM_19 (pc := 90) hM dX8_tell_90 ?_
    refine m_iald (pc := 93) 11 ly_11 hM dX8_tell_93 hE (fun x2 hE => ?_)
    refine k_bipush (pc := 94) (v := 8) hC dX8_tell_94 (by decide) ?_
    refine m_clVj (pc := 96) (As := [.int x2, .int 8]) hM (cw_M_roomFor hM (Nat.le_of_ble_eq_true rfl) (Nat.le_of_ble_eq_true rfl)) rfl rfl (Nat.le_of_ble_eq_true rfl) dX8_tell_96 hE (fun r h => ct_M_roomFor _ _ _ _ hM.2.1 x2 8 J K r h) (fun r3 hE => ?_)
    refine k_aload_n (pc := 99) hC dX8_tell_99 rfl 0 rfl ?_
    refine gM_13 (pc := 100) hM dX8_tell_100 ?_
    refine k_if_ne (pc := 103) (tgt := 309) hC dX8_tell_103 (by decide) hE (fun hE => ?_) (fun hE => ?_)
    · refine k_aload_n (pc := 106) hC dX8_tell_106 rfl 0 rfl ?_
      refine m_clVjk (pc := 107) (As := []) hM (cw_M_tellRoom hM (Nat.le_of_ble_eq_true rfl) (Nat.le_of_ble_eq_true rfl)) rfl rfl (Nat.le_of_ble_eq_true rfl) dX8_tell_107 hE (fun r h => ct_M_tellRoom _ _ _ _ hM.2.1 F r3 K r h) (fun r4 hE => ?_)
      refine k_goto (pc := 110) (tgt := 309) hC dX8_tell_110 (by decide) ?_
      exact k_vret (pc := 309) hC hR ⟨Nat.le_refl 0, Nat.le_refl 0⟩ dX8_tell_309 (by cases hE; rfl) (by cases hE; exact fun _ h => h)
    · exact k_vret (pc := 309) hC hR ⟨Nat.le_refl 0, Nat.le_refl 0⟩ dX8_tell_309 (by cases hE; rfl) (by cases hE; exact fun _ h => h)
  refine sw_E hE (fun hx hE => ?_) (fun n21 hE => ?_)
  · refine k_tswI (pc := 9) (k := 21) (tgt := 113) hC dX8_tell_9 hx (by decide) (by decide) rfl (by decide) ?_
    refine k_aload_n (pc := 113) hC dX8_tell_113 rfl 0 rfl ?_
    refine k_aload_n (pc := 114) hC dX8_tell_114 rfl 0 rfl ?_
    refine gM_25 (pc := 115) hM dX8_tell_115 ?_
    refine k_aload_n (pc := 118) hC dX8_tell_118 rfl 0 rfl ?_
    refine gM_19 (pc := 119) hM dX8_tell_119 ?_
    refine m_iald (pc := 122) 12 ly_12 hM dX8_tell_122 hE (fun x5 hE => ?_)
    refine k_bipush (pc := 123) (v := 12) hC dX8_tell_123 (by decide) ?_
    refine m_clVj (pc := 125) (As := [.int x5, .int 12]) hM (cw_M_roomFor hM (Nat.le_of_ble_eq_true rfl) (Nat.le_of_ble_eq_true rfl)) rfl rfl (Nat.le_of_ble_eq_true rfl) dX8_tell_125 hE (fun r h => ct_M_roomFor _ _ _ _ hM.2.1 x5 12 J K r h) (fun r6 hE => ?_)
    refine k_aload_n (pc := 128) hC dX8_tell_128 rfl 0 rfl ?_
    refine gM_13 (pc := 129) hM dX8_tell_129 ?_
    refine k_if_ne (pc := 132) (tgt := 309) hC dX8_tell_132 (by decide) hE (fun hE => ?_) (fun hE => ?_)
    · refine k_aload_n (pc := 135) hC dX8_tell_135 rfl 0 rfl ?_
      refine m_clVj (pc := 136) (As := []) hM (cw_M_tellDoor hM (Nat.le_of_ble_eq_true rfl) (Nat.le_of_ble_eq_true rfl)) rfl rfl (Nat.le_of_ble_eq_true rfl) dX8_tell_136 hE (fun r h => ct_M_tellDoor _ _ _ _ hM.2.1 F r6 K r h) (fun r7 hE => ?_)
      refine k_goto (pc := 139) (tgt := 309) hC dX8_tell_139 (by decide) ?_
      exact k_vret (pc := 309) hC hR ⟨Nat.le_refl 0, Nat.le_refl 0⟩ dX8_tell_309 (by cases hE; rfl) (by cases hE; exact fun _ h => h)
    · exact k_vret (pc := 309) hC hR ⟨Nat.le_refl 0, Nat.le_refl 0⟩ dX8_tell_309 (by cases hE; rfl) (by cases hE; exact fun _ h => h)
  refine sw_E hE (fun hx hE => ?_) (fun n23 hE => ?_)
  · refine k_tswI (pc := 9) (k := 23) (tgt := 142) hC dX8_tell_9 hx (by decide) (by decide) rfl (by decide) ?_
    refine k_aload_n (pc := 142) hC dX8_tell_142 rfl 0 rfl ?_
    refine k_aload_n (pc := 143) hC dX8_tell_143 rfl 0 rfl ?_
    refine gM_30 (pc := 144) hM dX8_tell_144 ?_
    refine k_aload_n (pc := 147) hC dX8_tell_147 rfl 0 rfl ?_
    refine gM_19 (pc := 148) hM dX8_tell_148 ?_
    refine m_iald (pc := 151) 17 ly_17 hM dX8_tell_151 hE (fun x8 hE => ?_)
    refine k_bipush (pc := 152) (v := 6) hC dX8_tell_152 (by decide) ?_
    refine m_clVj (pc := 154) (As := [.int x8, .int 6]) hM (cw_M_roomFor hM (Nat.le_of_ble_eq_true rfl) (Nat.le_of_ble_eq_true rfl)) rfl rfl (Nat.le_of_ble_eq_true rfl) dX8_tell_154 hE (fun r h => ct_M_roomFor _ _ _ _ hM.2.1 x8 6 J K r h) (fun r9 hE => ?_)
    refine k_aload_n (pc := 157) hC dX8_tell_157 rfl 0 rfl ?_
    refine gM_13 (pc := 158) hM dX8_tell_158 ?_
    refine k_if_ne (pc := 161) (tgt := 309) hC dX8_tell_161 (by decide) hE (fun hE => ?_) (fun hE => ?_)
    · refine k_aload_n (pc := 164) hC dX8_tell_164 rfl 0 rfl ?_
      refine m_clVjk (pc := 165) (As := []) hM (cw_M_tellTool hM (Nat.le_of_ble_eq_true rfl) (Nat.le_of_ble_eq_true rfl)) rfl rfl (Nat.le_of_ble_eq_true rfl) dX8_tell_165 hE (fun r h => ct_M_tellTool _ _ _ _ hM.2.1 F r9 K r h) (fun r10 hE => ?_)
      refine k_goto (pc := 168) (tgt := 309) hC dX8_tell_168 (by decide) ?_
      exact k_vret (pc := 309) hC hR ⟨Nat.le_refl 0, Nat.le_refl 0⟩ dX8_tell_309 (by cases hE; rfl) (by cases hE; exact fun _ h => h)
    · exact k_vret (pc := 309) hC hR ⟨Nat.le_refl 0, Nat.le_refl 0⟩ dX8_tell_309 (by cases hE; rfl) (by cases hE; exact fun _ h => h)
  refine sw_E hE (fun hx hE => ?_) (fun n24 hE => ?_)
  · refine k_tswI (pc := 9) (k := 24) (tgt := 171) hC dX8_tell_9 hx (by decide) (by decide) rfl (by decide) ?_
    refine k_aload_n (pc := 171) hC dX8_tell_171 rfl 0 rfl ?_
    refine k_aload_n (pc := 172) hC dX8_tell_172 rfl 0 rfl ?_
    refine gM_32 (pc := 173) hM dX8_tell_173 ?_
    refine k_aload_n (pc := 176) hC dX8_tell_176 rfl 0 rfl ?_
    refine gM_19 (pc := 177) hM dX8_tell_177 ?_
    refine m_iald (pc := 180) 19 ly_19 hM dX8_tell_180 hE (fun x11 hE => ?_)
    refine k_bipush (pc := 181) (v := 6) hC dX8_tell_181 (by decide) ?_
    refine m_clVj (pc := 183) (As := [.int x11, .int 6]) hM (cw_M_roomFor hM (Nat.le_of_ble_eq_true rfl) (Nat.le_of_ble_eq_true rfl)) rfl rfl (Nat.le_of_ble_eq_true rfl) dX8_tell_183 hE (fun r h => ct_M_roomFor _ _ _ _ hM.2.1 x11 6 J K r h) (fun r12 hE => ?_)
    refine k_aload_n (pc := 186) hC dX8_tell_186 rfl 0 rfl ?_
    refine gM_13 (pc := 187) hM dX8_tell_187 ?_
    refine k_if_ne (pc := 190) (tgt := 309) hC dX8_tell_190 (by decide) hE (fun hE => ?_) (fun hE => ?_)
    · refine k_aload_n (pc := 193) hC dX8_tell_193 rfl 0 rfl ?_
      refine m_clVjk (pc := 194) (As := []) hM (cw_M_tellTask hM (Nat.le_of_ble_eq_true rfl) (Nat.le_of_ble_eq_true rfl)) rfl rfl (Nat.le_of_ble_eq_true rfl) dX8_tell_194 hE (fun r h => ct_M_tellTask _ _ _ _ hM.2.1 F r12 K r h) (fun r13 hE => ?_)
      refine k_goto (pc := 197) (tgt := 309) hC dX8_tell_197 (by decide) ?_
      exact k_vret (pc := 309) hC hR ⟨Nat.le_refl 0, Nat.le_refl 0⟩ dX8_tell_309 (by cases hE; rfl) (by cases hE; exact fun _ h => h)
    · exact k_vret (pc := 309) hC hR ⟨Nat.le_refl 0, Nat.le_refl 0⟩ dX8_tell_309 (by cases hE; rfl) (by cases hE; exact fun _ h => h)
  refine sw_E hE (fun hx hE => ?_) (fun n25 hE => ?_)
  · refine k_tswI (pc := 9) (k := 25) (tgt := 200) hC dX8_tell_9 hx (by decide) (by decide) rfl (by decide) ?_
    refine k_aload_n (pc := 200) hC dX8_tell_200 rfl 0 rfl ?_
    refine m_clVj (pc := 201) (As := []) hM (cw_M_goesOn hM (Nat.le_of_ble_eq_true rfl) (Nat.le_of_ble_eq_true rfl)) rfl rfl (Nat.le_of_ble_eq_true rfl) dX8_tell_201 hE (fun r h => ct_M_goesOn _ _ _ _ hM.2.1  J K r h) (fun r14 hE => ?_)
    refine k_aload_n (pc := 204) hC dX8_tell_204 rfl 0 rfl ?_
    refine k_aload_n (pc := 205) hC dX8_tell_205 rfl 0 rfl ?_
    refine gM_11 (pc := 206) hM dX8_tell_206 ?_
    refine k_iconst (pc := 209) (v := 1) hC dX8_tell_209 (by decide) ?_
    refine k_isub (pc := 210) hC dX8_tell_210 ?_
    refine m_clVj (pc := 211) (As := [.int ((r14 0 11) - 1)]) hM (cw_M_tellStep hM (Nat.le_of_ble_eq_true rfl) (Nat.le_of_ble_eq_true rfl)) rfl rfl (Nat.le_of_ble_eq_true rfl) dX8_tell_211 hE (fun r h => ct_M_tellStep _ _ _ _ hM.2.1 F ((r14 0 11) - 1) r14 K r h) (fun r15 hE => ?_)
    refine k_goto (pc := 214) (tgt := 309) hC dX8_tell_214 (by decide) ?_
    exact k_vret (pc := 309) hC hR ⟨Nat.le_refl 0, Nat.le_refl 0⟩ dX8_tell_309 (by cases hE; rfl) (by cases hE; exact fun _ h => h)
  refine sw_E hE (fun hx hE => ?_) (fun n28 hE => ?_)
  · refine k_tswI (pc := 9) (k := 28) (tgt := 217) hC dX8_tell_9 hx (by decide) (by decide) rfl (by decide) ?_
    refine k_aload_n (pc := 217) hC dX8_tell_217 rfl 0 rfl ?_
    refine k_aload_n (pc := 218) hC dX8_tell_218 rfl 0 rfl ?_
    refine gM_42 (pc := 219) hM dX8_tell_219 ?_
    refine k_aload_n (pc := 222) hC dX8_tell_222 rfl 0 rfl ?_
    refine gM_19 (pc := 223) hM dX8_tell_223 ?_
    refine m_iald (pc := 226) 29 ly_29 hM dX8_tell_226 hE (fun x16 hE => ?_)
    refine k_bipush (pc := 227) (v := 6) hC dX8_tell_227 (by decide) ?_
    refine m_clVj (pc := 229) (As := [.int x16, .int 6]) hM (cw_M_roomFor hM (Nat.le_of_ble_eq_true rfl) (Nat.le_of_ble_eq_true rfl)) rfl rfl (Nat.le_of_ble_eq_true rfl) dX8_tell_229 hE (fun r h => ct_M_roomFor _ _ _ _ hM.2.1 x16 6 J K r h) (fun r17 hE => ?_)
    refine k_aload_n (pc := 232) hC dX8_tell_232 rfl 0 rfl ?_
    refine gM_13 (pc := 233) hM dX8_tell_233 ?_
    refine k_if_ne (pc := 236) (tgt := 309) hC dX8_tell_236 (by decide) hE (fun hE => ?_) (fun hE => ?_)
    · refine k_aload_n (pc := 239) hC dX8_tell_239 rfl 0 rfl ?_
      refine m_clVjk (pc := 240) (As := []) hM (cw_M_tellMan hM (Nat.le_of_ble_eq_true rfl) (Nat.le_of_ble_eq_true rfl)) rfl rfl (Nat.le_of_ble_eq_true rfl) dX8_tell_240 hE (fun r h => ct_M_tellMan _ _ _ _ hM.2.1 F r17 K r h) (fun r18 hE => ?_)
      refine k_goto (pc := 243) (tgt := 309) hC dX8_tell_243 (by decide) ?_
      exact k_vret (pc := 309) hC hR ⟨Nat.le_refl 0, Nat.le_refl 0⟩ dX8_tell_309 (by cases hE; rfl) (by cases hE; exact fun _ h => h)
    · exact k_vret (pc := 309) hC hR ⟨Nat.le_refl 0, Nat.le_refl 0⟩ dX8_tell_309 (by cases hE; rfl) (by cases hE; exact fun _ h => h)
  refine sw_E hE (fun hx hE => ?_) (fun n30 hE => ?_)
  · refine k_tswI (pc := 9) (k := 30) (tgt := 246) hC dX8_tell_9 hx (by decide) (by decide) rfl (by decide) ?_
    refine k_aload_n (pc := 246) hC dX8_tell_246 rfl 0 rfl ?_
    refine k_aload_n (pc := 247) hC dX8_tell_247 rfl 0 rfl ?_
    refine gM_46 (pc := 248) hM dX8_tell_248 ?_
    refine k_aload_n (pc := 251) hC dX8_tell_251 rfl 0 rfl ?_
    refine gM_19 (pc := 252) hM dX8_tell_252 ?_
    refine m_iald (pc := 255) 33 ly_33 hM dX8_tell_255 hE (fun x19 hE => ?_)
    refine k_bipush (pc := 256) (v := 8) hC dX8_tell_256 (by decide) ?_
    refine m_clVj (pc := 258) (As := [.int x19, .int 8]) hM (cw_M_roomFor hM (Nat.le_of_ble_eq_true rfl) (Nat.le_of_ble_eq_true rfl)) rfl rfl (Nat.le_of_ble_eq_true rfl) dX8_tell_258 hE (fun r h => ct_M_roomFor _ _ _ _ hM.2.1 x19 8 J K r h) (fun r20 hE => ?_)
    refine k_aload_n (pc := 261) hC dX8_tell_261 rfl 0 rfl ?_
    refine gM_13 (pc := 262) hM dX8_tell_262 ?_
    refine k_if_ne (pc := 265) (tgt := 309) hC dX8_tell_265 (by decide) hE (fun hE => ?_) (fun hE => ?_)
    · refine k_aload_n (pc := 268) hC dX8_tell_268 rfl 0 rfl ?_
      refine m_clVj (pc := 269) (As := []) hM (cw_M_tellLaw hM (Nat.le_of_ble_eq_true rfl) (Nat.le_of_ble_eq_true rfl)) rfl rfl (Nat.le_of_ble_eq_true rfl) dX8_tell_269 hE (fun r h => ct_M_tellLaw _ _ _ _ hM.2.1 F r20 K r h) (fun r21 hE => ?_)
      refine k_goto (pc := 272) (tgt := 309) hC dX8_tell_272 (by decide) ?_
      exact k_vret (pc := 309) hC hR ⟨Nat.le_refl 0, Nat.le_refl 0⟩ dX8_tell_309 (by cases hE; rfl) (by cases hE; exact fun _ h => h)
    · exact k_vret (pc := 309) hC hR ⟨Nat.le_refl 0, Nat.le_refl 0⟩ dX8_tell_309 (by cases hE; rfl) (by cases hE; exact fun _ h => h)
  refine sw_E hE (fun hx hE => ?_) (fun n34 hE => ?_)
  · refine k_tswI (pc := 9) (k := 34) (tgt := 275) hC dX8_tell_9 hx (by decide) (by decide) rfl (by decide) ?_
    refine k_aload_n (pc := 275) hC dX8_tell_275 rfl 0 rfl ?_
    refine m_clVj (pc := 276) (As := []) hM (cw_M_goesOn hM (Nat.le_of_ble_eq_true rfl) (Nat.le_of_ble_eq_true rfl)) rfl rfl (Nat.le_of_ble_eq_true rfl) dX8_tell_276 hE (fun r h => ct_M_goesOn _ _ _ _ hM.2.1  J K r h) (fun r22 hE => ?_)
    refine k_aload_n (pc := 279) hC dX8_tell_279 rfl 0 rfl ?_
    refine gM_55 (pc := 280) hM dX8_tell_280 ?_
    refine k_aload_n (pc := 283) hC dX8_tell_283 rfl 0 rfl ?_
    refine gM_19 (pc := 284) hM dX8_tell_284 ?_
    refine k_aload_n (pc := 287) hC dX8_tell_287 rfl 0 rfl ?_
    refine k_iconst (pc := 288) (v := 1) hC dX8_tell_288 (by decide) ?_
    refine k_sipush (pc := 289) (v := 600) hC dX8_tell_289 (by decide) ?_
    refine m_clIj (pc := 292) (As := [.int 1, .int 600]) hM (cw_M_bounded hM (Nat.le_of_ble_eq_true rfl) (Nat.le_of_ble_eq_true rfl)) rfl rfl (Nat.le_of_ble_eq_true rfl) dX8_tell_292 hE (fun r h => ct_M_bounded _ _ _ _ hM.2.1 1 600 r22 K r h) (fun r23 hE => ?_)
    refine m_iast (pc := 295) 41 ly_41 hM dX8_tell_295 hE (fun J24 hE => ?_)
    refine k_aload_n (pc := 296) hC dX8_tell_296 rfl 0 rfl ?_
    refine k_iconst (pc := 297) (v := 4) hC dX8_tell_297 (by decide) ?_
    refine m_clVj (pc := 298) (As := [.int 4]) hM (cw_M_must hM (Nat.le_of_ble_eq_true rfl) (Nat.le_of_ble_eq_true rfl)) rfl rfl (Nat.le_of_ble_eq_true rfl) dX8_tell_298 hE (fun r h => ct_M_must _ _ _ _ hM.2.1 4 J24 K r h) (fun r25 hE => ?_)
    refine k_goto (pc := 301) (tgt := 309) hC dX8_tell_301 (by decide) ?_
    exact k_vret (pc := 309) hC hR ⟨Nat.le_refl 0, Nat.le_refl 0⟩ dX8_tell_309 (by cases hE; rfl) (by cases hE; exact fun _ h => h)
  refine sw_C (x1 = 22) (fun hx => ?_) (fun n22 => ?_)
  · refine k_tswI (pc := 9) (k := 22) (tgt := 304) hC dX8_tell_9 hx (by decide) (by decide) rfl (by decide) ?_
    refine k_aload_n (pc := 304) hC dX8_tell_304 rfl 0 rfl ?_
    refine k_iconst (pc := 305) (v := 1) hC dX8_tell_305 (by decide) ?_
    refine m_clVj (pc := 306) (As := [.int 1]) hM (cw_M_fail hM (Nat.le_of_ble_eq_true rfl) (Nat.le_of_ble_eq_true rfl)) rfl rfl (Nat.le_of_ble_eq_true rfl) dX8_tell_306 hE (fun r h => ct_M_fail _ _ _ _ hM.2.1 1 J K r h) (fun r26 hE => ?_)
    exact k_vret (pc := 309) hC hR ⟨Nat.le_refl 0, Nat.le_refl 0⟩ dX8_tell_309 (by cases hE; rfl) (by cases hE; exact fun _ h => h)
  refine sw_C (x1 = 26) (fun hx => ?_) (fun n26 => ?_)
  · refine k_tswI (pc := 9) (k := 26) (tgt := 304) hC dX8_tell_9 hx (by decide) (by decide) rfl (by decide) ?_
    refine k_aload_n (pc := 304) hC dX8_tell_304 rfl 0 rfl ?_
    refine k_iconst (pc := 305) (v := 1) hC dX8_tell_305 (by decide) ?_
    refine m_clVj (pc := 306) (As := [.int 1]) hM (cw_M_fail hM (Nat.le_of_ble_eq_true rfl) (Nat.le_of_ble_eq_true rfl)) rfl rfl (Nat.le_of_ble_eq_true rfl) dX8_tell_306 hE (fun r h => ct_M_fail _ _ _ _ hM.2.1 1 J K r h) (fun r26 hE => ?_)
    exact k_vret (pc := 309) hC hR ⟨Nat.le_refl 0, Nat.le_refl 0⟩ dX8_tell_309 (by cases hE; rfl) (by cases hE; exact fun _ h => h)
  refine sw_C (x1 = 27) (fun hx => ?_) (fun n27 => ?_)
  · refine k_tswI (pc := 9) (k := 27) (tgt := 304) hC dX8_tell_9 hx (by decide) (by decide) rfl (by decide) ?_
    refine k_aload_n (pc := 304) hC dX8_tell_304 rfl 0 rfl ?_
    refine k_iconst (pc := 305) (v := 1) hC dX8_tell_305 (by decide) ?_
    refine m_clVj (pc := 306) (As := [.int 1]) hM (cw_M_fail hM (Nat.le_of_ble_eq_true rfl) (Nat.le_of_ble_eq_true rfl)) rfl rfl (Nat.le_of_ble_eq_true rfl) dX8_tell_306 hE (fun r h => ct_M_fail _ _ _ _ hM.2.1 1 J K r h) (fun r26 hE => ?_)
    exact k_vret (pc := 309) hC hR ⟨Nat.le_refl 0, Nat.le_refl 0⟩ dX8_tell_309 (by cases hE; rfl) (by cases hE; exact fun _ h => h)
  refine sw_C (x1 = 29) (fun hx => ?_) (fun n29 => ?_)
  · refine k_tswI (pc := 9) (k := 29) (tgt := 304) hC dX8_tell_9 hx (by decide) (by decide) rfl (by decide) ?_
    refine k_aload_n (pc := 304) hC dX8_tell_304 rfl 0 rfl ?_
    refine k_iconst (pc := 305) (v := 1) hC dX8_tell_305 (by decide) ?_
    refine m_clVj (pc := 306) (As := [.int 1]) hM (cw_M_fail hM (Nat.le_of_ble_eq_true rfl) (Nat.le_of_ble_eq_true rfl)) rfl rfl (Nat.le_of_ble_eq_true rfl) dX8_tell_306 hE (fun r h => ct_M_fail _ _ _ _ hM.2.1 1 J K r h) (fun r26 hE => ?_)
    exact k_vret (pc := 309) hC hR ⟨Nat.le_refl 0, Nat.le_refl 0⟩ dX8_tell_309 (by cases hE; rfl) (by cases hE; exact fun _ h => h)
  refine sw_C (x1 = 31) (fun hx => ?_) (fun n31 => ?_)
  · refine k_tswI (pc := 9) (k := 31) (tgt := 304) hC dX8_tell_9 hx (by decide) (by decide) rfl (by decide) ?_
    refine k_aload_n (pc := 304) hC dX8_tell_304 rfl 0 rfl ?_
    refine k_iconst (pc := 305) (v := 1) hC dX8_tell_305 (by decide) ?_
    refine m_clVj (pc := 306) (As := [.int 1]) hM (cw_M_fail hM (Nat.le_of_ble_eq_true rfl) (Nat.le_of_ble_eq_true rfl)) rfl rfl (Nat.le_of_ble_eq_true rfl) dX8_tell_306 hE (fun r h => ct_M_fail _ _ _ _ hM.2.1 1 J K r h) (fun r26 hE => ?_)
    exact k_vret (pc := 309) hC hR ⟨Nat.le_refl 0, Nat.le_refl 0⟩ dX8_tell_309 (by cases hE; rfl) (by cases hE; exact fun _ h => h)
  refine sw_C (x1 = 32) (fun hx => ?_) (fun n32 => ?_)
  · refine k_tswI (pc := 9) (k := 32) (tgt := 304) hC dX8_tell_9 hx (by decide) (by decide) rfl (by decide) ?_
    refine k_aload_n (pc := 304) hC dX8_tell_304 rfl 0 rfl ?_
    refine k_iconst (pc := 305) (v := 1) hC dX8_tell_305 (by decide) ?_
    refine m_clVj (pc := 306) (As := [.int 1]) hM (cw_M_fail hM (Nat.le_of_ble_eq_true rfl) (Nat.le_of_ble_eq_true rfl)) rfl rfl (Nat.le_of_ble_eq_true rfl) dX8_tell_306 hE (fun r h => ct_M_fail _ _ _ _ hM.2.1 1 J K r h) (fun r26 hE => ?_)
    exact k_vret (pc := 309) hC hR ⟨Nat.le_refl 0, Nat.le_refl 0⟩ dX8_tell_309 (by cases hE; rfl) (by cases hE; exact fun _ h => h)
  refine sw_C (x1 = 33) (fun hx => ?_) (fun n33 => ?_)
  · refine k_tswI (pc := 9) (k := 33) (tgt := 304) hC dX8_tell_9 hx (by decide) (by decide) rfl (by decide) ?_
    refine k_aload_n (pc := 304) hC dX8_tell_304 rfl 0 rfl ?_
    refine k_iconst (pc := 305) (v := 1) hC dX8_tell_305 (by decide) ?_
    refine m_clVj (pc := 306) (As := [.int 1]) hM (cw_M_fail hM (Nat.le_of_ble_eq_true rfl) (Nat.le_of_ble_eq_true rfl)) rfl rfl (Nat.le_of_ble_eq_true rfl) dX8_tell_306 hE (fun r h => ct_M_fail _ _ _ _ hM.2.1 1 J K r h) (fun r26 hE => ?_)
    exact k_vret (pc := 309) hC hR ⟨Nat.le_refl 0, Nat.le_refl 0⟩ dX8_tell_309 (by cases hE; rfl) (by cases hE; exact fun _ h => h)
  have z20 := sw_ne (z := 20) n20 rfl
  have z21 := sw_ne (z := 21) n21 rfl
  have z22 := sw_ne (z := 22) n22 rfl
  have z23 := sw_ne (z := 23) n23 rfl
  have z24 := sw_ne (z := 24) n24 rfl
  have z25 := sw_ne (z := 25) n25 rfl
  have z26 := sw_ne (z := 26) n26 rfl
  have z27 := sw_ne (z := 27) n27 rfl
  have z28 := sw_ne (z := 28) n28 rfl
  have z29 := sw_ne (z := 29) n29 rfl
  have z30 := sw_ne (z := 30) n30 rfl
  have z31 := sw_ne (z := 31) n31 rfl
  have z32 := sw_ne (z := 32) n32 rfl
  have z33 := sw_ne (z := 33) n33 rfl
  have z34 := sw_ne (z := 34) n34 rfl
  refine k_tswO (pc := 9) (tgt := 304) hC dX8_tell_9 (by omega) (by decide) ?_
  refine k_aload_n (pc := 304) hC dX8_tell_304 rfl 0 rfl ?_
  refine k_iconst (pc := 305) (v := 1) hC dX8_tell_305 (by decide) ?_
  refine m_clVj (pc := 306) (As := [.int 1]) hM (cw_M_fail hM (Nat.le_of_ble_eq_true rfl) (Nat.le_of_ble_eq_true rfl)) rfl rfl (Nat.le_of_ble_eq_true rfl) dX8_tell_306 hE (fun r h => ct_M_fail _ _ _ _ hM.2.1 1 J K r h) (fun r26 hE => ?_)
  exact k_vret (pc := 309) hC hR ⟨Nat.le_refl 0, Nat.le_refl 0⟩ dX8_tell_309 (by cases hE; rfl) (by cases hE; exact fun _ h => h)
theorem ct_M_tell (l : Launch) (D : Dd) (A : Nat → Prop) (th : Nat) (hA : ∀ (off : Nat) (kd : Kd), layM off = some kd → A (th + off)) (F : Nat) (J : Ji) (K : Jl) (out : Ji × Jl) (hE : M_tell F J K = some out) : Ct l yX8_tell (ws_ yX8_tell cX8_tell 1 none) rmM_tell vwCl arTy D A [.ref th] (RM D th J K) (RM D th out.1 out.2) none 0 0 := by
  refine Ct.of (by decide) (Nat.le_of_ble_eq_true rfl) rfl ?_
  intro X hl hrm hC hR hXA hnL _
  exact w_M_tell ⟨hC, by unfold Ft; rw [hXA]; exact hA, hnL, hrm⟩ hR F J K hE
theorem cw_M_tell {X : Ctx} {cc : ByteArray} {D : Dd} {th mL : Nat} {rm : Room} (hM : Mx X cc D th mL rm) (h1 : rmM_tell.frames + 1 ≤ rm.frames) (h2 : 8 + (1 + 11) + rmM_tell.locals ≤ rm.locals) : CallW X.2.2.2.1 X.2.2.2.2.1 X.2.2.2.2.2.2.1 RX8 RX8 293 yX8_tell cX8_tell 1 none (ws_ yX8_tell cX8_tell 1 none) rmM_tell 0 0 0 := cwV 0 (cx_w hM.1) (lw_V q1846 q1848 qs57 q128 q1849) rfl rfl rfl (by decide +kernel) (by rw [hM.2.2.2]; exact ⟨h1, h2⟩)
abbrev rmM_read : Room := { frames := 7, cells := 0, slots := 0, locals := 146 }
set_option maxHeartbeats 4000000 in
theorem w_M_read_B322 {X : Ctx} {D : Dd} {th : Nat} {out : Int32 × Ji × Jl} (hM : Mx X cX8_read D th 2 rmM_read) (hR : Rt X (some .int) (RM D th out.2.1 out.2.2) (some (.int out.1)) 0 0) (F : Nat) (k322 : Int32 → Ji → Jl → Option (Int32 × Ji × Jl)) (hk322 : ∀ (a1 : Int32) (J : Ji) (K : Jl) , k322 a1 J K = some out → Wk X 0 0 (RM D th J K) 322 [(0, .ref th), (1, .int a1)] []) (a1 : Int32) (J : Ji) (K : Jl) (hE : M_read_B322 F k322 a1 J K = some out) : Wk X 0 0 (RM D th J K) 322 [(0, .ref th), (1, .int a1)] [] := by
  have hC := hM.1
  have hnL := hM.2.2.1
  have hrm := hM.2.2.2
  unfold M_read_B322 at hE
  refine k_iload_n (pc := 322) hC dX8_read_322 rfl 1 rfl ?_
  refine k_iconst (pc := 323) (v := 3) hC dX8_read_323 (by decide) ?_
  refine k_icmp_ge (pc := 324) (tgt := 340) hC dX8_read_324 (by decide) hE (fun hE => ?_) (fun hE => ?_)
  · refine k_iconst (pc := 340) (v := 0) hC dX8_read_340 (by decide) ?_
    exact k_iret (pc := 341) hC hR ⟨Nat.le_refl 0, Nat.le_refl 0⟩ dX8_read_341 (by cases hE; rfl) (by cases hE; exact fun _ h => h)
  · refine k_aload_n (pc := 327) hC dX8_read_327 rfl 0 rfl ?_
    refine gM_81 (pc := 328) hM dX8_read_328 ?_
    refine k_iload_n (pc := 331) hC dX8_read_331 rfl 1 rfl ?_
    refine k_iconst (pc := 332) (v := 0) hC dX8_read_332 (by decide) ?_
    refine m_zast (pc := 333) 61 ly_61 hM dX8_read_333 hE (fun J32 hE => ?_)
    refine k_iincE (pc := 334) (k := 1) (d := 1) (lv' := fun x33 => [(1, .int x33), (0, .ref th)]) hC dX8_read_334 rfl (by decide) (by rw [hnL]; decide) hE (fun _ => rfl) (fun x33 hE => ?_)
    refine k_goto (pc := 337) (tgt := 322) hC dX8_read_337 (by decide) ?_
    refine k_sub [1, 0] rfl ?_
    exact hk322 _ _ _ hE
theorem w_M_read_L322 {X : Ctx} {D : Dd} {th : Nat} {out : Int32 × Ji × Jl} (hM : Mx X cX8_read D th 2 rmM_read) (hR : Rt X (some .int) (RM D th out.2.1 out.2.2) (some (.int out.1)) 0 0) (F : Nat) (n : Nat) : ∀ (a1 : Int32) (J : Ji) (K : Jl) , M_read_L322 F n a1 J K = some out → Wk X 0 0 (RM D th J K) 322 [(0, .ref th), (1, .int a1)] [] := by
  induction n with
  | zero => intro a1 J K h; cases h
  | succ n ih => intro a1 J K h; exact w_M_read_B322 hM hR F (M_read_L322 F n) ih a1 J K h
set_option maxHeartbeats 4000000 in
theorem w_M_read_B271 {X : Ctx} {D : Dd} {th : Nat} {out : Int32 × Ji × Jl} (hM : Mx X cX8_read D th 2 rmM_read) (hR : Rt X (some .int) (RM D th out.2.1 out.2.2) (some (.int out.1)) 0 0) (F : Nat) (s0 : Int32) (J : Ji) (K : Jl) (hE : M_read_B271 F s0 J K = some out) : Wk X 0 0 (RM D th J K) 271 [(0, .ref th)] [.int s0, .ref th] := by
  have hC := hM.1
  have hnL := hM.2.2.1
  have hrm := hM.2.2.2
  unfold M_read_B271 at hE
  refine pM_17 (pc := 271) hM dX8_read_271 hE (fun J27 hE => ?_)
  refine k_aload_n (pc := 274) hC dX8_read_274 rfl 0 rfl ?_
  refine gM_13 (pc := 275) hM dX8_read_275 ?_
  refine k_if_le (pc := 278) (tgt := 286) hC dX8_read_278 (by decide) hE (fun hE => ?_) (fun hE => ?_)
  · refine k_aload_n (pc := 286) hC dX8_read_286 rfl 0 rfl ?_
    refine gM_15 (pc := 287) hM dX8_read_287 ?_
    refine k_if_le (pc := 290) (tgt := 298) hC dX8_read_290 (by decide) hE (fun hE => ?_) (fun hE => ?_)
    · refine k_aload_n (pc := 298) hC dX8_read_298 rfl 0 rfl ?_
      refine k_aload_n (pc := 299) hC dX8_read_299 rfl 0 rfl ?_
      refine gM_19 (pc := 300) hM dX8_read_300 ?_
      refine pM_18 (pc := 303) hM dX8_read_303 hE (fun J28 hE => ?_)
      refine k_aload_n (pc := 306) hC dX8_read_306 rfl 0 rfl ?_
      refine m_clVj (pc := 307) (As := []) hM (cw_M_begins hM (Nat.le_of_ble_eq_true rfl) (Nat.le_of_ble_eq_true rfl)) rfl rfl (Nat.le_of_ble_eq_true rfl) dX8_read_307 hE (fun r h => ct_M_begins _ _ _ _ hM.2.1 F J28 K r h) (fun r29 hE => ?_)
      refine k_aload_n (pc := 310) hC dX8_read_310 rfl 0 rfl ?_
      refine k_iconst (pc := 311) (v := 0) hC dX8_read_311 (by decide) ?_
      refine pM_74 (pc := 312) hM dX8_read_312 hE (fun J30 hE => ?_)
      refine k_aload_n (pc := 315) hC dX8_read_315 rfl 0 rfl ?_
      refine k_iconst (pc := 316) (v := 0) hC dX8_read_316 (by decide) ?_
      refine pM_77 (pc := 317) hM dX8_read_317 hE (fun J31 hE => ?_)
      refine k_iconst (pc := 320) (v := 0) hC dX8_read_320 (by decide) ?_
      refine k_istore_n (pc := 321) (lv' := [(1, .int 0), (0, .ref th)]) hC dX8_read_321 rfl (by rw [hnL]; decide) rfl ?_
      refine k_sub [1, 0] rfl ?_
      exact w_M_read_L322 hM hR F _ _ _ _ hE
    · refine k_aload_n (pc := 293) hC dX8_read_293 rfl 0 rfl ?_
      refine gM_15 (pc := 294) hM dX8_read_294 ?_
      exact k_iret (pc := 297) hC hR ⟨Nat.le_refl 0, Nat.le_refl 0⟩ dX8_read_297 (by cases hE; rfl) (by cases hE; exact fun _ h => h)
  · refine k_aload_n (pc := 281) hC dX8_read_281 rfl 0 rfl ?_
    refine gM_13 (pc := 282) hM dX8_read_282 ?_
    exact k_iret (pc := 285) hC hR ⟨Nat.le_refl 0, Nat.le_refl 0⟩ dX8_read_285 (by cases hE; rfl) (by cases hE; exact fun _ h => h)
set_option maxHeartbeats 4000000 in
theorem w_M_read_B241 {X : Ctx} {D : Dd} {th : Nat} {out : Int32 × Ji × Jl} (hM : Mx X cX8_read D th 2 rmM_read) (hR : Rt X (some .int) (RM D th out.2.1 out.2.2) (some (.int out.1)) 0 0) (F : Nat) (J : Ji) (K : Jl) (hE : M_read_B241 F J K = some out) : Wk X 0 0 (RM D th J K) 241 [(0, .ref th)] [] := by
  have hC := hM.1
  have hnL := hM.2.2.1
  have hrm := hM.2.2.2
  unfold M_read_B241 at hE
  refine k_aload_n (pc := 241) hC dX8_read_241 rfl 0 rfl ?_
  refine k_aload_n (pc := 242) hC dX8_read_242 rfl 0 rfl ?_
  refine gM_13 (pc := 243) hM dX8_read_243 ?_
  refine k_if_le (pc := 246) (tgt := 256) hC dX8_read_246 (by decide) hE (fun hE => ?_) (fun hE => ?_)
  · refine k_aload_n (pc := 256) hC dX8_read_256 rfl 0 rfl ?_
    refine gM_15 (pc := 257) hM dX8_read_257 ?_
    refine k_if_le (pc := 260) (tgt := 270) hC dX8_read_260 (by decide) hE (fun hE => ?_) (fun hE => ?_)
    · refine k_iconst (pc := 270) (v := (-1)) hC dX8_read_270 (by decide) ?_
      exact w_M_read_B271 hM hR F _ _ _ hE
    · refine k_aload_n (pc := 263) hC dX8_read_263 rfl 0 rfl ?_
      refine gM_16 (pc := 264) hM dX8_read_264 ?_
      refine k_goto (pc := 267) (tgt := 271) hC dX8_read_267 (by decide) ?_
      exact w_M_read_B271 hM hR F _ _ _ hE
  · refine k_aload_n (pc := 249) hC dX8_read_249 rfl 0 rfl ?_
    refine gM_14 (pc := 250) hM dX8_read_250 ?_
    refine k_goto (pc := 253) (tgt := 271) hC dX8_read_253 (by decide) ?_
    exact w_M_read_B271 hM hR F _ _ _ hE
set_option maxHeartbeats 4000000 in
theorem w_M_read_B219 {X : Ctx} {D : Dd} {th : Nat} {out : Int32 × Ji × Jl} (hM : Mx X cX8_read D th 2 rmM_read) (hR : Rt X (some .int) (RM D th out.2.1 out.2.2) (some (.int out.1)) 0 0) (F : Nat) (k219 : Ji → Jl → Option (Int32 × Ji × Jl)) (hk219 : ∀ (J : Ji) (K : Jl) , k219  J K = some out → Wk X 0 0 (RM D th J K) 219 [(0, .ref th)] []) (J : Ji) (K : Jl) (hE : M_read_B219 F k219 J K = some out) : Wk X 0 0 (RM D th J K) 219 [(0, .ref th)] [] := by
  have hC := hM.1
  have hnL := hM.2.2.1
  have hrm := hM.2.2.2
  unfold M_read_B219 at hE
  refine k_aload_n (pc := 219) hC dX8_read_219 rfl 0 rfl ?_
  refine gM_13 (pc := 220) hM dX8_read_220 ?_
  refine k_if_ne (pc := 223) (tgt := 241) hC dX8_read_223 (by decide) hE (fun hE => ?_) (fun hE => ?_)
  · refine k_aload_n (pc := 226) hC dX8_read_226 rfl 0 rfl ?_
    refine k_iconst (pc := 227) (v := 0) hC dX8_read_227 (by decide) ?_
    refine m_clI (pc := 228) (As := [.int 0]) hM (cw_M_is hM (Nat.le_of_ble_eq_true rfl) (Nat.le_of_ble_eq_true rfl)) rfl rfl (Nat.le_of_ble_eq_true rfl) dX8_read_228 hE (fun r h => ct_M_is _ _ _ _ hM.2.1 0 J K r h) (fun r25 hE => ?_)
    refine k_if_ne (pc := 231) (tgt := 241) hC dX8_read_231 (by decide) hE (fun hE => ?_) (fun hE => ?_)
    · refine k_aload_n (pc := 234) hC dX8_read_234 rfl 0 rfl ?_
      refine m_clVjk (pc := 235) (As := []) hM (cw_M_tell hM (Nat.le_of_ble_eq_true rfl) (Nat.le_of_ble_eq_true rfl)) rfl rfl (Nat.le_of_ble_eq_true rfl) dX8_read_235 hE (fun r h => ct_M_tell _ _ _ _ hM.2.1 F J K r h) (fun r26 hE => ?_)
      refine k_goto (pc := 238) (tgt := 219) hC dX8_read_238 (by decide) ?_
      exact hk219 _ _ hE
    · exact w_M_read_B241 hM hR F _ _ hE
  · exact w_M_read_B241 hM hR F _ _ hE
theorem w_M_read_L219 {X : Ctx} {D : Dd} {th : Nat} {out : Int32 × Ji × Jl} (hM : Mx X cX8_read D th 2 rmM_read) (hR : Rt X (some .int) (RM D th out.2.1 out.2.2) (some (.int out.1)) 0 0) (F : Nat) (n : Nat) : ∀ (J : Ji) (K : Jl) , M_read_L219 F n J K = some out → Wk X 0 0 (RM D th J K) 219 [(0, .ref th)] [] := by
  induction n with
  | zero => intro J K h; cases h
  | succ n ih => intro J K h; exact w_M_read_B219 hM hR F (M_read_L219 F n) ih J K h
set_option maxHeartbeats 4000000 in
theorem w_M_read_B177 {X : Ctx} {D : Dd} {th : Nat} {out : Int32 × Ji × Jl} (hM : Mx X cX8_read D th 2 rmM_read) (hR : Rt X (some .int) (RM D th out.2.1 out.2.2) (some (.int out.1)) 0 0) (F : Nat) (k177 : Int32 → Ji → Jl → Option (Int32 × Ji × Jl)) (hk177 : ∀ (a1 : Int32) (J : Ji) (K : Jl) , k177 a1 J K = some out → Wk X 0 0 (RM D th J K) 177 [(0, .ref th), (1, .int a1)] []) (a1 : Int32) (J : Ji) (K : Jl) (hE : M_read_B177 F k177 a1 J K = some out) : Wk X 0 0 (RM D th J K) 177 [(0, .ref th), (1, .int a1)] [] := by
  have hC := hM.1
  have hnL := hM.2.2.1
  have hrm := hM.2.2.2
  unfold M_read_B177 at hE
  refine k_iload_n (pc := 177) hC dX8_read_177 rfl 1 rfl ?_
  refine k_bipush (pc := 178) (v := 6) hC dX8_read_178 (by decide) ?_
  refine k_icmp_ge (pc := 180) (tgt := 219) hC dX8_read_180 (by decide) hE (fun hE => ?_) (fun hE => ?_)
  · refine k_sub [0] rfl ?_
    exact w_M_read_L219 hM hR F _ _ _ hE
  · refine k_aload_n (pc := 183) hC dX8_read_183 rfl 0 rfl ?_
    refine gM_47 (pc := 184) hM dX8_read_184 ?_
    refine k_bipush (pc := 187) (v := 6) hC dX8_read_187 (by decide) ?_
    refine k_aload_n (pc := 189) hC dX8_read_189 rfl 0 rfl ?_
    refine gM_19 (pc := 190) hM dX8_read_190 ?_
    refine k_imul (pc := 193) hC dX8_read_193 ?_
    refine k_iload_n (pc := 194) hC dX8_read_194 rfl 1 rfl ?_
    refine k_iadd (pc := 195) hC dX8_read_195 ?_
    refine k_iconst (pc := 196) (v := 0) hC dX8_read_196 (by decide) ?_
    refine m_iast (pc := 197) 34 ly_34 hM dX8_read_197 hE (fun J22 hE => ?_)
    refine k_aload_n (pc := 198) hC dX8_read_198 rfl 0 rfl ?_
    refine gM_48 (pc := 199) hM dX8_read_199 ?_
    refine k_bipush (pc := 202) (v := 6) hC dX8_read_202 (by decide) ?_
    refine k_aload_n (pc := 204) hC dX8_read_204 rfl 0 rfl ?_
    refine gM_19 (pc := 205) hM dX8_read_205 ?_
    refine k_imul (pc := 208) hC dX8_read_208 ?_
    refine k_iload_n (pc := 209) hC dX8_read_209 rfl 1 rfl ?_
    refine k_iadd (pc := 210) hC dX8_read_210 ?_
    refine k_iconst (pc := 211) (v := 0) hC dX8_read_211 (by decide) ?_
    refine m_iast (pc := 212) 35 ly_35 hM dX8_read_212 hE (fun J23 hE => ?_)
    refine k_iincE (pc := 213) (k := 1) (d := 1) (lv' := fun x24 => [(1, .int x24), (0, .ref th)]) hC dX8_read_213 rfl (by decide) (by rw [hnL]; decide) hE (fun _ => rfl) (fun x24 hE => ?_)
    refine k_goto (pc := 216) (tgt := 177) hC dX8_read_216 (by decide) ?_
    refine k_sub [1, 0] rfl ?_
    exact hk177 _ _ _ hE
theorem w_M_read_L177 {X : Ctx} {D : Dd} {th : Nat} {out : Int32 × Ji × Jl} (hM : Mx X cX8_read D th 2 rmM_read) (hR : Rt X (some .int) (RM D th out.2.1 out.2.2) (some (.int out.1)) 0 0) (F : Nat) (n : Nat) : ∀ (a1 : Int32) (J : Ji) (K : Jl) , M_read_L177 F n a1 J K = some out → Wk X 0 0 (RM D th J K) 177 [(0, .ref th), (1, .int a1)] [] := by
  induction n with
  | zero => intro a1 J K h; cases h
  | succ n ih => intro a1 J K h; exact w_M_read_B177 hM hR F (M_read_L177 F n) ih a1 J K h
set_option maxHeartbeats 4000000 in
theorem w_M_read_B10 {X : Ctx} {D : Dd} {th : Nat} {out : Int32 × Ji × Jl} (hM : Mx X cX8_read D th 2 rmM_read) (hR : Rt X (some .int) (RM D th out.2.1 out.2.2) (some (.int out.1)) 0 0) (F : Nat) (k10 : Int32 → Ji → Jl → Option (Int32 × Ji × Jl)) (hk10 : ∀ (a1 : Int32) (J : Ji) (K : Jl) , k10 a1 J K = some out → Wk X 0 0 (RM D th J K) 10 [(0, .ref th), (1, .int a1)] []) (a1 : Int32) (J : Ji) (K : Jl) (hE : M_read_B10 F k10 a1 J K = some out) : Wk X 0 0 (RM D th J K) 10 [(0, .ref th), (1, .int a1)] [] := by
  have hC := hM.1
  have hnL := hM.2.2.1
  have hrm := hM.2.2.2
  unfold M_read_B10 at hE
  refine k_iload_n (pc := 10) hC dX8_read_10 rfl 1 rfl ?_
  refine k_aload_n (pc := 11) hC dX8_read_11 rfl 0 rfl ?_
  refine gM_4 (pc := 12) hM dX8_read_12 ?_
  refine k_icmp_ge (pc := 15) (tgt := 36) hC dX8_read_15 (by decide) hE (fun hE => ?_) (fun hE => ?_)
  · refine k_aload_n (pc := 36) hC dX8_read_36 rfl 0 rfl ?_
    refine k_iconst (pc := 37) (v := 0) hC dX8_read_37 (by decide) ?_
    refine pM_2 (pc := 38) hM dX8_read_38 hE (fun J2 hE => ?_)
    refine k_aload_n (pc := 41) hC dX8_read_41 rfl 0 rfl ?_
    refine m_clVjk (pc := 42) (As := []) hM (cw_M_cut hM (Nat.le_of_ble_eq_true rfl) (Nat.le_of_ble_eq_true rfl)) rfl rfl (Nat.le_of_ble_eq_true rfl) dX8_read_42 hE (fun r h => ct_M_cut _ _ _ _ hM.2.1 F J2 K r h) (fun r3 hE => ?_)
    refine k_aload_n (pc := 45) hC dX8_read_45 rfl 0 rfl ?_
    refine k_iconst (pc := 46) (v := 0) hC dX8_read_46 (by decide) ?_
    refine pM_11 (pc := 47) hM dX8_read_47 hE (fun J4 hE => ?_)
    refine k_aload_n (pc := 50) hC dX8_read_50 rfl 0 rfl ?_
    refine k_iconst (pc := 51) (v := 0) hC dX8_read_51 (by decide) ?_
    refine pM_12 (pc := 52) hM dX8_read_52 hE (fun J5 hE => ?_)
    refine k_aload_n (pc := 55) hC dX8_read_55 rfl 0 rfl ?_
    refine k_iconst (pc := 56) (v := 0) hC dX8_read_56 (by decide) ?_
    refine pM_13 (pc := 57) hM dX8_read_57 hE (fun J6 hE => ?_)
    refine k_aload_n (pc := 60) hC dX8_read_60 rfl 0 rfl ?_
    refine k_iconst (pc := 61) (v := 0) hC dX8_read_61 (by decide) ?_
    refine pM_15 (pc := 62) hM dX8_read_62 hE (fun J7 hE => ?_)
    refine k_aload_n (pc := 65) hC dX8_read_65 rfl 0 rfl ?_
    refine k_iconst (pc := 66) (v := 1) hC dX8_read_66 (by decide) ?_
    refine k_aload_n (pc := 67) hC dX8_read_67 rfl 0 rfl ?_
    refine gM_18 (pc := 68) hM dX8_read_68 ?_
    refine k_isub (pc := 71) hC dX8_read_71 ?_
    refine pM_19 (pc := 72) hM dX8_read_72 hE (fun J8 hE => ?_)
    refine k_aload_n (pc := 75) hC dX8_read_75 rfl 0 rfl ?_
    refine k_iconst (pc := 76) (v := 0) hC dX8_read_76 (by decide) ?_
    refine pM_20 (pc := 77) hM dX8_read_77 hE (fun J9 hE => ?_)
    refine k_aload_n (pc := 80) hC dX8_read_80 rfl 0 rfl ?_
    refine gM_24 (pc := 81) hM dX8_read_81 ?_
    refine k_aload_n (pc := 84) hC dX8_read_84 rfl 0 rfl ?_
    refine gM_19 (pc := 85) hM dX8_read_85 ?_
    refine k_iconst (pc := 88) (v := 0) hC dX8_read_88 (by decide) ?_
    refine m_iast (pc := 89) 11 ly_11 hM dX8_read_89 hE (fun J10 hE => ?_)
    refine k_aload_n (pc := 90) hC dX8_read_90 rfl 0 rfl ?_
    refine gM_25 (pc := 91) hM dX8_read_91 ?_
    refine k_aload_n (pc := 94) hC dX8_read_94 rfl 0 rfl ?_
    refine gM_19 (pc := 95) hM dX8_read_95 ?_
    refine k_iconst (pc := 98) (v := 0) hC dX8_read_98 (by decide) ?_
    refine m_iast (pc := 99) 12 ly_12 hM dX8_read_99 hE (fun J11 hE => ?_)
    refine k_aload_n (pc := 100) hC dX8_read_100 rfl 0 rfl ?_
    refine gM_30 (pc := 101) hM dX8_read_101 ?_
    refine k_aload_n (pc := 104) hC dX8_read_104 rfl 0 rfl ?_
    refine gM_19 (pc := 105) hM dX8_read_105 ?_
    refine k_iconst (pc := 108) (v := 0) hC dX8_read_108 (by decide) ?_
    refine m_iast (pc := 109) 17 ly_17 hM dX8_read_109 hE (fun J12 hE => ?_)
    refine k_aload_n (pc := 110) hC dX8_read_110 rfl 0 rfl ?_
    refine gM_32 (pc := 111) hM dX8_read_111 ?_
    refine k_aload_n (pc := 114) hC dX8_read_114 rfl 0 rfl ?_
    refine gM_19 (pc := 115) hM dX8_read_115 ?_
    refine k_iconst (pc := 118) (v := 0) hC dX8_read_118 (by decide) ?_
    refine m_iast (pc := 119) 19 ly_19 hM dX8_read_119 hE (fun J13 hE => ?_)
    refine k_aload_n (pc := 120) hC dX8_read_120 rfl 0 rfl ?_
    refine gM_42 (pc := 121) hM dX8_read_121 ?_
    refine k_aload_n (pc := 124) hC dX8_read_124 rfl 0 rfl ?_
    refine gM_19 (pc := 125) hM dX8_read_125 ?_
    refine k_iconst (pc := 128) (v := 0) hC dX8_read_128 (by decide) ?_
    refine m_iast (pc := 129) 29 ly_29 hM dX8_read_129 hE (fun J14 hE => ?_)
    refine k_aload_n (pc := 130) hC dX8_read_130 rfl 0 rfl ?_
    refine gM_46 (pc := 131) hM dX8_read_131 ?_
    refine k_aload_n (pc := 134) hC dX8_read_134 rfl 0 rfl ?_
    refine gM_19 (pc := 135) hM dX8_read_135 ?_
    refine k_iconst (pc := 138) (v := 0) hC dX8_read_138 (by decide) ?_
    refine m_iast (pc := 139) 33 ly_33 hM dX8_read_139 hE (fun J15 hE => ?_)
    refine k_aload_n (pc := 140) hC dX8_read_140 rfl 0 rfl ?_
    refine gM_55 (pc := 141) hM dX8_read_141 ?_
    refine k_aload_n (pc := 144) hC dX8_read_144 rfl 0 rfl ?_
    refine gM_19 (pc := 145) hM dX8_read_145 ?_
    refine k_sipush (pc := 148) (v := 480) hC dX8_read_148 (by decide) ?_
    refine m_iast (pc := 151) 41 ly_41 hM dX8_read_151 hE (fun J16 hE => ?_)
    refine k_aload_n (pc := 152) hC dX8_read_152 rfl 0 rfl ?_
    refine k_bipush (pc := 153) (v := 50) hC dX8_read_153 (by decide) ?_
    refine k_aload_n (pc := 155) hC dX8_read_155 rfl 0 rfl ?_
    refine gM_19 (pc := 156) hM dX8_read_156 ?_
    refine k_imul (pc := 159) hC dX8_read_159 ?_
    refine pM_49 (pc := 160) hM dX8_read_160 hE (fun J17 hE => ?_)
    refine k_aload_n (pc := 163) hC dX8_read_163 rfl 0 rfl ?_
    refine k_sipush (pc := 164) (v := 420) hC dX8_read_164 (by decide) ?_
    refine k_aload_n (pc := 167) hC dX8_read_167 rfl 0 rfl ?_
    refine gM_19 (pc := 168) hM dX8_read_168 ?_
    refine k_imul (pc := 171) hC dX8_read_171 ?_
    refine pM_56 (pc := 172) hM dX8_read_172 hE (fun J18 hE => ?_)
    refine k_iconst (pc := 175) (v := 0) hC dX8_read_175 (by decide) ?_
    refine k_istore_n (pc := 176) (lv' := [(1, .int 0), (0, .ref th)]) hC dX8_read_176 rfl (by rw [hnL]; decide) rfl ?_
    refine k_sub [1, 0] rfl ?_
    exact w_M_read_L177 hM hR F _ _ _ _ hE
  · refine k_aload_n (pc := 18) hC dX8_read_18 rfl 0 rfl ?_
    refine gM_3 (pc := 19) hM dX8_read_19 ?_
    refine k_iload_n (pc := 22) hC dX8_read_22 rfl 1 rfl ?_
    refine k_aload_n (pc := 23) hC dX8_read_23 rfl 0 rfl ?_
    refine gM_1 (pc := 24) hM dX8_read_24 ?_
    refine k_iload_n (pc := 27) hC dX8_read_27 rfl 1 rfl ?_
    refine m_bald (pc := 28) 1 ly_1 hM dX8_read_28 hE (fun x19 hE => ?_)
    refine m_bast (pc := 29) 2 ly_2 hM dX8_read_29 hE (fun J20 hE => ?_)
    refine k_iincE (pc := 30) (k := 1) (d := 1) (lv' := fun x21 => [(1, .int x21), (0, .ref th)]) hC dX8_read_30 rfl (by decide) (by rw [hnL]; decide) hE (fun _ => rfl) (fun x21 hE => ?_)
    refine k_goto (pc := 33) (tgt := 10) hC dX8_read_33 (by decide) ?_
    refine k_sub [1, 0] rfl ?_
    exact hk10 _ _ _ hE
theorem w_M_read_L10 {X : Ctx} {D : Dd} {th : Nat} {out : Int32 × Ji × Jl} (hM : Mx X cX8_read D th 2 rmM_read) (hR : Rt X (some .int) (RM D th out.2.1 out.2.2) (some (.int out.1)) 0 0) (F : Nat) (n : Nat) : ∀ (a1 : Int32) (J : Ji) (K : Jl) , M_read_L10 F n a1 J K = some out → Wk X 0 0 (RM D th J K) 10 [(0, .ref th), (1, .int a1)] [] := by
  induction n with
  | zero => intro a1 J K h; cases h
  | succ n ih => intro a1 J K h; exact w_M_read_B10 hM hR F (M_read_L10 F n) ih a1 J K h
set_option maxHeartbeats 4000000 in
theorem w_M_read {X : Ctx} {D : Dd} {th : Nat} {out : Int32 × Ji × Jl} (hM : Mx X cX8_read D th 2 rmM_read) (hR : Rt X (some .int) (RM D th out.2.1 out.2.2) (some (.int out.1)) 0 0) (F : Nat) (J : Ji) (K : Jl) (hE : M_read F J K = some out) : Wk X 0 0 (RM D th J K) 0 [(0, .ref th)] [] := by
  have hC := hM.1
  have hnL := hM.2.2.1
  have hrm := hM.2.2.2
  unfold M_read at hE
  refine k_aload_n (pc := 0) hC dX8_read_0 rfl 0 rfl ?_
  refine k_aload_n (pc := 1) hC dX8_read_1 rfl 0 rfl ?_
  refine gM_2 (pc := 2) hM dX8_read_2 ?_
  refine pM_4 (pc := 5) hM dX8_read_5 hE (fun J1 hE => ?_)
  refine k_iconst (pc := 8) (v := 0) hC dX8_read_8 (by decide) ?_
  refine k_istore_n (pc := 9) (lv' := [(1, .int 0), (0, .ref th)]) hC dX8_read_9 rfl (by rw [hnL]; decide) rfl ?_
  refine k_sub [1, 0] rfl ?_
  exact w_M_read_L10 hM hR F _ _ _ _ hE
theorem ct_M_read (l : Launch) (D : Dd) (A : Nat → Prop) (th : Nat) (hA : ∀ (off : Nat) (kd : Kd), layM off = some kd → A (th + off)) (F : Nat) (J : Ji) (K : Jl) (out : Int32 × Ji × Jl) (hE : M_read F J K = some out) : Ct l yX8_read (ws_ yX8_read cX8_read 2 (some .int)) rmM_read vwCl arTy D A [.ref th] (RM D th J K) (RM D th out.2.1 out.2.2) (some (.int out.1)) 0 0 := by
  refine Ct.of (by decide) (Nat.le_of_ble_eq_true rfl) rfl ?_
  intro X hl hrm hC hR hXA hnL _
  exact w_M_read ⟨hC, by unfold Ft; rw [hXA]; exact hA, hnL, hrm⟩ hR F J K hE
abbrev rmM_place : Room := { frames := 0, cells := 0, slots := 0, locals := 0 }
set_option maxHeartbeats 4000000 in
theorem w_M_place {X : Ctx} {D : Dd} {th : Nat} {J : Ji} {K : Jl} {out : Int32} (hM : Mx X cX8_place D th 1 rmM_place) (hR : Rt X (some .int) (RM D th J K) (some (.int out)) 0 0) (hE : M_place J = some out) : Wk X 0 0 (RM D th J K) 0 [(0, .ref th)] [] := by
  have hC := hM.1
  have hnL := hM.2.2.1
  have hrm := hM.2.2.2
  unfold M_place at hE
  refine k_aload_n (pc := 0) hC dX8_place_0 rfl 0 rfl ?_
  refine gM_17 (pc := 1) hM dX8_place_1 ?_
  exact k_iret (pc := 4) hC hR ⟨Nat.le_refl 0, Nat.le_refl 0⟩ dX8_place_4 (by cases hE; rfl) (by cases hE; exact fun _ h => h)
theorem ct_M_place (l : Launch) (D : Dd) (A : Nat → Prop) (th : Nat) (hA : ∀ (off : Nat) (kd : Kd), layM off = some kd → A (th + off)) (J : Ji) (K : Jl) (out : Int32) (hE : M_place J = some out) : Ct l yX8_place (ws_ yX8_place cX8_place 1 (some .int)) rmM_place vwCl arTy D A [.ref th] (RM D th J K) (RM D th J K) (some (.int out)) 0 0 := by
  refine Ct.of (by decide) (Nat.le_of_ble_eq_true rfl) rfl ?_
  intro X hl hrm hC hR hXA hnL _
  exact w_M_place ⟨hC, by unfold Ft; rw [hXA]; exact hA, hnL, hrm⟩ hR  hE
abbrev rmM_stepAt : Room := { frames := 0, cells := 0, slots := 0, locals := 0 }
set_option maxHeartbeats 4000000 in
theorem w_M_stepAt {X : Ctx} {D : Dd} {th : Nat} {J : Ji} {K : Jl} {out : Int32} (hM : Mx X cX8_stepAt D th 3 rmM_stepAt) (hR : Rt X (some .int) (RM D th J K) (some (.int out)) 0 0) (a1 : Int32) (a2 : Int32) (hE : M_stepAt J a1 a2 = some out) : Wk X 0 0 (RM D th J K) 0 [(0, .ref th), (1, .int a1), (2, .int a2)] [] := by
  have hC := hM.1
  have hnL := hM.2.2.1
  have hrm := hM.2.2.2
  unfold M_stepAt at hE
  refine k_bipush (pc := 0) (v := 6) hC dX8_stepAt_0 (by decide) ?_
  refine k_bipush (pc := 2) (v := 6) hC dX8_stepAt_2 (by decide) ?_
  refine k_aload_n (pc := 4) hC dX8_stepAt_4 rfl 0 rfl ?_
  refine gM_18 (pc := 5) hM dX8_stepAt_5 ?_
  refine k_imul (pc := 8) hC dX8_stepAt_8 ?_
  refine k_iload_n (pc := 9) hC dX8_stepAt_9 rfl 1 rfl ?_
  refine k_iadd (pc := 10) hC dX8_stepAt_10 ?_
  refine k_imul (pc := 11) hC dX8_stepAt_11 ?_
  refine k_iload_n (pc := 12) hC dX8_stepAt_12 rfl 2 rfl ?_
  refine k_iadd (pc := 13) hC dX8_stepAt_13 ?_
  exact k_iret (pc := 14) hC hR ⟨Nat.le_refl 0, Nat.le_refl 0⟩ dX8_stepAt_14 (by cases hE; rfl) (by cases hE; exact fun _ h => h)
theorem ct_M_stepAt (l : Launch) (D : Dd) (A : Nat → Prop) (th : Nat) (hA : ∀ (off : Nat) (kd : Kd), layM off = some kd → A (th + off)) (a1 : Int32) (a2 : Int32) (J : Ji) (K : Jl) (out : Int32) (hE : M_stepAt J a1 a2 = some out) : Ct l yX8_stepAt (ws_ yX8_stepAt cX8_stepAt 3 (some .int)) rmM_stepAt vwCl arTy D A [.ref th, .int a1, .int a2] (RM D th J K) (RM D th J K) (some (.int out)) 0 0 := by
  refine Ct.of (by decide) (Nat.le_of_ble_eq_true rfl) rfl ?_
  intro X hl hrm hC hR hXA hnL _
  exact w_M_stepAt ⟨hC, by unfold Ft; rw [hXA]; exact hA, hnL, hrm⟩ hR a1 a2 hE
theorem cw_M_stepAt {X : Ctx} {cc : ByteArray} {D : Dd} {th mL : Nat} {rm : Room} (hM : Mx X cc D th mL rm) (h1 : rmM_stepAt.frames + 1 ≤ rm.frames) (h2 : 8 + (3 + 11) + rmM_stepAt.locals ≤ rm.locals) : CallW X.2.2.2.1 X.2.2.2.2.1 X.2.2.2.2.2.2.1 RX8 RX8 393 yX8_stepAt cX8_stepAt 3 (some .int) (ws_ yX8_stepAt cX8_stepAt 3 (some .int)) rmM_stepAt 0 0 2 := cwV 2 (cx_w hM.1) (lw_V q1977 q1979 qs87 q128 q1980) rfl rfl rfl (by decide +kernel) (by rw [hM.2.2.2]; exact ⟨h1, h2⟩)
abbrev rmM_stepsOf : Room := { frames := 0, cells := 0, slots := 0, locals := 0 }
set_option maxHeartbeats 4000000 in
theorem w_M_stepsOf {X : Ctx} {D : Dd} {th : Nat} {J : Ji} {K : Jl} {out : Int32} (hM : Mx X cX8_stepsOf D th 2 rmM_stepsOf) (hR : Rt X (some .int) (RM D th J K) (some (.int out)) 0 0) (a1 : Int32) (hE : M_stepsOf J a1 = some out) : Wk X 0 0 (RM D th J K) 0 [(0, .ref th), (1, .int a1)] [] := by
  have hC := hM.1
  have hnL := hM.2.2.1
  have hrm := hM.2.2.2
  unfold M_stepsOf at hE
  refine k_aload_n (pc := 0) hC dX8_stepsOf_0 rfl 0 rfl ?_
  refine gM_35 (pc := 1) hM dX8_stepsOf_1 ?_
  refine k_bipush (pc := 4) (v := 6) hC dX8_stepsOf_4 (by decide) ?_
  refine k_aload_n (pc := 6) hC dX8_stepsOf_6 rfl 0 rfl ?_
  refine gM_18 (pc := 7) hM dX8_stepsOf_7 ?_
  refine k_imul (pc := 10) hC dX8_stepsOf_10 ?_
  refine k_iload_n (pc := 11) hC dX8_stepsOf_11 rfl 1 rfl ?_
  refine k_iadd (pc := 12) hC dX8_stepsOf_12 ?_
  refine m_iald (pc := 13) 22 ly_22 hM dX8_stepsOf_13 hE (fun x1 hE => ?_)
  exact k_iret (pc := 14) hC hR ⟨Nat.le_refl 0, Nat.le_refl 0⟩ dX8_stepsOf_14 (by cases hE; rfl) (by cases hE; exact fun _ h => h)
theorem ct_M_stepsOf (l : Launch) (D : Dd) (A : Nat → Prop) (th : Nat) (hA : ∀ (off : Nat) (kd : Kd), layM off = some kd → A (th + off)) (a1 : Int32) (J : Ji) (K : Jl) (out : Int32) (hE : M_stepsOf J a1 = some out) : Ct l yX8_stepsOf (ws_ yX8_stepsOf cX8_stepsOf 2 (some .int)) rmM_stepsOf vwCl arTy D A [.ref th, .int a1] (RM D th J K) (RM D th J K) (some (.int out)) 0 0 := by
  refine Ct.of (by decide) (Nat.le_of_ble_eq_true rfl) rfl ?_
  intro X hl hrm hC hR hXA hnL _
  exact w_M_stepsOf ⟨hC, by unfold Ft; rw [hXA]; exact hA, hnL, hrm⟩ hR a1 hE
theorem cw_M_stepsOf {X : Ctx} {cc : ByteArray} {D : Dd} {th mL : Nat} {rm : Room} (hM : Mx X cc D th mL rm) (h1 : rmM_stepsOf.frames + 1 ≤ rm.frames) (h2 : 8 + (2 + 11) + rmM_stepsOf.locals ≤ rm.locals) : CallW X.2.2.2.1 X.2.2.2.2.1 X.2.2.2.2.2.2.1 RX8 RX8 387 yX8_stepsOf cX8_stepsOf 2 (some .int) (ws_ yX8_stepsOf cX8_stepsOf 2 (some .int)) rmM_stepsOf 0 0 1 := cwV 1 (cx_w hM.1) (lw_V q1969 q1971 qs85 q128 q1972) rfl rfl rfl (by decide +kernel) (by rw [hM.2.2.2]; exact ⟨h1, h2⟩)
abbrev rmM_isEnded : Room := { frames := 1, cells := 0, slots := 0, locals := 22 }
set_option maxHeartbeats 4000000 in
theorem w_M_isEnded_B2 {X : Ctx} {D : Dd} {th : Nat} {J : Ji} {K : Jl} {out : Int32} (hM : Mx X cX8_isEnded D th 3 rmM_isEnded) (hR : Rt X (some .boolean) (RM D th J K) (some (.int out)) 0 0) (F : Nat) (k2 : Int32 → Int32 → Option (Int32)) (hk2 : ∀ (a1 : Int32) (a2 : Int32) , k2 a1 a2  = some out → Wk X 0 0 (RM D th J K) 2 [(0, .ref th), (1, .int a1), (2, .int a2)] []) (a1 : Int32) (a2 : Int32) (hE : M_isEnded_B2 F k2 J a1 a2 = some out) : Wk X 0 0 (RM D th J K) 2 [(0, .ref th), (1, .int a1), (2, .int a2)] [] := by
  have hC := hM.1
  have hnL := hM.2.2.1
  have hrm := hM.2.2.2
  unfold M_isEnded_B2 at hE
  refine k_iload_n (pc := 2) hC dX8_isEnded_2 rfl 2 rfl ?_
  refine k_aload_n (pc := 3) hC dX8_isEnded_3 rfl 0 rfl ?_
  refine k_iload_n (pc := 4) hC dX8_isEnded_4 rfl 1 rfl ?_
  refine m_clI (pc := 5) (As := [.int a1]) hM (cw_M_stepsOf hM (Nat.le_of_ble_eq_true rfl) (Nat.le_of_ble_eq_true rfl)) rfl rfl (Nat.le_of_ble_eq_true rfl) dX8_isEnded_5 hE (fun r h => ct_M_stepsOf _ _ _ _ hM.2.1 a1 J K r h) (fun r1 hE => ?_)
  refine k_icmp_ge (pc := 8) (tgt := 47) hC dX8_isEnded_8 (by decide) hE (fun hE => ?_) (fun hE => ?_)
  · refine k_iconst (pc := 47) (v := 1) hC dX8_isEnded_47 (by decide) ?_
    exact k_zret (pc := 48) (by decide) hC hR ⟨Nat.le_refl 0, Nat.le_refl 0⟩ dX8_isEnded_48 (by cases hE; rfl) (by cases hE; exact fun _ h => h)
  · refine k_aload_n (pc := 11) hC dX8_isEnded_11 rfl 0 rfl ?_
    refine gM_65 (pc := 12) hM dX8_isEnded_12 ?_
    refine k_bipush (pc := 15) (v := 6) hC dX8_isEnded_15 (by decide) ?_
    refine k_bipush (pc := 17) (v := 6) hC dX8_isEnded_17 (by decide) ?_
    refine k_iload_n (pc := 19) hC dX8_isEnded_19 rfl 1 rfl ?_
    refine k_imul (pc := 20) hC dX8_isEnded_20 ?_
    refine k_iadd (pc := 21) hC dX8_isEnded_21 ?_
    refine k_iload_n (pc := 22) hC dX8_isEnded_22 rfl 2 rfl ?_
    refine k_iadd (pc := 23) hC dX8_isEnded_23 ?_
    refine m_iald (pc := 24) 48 ly_48 hM dX8_isEnded_24 hE (fun x2 hE => ?_)
    refine k_aload_n (pc := 25) hC dX8_isEnded_25 rfl 0 rfl ?_
    refine gM_37 (pc := 26) hM dX8_isEnded_26 ?_
    refine k_aload_n (pc := 29) hC dX8_isEnded_29 rfl 0 rfl ?_
    refine k_iload_n (pc := 30) hC dX8_isEnded_30 rfl 1 rfl ?_
    refine k_iload_n (pc := 31) hC dX8_isEnded_31 rfl 2 rfl ?_
    refine m_clI (pc := 32) (As := [.int a1, .int a2]) hM (cw_M_stepAt hM (Nat.le_of_ble_eq_true rfl) (Nat.le_of_ble_eq_true rfl)) rfl rfl (Nat.le_of_ble_eq_true rfl) dX8_isEnded_32 hE (fun r h => ct_M_stepAt _ _ _ _ hM.2.1 a1 a2 J K r h) (fun r3 hE => ?_)
    refine m_iald (pc := 35) 24 ly_24 hM dX8_isEnded_35 hE (fun x4 hE => ?_)
    refine k_icmp_ge (pc := 36) (tgt := 41) hC dX8_isEnded_36 (by decide) hE (fun hE => ?_) (fun hE => ?_)
    · refine k_iincE (pc := 41) (k := 2) (d := 1) (lv' := fun x5 => [(2, .int x5), (0, .ref th), (1, .int a1)]) hC dX8_isEnded_41 rfl (by decide) (by rw [hnL]; decide) hE (fun _ => rfl) (fun x5 hE => ?_)
      refine k_goto (pc := 44) (tgt := 2) hC dX8_isEnded_44 (by decide) ?_
      refine k_sub [1, 2, 0] rfl ?_
      exact hk2 _ _ hE
    · refine k_iconst (pc := 39) (v := 0) hC dX8_isEnded_39 (by decide) ?_
      exact k_zret (pc := 40) (by decide) hC hR ⟨Nat.le_refl 0, Nat.le_refl 0⟩ dX8_isEnded_40 (by cases hE; rfl) (by cases hE; exact fun _ h => h)
theorem w_M_isEnded_L2 {X : Ctx} {D : Dd} {th : Nat} {J : Ji} {K : Jl} {out : Int32} (hM : Mx X cX8_isEnded D th 3 rmM_isEnded) (hR : Rt X (some .boolean) (RM D th J K) (some (.int out)) 0 0) (F : Nat) (n : Nat) : ∀ (a1 : Int32) (a2 : Int32) , M_isEnded_L2 F J n a1 a2 = some out → Wk X 0 0 (RM D th J K) 2 [(0, .ref th), (1, .int a1), (2, .int a2)] [] := by
  induction n with
  | zero => intro a1 a2 h; cases h
  | succ n ih => intro a1 a2 h; exact w_M_isEnded_B2 hM hR F (M_isEnded_L2 F J n) ih a1 a2 h
set_option maxHeartbeats 4000000 in
theorem w_M_isEnded {X : Ctx} {D : Dd} {th : Nat} {J : Ji} {K : Jl} {out : Int32} (hM : Mx X cX8_isEnded D th 3 rmM_isEnded) (hR : Rt X (some .boolean) (RM D th J K) (some (.int out)) 0 0) (F : Nat) (a1 : Int32) (hE : M_isEnded F J a1 = some out) : Wk X 0 0 (RM D th J K) 0 [(0, .ref th), (1, .int a1)] [] := by
  have hC := hM.1
  have hnL := hM.2.2.1
  have hrm := hM.2.2.2
  unfold M_isEnded at hE
  refine k_iconst (pc := 0) (v := 0) hC dX8_isEnded_0 (by decide) ?_
  refine k_istore_n (pc := 1) (lv' := [(2, .int 0), (0, .ref th), (1, .int a1)]) hC dX8_isEnded_1 rfl (by rw [hnL]; decide) rfl ?_
  refine k_sub [1, 2, 0] rfl ?_
  exact w_M_isEnded_L2 hM hR F _ _ _ hE
theorem ct_M_isEnded (l : Launch) (D : Dd) (A : Nat → Prop) (th : Nat) (hA : ∀ (off : Nat) (kd : Kd), layM off = some kd → A (th + off)) (F : Nat) (a1 : Int32) (J : Ji) (K : Jl) (out : Int32) (hE : M_isEnded F J a1 = some out) : Ct l yX8_isEnded (ws_ yX8_isEnded cX8_isEnded 3 (some .boolean)) rmM_isEnded vwCl arTy D A [.ref th, .int a1] (RM D th J K) (RM D th J K) (some (.int out)) 0 0 := by
  refine Ct.of (by decide) (Nat.le_of_ble_eq_true rfl) rfl ?_
  intro X hl hrm hC hR hXA hnL _
  exact w_M_isEnded ⟨hC, by unfold Ft; rw [hXA]; exact hA, hnL, hrm⟩ hR F a1 hE
theorem cw_M_isEnded {X : Ctx} {cc : ByteArray} {D : Dd} {th mL : Nat} {rm : Room} (hM : Mx X cc D th mL rm) (h1 : rmM_isEnded.frames + 1 ≤ rm.frames) (h2 : 8 + (3 + 11) + rmM_isEnded.locals ≤ rm.locals) : CallW X.2.2.2.1 X.2.2.2.2.1 X.2.2.2.2.2.2.1 RX8 RX8 406 yX8_isEnded cX8_isEnded 3 (some .boolean) (ws_ yX8_isEnded cX8_isEnded 3 (some .boolean)) rmM_isEnded 0 0 1 := cwV 1 (cx_w hM.1) (lw_V q1981 q1983 qs88 q128 q1984) rfl rfl rfl (by decide +kernel) (by rw [hM.2.2.2]; exact ⟨h1, h2⟩)
abbrev rmM_in : Room := { frames := 0, cells := 0, slots := 0, locals := 0 }
set_option maxHeartbeats 4000000 in
theorem w_M_in {X : Ctx} {D : Dd} {P : Heap → Prop} {out : Int32} (hM : Sx X cX8_in D 3 rmM_in) (hR : Rt X (some .boolean) P (some (.int out)) 0 0) (a0 : Int32) (a1 : Int32) (a2 : Int32) (hE : M_in a0 a1 a2 = some out) : Wk X 0 0 P 0 [(0, .int a0), (1, .int a1), (2, .int a2)] [] := by
  have hC := hM.1
  have hnL := hM.2.1
  have hrm := hM.2.2
  unfold M_in at hE
  refine k_iload_n (pc := 0) hC dX8_in_0 rfl 0 rfl ?_
  refine k_iload_n (pc := 1) hC dX8_in_1 rfl 1 rfl ?_
  refine k_icmp_lt (pc := 2) (tgt := 14) hC dX8_in_2 (by decide) hE (fun hE => ?_) (fun hE => ?_)
  · refine k_iconst (pc := 14) (v := 0) hC dX8_in_14 (by decide) ?_
    exact k_zret (pc := 15) (by decide) hC hR ⟨Nat.le_refl 0, Nat.le_refl 0⟩ dX8_in_15 (by cases hE; rfl) (by cases hE; exact fun _ h => h)
  · refine k_iload_n (pc := 5) hC dX8_in_5 rfl 0 rfl ?_
    refine k_iload_n (pc := 6) hC dX8_in_6 rfl 2 rfl ?_
    refine k_icmp_gt (pc := 7) (tgt := 14) hC dX8_in_7 (by decide) hE (fun hE => ?_) (fun hE => ?_)
    · refine k_iconst (pc := 14) (v := 0) hC dX8_in_14 (by decide) ?_
      exact k_zret (pc := 15) (by decide) hC hR ⟨Nat.le_refl 0, Nat.le_refl 0⟩ dX8_in_15 (by cases hE; rfl) (by cases hE; exact fun _ h => h)
    · refine k_iconst (pc := 10) (v := 1) hC dX8_in_10 (by decide) ?_
      refine k_goto (pc := 11) (tgt := 15) hC dX8_in_11 (by decide) ?_
      exact k_zret (pc := 15) (by decide) hC hR ⟨Nat.le_refl 0, Nat.le_refl 0⟩ dX8_in_15 (by cases hE; rfl) (by cases hE; exact fun _ h => h)
theorem ct_M_in (l : Launch) (D : Dd) (A : Nat → Prop) (P : Heap → Prop) (a0 : Int32) (a1 : Int32) (a2 : Int32) (out : Int32) (hE : M_in a0 a1 a2 = some out) : Ct l yX8_in (ws_ yX8_in cX8_in 3 (some .boolean)) rmM_in vwCl arTy D A [.int a0, .int a1, .int a2] P P (some (.int out)) 0 0 := by
  refine Ct.of (by decide) (Nat.le_of_ble_eq_true rfl) rfl ?_
  intro X hl hrm hC hR hA hnL _
  exact w_M_in ⟨hC, hnL, hrm⟩ hR a0 a1 a2 hE
theorem cw_M_in {X : Ctx} {cc : ByteArray} {D : Dd} {rm : Room} (hC : Cx X cc RX8 vwCl arTy D) (hrm : X.2.2.2.1 = rm) (h1 : rmM_in.frames + 1 ≤ rm.frames) (h2 : 8 + (3 + 11) + rmM_in.locals ≤ rm.locals) : CallB X.2.2.2.1 X.2.2.2.2.1 X.2.2.2.2.2.2.1 RX8 380 yX8_in cX8_in 3 (some .boolean) (ws_ yX8_in cX8_in 3 (some .boolean)) rmM_in 0 0 3 ∧ (Cond.static yX8_in).before X.2.2.2.2.2.2.1 X.2.2.2.2.1 = true := va_cwS 3 (cx_w hC) (lw_S q1962 q1963 q128 q1964) rfl rfl rfl (by decide +kernel) (by rw [hrm]; exact ⟨h1, h2⟩)
abbrev rmM_isTask : Room := { frames := 1, cells := 0, slots := 0, locals := 22 }
set_option maxHeartbeats 4000000 in
theorem w_M_isTask {X : Ctx} {D : Dd} {th : Nat} {J : Ji} {K : Jl} {out : Int32} (hM : Mx X cX8_isTask D th 2 rmM_isTask) (hR : Rt X (some .boolean) (RM D th J K) (some (.int out)) 0 0) (a1 : Int32) (hE : M_isTask J a1 = some out) : Wk X 0 0 (RM D th J K) 0 [(0, .ref th), (1, .int a1)] [] := by
  have hC := hM.1
  have hnL := hM.2.2.1
  have hrm := hM.2.2.2
  unfold M_isTask at hE
  refine k_iload_n (pc := 0) hC dX8_isTask_0 rfl 1 rfl ?_
  refine k_iconst (pc := 1) (v := 0) hC dX8_isTask_1 (by decide) ?_
  refine k_aload_n (pc := 2) hC dX8_isTask_2 rfl 0 rfl ?_
  refine m_clI (pc := 3) (As := []) hM (cw_M_tasksNow hM (Nat.le_of_ble_eq_true rfl) (Nat.le_of_ble_eq_true rfl)) rfl rfl (Nat.le_of_ble_eq_true rfl) dX8_isTask_3 hE (fun r h => ct_M_tasksNow _ _ _ _ hM.2.1  J K r h) (fun r1 hE => ?_)
  refine k_iconst (pc := 6) (v := 1) hC dX8_isTask_6 (by decide) ?_
  refine k_isub (pc := 7) hC dX8_isTask_7 ?_
  refine m_callSI (pc := 8) (As := [.int a1, .int 0, .int (r1 - 1)]) (fun r => r) hC (cw_M_in hC hrm (Nat.le_of_ble_eq_true rfl) (Nat.le_of_ble_eq_true rfl)) rfl rfl (Nat.le_of_ble_eq_true rfl) ⟨Nat.zero_le _, Nat.zero_le _⟩ dX8_isTask_8 hE (fun r h => ct_M_in _ _ _ _ a1 0 (r1 - 1) r h) (fun r2 hE => ?_)
  obtain ⟨r3, hz, hE⟩ := ob_ hE
  obtain ⟨hz1, hz⟩ := bz_some hz
  rw [hz1]
  exact k_zret (pc := 11) hz hC hR ⟨Nat.le_refl 0, Nat.le_refl 0⟩ dX8_isTask_11 (by cases hE; rfl) (by cases hE; exact fun _ h => h)
theorem ct_M_isTask (l : Launch) (D : Dd) (A : Nat → Prop) (th : Nat) (hA : ∀ (off : Nat) (kd : Kd), layM off = some kd → A (th + off)) (a1 : Int32) (J : Ji) (K : Jl) (out : Int32) (hE : M_isTask J a1 = some out) : Ct l yX8_isTask (ws_ yX8_isTask cX8_isTask 2 (some .boolean)) rmM_isTask vwCl arTy D A [.ref th, .int a1] (RM D th J K) (RM D th J K) (some (.int out)) 0 0 := by
  refine Ct.of (by decide) (Nat.le_of_ble_eq_true rfl) rfl ?_
  intro X hl hrm hC hR hXA hnL _
  exact w_M_isTask ⟨hC, by unfold Ft; rw [hXA]; exact hA, hnL, hrm⟩ hR a1 hE
theorem cw_M_isTask {X : Ctx} {cc : ByteArray} {D : Dd} {th mL : Nat} {rm : Room} (hM : Mx X cc D th mL rm) (h1 : rmM_isTask.frames + 1 ≤ rm.frames) (h2 : 8 + (2 + 11) + rmM_isTask.locals ≤ rm.locals) : CallW X.2.2.2.1 X.2.2.2.2.1 X.2.2.2.2.2.2.1 RX8 RX8 384 yX8_isTask cX8_isTask 2 (some .boolean) (ws_ yX8_isTask cX8_isTask 2 (some .boolean)) rmM_isTask 0 0 1 := cwV 1 (cx_w hM.1) (lw_V q1958 q1960 qs83 q128 q1961) rfl rfl rfl (by decide +kernel) (by rw [hM.2.2.2]; exact ⟨h1, h2⟩)
abbrev rmM_takes : Room := { frames := 0, cells := 0, slots := 0, locals := 0 }
set_option maxHeartbeats 4000000 in
theorem w_M_takes_B2 {X : Ctx} {D : Dd} {th : Nat} {K : Jl} {out : Ji} (hM : Mx X cX8_takes D th 2 rmM_takes) (hR : Rt X none (RM D th out K) none 0 0) (F : Nat) (k2 : Int32 → Ji → Option (Ji)) (hk2 : ∀ (a1 : Int32) (J : Ji) , k2 a1 J = some out → Wk X 0 0 (RM D th J K) 2 [(0, .ref th), (1, .int a1)] []) (a1 : Int32) (J : Ji) (hE : M_takes_B2 F k2 a1 J = some out) : Wk X 0 0 (RM D th J K) 2 [(0, .ref th), (1, .int a1)] [] := by
  have hC := hM.1
  have hnL := hM.2.2.1
  have hrm := hM.2.2.2
  unfold M_takes_B2 at hE
  refine k_iload_n (pc := 2) hC dX8_takes_2 rfl 1 rfl ?_
  refine k_bipush (pc := 3) (v := 100) hC dX8_takes_3 (by decide) ?_
  refine k_icmp_ge (pc := 5) (tgt := 26) hC dX8_takes_5 (by decide) hE (fun hE => ?_) (fun hE => ?_)
  · exact k_vret (pc := 26) hC hR ⟨Nat.le_refl 0, Nat.le_refl 0⟩ dX8_takes_26 (by cases hE; rfl) (by cases hE; exact fun _ h => h)
  · refine k_aload_n (pc := 8) hC dX8_takes_8 rfl 0 rfl ?_
    refine gM_65 (pc := 9) hM dX8_takes_9 ?_
    refine k_iload_n (pc := 12) hC dX8_takes_12 rfl 1 rfl ?_
    refine k_aload_n (pc := 13) hC dX8_takes_13 rfl 0 rfl ?_
    refine gM_64 (pc := 14) hM dX8_takes_14 ?_
    refine k_iload_n (pc := 17) hC dX8_takes_17 rfl 1 rfl ?_
    refine m_iald (pc := 18) 47 ly_47 hM dX8_takes_18 hE (fun x1 hE => ?_)
    refine m_iast (pc := 19) 48 ly_48 hM dX8_takes_19 hE (fun J2 hE => ?_)
    refine k_iincE (pc := 20) (k := 1) (d := 1) (lv' := fun x3 => [(1, .int x3), (0, .ref th)]) hC dX8_takes_20 rfl (by decide) (by rw [hnL]; decide) hE (fun _ => rfl) (fun x3 hE => ?_)
    refine k_goto (pc := 23) (tgt := 2) hC dX8_takes_23 (by decide) ?_
    refine k_sub [1, 0] rfl ?_
    exact hk2 _ _ hE
theorem w_M_takes_L2 {X : Ctx} {D : Dd} {th : Nat} {K : Jl} {out : Ji} (hM : Mx X cX8_takes D th 2 rmM_takes) (hR : Rt X none (RM D th out K) none 0 0) (F : Nat) (n : Nat) : ∀ (a1 : Int32) (J : Ji) , M_takes_L2 F n a1 J = some out → Wk X 0 0 (RM D th J K) 2 [(0, .ref th), (1, .int a1)] [] := by
  induction n with
  | zero => intro a1 J h; cases h
  | succ n ih => intro a1 J h; exact w_M_takes_B2 hM hR F (M_takes_L2 F n) ih a1 J h
set_option maxHeartbeats 4000000 in
theorem w_M_takes {X : Ctx} {D : Dd} {th : Nat} {K : Jl} {out : Ji} (hM : Mx X cX8_takes D th 2 rmM_takes) (hR : Rt X none (RM D th out K) none 0 0) (F : Nat) (J : Ji) (hE : M_takes F J = some out) : Wk X 0 0 (RM D th J K) 0 [(0, .ref th)] [] := by
  have hC := hM.1
  have hnL := hM.2.2.1
  have hrm := hM.2.2.2
  unfold M_takes at hE
  refine k_iconst (pc := 0) (v := 0) hC dX8_takes_0 (by decide) ?_
  refine k_istore_n (pc := 1) (lv' := [(1, .int 0), (0, .ref th)]) hC dX8_takes_1 rfl (by rw [hnL]; decide) rfl ?_
  refine k_sub [1, 0] rfl ?_
  exact w_M_takes_L2 hM hR F _ _ _ hE
theorem ct_M_takes (l : Launch) (D : Dd) (A : Nat → Prop) (th : Nat) (hA : ∀ (off : Nat) (kd : Kd), layM off = some kd → A (th + off)) (F : Nat) (J : Ji) (K : Jl) (out : Ji) (hE : M_takes F J = some out) : Ct l yX8_takes (ws_ yX8_takes cX8_takes 2 none) rmM_takes vwCl arTy D A [.ref th] (RM D th J K) (RM D th out K) none 0 0 := by
  refine Ct.of (by decide) (Nat.le_of_ble_eq_true rfl) rfl ?_
  intro X hl hrm hC hR hXA hnL _
  exact w_M_takes ⟨hC, by unfold Ft; rw [hXA]; exact hA, hnL, hrm⟩ hR F J hE
theorem cw_M_takes {X : Ctx} {cc : ByteArray} {D : Dd} {th mL : Nat} {rm : Room} (hM : Mx X cc D th mL rm) (h1 : rmM_takes.frames + 1 ≤ rm.frames) (h2 : 8 + (2 + 11) + rmM_takes.locals ≤ rm.locals) : CallW X.2.2.2.1 X.2.2.2.2.1 X.2.2.2.2.2.2.1 RX8 RX8 437 yX8_takes cX8_takes 2 none (ws_ yX8_takes cX8_takes 2 none) rmM_takes 0 0 0 := cwV 0 (cx_w hM.1) (lw_V q1965 q1967 qs84 q128 q1968) rfl rfl rfl (by decide +kernel) (by rw [hM.2.2.2]; exact ⟨h1, h2⟩)
abbrev rmM_worthOf : Room := { frames := 1, cells := 0, slots := 0, locals := 22 }
set_option maxHeartbeats 4000000 in
theorem w_M_worthOf_B85 {X : Ctx} {D : Dd} {th : Nat} {J : Ji} {K : Jl} {out : Int32} (hM : Mx X cX8_worthOf D th 7 rmM_worthOf) (hR : Rt X (some .int) (RM D th J K) (some (.int out)) 0 0) (F : Nat) (k4 : Int32 → Int32 → Int32 → Option (Int32)) (hk4 : ∀ (a1 : Int32) (a2 : Int32) (a3 : Int32) , k4 a1 a2 a3  = some out → Wk X 0 0 (RM D th J K) 4 [(0, .ref th), (1, .int a1), (2, .int a2), (3, .int a3)] []) (a1 : Int32) (a3 : Int32) (a4 : Int32) (s0 : Int32) (s1 : Int32) (s2 : Int32) (hE : M_worthOf_B85 F k4 J a1 a3 a4 s0 s1 s2 = some out) : Wk X 0 0 (RM D th J K) 85 [(0, .ref th), (1, .int a1), (3, .int a3), (4, .int a4)] [.int s0, .int s1, .int s2] := by
  have hC := hM.1
  have hnL := hM.2.2.1
  have hrm := hM.2.2.2
  unfold M_worthOf_B85 at hE
  refine k_aload_n (pc := 85) hC dX8_worthOf_85 rfl 0 rfl ?_
  refine gM_39 (pc := 86) hM dX8_worthOf_86 ?_
  refine k_iload (pc := 89) hC dX8_worthOf_89 3 rfl ?_
  refine m_iald (pc := 91) 26 ly_26 hM dX8_worthOf_91 hE (fun x6 hE => ?_)
  refine k_imul (pc := 92) hC dX8_worthOf_92 ?_
  refine k_isub (pc := 93) hC dX8_worthOf_93 ?_
  refine k_iadd (pc := 94) hC dX8_worthOf_94 ?_
  refine k_istoreE_n (pc := 95) (lv' := fun x7 => [(2, .int x7), (0, .ref th), (1, .int a1), (3, .int a3), (4, .int a4)]) hC dX8_worthOf_95 rfl (by rw [hnL]; decide) hE (fun _ => rfl) (fun x7 hE => ?_)
  refine k_iincE (pc := 96) (k := 3) (d := 1) (lv' := fun x8 => [(3, .int x8), (2, .int x7), (0, .ref th), (1, .int a1), (4, .int a4)]) hC dX8_worthOf_96 rfl (by decide) (by rw [hnL]; decide) hE (fun _ => rfl) (fun x8 hE => ?_)
  refine k_goto (pc := 99) (tgt := 4) hC dX8_worthOf_99 (by decide) ?_
  refine k_sub [2, 3, 1, 0] rfl ?_
  exact hk4 _ _ _ hE
set_option maxHeartbeats 4000000 in
theorem w_M_worthOf_B61 {X : Ctx} {D : Dd} {th : Nat} {J : Ji} {K : Jl} {out : Int32} (hM : Mx X cX8_worthOf D th 7 rmM_worthOf) (hR : Rt X (some .int) (RM D th J K) (some (.int out)) 0 0) (F : Nat) (k4 : Int32 → Int32 → Int32 → Option (Int32)) (hk4 : ∀ (a1 : Int32) (a2 : Int32) (a3 : Int32) , k4 a1 a2 a3  = some out → Wk X 0 0 (RM D th J K) 4 [(0, .ref th), (1, .int a1), (2, .int a2), (3, .int a3)] []) (a1 : Int32) (a3 : Int32) (a4 : Int32) (a5 : Int32) (a6 : Int32) (s0 : Int32) (s1 : Int32) (hE : M_worthOf_B61 F k4 J a1 a3 a4 a5 a6 s0 s1 = some out) : Wk X 0 0 (RM D th J K) 61 [(0, .ref th), (1, .int a1), (3, .int a3), (4, .int a4), (5, .int a5), (6, .int a6)] [.int s0, .int s1] := by
  have hC := hM.1
  have hnL := hM.2.2.1
  have hrm := hM.2.2.2
  unfold M_worthOf_B61 at hE
  refine k_aload_n (pc := 61) hC dX8_worthOf_61 rfl 0 rfl ?_
  refine gM_38 (pc := 62) hM dX8_worthOf_62 ?_
  refine k_iload (pc := 65) hC dX8_worthOf_65 3 rfl ?_
  refine m_iald (pc := 67) 25 ly_25 hM dX8_worthOf_67 hE (fun x5 hE => ?_)
  refine k_imul (pc := 68) hC dX8_worthOf_68 ?_
  refine k_iload (pc := 69) hC dX8_worthOf_69 4 rfl ?_
  refine k_iload (pc := 71) hC dX8_worthOf_71 5 rfl ?_
  refine k_icmp_le (pc := 73) (tgt := 84) hC dX8_worthOf_73 (by decide) hE (fun hE => ?_) (fun hE => ?_)
  · refine k_iconst (pc := 84) (v := 0) hC dX8_worthOf_84 (by decide) ?_
    refine k_sub [0, 1, 2, 3] rfl ?_
    exact w_M_worthOf_B85 hM hR F k4 hk4 _ _ _ _ _ _ hE
  · refine k_iload (pc := 76) hC dX8_worthOf_76 4 rfl ?_
    refine k_iload (pc := 78) hC dX8_worthOf_78 5 rfl ?_
    refine k_isub (pc := 80) hC dX8_worthOf_80 ?_
    refine k_goto (pc := 81) (tgt := 85) hC dX8_worthOf_81 (by decide) ?_
    refine k_sub [0, 1, 2, 3] rfl ?_
    exact w_M_worthOf_B85 hM hR F k4 hk4 _ _ _ _ _ _ hE
set_option maxHeartbeats 4000000 in
theorem w_M_worthOf_B4 {X : Ctx} {D : Dd} {th : Nat} {J : Ji} {K : Jl} {out : Int32} (hM : Mx X cX8_worthOf D th 7 rmM_worthOf) (hR : Rt X (some .int) (RM D th J K) (some (.int out)) 0 0) (F : Nat) (k4 : Int32 → Int32 → Int32 → Option (Int32)) (hk4 : ∀ (a1 : Int32) (a2 : Int32) (a3 : Int32) , k4 a1 a2 a3  = some out → Wk X 0 0 (RM D th J K) 4 [(0, .ref th), (1, .int a1), (2, .int a2), (3, .int a3)] []) (a1 : Int32) (a2 : Int32) (a3 : Int32) (hE : M_worthOf_B4 F k4 J a1 a2 a3 = some out) : Wk X 0 0 (RM D th J K) 4 [(0, .ref th), (1, .int a1), (2, .int a2), (3, .int a3)] [] := by
  have hC := hM.1
  have hnL := hM.2.2.1
  have hrm := hM.2.2.2
  unfold M_worthOf_B4 at hE
  refine k_iload_n (pc := 4) hC dX8_worthOf_4 rfl 3 rfl ?_
  refine k_aload_n (pc := 5) hC dX8_worthOf_5 rfl 0 rfl ?_
  refine k_iload_n (pc := 6) hC dX8_worthOf_6 rfl 1 rfl ?_
  refine m_clI (pc := 7) (As := [.int a1]) hM (cw_M_stepsOf hM (Nat.le_of_ble_eq_true rfl) (Nat.le_of_ble_eq_true rfl)) rfl rfl (Nat.le_of_ble_eq_true rfl) dX8_worthOf_7 hE (fun r h => ct_M_stepsOf _ _ _ _ hM.2.1 a1 J K r h) (fun r1 hE => ?_)
  refine k_icmp_ge (pc := 10) (tgt := 102) hC dX8_worthOf_10 (by decide) hE (fun hE => ?_) (fun hE => ?_)
  · refine k_iload_n (pc := 102) hC dX8_worthOf_102 rfl 2 rfl ?_
    exact k_iret (pc := 103) hC hR ⟨Nat.le_refl 0, Nat.le_refl 0⟩ dX8_worthOf_103 (by cases hE; rfl) (by cases hE; exact fun _ h => h)
  · refine k_aload_n (pc := 13) hC dX8_worthOf_13 rfl 0 rfl ?_
    refine k_iload_n (pc := 14) hC dX8_worthOf_14 rfl 1 rfl ?_
    refine k_iload_n (pc := 15) hC dX8_worthOf_15 rfl 3 rfl ?_
    refine m_clI (pc := 16) (As := [.int a1, .int a3]) hM (cw_M_stepAt hM (Nat.le_of_ble_eq_true rfl) (Nat.le_of_ble_eq_true rfl)) rfl rfl (Nat.le_of_ble_eq_true rfl) dX8_worthOf_16 hE (fun r h => ct_M_stepAt _ _ _ _ hM.2.1 a1 a3 J K r h) (fun r2 hE => ?_)
    refine k_istore (pc := 19) (lv' := [(4, .int r2), (0, .ref th), (1, .int a1), (2, .int a2), (3, .int a3)]) hC dX8_worthOf_19 (by rw [hnL]; decide) rfl ?_
    refine k_aload_n (pc := 21) hC dX8_worthOf_21 rfl 1 rfl ?_
    refine gM_65 (pc := 22) hM dX8_worthOf_22 ?_
    refine k_bipush (pc := 25) (v := 6) hC dX8_worthOf_25 (by decide) ?_
    refine k_bipush (pc := 27) (v := 6) hC dX8_worthOf_27 (by decide) ?_
    refine k_iload_n (pc := 29) hC dX8_worthOf_29 rfl 2 rfl ?_
    refine k_imul (pc := 30) hC dX8_worthOf_30 ?_
    refine k_iadd (pc := 31) hC dX8_worthOf_31 ?_
    refine k_iload_n (pc := 32) hC dX8_worthOf_32 rfl 4 rfl ?_
    refine k_iadd (pc := 33) hC dX8_worthOf_33 ?_
    refine m_iald (pc := 34) 48 ly_48 hM dX8_worthOf_34 hE (fun x3 hE => ?_)
    refine k_istore (pc := 35) (lv' := [(5, .int x3), (4, .int r2), (0, .ref th), (1, .int a1), (2, .int a2), (3, .int a3)]) hC dX8_worthOf_35 (by rw [hnL]; decide) rfl ?_
    refine k_aload_n (pc := 37) hC dX8_worthOf_37 rfl 2 rfl ?_
    refine gM_37 (pc := 38) hM dX8_worthOf_38 ?_
    refine k_iload (pc := 41) hC dX8_worthOf_41 1 rfl ?_
    refine m_iald (pc := 43) 24 ly_24 hM dX8_worthOf_43 hE (fun x4 hE => ?_)
    refine k_istore (pc := 44) (lv' := [(6, .int x4), (5, .int x3), (4, .int r2), (0, .ref th), (1, .int a1), (2, .int a2), (3, .int a3)]) hC dX8_worthOf_44 (by rw [hnL]; decide) rfl ?_
    refine k_iload_n (pc := 46) hC dX8_worthOf_46 rfl 5 rfl ?_
    refine k_iload (pc := 47) hC dX8_worthOf_47 1 rfl ?_
    refine k_iload (pc := 49) hC dX8_worthOf_49 0 rfl ?_
    refine k_icmp_ge (pc := 51) (tgt := 59) hC dX8_worthOf_51 (by decide) hE (fun hE => ?_) (fun hE => ?_)
    · refine k_iload (pc := 59) hC dX8_worthOf_59 0 rfl ?_
      refine k_sub [3, 4, 6, 2, 1, 0] rfl ?_
      exact w_M_worthOf_B61 hM hR F k4 hk4 _ _ _ _ _ _ _ hE
    · refine k_iload (pc := 54) hC dX8_worthOf_54 1 rfl ?_
      refine k_goto (pc := 56) (tgt := 61) hC dX8_worthOf_56 (by decide) ?_
      refine k_sub [3, 4, 6, 2, 1, 0] rfl ?_
      exact w_M_worthOf_B61 hM hR F k4 hk4 _ _ _ _ _ _ _ hE
theorem w_M_worthOf_L4 {X : Ctx} {D : Dd} {th : Nat} {J : Ji} {K : Jl} {out : Int32} (hM : Mx X cX8_worthOf D th 7 rmM_worthOf) (hR : Rt X (some .int) (RM D th J K) (some (.int out)) 0 0) (F : Nat) (n : Nat) : ∀ (a1 : Int32) (a2 : Int32) (a3 : Int32) , M_worthOf_L4 F J n a1 a2 a3 = some out → Wk X 0 0 (RM D th J K) 4 [(0, .ref th), (1, .int a1), (2, .int a2), (3, .int a3)] [] := by
  induction n with
  | zero => intro a1 a2 a3 h; cases h
  | succ n ih => intro a1 a2 a3 h; exact w_M_worthOf_B4 hM hR F (M_worthOf_L4 F J n) ih a1 a2 a3 h
set_option maxHeartbeats 4000000 in
theorem w_M_worthOf {X : Ctx} {D : Dd} {th : Nat} {J : Ji} {K : Jl} {out : Int32} (hM : Mx X cX8_worthOf D th 7 rmM_worthOf) (hR : Rt X (some .int) (RM D th J K) (some (.int out)) 0 0) (F : Nat) (a1 : Int32) (hE : M_worthOf F J a1 = some out) : Wk X 0 0 (RM D th J K) 0 [(0, .ref th), (1, .int a1)] [] := by
  have hC := hM.1
  have hnL := hM.2.2.1
  have hrm := hM.2.2.2
  unfold M_worthOf at hE
  refine k_iconst (pc := 0) (v := 0) hC dX8_worthOf_0 (by decide) ?_
  refine k_istore_n (pc := 1) (lv' := [(2, .int 0), (0, .ref th), (1, .int a1)]) hC dX8_worthOf_1 rfl (by rw [hnL]; decide) rfl ?_
  refine k_iconst (pc := 2) (v := 0) hC dX8_worthOf_2 (by decide) ?_
  refine k_istore_n (pc := 3) (lv' := [(3, .int 0), (2, .int 0), (0, .ref th), (1, .int a1)]) hC dX8_worthOf_3 rfl (by rw [hnL]; decide) rfl ?_
  refine k_sub [2, 3, 1, 0] rfl ?_
  exact w_M_worthOf_L4 hM hR F _ _ _ _ hE
theorem ct_M_worthOf (l : Launch) (D : Dd) (A : Nat → Prop) (th : Nat) (hA : ∀ (off : Nat) (kd : Kd), layM off = some kd → A (th + off)) (F : Nat) (a1 : Int32) (J : Ji) (K : Jl) (out : Int32) (hE : M_worthOf F J a1 = some out) : Ct l yX8_worthOf (ws_ yX8_worthOf cX8_worthOf 7 (some .int)) rmM_worthOf vwCl arTy D A [.ref th, .int a1] (RM D th J K) (RM D th J K) (some (.int out)) 0 0 := by
  refine Ct.of (by decide) (Nat.le_of_ble_eq_true rfl) rfl ?_
  intro X hl hrm hC hR hXA hnL _
  exact w_M_worthOf ⟨hC, by unfold Ft; rw [hXA]; exact hA, hnL, hrm⟩ hR F a1 hE
theorem cw_M_worthOf {X : Ctx} {cc : ByteArray} {D : Dd} {th mL : Nat} {rm : Room} (hM : Mx X cc D th mL rm) (h1 : rmM_worthOf.frames + 1 ≤ rm.frames) (h2 : 8 + (7 + 11) + rmM_worthOf.locals ≤ rm.locals) : CallW X.2.2.2.1 X.2.2.2.2.1 X.2.2.2.2.2.2.1 RX8 RX8 396 yX8_worthOf cX8_worthOf 7 (some .int) (ws_ yX8_worthOf cX8_worthOf 7 (some .int)) rmM_worthOf 0 0 1 := cwV 1 (cx_w hM.1) (lw_V q1973 q1975 qs86 q128 q1976) rfl rfl rfl (by decide +kernel) (by rw [hM.2.2.2]; exact ⟨h1, h2⟩)
abbrev rmM_task : Room := { frames := 2, cells := 0, slots := 0, locals := 48 }
set_option maxHeartbeats 4000000 in
theorem w_M_task {X : Ctx} {D : Dd} {th : Nat} {K : Jl} {out : Int32 × Ji} (hM : Mx X cX8_task D th 3 rmM_task) (hR : Rt X (some .int) (RM D th out.2 K) (some (.int out.1)) 0 0) (F : Nat) (a1 : Int32) (a2 : Int32) (J : Ji) (hE : M_task F a1 a2 J = some out) : Wk X 0 0 (RM D th J K) 0 [(0, .ref th), (1, .int a1), (2, .int a2)] [] := by
  have hC := hM.1
  have hnL := hM.2.2.1
  have hrm := hM.2.2.2
  unfold M_task at hE
  refine k_aload_n (pc := 0) hC dX8_task_0 rfl 0 rfl ?_
  refine k_iload_n (pc := 1) hC dX8_task_1 rfl 1 rfl ?_
  refine m_clI (pc := 2) (As := [.int a1]) hM (cw_M_isTask hM (Nat.le_of_ble_eq_true rfl) (Nat.le_of_ble_eq_true rfl)) rfl rfl (Nat.le_of_ble_eq_true rfl) dX8_task_2 hE (fun r h => ct_M_isTask _ _ _ _ hM.2.1 a1 J K r h) (fun r1 hE => ?_)
  refine k_if_ne (pc := 5) (tgt := 10) hC dX8_task_5 (by decide) hE (fun hE => ?_) (fun hE => ?_)
  · refine k_iconst (pc := 8) (v := (-1)) hC dX8_task_8 (by decide) ?_
    exact k_iret (pc := 9) hC hR ⟨Nat.le_refl 0, Nat.le_refl 0⟩ dX8_task_9 (by cases hE; rfl) (by cases hE; exact fun _ h => h)
  · refine k_aload_n (pc := 10) hC dX8_task_10 rfl 0 rfl ?_
    refine m_clVj (pc := 11) (As := []) hM (cw_M_takes hM (Nat.le_of_ble_eq_true rfl) (Nat.le_of_ble_eq_true rfl)) rfl rfl (Nat.le_of_ble_eq_true rfl) dX8_task_11 hE (fun r h => ct_M_takes _ _ _ _ hM.2.1 F J K r h) (fun r2 hE => ?_)
    refine k_iload_n (pc := 14) hC dX8_task_14 rfl 2 rfl ?_
    refine sw_E hE (fun hx hE => ?_) (fun n0 hE => ?_)
    · refine k_tswI (pc := 15) (k := 0) (tgt := 48) hC dX8_task_15 hx (by decide) (by decide) rfl (by decide) ?_
      refine k_aload_n (pc := 48) hC dX8_task_48 rfl 0 rfl ?_
      refine gM_33 (pc := 49) hM dX8_task_49 ?_
      refine k_bipush (pc := 52) (v := 6) hC dX8_task_52 (by decide) ?_
      refine k_aload_n (pc := 54) hC dX8_task_54 rfl 0 rfl ?_
      refine gM_18 (pc := 55) hM dX8_task_55 ?_
      refine k_imul (pc := 58) hC dX8_task_58 ?_
      refine k_iload_n (pc := 59) hC dX8_task_59 rfl 1 rfl ?_
      refine k_iadd (pc := 60) hC dX8_task_60 ?_
      refine m_iald (pc := 61) 20 ly_20 hM dX8_task_61 hE (fun x3 hE => ?_)
      exact k_iret (pc := 62) hC hR ⟨Nat.le_refl 0, Nat.le_refl 0⟩ dX8_task_62 (by cases hE; rfl) (by cases hE; exact fun _ h => h)
    refine sw_E hE (fun hx hE => ?_) (fun n1 hE => ?_)
    · refine k_tswI (pc := 15) (k := 1) (tgt := 63) hC dX8_task_15 hx (by decide) (by decide) rfl (by decide) ?_
      refine k_aload_n (pc := 63) hC dX8_task_63 rfl 0 rfl ?_
      refine k_iload_n (pc := 64) hC dX8_task_64 rfl 1 rfl ?_
      refine m_clI (pc := 65) (As := [.int a1]) hM (cw_M_stepsOf hM (Nat.le_of_ble_eq_true rfl) (Nat.le_of_ble_eq_true rfl)) rfl rfl (Nat.le_of_ble_eq_true rfl) dX8_task_65 hE (fun r h => ct_M_stepsOf _ _ _ _ hM.2.1 a1 r2 K r h) (fun r4 hE => ?_)
      exact k_iret (pc := 68) hC hR ⟨Nat.le_refl 0, Nat.le_refl 0⟩ dX8_task_68 (by cases hE; rfl) (by cases hE; exact fun _ h => h)
    refine sw_E hE (fun hx hE => ?_) (fun n2 hE => ?_)
    · refine k_tswI (pc := 15) (k := 2) (tgt := 69) hC dX8_task_15 hx (by decide) (by decide) rfl (by decide) ?_
      refine k_aload_n (pc := 69) hC dX8_task_69 rfl 0 rfl ?_
      refine gM_65 (pc := 70) hM dX8_task_70 ?_
      refine k_iload_n (pc := 73) hC dX8_task_73 rfl 1 rfl ?_
      refine m_iald (pc := 74) 48 ly_48 hM dX8_task_74 hE (fun x5 hE => ?_)
      exact k_iret (pc := 75) hC hR ⟨Nat.le_refl 0, Nat.le_refl 0⟩ dX8_task_75 (by cases hE; rfl) (by cases hE; exact fun _ h => h)
    refine sw_E hE (fun hx hE => ?_) (fun n3 hE => ?_)
    · refine k_tswI (pc := 15) (k := 3) (tgt := 76) hC dX8_task_15 hx (by decide) (by decide) rfl (by decide) ?_
      refine k_aload_n (pc := 76) hC dX8_task_76 rfl 0 rfl ?_
      refine k_iload_n (pc := 77) hC dX8_task_77 rfl 1 rfl ?_
      refine m_clI (pc := 78) (As := [.int a1]) hM (cw_M_worthOf hM (Nat.le_of_ble_eq_true rfl) (Nat.le_of_ble_eq_true rfl)) rfl rfl (Nat.le_of_ble_eq_true rfl) dX8_task_78 hE (fun r h => ct_M_worthOf _ _ _ _ hM.2.1 F a1 r2 K r h) (fun r6 hE => ?_)
      exact k_iret (pc := 81) hC hR ⟨Nat.le_refl 0, Nat.le_refl 0⟩ dX8_task_81 (by cases hE; rfl) (by cases hE; exact fun _ h => h)
    refine sw_E hE (fun hx hE => ?_) (fun n4 hE => ?_)
    · refine k_tswI (pc := 15) (k := 4) (tgt := 82) hC dX8_task_15 hx (by decide) (by decide) rfl (by decide) ?_
      refine k_aload_n (pc := 82) hC dX8_task_82 rfl 0 rfl ?_
      refine k_iload_n (pc := 83) hC dX8_task_83 rfl 1 rfl ?_
      refine m_clI (pc := 84) (As := [.int a1]) hM (cw_M_isEnded hM (Nat.le_of_ble_eq_true rfl) (Nat.le_of_ble_eq_true rfl)) rfl rfl (Nat.le_of_ble_eq_true rfl) dX8_task_84 hE (fun r h => ct_M_isEnded _ _ _ _ hM.2.1 F a1 r2 K r h) (fun r7 hE => ?_)
      refine k_if_eq (pc := 87) (tgt := 94) hC dX8_task_87 (by decide) hE (fun hE => ?_) (fun hE => ?_)
      · refine k_iconst (pc := 94) (v := 0) hC dX8_task_94 (by decide) ?_
        exact k_iret (pc := 95) hC hR ⟨Nat.le_refl 0, Nat.le_refl 0⟩ dX8_task_95 (by cases hE; rfl) (by cases hE; exact fun _ h => h)
      · refine k_iconst (pc := 90) (v := 1) hC dX8_task_90 (by decide) ?_
        refine k_goto (pc := 91) (tgt := 95) hC dX8_task_91 (by decide) ?_
        exact k_iret (pc := 95) hC hR ⟨Nat.le_refl 0, Nat.le_refl 0⟩ dX8_task_95 (by cases hE; rfl) (by cases hE; exact fun _ h => h)
    have z0 := sw_ne (z := 0) n0 rfl
    have z1 := sw_ne (z := 1) n1 rfl
    have z2 := sw_ne (z := 2) n2 rfl
    have z3 := sw_ne (z := 3) n3 rfl
    have z4 := sw_ne (z := 4) n4 rfl
    refine k_tswO (pc := 15) (tgt := 96) hC dX8_task_15 (by omega) (by decide) ?_
    refine k_iconst (pc := 96) (v := (-1)) hC dX8_task_96 (by decide) ?_
    exact k_iret (pc := 97) hC hR ⟨Nat.le_refl 0, Nat.le_refl 0⟩ dX8_task_97 (by cases hE; rfl) (by cases hE; exact fun _ h => h)
theorem ct_M_task (l : Launch) (D : Dd) (A : Nat → Prop) (th : Nat) (hA : ∀ (off : Nat) (kd : Kd), layM off = some kd → A (th + off)) (F : Nat) (a1 : Int32) (a2 : Int32) (J : Ji) (K : Jl) (out : Int32 × Ji) (hE : M_task F a1 a2 J = some out) : Ct l yX8_task (ws_ yX8_task cX8_task 3 (some .int)) rmM_task vwCl arTy D A [.ref th, .int a1, .int a2] (RM D th J K) (RM D th out.2 K) (some (.int out.1)) 0 0 := by
  refine Ct.of (by decide) (Nat.le_of_ble_eq_true rfl) rfl ?_
  intro X hl hrm hC hR hXA hnL _
  exact w_M_task ⟨hC, by unfold Ft; rw [hXA]; exact hA, hnL, hrm⟩ hR F a1 a2 J hE
abbrev rmM_isStep : Room := { frames := 2, cells := 0, slots := 0, locals := 43 }
set_option maxHeartbeats 4000000 in
theorem w_M_isStep {X : Ctx} {D : Dd} {th : Nat} {J : Ji} {K : Jl} {out : Int32} (hM : Mx X cX8_isStep D th 3 rmM_isStep) (hR : Rt X (some .boolean) (RM D th J K) (some (.int out)) 0 0) (a1 : Int32) (a2 : Int32) (hE : M_isStep J a1 a2 = some out) : Wk X 0 0 (RM D th J K) 0 [(0, .ref th), (1, .int a1), (2, .int a2)] [] := by
  have hC := hM.1
  have hnL := hM.2.2.1
  have hrm := hM.2.2.2
  unfold M_isStep at hE
  refine k_aload_n (pc := 0) hC dX8_isStep_0 rfl 0 rfl ?_
  refine k_iload_n (pc := 1) hC dX8_isStep_1 rfl 1 rfl ?_
  refine m_clI (pc := 2) (As := [.int a1]) hM (cw_M_isTask hM (Nat.le_of_ble_eq_true rfl) (Nat.le_of_ble_eq_true rfl)) rfl rfl (Nat.le_of_ble_eq_true rfl) dX8_isStep_2 hE (fun r h => ct_M_isTask _ _ _ _ hM.2.1 a1 J K r h) (fun r1 hE => ?_)
  refine k_if_eq (pc := 5) (tgt := 27) hC dX8_isStep_5 (by decide) hE (fun hE => ?_) (fun hE => ?_)
  · refine k_iconst (pc := 27) (v := 0) hC dX8_isStep_27 (by decide) ?_
    exact k_zret (pc := 28) (by decide) hC hR ⟨Nat.le_refl 0, Nat.le_refl 0⟩ dX8_isStep_28 (by cases hE; rfl) (by cases hE; exact fun _ h => h)
  · refine k_iload_n (pc := 8) hC dX8_isStep_8 rfl 2 rfl ?_
    refine k_iconst (pc := 9) (v := 0) hC dX8_isStep_9 (by decide) ?_
    refine k_aload_n (pc := 10) hC dX8_isStep_10 rfl 0 rfl ?_
    refine k_iload_n (pc := 11) hC dX8_isStep_11 rfl 1 rfl ?_
    refine m_clI (pc := 12) (As := [.int a1]) hM (cw_M_stepsOf hM (Nat.le_of_ble_eq_true rfl) (Nat.le_of_ble_eq_true rfl)) rfl rfl (Nat.le_of_ble_eq_true rfl) dX8_isStep_12 hE (fun r h => ct_M_stepsOf _ _ _ _ hM.2.1 a1 J K r h) (fun r2 hE => ?_)
    refine k_iconst (pc := 15) (v := 1) hC dX8_isStep_15 (by decide) ?_
    refine k_isub (pc := 16) hC dX8_isStep_16 ?_
    refine m_callSI (pc := 17) (As := [.int a2, .int 0, .int (r2 - 1)]) (fun r => r) hC (cw_M_in hC hrm (Nat.le_of_ble_eq_true rfl) (Nat.le_of_ble_eq_true rfl)) rfl rfl (Nat.le_of_ble_eq_true rfl) ⟨Nat.zero_le _, Nat.zero_le _⟩ dX8_isStep_17 hE (fun r h => ct_M_in _ _ _ _ a2 0 (r2 - 1) r h) (fun r3 hE => ?_)
    refine k_if_eq (pc := 20) (tgt := 27) hC dX8_isStep_20 (by decide) hE (fun hE => ?_) (fun hE => ?_)
    · refine k_iconst (pc := 27) (v := 0) hC dX8_isStep_27 (by decide) ?_
      exact k_zret (pc := 28) (by decide) hC hR ⟨Nat.le_refl 0, Nat.le_refl 0⟩ dX8_isStep_28 (by cases hE; rfl) (by cases hE; exact fun _ h => h)
    · refine k_iconst (pc := 23) (v := 1) hC dX8_isStep_23 (by decide) ?_
      refine k_goto (pc := 24) (tgt := 28) hC dX8_isStep_24 (by decide) ?_
      exact k_zret (pc := 28) (by decide) hC hR ⟨Nat.le_refl 0, Nat.le_refl 0⟩ dX8_isStep_28 (by cases hE; rfl) (by cases hE; exact fun _ h => h)
theorem ct_M_isStep (l : Launch) (D : Dd) (A : Nat → Prop) (th : Nat) (hA : ∀ (off : Nat) (kd : Kd), layM off = some kd → A (th + off)) (a1 : Int32) (a2 : Int32) (J : Ji) (K : Jl) (out : Int32) (hE : M_isStep J a1 a2 = some out) : Ct l yX8_isStep (ws_ yX8_isStep cX8_isStep 3 (some .boolean)) rmM_isStep vwCl arTy D A [.ref th, .int a1, .int a2] (RM D th J K) (RM D th J K) (some (.int out)) 0 0 := by
  refine Ct.of (by decide) (Nat.le_of_ble_eq_true rfl) rfl ?_
  intro X hl hrm hC hR hXA hnL _
  exact w_M_isStep ⟨hC, by unfold Ft; rw [hXA]; exact hA, hnL, hrm⟩ hR a1 a2 hE
theorem cw_M_isStep {X : Ctx} {cc : ByteArray} {D : Dd} {th mL : Nat} {rm : Room} (hM : Mx X cc D th mL rm) (h1 : rmM_isStep.frames + 1 ≤ rm.frames) (h2 : 8 + (3 + 11) + rmM_isStep.locals ≤ rm.locals) : CallW X.2.2.2.1 X.2.2.2.2.1 X.2.2.2.2.2.2.1 RX8 RX8 440 yX8_isStep cX8_isStep 3 (some .boolean) (ws_ yX8_isStep cX8_isStep 3 (some .boolean)) rmM_isStep 0 0 2 := cwV 2 (cx_w hM.1) (lw_V q1989 q1991 qs89 q128 q1992) rfl rfl rfl (by decide +kernel) (by rw [hM.2.2.2]; exact ⟨h1, h2⟩)
abbrev rmM_orNone : Room := { frames := 0, cells := 0, slots := 0, locals := 0 }
set_option maxHeartbeats 4000000 in
theorem w_M_orNone {X : Ctx} {D : Dd} {P : Heap → Prop} {out : Int32} (hM : Sx X cX8_orNone D 1 rmM_orNone) (hR : Rt X (some .int) P (some (.int out)) 0 0) (a0 : Int32) (hE : M_orNone a0 = some out) : Wk X 0 0 P 0 [(0, .int a0)] [] := by
  have hC := hM.1
  have hnL := hM.2.1
  have hrm := hM.2.2
  unfold M_orNone at hE
  refine k_iload_n (pc := 0) hC dX8_orNone_0 rfl 0 rfl ?_
  refine k_if_ge (pc := 1) (tgt := 9) hC dX8_orNone_1 (by decide) hE (fun hE => ?_) (fun hE => ?_)
  · refine k_iload_n (pc := 9) hC dX8_orNone_9 rfl 0 rfl ?_
    exact k_iret (pc := 10) hC hR ⟨Nat.le_refl 0, Nat.le_refl 0⟩ dX8_orNone_10 (by cases hE; rfl) (by cases hE; exact fun _ h => h)
  · refine k_bipush (pc := 4) (v := (-2)) hC dX8_orNone_4 (by decide) ?_
    refine k_goto (pc := 6) (tgt := 10) hC dX8_orNone_6 (by decide) ?_
    exact k_iret (pc := 10) hC hR ⟨Nat.le_refl 0, Nat.le_refl 0⟩ dX8_orNone_10 (by cases hE; rfl) (by cases hE; exact fun _ h => h)
theorem ct_M_orNone (l : Launch) (D : Dd) (A : Nat → Prop) (P : Heap → Prop) (a0 : Int32) (out : Int32) (hE : M_orNone a0 = some out) : Ct l yX8_orNone (ws_ yX8_orNone cX8_orNone 1 (some .int)) rmM_orNone vwCl arTy D A [.int a0] P P (some (.int out)) 0 0 := by
  refine Ct.of (by decide) (Nat.le_of_ble_eq_true rfl) rfl ?_
  intro X hl hrm hC hR hA hnL _
  exact w_M_orNone ⟨hC, hnL, hrm⟩ hR a0 hE
theorem cw_M_orNone {X : Ctx} {cc : ByteArray} {D : Dd} {rm : Room} (hC : Cx X cc RX8 vwCl arTy D) (hrm : X.2.2.2.1 = rm) (h1 : rmM_orNone.frames + 1 ≤ rm.frames) (h2 : 8 + (1 + 11) + rmM_orNone.locals ≤ rm.locals) : CallB X.2.2.2.1 X.2.2.2.2.1 X.2.2.2.2.2.2.1 RX8 443 yX8_orNone cX8_orNone 1 (some .int) (ws_ yX8_orNone cX8_orNone 1 (some .int)) rmM_orNone 0 0 1 ∧ (Cond.static yX8_orNone).before X.2.2.2.2.2.2.1 X.2.2.2.2.1 = true := va_cwS 1 (cx_w hC) (lw_S q1993 q1994 q128 q1995) rfl rfl rfl (by decide +kernel) (by rw [hrm]; exact ⟨h1, h2⟩)
abbrev rmM_step : Room := { frames := 3, cells := 0, slots := 0, locals := 65 }
set_option maxHeartbeats 4000000 in
theorem w_M_step {X : Ctx} {D : Dd} {th : Nat} {J : Ji} {K : Jl} {out : Int32} (hM : Mx X cX8_step D th 5 rmM_step) (hR : Rt X (some .int) (RM D th J K) (some (.int out)) 0 0) (a1 : Int32) (a2 : Int32) (a3 : Int32) (hE : M_step J a1 a2 a3 = some out) : Wk X 0 0 (RM D th J K) 0 [(0, .ref th), (1, .int a1), (2, .int a2), (3, .int a3)] [] := by
  have hC := hM.1
  have hnL := hM.2.2.1
  have hrm := hM.2.2.2
  unfold M_step at hE
  refine k_aload_n (pc := 0) hC dX8_step_0 rfl 0 rfl ?_
  refine k_iload_n (pc := 1) hC dX8_step_1 rfl 1 rfl ?_
  refine k_iload_n (pc := 2) hC dX8_step_2 rfl 2 rfl ?_
  refine m_clI (pc := 3) (As := [.int a1, .int a2]) hM (cw_M_isStep hM (Nat.le_of_ble_eq_true rfl) (Nat.le_of_ble_eq_true rfl)) rfl rfl (Nat.le_of_ble_eq_true rfl) dX8_step_3 hE (fun r h => ct_M_isStep _ _ _ _ hM.2.1 a1 a2 J K r h) (fun r1 hE => ?_)
  refine k_if_ne (pc := 6) (tgt := 11) hC dX8_step_6 (by decide) hE (fun hE => ?_) (fun hE => ?_)
  · refine k_iconst (pc := 9) (v := (-1)) hC dX8_step_9 (by decide) ?_
    exact k_iret (pc := 10) hC hR ⟨Nat.le_refl 0, Nat.le_refl 0⟩ dX8_step_10 (by cases hE; rfl) (by cases hE; exact fun _ h => h)
  · refine k_aload_n (pc := 11) hC dX8_step_11 rfl 0 rfl ?_
    refine k_iload_n (pc := 12) hC dX8_step_12 rfl 1 rfl ?_
    refine k_iload_n (pc := 13) hC dX8_step_13 rfl 2 rfl ?_
    refine m_clI (pc := 14) (As := [.int a1, .int a2]) hM (cw_M_stepAt hM (Nat.le_of_ble_eq_true rfl) (Nat.le_of_ble_eq_true rfl)) rfl rfl (Nat.le_of_ble_eq_true rfl) dX8_step_14 hE (fun r h => ct_M_stepAt _ _ _ _ hM.2.1 a1 a2 J K r h) (fun r2 hE => ?_)
    refine k_istore (pc := 17) (lv' := [(4, .int r2), (0, .ref th), (1, .int a1), (2, .int a2), (3, .int a3)]) hC dX8_step_17 (by rw [hnL]; decide) rfl ?_
    refine k_iload_n (pc := 19) hC dX8_step_19 rfl 4 rfl ?_
    refine sw_E hE (fun hx hE => ?_) (fun n0 hE => ?_)
    · refine k_tswI (pc := 20) (k := 0) (tgt := 64) hC dX8_step_20 hx (by decide) (by decide) rfl (by decide) ?_
      refine k_aload_n (pc := 64) hC dX8_step_64 rfl 1 rfl ?_
      refine gM_64 (pc := 65) hM dX8_step_65 ?_
      refine k_bipush (pc := 68) (v := 6) hC dX8_step_68 (by decide) ?_
      refine k_bipush (pc := 70) (v := 6) hC dX8_step_70 (by decide) ?_
      refine k_iload_n (pc := 72) hC dX8_step_72 rfl 2 rfl ?_
      refine k_imul (pc := 73) hC dX8_step_73 ?_
      refine k_iadd (pc := 74) hC dX8_step_74 ?_
      refine k_iload_n (pc := 75) hC dX8_step_75 rfl 3 rfl ?_
      refine k_iadd (pc := 76) hC dX8_step_76 ?_
      refine m_iald (pc := 77) 47 ly_47 hM dX8_step_77 hE (fun x3 hE => ?_)
      exact k_iret (pc := 78) hC hR ⟨Nat.le_refl 0, Nat.le_refl 0⟩ dX8_step_78 (by cases hE; rfl) (by cases hE; exact fun _ h => h)
    refine sw_E hE (fun hx hE => ?_) (fun n1 hE => ?_)
    · refine k_tswI (pc := 20) (k := 1) (tgt := 79) hC dX8_step_20 hx (by decide) (by decide) rfl (by decide) ?_
      refine k_aload_n (pc := 79) hC dX8_step_79 rfl 1 rfl ?_
      refine gM_36 (pc := 80) hM dX8_step_80 ?_
      refine k_iload (pc := 83) hC dX8_step_83 0 rfl ?_
      refine m_iald (pc := 85) 23 ly_23 hM dX8_step_85 hE (fun x4 hE => ?_)
      exact k_iret (pc := 86) hC hR ⟨Nat.le_refl 0, Nat.le_refl 0⟩ dX8_step_86 (by cases hE; rfl) (by cases hE; exact fun _ h => h)
    refine sw_E hE (fun hx hE => ?_) (fun n2 hE => ?_)
    · refine k_tswI (pc := 20) (k := 2) (tgt := 87) hC dX8_step_20 hx (by decide) (by decide) rfl (by decide) ?_
      refine k_aload_n (pc := 87) hC dX8_step_87 rfl 1 rfl ?_
      refine gM_37 (pc := 88) hM dX8_step_88 ?_
      refine k_iload (pc := 91) hC dX8_step_91 0 rfl ?_
      refine m_iald (pc := 93) 24 ly_24 hM dX8_step_93 hE (fun x5 hE => ?_)
      exact k_iret (pc := 94) hC hR ⟨Nat.le_refl 0, Nat.le_refl 0⟩ dX8_step_94 (by cases hE; rfl) (by cases hE; exact fun _ h => h)
    refine sw_E hE (fun hx hE => ?_) (fun n3 hE => ?_)
    · refine k_tswI (pc := 20) (k := 3) (tgt := 95) hC dX8_step_20 hx (by decide) (by decide) rfl (by decide) ?_
      refine k_aload_n (pc := 95) hC dX8_step_95 rfl 1 rfl ?_
      refine gM_38 (pc := 96) hM dX8_step_96 ?_
      refine k_iload (pc := 99) hC dX8_step_99 0 rfl ?_
      refine m_iald (pc := 101) 25 ly_25 hM dX8_step_101 hE (fun x6 hE => ?_)
      exact k_iret (pc := 102) hC hR ⟨Nat.le_refl 0, Nat.le_refl 0⟩ dX8_step_102 (by cases hE; rfl) (by cases hE; exact fun _ h => h)
    refine sw_E hE (fun hx hE => ?_) (fun n4 hE => ?_)
    · refine k_tswI (pc := 20) (k := 4) (tgt := 103) hC dX8_step_20 hx (by decide) (by decide) rfl (by decide) ?_
      refine k_aload_n (pc := 103) hC dX8_step_103 rfl 1 rfl ?_
      refine gM_39 (pc := 104) hM dX8_step_104 ?_
      refine k_iload (pc := 107) hC dX8_step_107 0 rfl ?_
      refine m_iald (pc := 109) 26 ly_26 hM dX8_step_109 hE (fun x7 hE => ?_)
      exact k_iret (pc := 110) hC hR ⟨Nat.le_refl 0, Nat.le_refl 0⟩ dX8_step_110 (by cases hE; rfl) (by cases hE; exact fun _ h => h)
    refine sw_E hE (fun hx hE => ?_) (fun n5 hE => ?_)
    · refine k_tswI (pc := 20) (k := 5) (tgt := 111) hC dX8_step_20 hx (by decide) (by decide) rfl (by decide) ?_
      refine k_aload_n (pc := 111) hC dX8_step_111 rfl 1 rfl ?_
      refine gM_40 (pc := 112) hM dX8_step_112 ?_
      refine k_iload (pc := 115) hC dX8_step_115 0 rfl ?_
      refine m_iald (pc := 117) 27 ly_27 hM dX8_step_117 hE (fun x8 hE => ?_)
      refine m_callSI (pc := 118) (As := [.int x8]) (fun r => r) hC (cw_M_orNone hC hrm (Nat.le_of_ble_eq_true rfl) (Nat.le_of_ble_eq_true rfl)) rfl rfl (Nat.le_of_ble_eq_true rfl) ⟨Nat.zero_le _, Nat.zero_le _⟩ dX8_step_118 hE (fun r h => ct_M_orNone _ _ _ _ x8 r h) (fun r9 hE => ?_)
      exact k_iret (pc := 121) hC hR ⟨Nat.le_refl 0, Nat.le_refl 0⟩ dX8_step_121 (by cases hE; rfl) (by cases hE; exact fun _ h => h)
    refine sw_E hE (fun hx hE => ?_) (fun n6 hE => ?_)
    · refine k_tswI (pc := 20) (k := 6) (tgt := 122) hC dX8_step_20 hx (by decide) (by decide) rfl (by decide) ?_
      refine k_aload_n (pc := 122) hC dX8_step_122 rfl 1 rfl ?_
      refine gM_41 (pc := 123) hM dX8_step_123 ?_
      refine k_iload (pc := 126) hC dX8_step_126 0 rfl ?_
      refine m_iald (pc := 128) 28 ly_28 hM dX8_step_128 hE (fun x10 hE => ?_)
      refine m_callSI (pc := 129) (As := [.int x10]) (fun r => r) hC (cw_M_orNone hC hrm (Nat.le_of_ble_eq_true rfl) (Nat.le_of_ble_eq_true rfl)) rfl rfl (Nat.le_of_ble_eq_true rfl) ⟨Nat.zero_le _, Nat.zero_le _⟩ dX8_step_129 hE (fun r h => ct_M_orNone _ _ _ _ x10 r h) (fun r11 hE => ?_)
      exact k_iret (pc := 132) hC hR ⟨Nat.le_refl 0, Nat.le_refl 0⟩ dX8_step_132 (by cases hE; rfl) (by cases hE; exact fun _ h => h)
    have z0 := sw_ne (z := 0) n0 rfl
    have z1 := sw_ne (z := 1) n1 rfl
    have z2 := sw_ne (z := 2) n2 rfl
    have z3 := sw_ne (z := 3) n3 rfl
    have z4 := sw_ne (z := 4) n4 rfl
    have z5 := sw_ne (z := 5) n5 rfl
    have z6 := sw_ne (z := 6) n6 rfl
    refine k_tswO (pc := 20) (tgt := 133) hC dX8_step_20 (by omega) (by decide) ?_
    refine k_iconst (pc := 133) (v := (-1)) hC dX8_step_133 (by decide) ?_
    exact k_iret (pc := 134) hC hR ⟨Nat.le_refl 0, Nat.le_refl 0⟩ dX8_step_134 (by cases hE; rfl) (by cases hE; exact fun _ h => h)
theorem ct_M_step (l : Launch) (D : Dd) (A : Nat → Prop) (th : Nat) (hA : ∀ (off : Nat) (kd : Kd), layM off = some kd → A (th + off)) (a1 : Int32) (a2 : Int32) (a3 : Int32) (J : Ji) (K : Jl) (out : Int32) (hE : M_step J a1 a2 a3 = some out) : Ct l yX8_step (ws_ yX8_step cX8_step 5 (some .int)) rmM_step vwCl arTy D A [.ref th, .int a1, .int a2, .int a3] (RM D th J K) (RM D th J K) (some (.int out)) 0 0 := by
  refine Ct.of (by decide) (Nat.le_of_ble_eq_true rfl) rfl ?_
  intro X hl hrm hC hR hXA hnL _
  exact w_M_step ⟨hC, by unfold Ft; rw [hXA]; exact hA, hnL, hrm⟩ hR a1 a2 a3 hE
abbrev rmM_isMan : Room := { frames := 1, cells := 0, slots := 0, locals := 22 }
set_option maxHeartbeats 4000000 in
theorem w_M_isMan {X : Ctx} {D : Dd} {th : Nat} {J : Ji} {K : Jl} {out : Int32} (hM : Mx X cX8_isMan D th 2 rmM_isMan) (hR : Rt X (some .boolean) (RM D th J K) (some (.int out)) 0 0) (a1 : Int32) (hE : M_isMan J a1 = some out) : Wk X 0 0 (RM D th J K) 0 [(0, .ref th), (1, .int a1)] [] := by
  have hC := hM.1
  have hnL := hM.2.2.1
  have hrm := hM.2.2.2
  unfold M_isMan at hE
  refine k_iload_n (pc := 0) hC dX8_isMan_0 rfl 1 rfl ?_
  refine k_iconst (pc := 1) (v := 0) hC dX8_isMan_1 (by decide) ?_
  refine k_aload_n (pc := 2) hC dX8_isMan_2 rfl 0 rfl ?_
  refine m_clI (pc := 3) (As := []) hM (cw_M_menNow hM (Nat.le_of_ble_eq_true rfl) (Nat.le_of_ble_eq_true rfl)) rfl rfl (Nat.le_of_ble_eq_true rfl) dX8_isMan_3 hE (fun r h => ct_M_menNow _ _ _ _ hM.2.1  J K r h) (fun r1 hE => ?_)
  refine k_iconst (pc := 6) (v := 1) hC dX8_isMan_6 (by decide) ?_
  refine k_isub (pc := 7) hC dX8_isMan_7 ?_
  refine m_callSI (pc := 8) (As := [.int a1, .int 0, .int (r1 - 1)]) (fun r => r) hC (cw_M_in hC hrm (Nat.le_of_ble_eq_true rfl) (Nat.le_of_ble_eq_true rfl)) rfl rfl (Nat.le_of_ble_eq_true rfl) ⟨Nat.zero_le _, Nat.zero_le _⟩ dX8_isMan_8 hE (fun r h => ct_M_in _ _ _ _ a1 0 (r1 - 1) r h) (fun r2 hE => ?_)
  obtain ⟨r3, hz, hE⟩ := ob_ hE
  obtain ⟨hz1, hz⟩ := bz_some hz
  rw [hz1]
  exact k_zret (pc := 11) hz hC hR ⟨Nat.le_refl 0, Nat.le_refl 0⟩ dX8_isMan_11 (by cases hE; rfl) (by cases hE; exact fun _ h => h)
theorem ct_M_isMan (l : Launch) (D : Dd) (A : Nat → Prop) (th : Nat) (hA : ∀ (off : Nat) (kd : Kd), layM off = some kd → A (th + off)) (a1 : Int32) (J : Ji) (K : Jl) (out : Int32) (hE : M_isMan J a1 = some out) : Ct l yX8_isMan (ws_ yX8_isMan cX8_isMan 2 (some .boolean)) rmM_isMan vwCl arTy D A [.ref th, .int a1] (RM D th J K) (RM D th J K) (some (.int out)) 0 0 := by
  refine Ct.of (by decide) (Nat.le_of_ble_eq_true rfl) rfl ?_
  intro X hl hrm hC hR hXA hnL _
  exact w_M_isMan ⟨hC, by unfold Ft; rw [hXA]; exact hA, hnL, hrm⟩ hR a1 hE
theorem cw_M_isMan {X : Ctx} {cc : ByteArray} {D : Dd} {th mL : Nat} {rm : Room} (hM : Mx X cc D th mL rm) (h1 : rmM_isMan.frames + 1 ≤ rm.frames) (h2 : 8 + (2 + 11) + rmM_isMan.locals ≤ rm.locals) : CallW X.2.2.2.1 X.2.2.2.2.1 X.2.2.2.2.2.2.1 RX8 RX8 446 yX8_isMan cX8_isMan 2 (some .boolean) (ws_ yX8_isMan cX8_isMan 2 (some .boolean)) rmM_isMan 0 0 1 := cwV 1 (cx_w hM.1) (lw_V q2000 q2002 qs90 q128 q2003) rfl rfl rfl (by decide +kernel) (by rw [hM.2.2.2]; exact ⟨h1, h2⟩)
abbrev rmM_man : Room := { frames := 2, cells := 0, slots := 0, locals := 43 }
set_option maxHeartbeats 4000000 in
theorem w_M_man {X : Ctx} {D : Dd} {th : Nat} {J : Ji} {K : Jl} {out : Int32} (hM : Mx X cX8_man D th 3 rmM_man) (hR : Rt X (some .int) (RM D th J K) (some (.int out)) 0 0) (a1 : Int32) (a2 : Int32) (hE : M_man J a1 a2 = some out) : Wk X 0 0 (RM D th J K) 0 [(0, .ref th), (1, .int a1), (2, .int a2)] [] := by
  have hC := hM.1
  have hnL := hM.2.2.1
  have hrm := hM.2.2.2
  unfold M_man at hE
  refine k_aload_n (pc := 0) hC dX8_man_0 rfl 0 rfl ?_
  refine k_iload_n (pc := 1) hC dX8_man_1 rfl 1 rfl ?_
  refine m_clI (pc := 2) (As := [.int a1]) hM (cw_M_isMan hM (Nat.le_of_ble_eq_true rfl) (Nat.le_of_ble_eq_true rfl)) rfl rfl (Nat.le_of_ble_eq_true rfl) dX8_man_2 hE (fun r h => ct_M_isMan _ _ _ _ hM.2.1 a1 J K r h) (fun r1 hE => ?_)
  refine k_if_ne (pc := 5) (tgt := 10) hC dX8_man_5 (by decide) hE (fun hE => ?_) (fun hE => ?_)
  · refine k_iconst (pc := 8) (v := (-1)) hC dX8_man_8 (by decide) ?_
    exact k_iret (pc := 9) hC hR ⟨Nat.le_refl 0, Nat.le_refl 0⟩ dX8_man_9 (by cases hE; rfl) (by cases hE; exact fun _ h => h)
  · refine k_iload_n (pc := 10) hC dX8_man_10 rfl 2 rfl ?_
    refine sw_E hE (fun hx hE => ?_) (fun n0 hE => ?_)
    · refine k_tswI (pc := 11) (k := 0) (tgt := 48) hC dX8_man_11 hx (by decide) (by decide) rfl (by decide) ?_
      refine k_aload_n (pc := 48) hC dX8_man_48 rfl 0 rfl ?_
      refine gM_43 (pc := 49) hM dX8_man_49 ?_
      refine k_bipush (pc := 52) (v := 6) hC dX8_man_52 (by decide) ?_
      refine k_aload_n (pc := 54) hC dX8_man_54 rfl 0 rfl ?_
      refine gM_18 (pc := 55) hM dX8_man_55 ?_
      refine k_imul (pc := 58) hC dX8_man_58 ?_
      refine k_iload_n (pc := 59) hC dX8_man_59 rfl 1 rfl ?_
      refine k_iadd (pc := 60) hC dX8_man_60 ?_
      refine m_iald (pc := 61) 30 ly_30 hM dX8_man_61 hE (fun x2 hE => ?_)
      exact k_iret (pc := 62) hC hR ⟨Nat.le_refl 0, Nat.le_refl 0⟩ dX8_man_62 (by cases hE; rfl) (by cases hE; exact fun _ h => h)
    refine sw_E hE (fun hx hE => ?_) (fun n1 hE => ?_)
    · refine k_tswI (pc := 11) (k := 1) (tgt := 63) hC dX8_man_11 hx (by decide) (by decide) rfl (by decide) ?_
      refine k_aload_n (pc := 63) hC dX8_man_63 rfl 0 rfl ?_
      refine gM_64 (pc := 64) hM dX8_man_64 ?_
      refine k_bipush (pc := 67) (v := 42) hC dX8_man_67 (by decide) ?_
      refine k_iload_n (pc := 69) hC dX8_man_69 rfl 1 rfl ?_
      refine k_iadd (pc := 70) hC dX8_man_70 ?_
      refine m_iald (pc := 71) 47 ly_47 hM dX8_man_71 hE (fun x3 hE => ?_)
      refine m_callSI (pc := 72) (As := [.int x3]) (fun r => r) hC (cw_M_orNone hC hrm (Nat.le_of_ble_eq_true rfl) (Nat.le_of_ble_eq_true rfl)) rfl rfl (Nat.le_of_ble_eq_true rfl) ⟨Nat.zero_le _, Nat.zero_le _⟩ dX8_man_72 hE (fun r h => ct_M_orNone _ _ _ _ x3 r h) (fun r4 hE => ?_)
      exact k_iret (pc := 75) hC hR ⟨Nat.le_refl 0, Nat.le_refl 0⟩ dX8_man_75 (by cases hE; rfl) (by cases hE; exact fun _ h => h)
    refine sw_E hE (fun hx hE => ?_) (fun n2 hE => ?_)
    · refine k_tswI (pc := 11) (k := 2) (tgt := 76) hC dX8_man_11 hx (by decide) (by decide) rfl (by decide) ?_
      refine k_aload_n (pc := 76) hC dX8_man_76 rfl 0 rfl ?_
      refine gM_64 (pc := 77) hM dX8_man_77 ?_
      refine k_bipush (pc := 80) (v := 48) hC dX8_man_80 (by decide) ?_
      refine k_iload_n (pc := 82) hC dX8_man_82 rfl 1 rfl ?_
      refine k_iadd (pc := 83) hC dX8_man_83 ?_
      refine m_iald (pc := 84) 47 ly_47 hM dX8_man_84 hE (fun x5 hE => ?_)
      refine m_callSI (pc := 85) (As := [.int x5]) (fun r => r) hC (cw_M_orNone hC hrm (Nat.le_of_ble_eq_true rfl) (Nat.le_of_ble_eq_true rfl)) rfl rfl (Nat.le_of_ble_eq_true rfl) ⟨Nat.zero_le _, Nat.zero_le _⟩ dX8_man_85 hE (fun r h => ct_M_orNone _ _ _ _ x5 r h) (fun r6 hE => ?_)
      exact k_iret (pc := 88) hC hR ⟨Nat.le_refl 0, Nat.le_refl 0⟩ dX8_man_88 (by cases hE; rfl) (by cases hE; exact fun _ h => h)
    refine sw_E hE (fun hx hE => ?_) (fun n3 hE => ?_)
    · refine k_tswI (pc := 11) (k := 3) (tgt := 89) hC dX8_man_11 hx (by decide) (by decide) rfl (by decide) ?_
      refine k_aload_n (pc := 89) hC dX8_man_89 rfl 0 rfl ?_
      refine gM_64 (pc := 90) hM dX8_man_90 ?_
      refine k_bipush (pc := 93) (v := 54) hC dX8_man_93 (by decide) ?_
      refine k_iload_n (pc := 95) hC dX8_man_95 rfl 1 rfl ?_
      refine k_iadd (pc := 96) hC dX8_man_96 ?_
      refine m_iald (pc := 97) 47 ly_47 hM dX8_man_97 hE (fun x7 hE => ?_)
      exact k_iret (pc := 98) hC hR ⟨Nat.le_refl 0, Nat.le_refl 0⟩ dX8_man_98 (by cases hE; rfl) (by cases hE; exact fun _ h => h)
    refine sw_E hE (fun hx hE => ?_) (fun n4 hE => ?_)
    · refine k_tswI (pc := 11) (k := 4) (tgt := 99) hC dX8_man_11 hx (by decide) (by decide) rfl (by decide) ?_
      refine k_aload_n (pc := 99) hC dX8_man_99 rfl 0 rfl ?_
      refine gM_64 (pc := 100) hM dX8_man_100 ?_
      refine k_bipush (pc := 103) (v := 60) hC dX8_man_103 (by decide) ?_
      refine k_iload_n (pc := 105) hC dX8_man_105 rfl 1 rfl ?_
      refine k_iadd (pc := 106) hC dX8_man_106 ?_
      refine m_iald (pc := 107) 47 ly_47 hM dX8_man_107 hE (fun x8 hE => ?_)
      exact k_iret (pc := 108) hC hR ⟨Nat.le_refl 0, Nat.le_refl 0⟩ dX8_man_108 (by cases hE; rfl) (by cases hE; exact fun _ h => h)
    refine sw_E hE (fun hx hE => ?_) (fun n5 hE => ?_)
    · refine k_tswI (pc := 11) (k := 5) (tgt := 109) hC dX8_man_11 hx (by decide) (by decide) rfl (by decide) ?_
      refine k_aload_n (pc := 109) hC dX8_man_109 rfl 0 rfl ?_
      refine gM_64 (pc := 110) hM dX8_man_110 ?_
      refine k_bipush (pc := 113) (v := 66) hC dX8_man_113 (by decide) ?_
      refine k_iload_n (pc := 115) hC dX8_man_115 rfl 1 rfl ?_
      refine k_iadd (pc := 116) hC dX8_man_116 ?_
      refine m_iald (pc := 117) 47 ly_47 hM dX8_man_117 hE (fun x9 hE => ?_)
      exact k_iret (pc := 118) hC hR ⟨Nat.le_refl 0, Nat.le_refl 0⟩ dX8_man_118 (by cases hE; rfl) (by cases hE; exact fun _ h => h)
    have z0 := sw_ne (z := 0) n0 rfl
    have z1 := sw_ne (z := 1) n1 rfl
    have z2 := sw_ne (z := 2) n2 rfl
    have z3 := sw_ne (z := 3) n3 rfl
    have z4 := sw_ne (z := 4) n4 rfl
    have z5 := sw_ne (z := 5) n5 rfl
    refine k_tswO (pc := 11) (tgt := 119) hC dX8_man_11 (by omega) (by decide) ?_
    refine k_iconst (pc := 119) (v := (-1)) hC dX8_man_119 (by decide) ?_
    exact k_iret (pc := 120) hC hR ⟨Nat.le_refl 0, Nat.le_refl 0⟩ dX8_man_120 (by cases hE; rfl) (by cases hE; exact fun _ h => h)
theorem ct_M_man (l : Launch) (D : Dd) (A : Nat → Prop) (th : Nat) (hA : ∀ (off : Nat) (kd : Kd), layM off = some kd → A (th + off)) (a1 : Int32) (a2 : Int32) (J : Ji) (K : Jl) (out : Int32) (hE : M_man J a1 a2 = some out) : Ct l yX8_man (ws_ yX8_man cX8_man 3 (some .int)) rmM_man vwCl arTy D A [.ref th, .int a1, .int a2] (RM D th J K) (RM D th J K) (some (.int out)) 0 0 := by
  refine Ct.of (by decide) (Nat.le_of_ble_eq_true rfl) rfl ?_
  intro X hl hrm hC hR hXA hnL _
  exact w_M_man ⟨hC, by unfold Ft; rw [hXA]; exact hA, hnL, hrm⟩ hR a1 a2 hE
abbrev rmM_isTool : Room := { frames := 1, cells := 0, slots := 0, locals := 22 }
set_option maxHeartbeats 4000000 in
theorem w_M_isTool {X : Ctx} {D : Dd} {th : Nat} {J : Ji} {K : Jl} {out : Int32} (hM : Mx X cX8_isTool D th 2 rmM_isTool) (hR : Rt X (some .boolean) (RM D th J K) (some (.int out)) 0 0) (a1 : Int32) (hE : M_isTool J a1 = some out) : Wk X 0 0 (RM D th J K) 0 [(0, .ref th), (1, .int a1)] [] := by
  have hC := hM.1
  have hnL := hM.2.2.1
  have hrm := hM.2.2.2
  unfold M_isTool at hE
  refine k_iload_n (pc := 0) hC dX8_isTool_0 rfl 1 rfl ?_
  refine k_iconst (pc := 1) (v := 0) hC dX8_isTool_1 (by decide) ?_
  refine k_aload_n (pc := 2) hC dX8_isTool_2 rfl 0 rfl ?_
  refine gM_30 (pc := 3) hM dX8_isTool_3 ?_
  refine k_aload_n (pc := 6) hC dX8_isTool_6 rfl 0 rfl ?_
  refine gM_18 (pc := 7) hM dX8_isTool_7 ?_
  refine m_iald (pc := 10) 17 ly_17 hM dX8_isTool_10 hE (fun x1 hE => ?_)
  refine k_iconst (pc := 11) (v := 1) hC dX8_isTool_11 (by decide) ?_
  refine k_isub (pc := 12) hC dX8_isTool_12 ?_
  refine m_callSI (pc := 13) (As := [.int a1, .int 0, .int (x1 - 1)]) (fun r => r) hC (cw_M_in hC hrm (Nat.le_of_ble_eq_true rfl) (Nat.le_of_ble_eq_true rfl)) rfl rfl (Nat.le_of_ble_eq_true rfl) ⟨Nat.zero_le _, Nat.zero_le _⟩ dX8_isTool_13 hE (fun r h => ct_M_in _ _ _ _ a1 0 (x1 - 1) r h) (fun r2 hE => ?_)
  obtain ⟨r3, hz, hE⟩ := ob_ hE
  obtain ⟨hz1, hz⟩ := bz_some hz
  rw [hz1]
  exact k_zret (pc := 16) hz hC hR ⟨Nat.le_refl 0, Nat.le_refl 0⟩ dX8_isTool_16 (by cases hE; rfl) (by cases hE; exact fun _ h => h)
theorem ct_M_isTool (l : Launch) (D : Dd) (A : Nat → Prop) (th : Nat) (hA : ∀ (off : Nat) (kd : Kd), layM off = some kd → A (th + off)) (a1 : Int32) (J : Ji) (K : Jl) (out : Int32) (hE : M_isTool J a1 = some out) : Ct l yX8_isTool (ws_ yX8_isTool cX8_isTool 2 (some .boolean)) rmM_isTool vwCl arTy D A [.ref th, .int a1] (RM D th J K) (RM D th J K) (some (.int out)) 0 0 := by
  refine Ct.of (by decide) (Nat.le_of_ble_eq_true rfl) rfl ?_
  intro X hl hrm hC hR hXA hnL _
  exact w_M_isTool ⟨hC, by unfold Ft; rw [hXA]; exact hA, hnL, hrm⟩ hR a1 hE
theorem cw_M_isTool {X : Ctx} {cc : ByteArray} {D : Dd} {th mL : Nat} {rm : Room} (hM : Mx X cc D th mL rm) (h1 : rmM_isTool.frames + 1 ≤ rm.frames) (h2 : 8 + (2 + 11) + rmM_isTool.locals ≤ rm.locals) : CallW X.2.2.2.1 X.2.2.2.2.1 X.2.2.2.2.2.2.1 RX8 RX8 449 yX8_isTool cX8_isTool 2 (some .boolean) (ws_ yX8_isTool cX8_isTool 2 (some .boolean)) rmM_isTool 0 0 1 := cwV 1 (cx_w hM.1) (lw_V q2008 q2010 qs91 q128 q2011) rfl rfl rfl (by decide +kernel) (by rw [hM.2.2.2]; exact ⟨h1, h2⟩)
abbrev rmM_tool : Room := { frames := 2, cells := 0, slots := 0, locals := 43 }
set_option maxHeartbeats 4000000 in
theorem w_M_tool {X : Ctx} {D : Dd} {th : Nat} {J : Ji} {K : Jl} {out : Int32} (hM : Mx X cX8_tool D th 2 rmM_tool) (hR : Rt X (some .int) (RM D th J K) (some (.int out)) 0 0) (a1 : Int32) (hE : M_tool J a1 = some out) : Wk X 0 0 (RM D th J K) 0 [(0, .ref th), (1, .int a1)] [] := by
  have hC := hM.1
  have hnL := hM.2.2.1
  have hrm := hM.2.2.2
  unfold M_tool at hE
  refine k_aload_n (pc := 0) hC dX8_tool_0 rfl 0 rfl ?_
  refine k_iload_n (pc := 1) hC dX8_tool_1 rfl 1 rfl ?_
  refine m_clI (pc := 2) (As := [.int a1]) hM (cw_M_isTool hM (Nat.le_of_ble_eq_true rfl) (Nat.le_of_ble_eq_true rfl)) rfl rfl (Nat.le_of_ble_eq_true rfl) dX8_tool_2 hE (fun r h => ct_M_isTool _ _ _ _ hM.2.1 a1 J K r h) (fun r1 hE => ?_)
  refine k_if_eq (pc := 5) (tgt := 20) hC dX8_tool_5 (by decide) hE (fun hE => ?_) (fun hE => ?_)
  · refine k_iconst (pc := 20) (v := (-1)) hC dX8_tool_20 (by decide) ?_
    exact k_iret (pc := 21) hC hR ⟨Nat.le_refl 0, Nat.le_refl 0⟩ dX8_tool_21 (by cases hE; rfl) (by cases hE; exact fun _ h => h)
  · refine k_aload_n (pc := 8) hC dX8_tool_8 rfl 0 rfl ?_
    refine gM_64 (pc := 9) hM dX8_tool_9 ?_
    refine k_bipush (pc := 12) (v := 72) hC dX8_tool_12 (by decide) ?_
    refine k_iload_n (pc := 14) hC dX8_tool_14 rfl 1 rfl ?_
    refine k_iadd (pc := 15) hC dX8_tool_15 ?_
    refine m_iald (pc := 16) 47 ly_47 hM dX8_tool_16 hE (fun x2 hE => ?_)
    refine k_goto (pc := 17) (tgt := 21) hC dX8_tool_17 (by decide) ?_
    exact k_iret (pc := 21) hC hR ⟨Nat.le_refl 0, Nat.le_refl 0⟩ dX8_tool_21 (by cases hE; rfl) (by cases hE; exact fun _ h => h)
theorem ct_M_tool (l : Launch) (D : Dd) (A : Nat → Prop) (th : Nat) (hA : ∀ (off : Nat) (kd : Kd), layM off = some kd → A (th + off)) (a1 : Int32) (J : Ji) (K : Jl) (out : Int32) (hE : M_tool J a1 = some out) : Ct l yX8_tool (ws_ yX8_tool cX8_tool 2 (some .int)) rmM_tool vwCl arTy D A [.ref th, .int a1] (RM D th J K) (RM D th J K) (some (.int out)) 0 0 := by
  refine Ct.of (by decide) (Nat.le_of_ble_eq_true rfl) rfl ?_
  intro X hl hrm hC hR hXA hnL _
  exact w_M_tool ⟨hC, by unfold Ft; rw [hXA]; exact hA, hnL, hrm⟩ hR a1 hE
abbrev rmM_fillsWays : Room := { frames := 0, cells := 0, slots := 0, locals := 0 }
set_option maxHeartbeats 4000000 in
theorem w_M_fillsWays_B31 {X : Ctx} {D : Dd} {th : Nat} {K : Jl} {out : Ji} (hM : Mx X cX8_fillsWays D th 5 rmM_fillsWays) (hR : Rt X none (RM D th out K) none 0 0) (F : Nat) (k2 : Int32 → Ji → Option (Ji)) (hk2 : ∀ (a1 : Int32) (J : Ji) , k2 a1 J = some out → Wk X 0 0 (RM D th J K) 2 [(0, .ref th), (1, .int a1)] []) (a1 : Int32) (s0 : Int32) (s1 : Int32) (J : Ji) (hE : M_fillsWays_B31 F k2 a1 s0 s1 J = some out) : Wk X 0 0 (RM D th J K) 31 [(0, .ref th), (1, .int a1)] [.int s0, .int s1, .ref (th + 49)] := by
  have hC := hM.1
  have hnL := hM.2.2.1
  have hrm := hM.2.2.2
  unfold M_fillsWays_B31 at hE
  refine m_iast (pc := 31) 49 ly_49 hM dX8_fillsWays_31 hE (fun J1 hE => ?_)
  refine k_iincE (pc := 32) (k := 1) (d := 1) (lv' := fun x2 => [(1, .int x2), (0, .ref th)]) hC dX8_fillsWays_32 rfl (by decide) (by rw [hnL]; decide) hE (fun _ => rfl) (fun x2 hE => ?_)
  refine k_goto (pc := 35) (tgt := 2) hC dX8_fillsWays_35 (by decide) ?_
  refine k_sub [1, 0] rfl ?_
  exact hk2 _ _ hE
set_option maxHeartbeats 4000000 in
theorem w_M_fillsWays_B186 {X : Ctx} {D : Dd} {th : Nat} {K : Jl} {out : Ji} (hM : Mx X cX8_fillsWays D th 5 rmM_fillsWays) (hR : Rt X none (RM D th out K) none 0 0) (F : Nat) (k170 : Int32 → Ji → Option (Ji)) (hk170 : ∀ (a1 : Int32) (J : Ji) , k170 a1 J = some out → Wk X 0 0 (RM D th J K) 170 [(0, .ref th), (1, .int a1)] []) (k178 : Int32 → Int32 → Ji → Option (Ji)) (hk178 : ∀ (a1 : Int32) (a2 : Int32) (J : Ji) , k178 a1 a2 J = some out → Wk X 0 0 (RM D th J K) 178 [(0, .ref th), (1, .int a1), (2, .int a2)] []) (k186 : Int32 → Int32 → Int32 → Ji → Option (Ji)) (hk186 : ∀ (a1 : Int32) (a2 : Int32) (a3 : Int32) (J : Ji) , k186 a1 a2 a3 J = some out → Wk X 0 0 (RM D th J K) 186 [(0, .ref th), (1, .int a1), (2, .int a2), (3, .int a3)] []) (a1 : Int32) (a2 : Int32) (a3 : Int32) (J : Ji) (hE : M_fillsWays_B186 F k170 k178 k186 a1 a2 a3 J = some out) : Wk X 0 0 (RM D th J K) 186 [(0, .ref th), (1, .int a1), (2, .int a2), (3, .int a3)] [] := by
  have hC := hM.1
  have hnL := hM.2.2.1
  have hrm := hM.2.2.2
  unfold M_fillsWays_B186 at hE
  refine k_iload_n (pc := 186) hC dX8_fillsWays_186 rfl 3 rfl ?_
  refine k_bipush (pc := 187) (v := 8) hC dX8_fillsWays_187 (by decide) ?_
  refine k_icmp_ge (pc := 189) (tgt := 269) hC dX8_fillsWays_189 (by decide) hE (fun hE => ?_) (fun hE => ?_)
  · refine k_iincE (pc := 269) (k := 2) (d := 1) (lv' := fun x15 => [(2, .int x15), (0, .ref th), (1, .int a1), (3, .int a3)]) hC dX8_fillsWays_269 rfl (by decide) (by rw [hnL]; decide) hE (fun _ => rfl) (fun x15 hE => ?_)
    refine k_goto (pc := 272) (tgt := 178) hC dX8_fillsWays_272 (by decide) ?_
    refine k_sub [1, 2, 0] rfl ?_
    exact hk178 _ _ _ hE
  · refine k_aload_n (pc := 192) hC dX8_fillsWays_192 rfl 0 rfl ?_
    refine gM_66 (pc := 193) hM dX8_fillsWays_193 ?_
    refine k_bipush (pc := 196) (v := 8) hC dX8_fillsWays_196 (by decide) ?_
    refine k_iload_n (pc := 198) hC dX8_fillsWays_198 rfl 2 rfl ?_
    refine k_imul (pc := 199) hC dX8_fillsWays_199 ?_
    refine k_iload_n (pc := 200) hC dX8_fillsWays_200 rfl 1 rfl ?_
    refine k_iadd (pc := 201) hC dX8_fillsWays_201 ?_
    refine m_iald (pc := 202) 49 ly_49 hM dX8_fillsWays_202 hE (fun x16 hE => ?_)
    refine k_aload_n (pc := 203) hC dX8_fillsWays_203 rfl 0 rfl ?_
    refine gM_66 (pc := 204) hM dX8_fillsWays_204 ?_
    refine k_bipush (pc := 207) (v := 8) hC dX8_fillsWays_207 (by decide) ?_
    refine k_iload_n (pc := 209) hC dX8_fillsWays_209 rfl 1 rfl ?_
    refine k_imul (pc := 210) hC dX8_fillsWays_210 ?_
    refine k_iload_n (pc := 211) hC dX8_fillsWays_211 rfl 3 rfl ?_
    refine k_iadd (pc := 212) hC dX8_fillsWays_212 ?_
    refine m_iald (pc := 213) 49 ly_49 hM dX8_fillsWays_213 hE (fun x17 hE => ?_)
    refine k_iadd (pc := 214) hC dX8_fillsWays_214 ?_
    refine k_aload_n (pc := 215) hC dX8_fillsWays_215 rfl 0 rfl ?_
    refine gM_66 (pc := 216) hM dX8_fillsWays_216 ?_
    refine k_bipush (pc := 219) (v := 8) hC dX8_fillsWays_219 (by decide) ?_
    refine k_iload_n (pc := 221) hC dX8_fillsWays_221 rfl 2 rfl ?_
    refine k_imul (pc := 222) hC dX8_fillsWays_222 ?_
    refine k_iload_n (pc := 223) hC dX8_fillsWays_223 rfl 3 rfl ?_
    refine k_iadd (pc := 224) hC dX8_fillsWays_224 ?_
    refine m_iald (pc := 225) 49 ly_49 hM dX8_fillsWays_225 hE (fun x18 hE => ?_)
    refine k_icmp_ge (pc := 226) (tgt := 263) hC dX8_fillsWays_226 (by decide) hE (fun hE => ?_) (fun hE => ?_)
    · refine k_iincE (pc := 263) (k := 3) (d := 1) (lv' := fun x19 => [(3, .int x19), (0, .ref th), (1, .int a1), (2, .int a2)]) hC dX8_fillsWays_263 rfl (by decide) (by rw [hnL]; decide) hE (fun _ => rfl) (fun x19 hE => ?_)
      refine k_goto (pc := 266) (tgt := 186) hC dX8_fillsWays_266 (by decide) ?_
      refine k_sub [1, 2, 3, 0] rfl ?_
      exact hk186 _ _ _ _ hE
    · refine k_aload_n (pc := 229) hC dX8_fillsWays_229 rfl 0 rfl ?_
      refine gM_66 (pc := 230) hM dX8_fillsWays_230 ?_
      refine k_bipush (pc := 233) (v := 8) hC dX8_fillsWays_233 (by decide) ?_
      refine k_iload_n (pc := 235) hC dX8_fillsWays_235 rfl 2 rfl ?_
      refine k_imul (pc := 236) hC dX8_fillsWays_236 ?_
      refine k_iload_n (pc := 237) hC dX8_fillsWays_237 rfl 3 rfl ?_
      refine k_iadd (pc := 238) hC dX8_fillsWays_238 ?_
      refine k_aload_n (pc := 239) hC dX8_fillsWays_239 rfl 0 rfl ?_
      refine gM_66 (pc := 240) hM dX8_fillsWays_240 ?_
      refine k_bipush (pc := 243) (v := 8) hC dX8_fillsWays_243 (by decide) ?_
      refine k_iload_n (pc := 245) hC dX8_fillsWays_245 rfl 2 rfl ?_
      refine k_imul (pc := 246) hC dX8_fillsWays_246 ?_
      refine k_iload_n (pc := 247) hC dX8_fillsWays_247 rfl 1 rfl ?_
      refine k_iadd (pc := 248) hC dX8_fillsWays_248 ?_
      refine m_iald (pc := 249) 49 ly_49 hM dX8_fillsWays_249 hE (fun x20 hE => ?_)
      refine k_aload_n (pc := 250) hC dX8_fillsWays_250 rfl 0 rfl ?_
      refine gM_66 (pc := 251) hM dX8_fillsWays_251 ?_
      refine k_bipush (pc := 254) (v := 8) hC dX8_fillsWays_254 (by decide) ?_
      refine k_iload_n (pc := 256) hC dX8_fillsWays_256 rfl 1 rfl ?_
      refine k_imul (pc := 257) hC dX8_fillsWays_257 ?_
      refine k_iload_n (pc := 258) hC dX8_fillsWays_258 rfl 3 rfl ?_
      refine k_iadd (pc := 259) hC dX8_fillsWays_259 ?_
      refine m_iald (pc := 260) 49 ly_49 hM dX8_fillsWays_260 hE (fun x21 hE => ?_)
      refine k_iadd (pc := 261) hC dX8_fillsWays_261 ?_
      refine m_iast (pc := 262) 49 ly_49 hM dX8_fillsWays_262 hE (fun J22 hE => ?_)
      refine k_iincE (pc := 263) (k := 3) (d := 1) (lv' := fun x23 => [(3, .int x23), (0, .ref th), (1, .int a1), (2, .int a2)]) hC dX8_fillsWays_263 rfl (by decide) (by rw [hnL]; decide) hE (fun _ => rfl) (fun x23 hE => ?_)
      refine k_goto (pc := 266) (tgt := 186) hC dX8_fillsWays_266 (by decide) ?_
      refine k_sub [1, 2, 3, 0] rfl ?_
      exact hk186 _ _ _ _ hE
theorem w_M_fillsWays_L186 {X : Ctx} {D : Dd} {th : Nat} {K : Jl} {out : Ji} (hM : Mx X cX8_fillsWays D th 5 rmM_fillsWays) (hR : Rt X none (RM D th out K) none 0 0) (F : Nat) (k170 : Int32 → Ji → Option (Ji)) (hk170 : ∀ (a1 : Int32) (J : Ji) , k170 a1 J = some out → Wk X 0 0 (RM D th J K) 170 [(0, .ref th), (1, .int a1)] []) (k178 : Int32 → Int32 → Ji → Option (Ji)) (hk178 : ∀ (a1 : Int32) (a2 : Int32) (J : Ji) , k178 a1 a2 J = some out → Wk X 0 0 (RM D th J K) 178 [(0, .ref th), (1, .int a1), (2, .int a2)] []) (n : Nat) : ∀ (a1 : Int32) (a2 : Int32) (a3 : Int32) (J : Ji) , M_fillsWays_L186 F k170 k178 n a1 a2 a3 J = some out → Wk X 0 0 (RM D th J K) 186 [(0, .ref th), (1, .int a1), (2, .int a2), (3, .int a3)] [] := by
  induction n with
  | zero => intro a1 a2 a3 J h; cases h
  | succ n ih => intro a1 a2 a3 J h; exact w_M_fillsWays_B186 hM hR F k170 hk170 k178 hk178 (M_fillsWays_L186 F k170 k178 n) ih a1 a2 a3 J h
set_option maxHeartbeats 4000000 in
theorem w_M_fillsWays_B178 {X : Ctx} {D : Dd} {th : Nat} {K : Jl} {out : Ji} (hM : Mx X cX8_fillsWays D th 5 rmM_fillsWays) (hR : Rt X none (RM D th out K) none 0 0) (F : Nat) (k170 : Int32 → Ji → Option (Ji)) (hk170 : ∀ (a1 : Int32) (J : Ji) , k170 a1 J = some out → Wk X 0 0 (RM D th J K) 170 [(0, .ref th), (1, .int a1)] []) (k178 : Int32 → Int32 → Ji → Option (Ji)) (hk178 : ∀ (a1 : Int32) (a2 : Int32) (J : Ji) , k178 a1 a2 J = some out → Wk X 0 0 (RM D th J K) 178 [(0, .ref th), (1, .int a1), (2, .int a2)] []) (a1 : Int32) (a2 : Int32) (J : Ji) (hE : M_fillsWays_B178 F k170 k178 a1 a2 J = some out) : Wk X 0 0 (RM D th J K) 178 [(0, .ref th), (1, .int a1), (2, .int a2)] [] := by
  have hC := hM.1
  have hnL := hM.2.2.1
  have hrm := hM.2.2.2
  unfold M_fillsWays_B178 at hE
  refine k_iload_n (pc := 178) hC dX8_fillsWays_178 rfl 2 rfl ?_
  refine k_bipush (pc := 179) (v := 8) hC dX8_fillsWays_179 (by decide) ?_
  refine k_icmp_ge (pc := 181) (tgt := 275) hC dX8_fillsWays_181 (by decide) hE (fun hE => ?_) (fun hE => ?_)
  · refine k_iincE (pc := 275) (k := 1) (d := 1) (lv' := fun x14 => [(1, .int x14), (0, .ref th), (2, .int a2)]) hC dX8_fillsWays_275 rfl (by decide) (by rw [hnL]; decide) hE (fun _ => rfl) (fun x14 hE => ?_)
    refine k_goto (pc := 278) (tgt := 170) hC dX8_fillsWays_278 (by decide) ?_
    refine k_sub [1, 0] rfl ?_
    exact hk170 _ _ hE
  · refine k_iconst (pc := 184) (v := 0) hC dX8_fillsWays_184 (by decide) ?_
    refine k_istore_n (pc := 185) (lv' := [(3, .int 0), (0, .ref th), (1, .int a1), (2, .int a2)]) hC dX8_fillsWays_185 rfl (by rw [hnL]; decide) rfl ?_
    refine k_sub [1, 2, 3, 0] rfl ?_
    exact w_M_fillsWays_L186 hM hR F k170 hk170 k178 hk178 _ _ _ _ _ hE
theorem w_M_fillsWays_L178 {X : Ctx} {D : Dd} {th : Nat} {K : Jl} {out : Ji} (hM : Mx X cX8_fillsWays D th 5 rmM_fillsWays) (hR : Rt X none (RM D th out K) none 0 0) (F : Nat) (k170 : Int32 → Ji → Option (Ji)) (hk170 : ∀ (a1 : Int32) (J : Ji) , k170 a1 J = some out → Wk X 0 0 (RM D th J K) 170 [(0, .ref th), (1, .int a1)] []) (n : Nat) : ∀ (a1 : Int32) (a2 : Int32) (J : Ji) , M_fillsWays_L178 F k170 n a1 a2 J = some out → Wk X 0 0 (RM D th J K) 178 [(0, .ref th), (1, .int a1), (2, .int a2)] [] := by
  induction n with
  | zero => intro a1 a2 J h; cases h
  | succ n ih => intro a1 a2 J h; exact w_M_fillsWays_B178 hM hR F k170 hk170 (M_fillsWays_L178 F k170 n) ih a1 a2 J h
set_option maxHeartbeats 4000000 in
theorem w_M_fillsWays_B170 {X : Ctx} {D : Dd} {th : Nat} {K : Jl} {out : Ji} (hM : Mx X cX8_fillsWays D th 5 rmM_fillsWays) (hR : Rt X none (RM D th out K) none 0 0) (F : Nat) (k170 : Int32 → Ji → Option (Ji)) (hk170 : ∀ (a1 : Int32) (J : Ji) , k170 a1 J = some out → Wk X 0 0 (RM D th J K) 170 [(0, .ref th), (1, .int a1)] []) (a1 : Int32) (J : Ji) (hE : M_fillsWays_B170 F k170 a1 J = some out) : Wk X 0 0 (RM D th J K) 170 [(0, .ref th), (1, .int a1)] [] := by
  have hC := hM.1
  have hnL := hM.2.2.1
  have hrm := hM.2.2.2
  unfold M_fillsWays_B170 at hE
  refine k_iload_n (pc := 170) hC dX8_fillsWays_170 rfl 1 rfl ?_
  refine k_bipush (pc := 171) (v := 8) hC dX8_fillsWays_171 (by decide) ?_
  refine k_icmp_ge (pc := 173) (tgt := 281) hC dX8_fillsWays_173 (by decide) hE (fun hE => ?_) (fun hE => ?_)
  · exact k_vret (pc := 281) hC hR ⟨Nat.le_refl 0, Nat.le_refl 0⟩ dX8_fillsWays_281 (by cases hE; rfl) (by cases hE; exact fun _ h => h)
  · refine k_iconst (pc := 176) (v := 0) hC dX8_fillsWays_176 (by decide) ?_
    refine k_istore_n (pc := 177) (lv' := [(2, .int 0), (0, .ref th), (1, .int a1)]) hC dX8_fillsWays_177 rfl (by rw [hnL]; decide) rfl ?_
    refine k_sub [1, 2, 0] rfl ?_
    exact w_M_fillsWays_L178 hM hR F k170 hk170 _ _ _ _ hE
theorem w_M_fillsWays_L170 {X : Ctx} {D : Dd} {th : Nat} {K : Jl} {out : Ji} (hM : Mx X cX8_fillsWays D th 5 rmM_fillsWays) (hR : Rt X none (RM D th out K) none 0 0) (F : Nat) (n : Nat) : ∀ (a1 : Int32) (J : Ji) , M_fillsWays_L170 F n a1 J = some out → Wk X 0 0 (RM D th J K) 170 [(0, .ref th), (1, .int a1)] [] := by
  induction n with
  | zero => intro a1 J h; cases h
  | succ n ih => intro a1 J h; exact w_M_fillsWays_B170 hM hR F (M_fillsWays_L170 F n) ih a1 J h
set_option maxHeartbeats 4000000 in
theorem w_M_fillsWays_B40 {X : Ctx} {D : Dd} {th : Nat} {K : Jl} {out : Ji} (hM : Mx X cX8_fillsWays D th 5 rmM_fillsWays) (hR : Rt X none (RM D th out K) none 0 0) (F : Nat) (k40 : Int32 → Ji → Option (Ji)) (hk40 : ∀ (a1 : Int32) (J : Ji) , k40 a1 J = some out → Wk X 0 0 (RM D th J K) 40 [(0, .ref th), (1, .int a1)] []) (a1 : Int32) (J : Ji) (hE : M_fillsWays_B40 F k40 a1 J = some out) : Wk X 0 0 (RM D th J K) 40 [(0, .ref th), (1, .int a1)] [] := by
  have hC := hM.1
  have hnL := hM.2.2.1
  have hrm := hM.2.2.2
  unfold M_fillsWays_B40 at hE
  refine k_iload_n (pc := 40) hC dX8_fillsWays_40 rfl 1 rfl ?_
  refine k_aload_n (pc := 41) hC dX8_fillsWays_41 rfl 0 rfl ?_
  refine gM_25 (pc := 42) hM dX8_fillsWays_42 ?_
  refine k_aload_n (pc := 45) hC dX8_fillsWays_45 rfl 0 rfl ?_
  refine gM_18 (pc := 46) hM dX8_fillsWays_46 ?_
  refine m_iald (pc := 49) 12 ly_12 hM dX8_fillsWays_49 hE (fun x3 hE => ?_)
  refine k_icmp_ge (pc := 50) (tgt := 168) hC dX8_fillsWays_50 (by decide) hE (fun hE => ?_) (fun hE => ?_)
  · refine k_iconst (pc := 168) (v := 0) hC dX8_fillsWays_168 (by decide) ?_
    refine k_istore_n (pc := 169) (lv' := [(1, .int 0), (0, .ref th)]) hC dX8_fillsWays_169 rfl (by rw [hnL]; decide) rfl ?_
    refine k_sub [1, 0] rfl ?_
    exact w_M_fillsWays_L170 hM hR F _ _ _ hE
  · refine k_aload_n (pc := 53) hC dX8_fillsWays_53 rfl 0 rfl ?_
    refine gM_65 (pc := 54) hM dX8_fillsWays_54 ?_
    refine k_bipush (pc := 57) (v := 78) hC dX8_fillsWays_57 (by decide) ?_
    refine m_iald (pc := 59) 48 ly_48 hM dX8_fillsWays_59 hE (fun x4 hE => ?_)
    refine k_iload_n (pc := 60) hC dX8_fillsWays_60 rfl 1 rfl ?_
    refine k_ishr (pc := 61) hC dX8_fillsWays_61 ?_
    refine k_iconst (pc := 62) (v := 1) hC dX8_fillsWays_62 (by decide) ?_
    refine k_iand (pc := 63) hC dX8_fillsWays_63 ?_
    refine k_iconst (pc := 64) (v := 1) hC dX8_fillsWays_64 (by decide) ?_
    refine k_icmp_ne (pc := 65) (tgt := 71) hC dX8_fillsWays_65 (by decide) hE (fun hE => ?_) (fun hE => ?_)
    · refine k_goto (pc := 68) (tgt := 162) hC dX8_fillsWays_68 (by decide) ?_
      refine k_iincE (pc := 162) (k := 1) (d := 1) (lv' := fun x5 => [(1, .int x5), (0, .ref th)]) hC dX8_fillsWays_162 rfl (by decide) (by rw [hnL]; decide) hE (fun _ => rfl) (fun x5 hE => ?_)
      refine k_goto (pc := 165) (tgt := 40) hC dX8_fillsWays_165 (by decide) ?_
      refine k_sub [1, 0] rfl ?_
      exact hk40 _ _ hE
    · refine k_aload_n (pc := 71) hC dX8_fillsWays_71 rfl 0 rfl ?_
      refine gM_26 (pc := 72) hM dX8_fillsWays_72 ?_
      refine k_bipush (pc := 75) (v := 12) hC dX8_fillsWays_75 (by decide) ?_
      refine k_aload_n (pc := 77) hC dX8_fillsWays_77 rfl 0 rfl ?_
      refine gM_18 (pc := 78) hM dX8_fillsWays_78 ?_
      refine k_imul (pc := 81) hC dX8_fillsWays_81 ?_
      refine k_iload_n (pc := 82) hC dX8_fillsWays_82 rfl 1 rfl ?_
      refine k_iadd (pc := 83) hC dX8_fillsWays_83 ?_
      refine m_iald (pc := 84) 13 ly_13 hM dX8_fillsWays_84 hE (fun x6 hE => ?_)
      refine k_istore_n (pc := 85) (lv' := [(2, .int x6), (0, .ref th), (1, .int a1)]) hC dX8_fillsWays_85 rfl (by rw [hnL]; decide) rfl ?_
      refine k_aload_n (pc := 86) hC dX8_fillsWays_86 rfl 1 rfl ?_
      refine gM_27 (pc := 87) hM dX8_fillsWays_87 ?_
      refine k_bipush (pc := 90) (v := 12) hC dX8_fillsWays_90 (by decide) ?_
      refine k_aload_n (pc := 92) hC dX8_fillsWays_92 rfl 1 rfl ?_
      refine gM_18 (pc := 93) hM dX8_fillsWays_93 ?_
      refine k_imul (pc := 96) hC dX8_fillsWays_96 ?_
      refine k_iload_n (pc := 97) hC dX8_fillsWays_97 rfl 2 rfl ?_
      refine k_iadd (pc := 98) hC dX8_fillsWays_98 ?_
      refine m_iald (pc := 99) 14 ly_14 hM dX8_fillsWays_99 hE (fun x7 hE => ?_)
      refine k_istore_n (pc := 100) (lv' := [(3, .int x7), (2, .int x6), (0, .ref th), (1, .int a1)]) hC dX8_fillsWays_100 rfl (by rw [hnL]; decide) rfl ?_
      refine k_aload_n (pc := 101) hC dX8_fillsWays_101 rfl 2 rfl ?_
      refine gM_28 (pc := 102) hM dX8_fillsWays_102 ?_
      refine k_bipush (pc := 105) (v := 12) hC dX8_fillsWays_105 (by decide) ?_
      refine k_aload_n (pc := 107) hC dX8_fillsWays_107 rfl 2 rfl ?_
      refine gM_18 (pc := 108) hM dX8_fillsWays_108 ?_
      refine k_imul (pc := 111) hC dX8_fillsWays_111 ?_
      refine k_iload_n (pc := 112) hC dX8_fillsWays_112 rfl 3 rfl ?_
      refine k_iadd (pc := 113) hC dX8_fillsWays_113 ?_
      refine m_iald (pc := 114) 15 ly_15 hM dX8_fillsWays_114 hE (fun x8 hE => ?_)
      refine k_istore (pc := 115) (lv' := [(4, .int x8), (3, .int x7), (2, .int x6), (0, .ref th), (1, .int a1)]) hC dX8_fillsWays_115 (by rw [hnL]; decide) rfl ?_
      refine k_iload (pc := 117) hC dX8_fillsWays_117 0 rfl ?_
      refine k_aload_n (pc := 119) hC dX8_fillsWays_119 rfl 3 rfl ?_
      refine gM_66 (pc := 120) hM dX8_fillsWays_120 ?_
      refine k_bipush (pc := 123) (v := 8) hC dX8_fillsWays_123 (by decide) ?_
      refine k_iload_n (pc := 125) hC dX8_fillsWays_125 rfl 2 rfl ?_
      refine k_imul (pc := 126) hC dX8_fillsWays_126 ?_
      refine k_iload_n (pc := 127) hC dX8_fillsWays_127 rfl 1 rfl ?_
      refine k_iadd (pc := 128) hC dX8_fillsWays_128 ?_
      refine m_iald (pc := 129) 49 ly_49 hM dX8_fillsWays_129 hE (fun x9 hE => ?_)
      refine k_icmp_lt (pc := 130) (tgt := 136) hC dX8_fillsWays_130 (by decide) hE (fun hE => ?_) (fun hE => ?_)
      · refine k_aload_n (pc := 136) hC dX8_fillsWays_136 rfl 3 rfl ?_
        refine gM_66 (pc := 137) hM dX8_fillsWays_137 ?_
        refine k_bipush (pc := 140) (v := 8) hC dX8_fillsWays_140 (by decide) ?_
        refine k_iload_n (pc := 142) hC dX8_fillsWays_142 rfl 2 rfl ?_
        refine k_imul (pc := 143) hC dX8_fillsWays_143 ?_
        refine k_iload_n (pc := 144) hC dX8_fillsWays_144 rfl 1 rfl ?_
        refine k_iadd (pc := 145) hC dX8_fillsWays_145 ?_
        refine k_iload (pc := 146) hC dX8_fillsWays_146 0 rfl ?_
        refine m_iast (pc := 148) 49 ly_49 hM dX8_fillsWays_148 hE (fun J10 hE => ?_)
        refine k_aload_n (pc := 149) hC dX8_fillsWays_149 rfl 3 rfl ?_
        refine gM_66 (pc := 150) hM dX8_fillsWays_150 ?_
        refine k_bipush (pc := 153) (v := 8) hC dX8_fillsWays_153 (by decide) ?_
        refine k_iload_n (pc := 155) hC dX8_fillsWays_155 rfl 1 rfl ?_
        refine k_imul (pc := 156) hC dX8_fillsWays_156 ?_
        refine k_iload_n (pc := 157) hC dX8_fillsWays_157 rfl 2 rfl ?_
        refine k_iadd (pc := 158) hC dX8_fillsWays_158 ?_
        refine k_iload (pc := 159) hC dX8_fillsWays_159 0 rfl ?_
        refine m_iast (pc := 161) 49 ly_49 hM dX8_fillsWays_161 hE (fun J11 hE => ?_)
        refine k_iincE (pc := 162) (k := 4) (d := 1) (lv' := fun x12 => [(1, .int x12), (4, .int x8), (3, .int x7), (2, .int x6), (0, .ref th)]) hC dX8_fillsWays_162 rfl (by decide) (by rw [hnL]; decide) hE (fun _ => rfl) (fun x12 hE => ?_)
        refine k_goto (pc := 165) (tgt := 40) hC dX8_fillsWays_165 (by decide) ?_
        refine k_sub [4, 0] rfl ?_
        exact hk40 _ _ hE
      · refine k_goto (pc := 133) (tgt := 162) hC dX8_fillsWays_133 (by decide) ?_
        refine k_iincE (pc := 162) (k := 4) (d := 1) (lv' := fun x13 => [(1, .int x13), (4, .int x8), (3, .int x7), (2, .int x6), (0, .ref th)]) hC dX8_fillsWays_162 rfl (by decide) (by rw [hnL]; decide) hE (fun _ => rfl) (fun x13 hE => ?_)
        refine k_goto (pc := 165) (tgt := 40) hC dX8_fillsWays_165 (by decide) ?_
        refine k_sub [4, 0] rfl ?_
        exact hk40 _ _ hE
theorem w_M_fillsWays_L40 {X : Ctx} {D : Dd} {th : Nat} {K : Jl} {out : Ji} (hM : Mx X cX8_fillsWays D th 5 rmM_fillsWays) (hR : Rt X none (RM D th out K) none 0 0) (F : Nat) (n : Nat) : ∀ (a1 : Int32) (J : Ji) , M_fillsWays_L40 F n a1 J = some out → Wk X 0 0 (RM D th J K) 40 [(0, .ref th), (1, .int a1)] [] := by
  induction n with
  | zero => intro a1 J h; cases h
  | succ n ih => intro a1 J h; exact w_M_fillsWays_B40 hM hR F (M_fillsWays_L40 F n) ih a1 J h
set_option maxHeartbeats 4000000 in
theorem w_M_fillsWays_B2 {X : Ctx} {D : Dd} {th : Nat} {K : Jl} {out : Ji} (hM : Mx X cX8_fillsWays D th 5 rmM_fillsWays) (hR : Rt X none (RM D th out K) none 0 0) (F : Nat) (k2 : Int32 → Ji → Option (Ji)) (hk2 : ∀ (a1 : Int32) (J : Ji) , k2 a1 J = some out → Wk X 0 0 (RM D th J K) 2 [(0, .ref th), (1, .int a1)] []) (a1 : Int32) (J : Ji) (hE : M_fillsWays_B2 F k2 a1 J = some out) : Wk X 0 0 (RM D th J K) 2 [(0, .ref th), (1, .int a1)] [] := by
  have hC := hM.1
  have hnL := hM.2.2.1
  have hrm := hM.2.2.2
  unfold M_fillsWays_B2 at hE
  refine k_iload_n (pc := 2) hC dX8_fillsWays_2 rfl 1 rfl ?_
  refine k_bipush (pc := 3) (v := 64) hC dX8_fillsWays_3 (by decide) ?_
  refine k_icmp_ge (pc := 5) (tgt := 38) hC dX8_fillsWays_5 (by decide) hE (fun hE => ?_) (fun hE => ?_)
  · refine k_iconst (pc := 38) (v := 0) hC dX8_fillsWays_38 (by decide) ?_
    refine k_istore_n (pc := 39) (lv' := [(1, .int 0), (0, .ref th)]) hC dX8_fillsWays_39 rfl (by rw [hnL]; decide) rfl ?_
    refine k_sub [1, 0] rfl ?_
    exact w_M_fillsWays_L40 hM hR F _ _ _ hE
  · refine k_aload_n (pc := 8) hC dX8_fillsWays_8 rfl 0 rfl ?_
    refine gM_66 (pc := 9) hM dX8_fillsWays_9 ?_
    refine k_iload_n (pc := 12) hC dX8_fillsWays_12 rfl 1 rfl ?_
    refine k_iload_n (pc := 13) hC dX8_fillsWays_13 rfl 1 rfl ?_
    refine k_bipush (pc := 14) (v := 8) hC dX8_fillsWays_14 (by decide) ?_
    refine k_idivK (pc := 16) hC dX8_fillsWays_16 (by decide) ?_
    refine k_iload_n (pc := 17) hC dX8_fillsWays_17 rfl 1 rfl ?_
    refine k_bipush (pc := 18) (v := 8) hC dX8_fillsWays_18 (by decide) ?_
    refine k_iremK (pc := 20) hC dX8_fillsWays_20 (by decide) ?_
    refine k_icmp_ne (pc := 21) (tgt := 28) hC dX8_fillsWays_21 (by decide) hE (fun hE => ?_) (fun hE => ?_)
    · refine k_iconst (pc := 24) (v := 0) hC dX8_fillsWays_24 (by decide) ?_
      refine k_goto (pc := 25) (tgt := 31) hC dX8_fillsWays_25 (by decide) ?_
      exact w_M_fillsWays_B31 hM hR F k2 hk2 _ _ _ _ hE
    · refine k_ldcw (pc := 28) (v := 1000000) hC q2024 dX8_fillsWays_28 ?_
      exact w_M_fillsWays_B31 hM hR F k2 hk2 _ _ _ _ hE
theorem w_M_fillsWays_L2 {X : Ctx} {D : Dd} {th : Nat} {K : Jl} {out : Ji} (hM : Mx X cX8_fillsWays D th 5 rmM_fillsWays) (hR : Rt X none (RM D th out K) none 0 0) (F : Nat) (n : Nat) : ∀ (a1 : Int32) (J : Ji) , M_fillsWays_L2 F n a1 J = some out → Wk X 0 0 (RM D th J K) 2 [(0, .ref th), (1, .int a1)] [] := by
  induction n with
  | zero => intro a1 J h; cases h
  | succ n ih => intro a1 J h; exact w_M_fillsWays_B2 hM hR F (M_fillsWays_L2 F n) ih a1 J h
set_option maxHeartbeats 4000000 in
theorem w_M_fillsWays {X : Ctx} {D : Dd} {th : Nat} {K : Jl} {out : Ji} (hM : Mx X cX8_fillsWays D th 5 rmM_fillsWays) (hR : Rt X none (RM D th out K) none 0 0) (F : Nat) (J : Ji) (hE : M_fillsWays F J = some out) : Wk X 0 0 (RM D th J K) 0 [(0, .ref th)] [] := by
  have hC := hM.1
  have hnL := hM.2.2.1
  have hrm := hM.2.2.2
  unfold M_fillsWays at hE
  refine k_iconst (pc := 0) (v := 0) hC dX8_fillsWays_0 (by decide) ?_
  refine k_istore_n (pc := 1) (lv' := [(1, .int 0), (0, .ref th)]) hC dX8_fillsWays_1 rfl (by rw [hnL]; decide) rfl ?_
  refine k_sub [1, 0] rfl ?_
  exact w_M_fillsWays_L2 hM hR F _ _ _ hE
theorem ct_M_fillsWays (l : Launch) (D : Dd) (A : Nat → Prop) (th : Nat) (hA : ∀ (off : Nat) (kd : Kd), layM off = some kd → A (th + off)) (F : Nat) (J : Ji) (K : Jl) (out : Ji) (hE : M_fillsWays F J = some out) : Ct l yX8_fillsWays (ws_ yX8_fillsWays cX8_fillsWays 5 none) rmM_fillsWays vwCl arTy D A [.ref th] (RM D th J K) (RM D th out K) none 0 0 := by
  refine Ct.of (by decide) (Nat.le_of_ble_eq_true rfl) rfl ?_
  intro X hl hrm hC hR hXA hnL _
  exact w_M_fillsWays ⟨hC, by unfold Ft; rw [hXA]; exact hA, hnL, hrm⟩ hR F J hE
theorem cw_M_fillsWays {X : Ctx} {cc : ByteArray} {D : Dd} {th mL : Nat} {rm : Room} (hM : Mx X cc D th mL rm) (h1 : rmM_fillsWays.frames + 1 ≤ rm.frames) (h2 : 8 + (5 + 11) + rmM_fillsWays.locals ≤ rm.locals) : CallW X.2.2.2.1 X.2.2.2.2.1 X.2.2.2.2.2.2.1 RX8 RX8 419 yX8_fillsWays cX8_fillsWays 5 none (ws_ yX8_fillsWays cX8_fillsWays 5 none) rmM_fillsWays 0 0 0 := cwV 0 (cx_w hM.1) (lw_V q2020 q2022 qs93 q128 q2023) rfl rfl rfl (by decide +kernel) (by rw [hM.2.2.2]; exact ⟨h1, h2⟩)
abbrev rmM_isRoom : Room := { frames := 1, cells := 0, slots := 0, locals := 22 }
set_option maxHeartbeats 4000000 in
theorem w_M_isRoom {X : Ctx} {D : Dd} {th : Nat} {J : Ji} {K : Jl} {out : Int32} (hM : Mx X cX8_isRoom D th 2 rmM_isRoom) (hR : Rt X (some .boolean) (RM D th J K) (some (.int out)) 0 0) (a1 : Int32) (hE : M_isRoom J a1 = some out) : Wk X 0 0 (RM D th J K) 0 [(0, .ref th), (1, .int a1)] [] := by
  have hC := hM.1
  have hnL := hM.2.2.1
  have hrm := hM.2.2.2
  unfold M_isRoom at hE
  refine k_iload_n (pc := 0) hC dX8_isRoom_0 rfl 1 rfl ?_
  refine k_iconst (pc := 1) (v := 0) hC dX8_isRoom_1 (by decide) ?_
  refine k_aload_n (pc := 2) hC dX8_isRoom_2 rfl 0 rfl ?_
  refine gM_24 (pc := 3) hM dX8_isRoom_3 ?_
  refine k_aload_n (pc := 6) hC dX8_isRoom_6 rfl 0 rfl ?_
  refine gM_18 (pc := 7) hM dX8_isRoom_7 ?_
  refine m_iald (pc := 10) 11 ly_11 hM dX8_isRoom_10 hE (fun x1 hE => ?_)
  refine k_iconst (pc := 11) (v := 1) hC dX8_isRoom_11 (by decide) ?_
  refine k_isub (pc := 12) hC dX8_isRoom_12 ?_
  refine m_callSI (pc := 13) (As := [.int a1, .int 0, .int (x1 - 1)]) (fun r => r) hC (cw_M_in hC hrm (Nat.le_of_ble_eq_true rfl) (Nat.le_of_ble_eq_true rfl)) rfl rfl (Nat.le_of_ble_eq_true rfl) ⟨Nat.zero_le _, Nat.zero_le _⟩ dX8_isRoom_13 hE (fun r h => ct_M_in _ _ _ _ a1 0 (x1 - 1) r h) (fun r2 hE => ?_)
  obtain ⟨r3, hz, hE⟩ := ob_ hE
  obtain ⟨hz1, hz⟩ := bz_some hz
  rw [hz1]
  exact k_zret (pc := 16) hz hC hR ⟨Nat.le_refl 0, Nat.le_refl 0⟩ dX8_isRoom_16 (by cases hE; rfl) (by cases hE; exact fun _ h => h)
theorem ct_M_isRoom (l : Launch) (D : Dd) (A : Nat → Prop) (th : Nat) (hA : ∀ (off : Nat) (kd : Kd), layM off = some kd → A (th + off)) (a1 : Int32) (J : Ji) (K : Jl) (out : Int32) (hE : M_isRoom J a1 = some out) : Ct l yX8_isRoom (ws_ yX8_isRoom cX8_isRoom 2 (some .boolean)) rmM_isRoom vwCl arTy D A [.ref th, .int a1] (RM D th J K) (RM D th J K) (some (.int out)) 0 0 := by
  refine Ct.of (by decide) (Nat.le_of_ble_eq_true rfl) rfl ?_
  intro X hl hrm hC hR hXA hnL _
  exact w_M_isRoom ⟨hC, by unfold Ft; rw [hXA]; exact hA, hnL, hrm⟩ hR a1 hE
theorem cw_M_isRoom {X : Ctx} {cc : ByteArray} {D : Dd} {th mL : Nat} {rm : Room} (hM : Mx X cc D th mL rm) (h1 : rmM_isRoom.frames + 1 ≤ rm.frames) (h2 : 8 + (2 + 11) + rmM_isRoom.locals ≤ rm.locals) : CallW X.2.2.2.1 X.2.2.2.2.1 X.2.2.2.2.2.2.1 RX8 RX8 452 yX8_isRoom cX8_isRoom 2 (some .boolean) (ws_ yX8_isRoom cX8_isRoom 2 (some .boolean)) rmM_isRoom 0 0 1 := cwV 1 (cx_w hM.1) (lw_V q2016 q2018 qs92 q128 q2019) rfl rfl rfl (by decide +kernel) (by rw [hM.2.2.2]; exact ⟨h1, h2⟩)
abbrev rmM_way : Room := { frames := 2, cells := 0, slots := 0, locals := 43 }
set_option maxHeartbeats 4000000 in
theorem w_M_way {X : Ctx} {D : Dd} {th : Nat} {K : Jl} {out : Int32 × Ji} (hM : Mx X cX8_way D th 3 rmM_way) (hR : Rt X (some .int) (RM D th out.2 K) (some (.int out.1)) 0 0) (F : Nat) (a1 : Int32) (a2 : Int32) (J : Ji) (hE : M_way F a1 a2 J = some out) : Wk X 0 0 (RM D th J K) 0 [(0, .ref th), (1, .int a1), (2, .int a2)] [] := by
  have hC := hM.1
  have hnL := hM.2.2.1
  have hrm := hM.2.2.2
  unfold M_way at hE
  refine k_aload_n (pc := 0) hC dX8_way_0 rfl 0 rfl ?_
  refine k_iload_n (pc := 1) hC dX8_way_1 rfl 1 rfl ?_
  refine m_clI (pc := 2) (As := [.int a1]) hM (cw_M_isRoom hM (Nat.le_of_ble_eq_true rfl) (Nat.le_of_ble_eq_true rfl)) rfl rfl (Nat.le_of_ble_eq_true rfl) dX8_way_2 hE (fun r h => ct_M_isRoom _ _ _ _ hM.2.1 a1 J K r h) (fun r1 hE => ?_)
  refine k_if_eq (pc := 5) (tgt := 16) hC dX8_way_5 (by decide) hE (fun hE => ?_) (fun hE => ?_)
  · refine k_iconst (pc := 16) (v := (-1)) hC dX8_way_16 (by decide) ?_
    exact k_iret (pc := 17) hC hR ⟨Nat.le_refl 0, Nat.le_refl 0⟩ dX8_way_17 (by cases hE; rfl) (by cases hE; exact fun _ h => h)
  · refine k_aload_n (pc := 8) hC dX8_way_8 rfl 0 rfl ?_
    refine k_iload_n (pc := 9) hC dX8_way_9 rfl 2 rfl ?_
    refine m_clI (pc := 10) (As := [.int a2]) hM (cw_M_isRoom hM (Nat.le_of_ble_eq_true rfl) (Nat.le_of_ble_eq_true rfl)) rfl rfl (Nat.le_of_ble_eq_true rfl) dX8_way_10 hE (fun r h => ct_M_isRoom _ _ _ _ hM.2.1 a2 J K r h) (fun r2 hE => ?_)
    refine k_if_ne (pc := 13) (tgt := 18) hC dX8_way_13 (by decide) hE (fun hE => ?_) (fun hE => ?_)
    · refine k_iconst (pc := 16) (v := (-1)) hC dX8_way_16 (by decide) ?_
      exact k_iret (pc := 17) hC hR ⟨Nat.le_refl 0, Nat.le_refl 0⟩ dX8_way_17 (by cases hE; rfl) (by cases hE; exact fun _ h => h)
    · refine k_aload_n (pc := 18) hC dX8_way_18 rfl 0 rfl ?_
      refine m_clVj (pc := 19) (As := []) hM (cw_M_takes hM (Nat.le_of_ble_eq_true rfl) (Nat.le_of_ble_eq_true rfl)) rfl rfl (Nat.le_of_ble_eq_true rfl) dX8_way_19 hE (fun r h => ct_M_takes _ _ _ _ hM.2.1 F J K r h) (fun r3 hE => ?_)
      refine k_aload_n (pc := 22) hC dX8_way_22 rfl 0 rfl ?_
      refine m_clVj (pc := 23) (As := []) hM (cw_M_fillsWays hM (Nat.le_of_ble_eq_true rfl) (Nat.le_of_ble_eq_true rfl)) rfl rfl (Nat.le_of_ble_eq_true rfl) dX8_way_23 hE (fun r h => ct_M_fillsWays _ _ _ _ hM.2.1 F r3 K r h) (fun r4 hE => ?_)
      refine k_aload_n (pc := 26) hC dX8_way_26 rfl 0 rfl ?_
      refine gM_66 (pc := 27) hM dX8_way_27 ?_
      refine k_bipush (pc := 30) (v := 8) hC dX8_way_30 (by decide) ?_
      refine k_iload_n (pc := 32) hC dX8_way_32 rfl 1 rfl ?_
      refine k_imul (pc := 33) hC dX8_way_33 ?_
      refine k_iload_n (pc := 34) hC dX8_way_34 rfl 2 rfl ?_
      refine k_iadd (pc := 35) hC dX8_way_35 ?_
      refine m_iald (pc := 36) 49 ly_49 hM dX8_way_36 hE (fun x5 hE => ?_)
      refine k_ldcw (pc := 37) (v := 1000000) hC q2024 dX8_way_37 ?_
      refine k_icmp_ne (pc := 40) (tgt := 48) hC dX8_way_40 (by decide) hE (fun hE => ?_) (fun hE => ?_)
      · refine k_bipush (pc := 43) (v := (-2)) hC dX8_way_43 (by decide) ?_
        refine k_goto (pc := 45) (tgt := 59) hC dX8_way_45 (by decide) ?_
        exact k_iret (pc := 59) hC hR ⟨Nat.le_refl 0, Nat.le_refl 0⟩ dX8_way_59 (by cases hE; rfl) (by cases hE; exact fun _ h => h)
      · refine k_aload_n (pc := 48) hC dX8_way_48 rfl 0 rfl ?_
        refine gM_66 (pc := 49) hM dX8_way_49 ?_
        refine k_bipush (pc := 52) (v := 8) hC dX8_way_52 (by decide) ?_
        refine k_iload_n (pc := 54) hC dX8_way_54 rfl 1 rfl ?_
        refine k_imul (pc := 55) hC dX8_way_55 ?_
        refine k_iload_n (pc := 56) hC dX8_way_56 rfl 2 rfl ?_
        refine k_iadd (pc := 57) hC dX8_way_57 ?_
        refine m_iald (pc := 58) 49 ly_49 hM dX8_way_58 hE (fun x6 hE => ?_)
        exact k_iret (pc := 59) hC hR ⟨Nat.le_refl 0, Nat.le_refl 0⟩ dX8_way_59 (by cases hE; rfl) (by cases hE; exact fun _ h => h)
theorem ct_M_way (l : Launch) (D : Dd) (A : Nat → Prop) (th : Nat) (hA : ∀ (off : Nat) (kd : Kd), layM off = some kd → A (th + off)) (F : Nat) (a1 : Int32) (a2 : Int32) (J : Ji) (K : Jl) (out : Int32 × Ji) (hE : M_way F a1 a2 J = some out) : Ct l yX8_way (ws_ yX8_way cX8_way 3 (some .int)) rmM_way vwCl arTy D A [.ref th, .int a1, .int a2] (RM D th J K) (RM D th out.2 K) (some (.int out.1)) 0 0 := by
  refine Ct.of (by decide) (Nat.le_of_ble_eq_true rfl) rfl ?_
  intro X hl hrm hC hR hXA hnL _
  exact w_M_way ⟨hC, by unfold Ft; rw [hXA]; exact hA, hnL, hrm⟩ hR F a1 a2 J hE
abbrev rmM_isLeft : Room := { frames := 3, cells := 0, slots := 0, locals := 65 }
set_option maxHeartbeats 4000000 in
theorem w_M_isLeft_B10 {X : Ctx} {D : Dd} {th : Nat} {J : Ji} {K : Jl} {out : Int32} (hM : Mx X cX8_isLeft D th 3 rmM_isLeft) (hR : Rt X (some .boolean) (RM D th J K) (some (.int out)) 0 0) (a1 : Int32) (a2 : Int32) (hE : M_isLeft_B10 J a1 a2 = some out) : Wk X 0 0 (RM D th J K) 10 [(0, .ref th), (1, .int a1), (2, .int a2)] [] := by
  have hC := hM.1
  have hnL := hM.2.2.1
  have hrm := hM.2.2.2
  unfold M_isLeft_B10 at hE
  refine k_aload_n (pc := 10) hC dX8_isLeft_10 rfl 0 rfl ?_
  refine k_iload_n (pc := 11) hC dX8_isLeft_11 rfl 1 rfl ?_
  refine k_iload_n (pc := 12) hC dX8_isLeft_12 rfl 2 rfl ?_
  refine m_clI (pc := 13) (As := [.int a1, .int a2]) hM (cw_M_isStep hM (Nat.le_of_ble_eq_true rfl) (Nat.le_of_ble_eq_true rfl)) rfl rfl (Nat.le_of_ble_eq_true rfl) dX8_isLeft_13 hE (fun r h => ct_M_isStep _ _ _ _ hM.2.1 a1 a2 J K r h) (fun r1 hE => ?_)
  refine k_if_eq (pc := 16) (tgt := 23) hC dX8_isLeft_16 (by decide) hE (fun hE => ?_) (fun hE => ?_)
  · refine k_iconst (pc := 23) (v := 0) hC dX8_isLeft_23 (by decide) ?_
    exact k_zret (pc := 24) (by decide) hC hR ⟨Nat.le_refl 0, Nat.le_refl 0⟩ dX8_isLeft_24 (by cases hE; rfl) (by cases hE; exact fun _ h => h)
  · refine k_iconst (pc := 19) (v := 1) hC dX8_isLeft_19 (by decide) ?_
    refine k_goto (pc := 20) (tgt := 24) hC dX8_isLeft_20 (by decide) ?_
    exact k_zret (pc := 24) (by decide) hC hR ⟨Nat.le_refl 0, Nat.le_refl 0⟩ dX8_isLeft_24 (by cases hE; rfl) (by cases hE; exact fun _ h => h)
set_option maxHeartbeats 4000000 in
theorem w_M_isLeft {X : Ctx} {D : Dd} {th : Nat} {J : Ji} {K : Jl} {out : Int32} (hM : Mx X cX8_isLeft D th 3 rmM_isLeft) (hR : Rt X (some .boolean) (RM D th J K) (some (.int out)) 0 0) (a1 : Int32) (a2 : Int32) (hE : M_isLeft J a1 a2 = some out) : Wk X 0 0 (RM D th J K) 0 [(0, .ref th), (1, .int a1), (2, .int a2)] [] := by
  have hC := hM.1
  have hnL := hM.2.2.1
  have hrm := hM.2.2.2
  unfold M_isLeft at hE
  refine k_iload_n (pc := 0) hC dX8_isLeft_0 rfl 1 rfl ?_
  refine k_iconst (pc := 1) (v := (-1)) hC dX8_isLeft_1 (by decide) ?_
  refine k_icmp_ne (pc := 2) (tgt := 10) hC dX8_isLeft_2 (by decide) hE (fun hE => ?_) (fun hE => ?_)
  · refine k_iload_n (pc := 5) hC dX8_isLeft_5 rfl 2 rfl ?_
    refine k_iconst (pc := 6) (v := (-1)) hC dX8_isLeft_6 (by decide) ?_
    refine k_icmp_eq (pc := 7) (tgt := 19) hC dX8_isLeft_7 (by decide) hE (fun hE => ?_) (fun hE => ?_)
    · refine k_iconst (pc := 19) (v := 1) hC dX8_isLeft_19 (by decide) ?_
      refine k_goto (pc := 20) (tgt := 24) hC dX8_isLeft_20 (by decide) ?_
      exact k_zret (pc := 24) (by decide) hC hR ⟨Nat.le_refl 0, Nat.le_refl 0⟩ dX8_isLeft_24 (by cases hE; rfl) (by cases hE; exact fun _ h => h)
    · exact w_M_isLeft_B10 hM hR  _ _ hE
  · exact w_M_isLeft_B10 hM hR  _ _ hE
theorem ct_M_isLeft (l : Launch) (D : Dd) (A : Nat → Prop) (th : Nat) (hA : ∀ (off : Nat) (kd : Kd), layM off = some kd → A (th + off)) (a1 : Int32) (a2 : Int32) (J : Ji) (K : Jl) (out : Int32) (hE : M_isLeft J a1 a2 = some out) : Ct l yX8_isLeft (ws_ yX8_isLeft cX8_isLeft 3 (some .boolean)) rmM_isLeft vwCl arTy D A [.ref th, .int a1, .int a2] (RM D th J K) (RM D th J K) (some (.int out)) 0 0 := by
  refine Ct.of (by decide) (Nat.le_of_ble_eq_true rfl) rfl ?_
  intro X hl hrm hC hR hXA hnL _
  exact w_M_isLeft ⟨hC, by unfold Ft; rw [hXA]; exact hA, hnL, hrm⟩ hR a1 a2 hE
theorem cw_M_isLeft {X : Ctx} {cc : ByteArray} {D : Dd} {th mL : Nat} {rm : Room} (hM : Mx X cc D th mL rm) (h1 : rmM_isLeft.frames + 1 ≤ rm.frames) (h2 : 8 + (3 + 11) + rmM_isLeft.locals ≤ rm.locals) : CallW X.2.2.2.1 X.2.2.2.2.1 X.2.2.2.2.2.2.1 RX8 RX8 455 yX8_isLeft cX8_isLeft 3 (some .boolean) (ws_ yX8_isLeft cX8_isLeft 3 (some .boolean)) rmM_isLeft 0 0 2 := cwV 2 (cx_w hM.1) (lw_V q2029 q2031 qs94 q128 q2032) rfl rfl rfl (by decide +kernel) (by rw [hM.2.2.2]; exact ⟨h1, h2⟩)
abbrev rmM_leave : Room := { frames := 4, cells := 0, slots := 0, locals := 87 }
set_option maxHeartbeats 4000000 in
theorem w_M_leave {X : Ctx} {D : Dd} {th : Nat} {K : Jl} {out : Int32 × Ji} (hM : Mx X cX8_leave D th 4 rmM_leave) (hR : Rt X (some .boolean) (RM D th out.2 K) (some (.int out.1)) 0 0) (a1 : Int32) (a2 : Int32) (a3 : Int32) (J : Ji) (hE : M_leave a1 a2 a3 J = some out) : Wk X 0 0 (RM D th J K) 0 [(0, .ref th), (1, .int a1), (2, .int a2), (3, .int a3)] [] := by
  have hC := hM.1
  have hnL := hM.2.2.1
  have hrm := hM.2.2.2
  unfold M_leave at hE
  refine k_aload_n (pc := 0) hC dX8_leave_0 rfl 0 rfl ?_
  refine k_iload_n (pc := 1) hC dX8_leave_1 rfl 1 rfl ?_
  refine m_clI (pc := 2) (As := [.int a1]) hM (cw_M_isMan hM (Nat.le_of_ble_eq_true rfl) (Nat.le_of_ble_eq_true rfl)) rfl rfl (Nat.le_of_ble_eq_true rfl) dX8_leave_2 hE (fun r h => ct_M_isMan _ _ _ _ hM.2.1 a1 J K r h) (fun r1 hE => ?_)
  refine k_if_eq (pc := 5) (tgt := 17) hC dX8_leave_5 (by decide) hE (fun hE => ?_) (fun hE => ?_)
  · refine k_iconst (pc := 17) (v := 0) hC dX8_leave_17 (by decide) ?_
    exact k_zret (pc := 18) (by decide) hC hR ⟨Nat.le_refl 0, Nat.le_refl 0⟩ dX8_leave_18 (by cases hE; rfl) (by cases hE; exact fun _ h => h)
  · refine k_aload_n (pc := 8) hC dX8_leave_8 rfl 0 rfl ?_
    refine k_iload_n (pc := 9) hC dX8_leave_9 rfl 2 rfl ?_
    refine k_iload_n (pc := 10) hC dX8_leave_10 rfl 3 rfl ?_
    refine m_clI (pc := 11) (As := [.int a2, .int a3]) hM (cw_M_isLeft hM (Nat.le_of_ble_eq_true rfl) (Nat.le_of_ble_eq_true rfl)) rfl rfl (Nat.le_of_ble_eq_true rfl) dX8_leave_11 hE (fun r h => ct_M_isLeft _ _ _ _ hM.2.1 a2 a3 J K r h) (fun r2 hE => ?_)
    refine k_if_ne (pc := 14) (tgt := 19) hC dX8_leave_14 (by decide) hE (fun hE => ?_) (fun hE => ?_)
    · refine k_iconst (pc := 17) (v := 0) hC dX8_leave_17 (by decide) ?_
      exact k_zret (pc := 18) (by decide) hC hR ⟨Nat.le_refl 0, Nat.le_refl 0⟩ dX8_leave_18 (by cases hE; rfl) (by cases hE; exact fun _ h => h)
    · refine k_aload_n (pc := 19) hC dX8_leave_19 rfl 0 rfl ?_
      refine gM_64 (pc := 20) hM dX8_leave_20 ?_
      refine k_bipush (pc := 23) (v := 42) hC dX8_leave_23 (by decide) ?_
      refine k_iload_n (pc := 25) hC dX8_leave_25 rfl 1 rfl ?_
      refine k_iadd (pc := 26) hC dX8_leave_26 ?_
      refine k_iload_n (pc := 27) hC dX8_leave_27 rfl 2 rfl ?_
      refine m_iast (pc := 28) 47 ly_47 hM dX8_leave_28 hE (fun J3 hE => ?_)
      refine k_aload_n (pc := 29) hC dX8_leave_29 rfl 0 rfl ?_
      refine gM_64 (pc := 30) hM dX8_leave_30 ?_
      refine k_bipush (pc := 33) (v := 48) hC dX8_leave_33 (by decide) ?_
      refine k_iload_n (pc := 35) hC dX8_leave_35 rfl 1 rfl ?_
      refine k_iadd (pc := 36) hC dX8_leave_36 ?_
      refine k_iload_n (pc := 37) hC dX8_leave_37 rfl 3 rfl ?_
      refine m_iast (pc := 38) 47 ly_47 hM dX8_leave_38 hE (fun J4 hE => ?_)
      refine k_iconst (pc := 39) (v := 1) hC dX8_leave_39 (by decide) ?_
      exact k_zret (pc := 40) (by decide) hC hR ⟨Nat.le_refl 0, Nat.le_refl 0⟩ dX8_leave_40 (by cases hE; rfl) (by cases hE; exact fun _ h => h)
theorem ct_M_leave (l : Launch) (D : Dd) (A : Nat → Prop) (th : Nat) (hA : ∀ (off : Nat) (kd : Kd), layM off = some kd → A (th + off)) (a1 : Int32) (a2 : Int32) (a3 : Int32) (J : Ji) (K : Jl) (out : Int32 × Ji) (hE : M_leave a1 a2 a3 J = some out) : Ct l yX8_leave (ws_ yX8_leave cX8_leave 4 (some .boolean)) rmM_leave vwCl arTy D A [.ref th, .int a1, .int a2, .int a3] (RM D th J K) (RM D th out.2 K) (some (.int out.1)) 0 0 := by
  refine Ct.of (by decide) (Nat.le_of_ble_eq_true rfl) rfl ?_
  intro X hl hrm hC hR hXA hnL _
  exact w_M_leave ⟨hC, by unfold Ft; rw [hXA]; exact hA, hnL, hrm⟩ hR a1 a2 a3 J hE
abbrev rmM_does : Room := { frames := 1, cells := 0, slots := 0, locals := 22 }
set_option maxHeartbeats 4000000 in
theorem w_M_does {X : Ctx} {D : Dd} {th : Nat} {K : Jl} {out : Ji} (hM : Mx X cX8_does D th 4 rmM_does) (hR : Rt X none (RM D th out K) none 0 0) (a1 : Int32) (a2 : Int32) (J : Ji) (hE : M_does a1 a2 J = some out) : Wk X 0 0 (RM D th J K) 0 [(0, .ref th), (1, .int a1), (2, .int a2)] [] := by
  have hC := hM.1
  have hnL := hM.2.2.1
  have hrm := hM.2.2.2
  unfold M_does at hE
  refine k_aload_n (pc := 0) hC dX8_does_0 rfl 0 rfl ?_
  refine gM_65 (pc := 1) hM dX8_does_1 ?_
  refine k_bipush (pc := 4) (v := 6) hC dX8_does_4 (by decide) ?_
  refine k_bipush (pc := 6) (v := 6) hC dX8_does_6 (by decide) ?_
  refine k_iload_n (pc := 8) hC dX8_does_8 rfl 1 rfl ?_
  refine k_imul (pc := 9) hC dX8_does_9 ?_
  refine k_iadd (pc := 10) hC dX8_does_10 ?_
  refine k_iload_n (pc := 11) hC dX8_does_11 rfl 2 rfl ?_
  refine k_iadd (pc := 12) hC dX8_does_12 ?_
  refine k_dup2 (pc := 13) hC dX8_does_13 rfl rfl ?_
  refine m_iald (pc := 14) 48 ly_48 hM dX8_does_14 hE (fun x1 hE => ?_)
  refine k_iconst (pc := 15) (v := 1) hC dX8_does_15 (by decide) ?_
  refine k_iadd (pc := 16) hC dX8_does_16 ?_
  refine m_iast (pc := 17) 48 ly_48 hM dX8_does_17 hE (fun J2 hE => ?_)
  refine k_aload_n (pc := 18) hC dX8_does_18 rfl 0 rfl ?_
  refine gM_41 (pc := 19) hM dX8_does_19 ?_
  refine k_aload_n (pc := 22) hC dX8_does_22 rfl 0 rfl ?_
  refine k_iload_n (pc := 23) hC dX8_does_23 rfl 1 rfl ?_
  refine k_iload_n (pc := 24) hC dX8_does_24 rfl 2 rfl ?_
  refine m_clI (pc := 25) (As := [.int a1, .int a2]) hM (cw_M_stepAt hM (Nat.le_of_ble_eq_true rfl) (Nat.le_of_ble_eq_true rfl)) rfl rfl (Nat.le_of_ble_eq_true rfl) dX8_does_25 hE (fun r h => ct_M_stepAt _ _ _ _ hM.2.1 a1 a2 J2 K r h) (fun r3 hE => ?_)
  refine m_iald (pc := 28) 28 ly_28 hM dX8_does_28 hE (fun x4 hE => ?_)
  refine k_istore_n (pc := 29) (lv' := [(3, .int x4), (0, .ref th), (1, .int a1), (2, .int a2)]) hC dX8_does_29 rfl (by rw [hnL]; decide) rfl ?_
  refine k_iload_n (pc := 30) hC dX8_does_30 rfl 0 rfl ?_
  refine k_if_lt (pc := 31) (tgt := 69) hC dX8_does_31 (by decide) hE (fun hE => ?_) (fun hE => ?_)
  · exact k_vret (pc := 69) hC hR ⟨Nat.le_refl 0, Nat.le_refl 0⟩ dX8_does_69 (by cases hE; rfl) (by cases hE; exact fun _ h => h)
  · refine k_aload_n (pc := 34) hC dX8_does_34 rfl 1 rfl ?_
    refine gM_65 (pc := 35) hM dX8_does_35 ?_
    refine k_bipush (pc := 38) (v := 6) hC dX8_does_38 (by decide) ?_
    refine k_bipush (pc := 40) (v := 6) hC dX8_does_40 (by decide) ?_
    refine k_iload_n (pc := 42) hC dX8_does_42 rfl 2 rfl ?_
    refine k_imul (pc := 43) hC dX8_does_43 ?_
    refine k_iadd (pc := 44) hC dX8_does_44 ?_
    refine k_iload_n (pc := 45) hC dX8_does_45 rfl 0 rfl ?_
    refine k_iadd (pc := 46) hC dX8_does_46 ?_
    refine m_iald (pc := 47) 48 ly_48 hM dX8_does_47 hE (fun x5 hE => ?_)
    refine k_if_le (pc := 48) (tgt := 69) hC dX8_does_48 (by decide) hE (fun hE => ?_) (fun hE => ?_)
    · exact k_vret (pc := 69) hC hR ⟨Nat.le_refl 0, Nat.le_refl 0⟩ dX8_does_69 (by cases hE; rfl) (by cases hE; exact fun _ h => h)
    · refine k_aload_n (pc := 51) hC dX8_does_51 rfl 1 rfl ?_
      refine gM_65 (pc := 52) hM dX8_does_52 ?_
      refine k_bipush (pc := 55) (v := 6) hC dX8_does_55 (by decide) ?_
      refine k_bipush (pc := 57) (v := 6) hC dX8_does_57 (by decide) ?_
      refine k_iload_n (pc := 59) hC dX8_does_59 rfl 2 rfl ?_
      refine k_imul (pc := 60) hC dX8_does_60 ?_
      refine k_iadd (pc := 61) hC dX8_does_61 ?_
      refine k_iload_n (pc := 62) hC dX8_does_62 rfl 0 rfl ?_
      refine k_iadd (pc := 63) hC dX8_does_63 ?_
      refine k_dup2 (pc := 64) hC dX8_does_64 rfl rfl ?_
      refine m_iald (pc := 65) 48 ly_48 hM dX8_does_65 hE (fun x6 hE => ?_)
      refine k_iconst (pc := 66) (v := 1) hC dX8_does_66 (by decide) ?_
      refine k_isub (pc := 67) hC dX8_does_67 ?_
      refine m_iast (pc := 68) 48 ly_48 hM dX8_does_68 hE (fun J7 hE => ?_)
      exact k_vret (pc := 69) hC hR ⟨Nat.le_refl 0, Nat.le_refl 0⟩ dX8_does_69 (by cases hE; rfl) (by cases hE; exact fun _ h => h)
theorem ct_M_does (l : Launch) (D : Dd) (A : Nat → Prop) (th : Nat) (hA : ∀ (off : Nat) (kd : Kd), layM off = some kd → A (th + off)) (a1 : Int32) (a2 : Int32) (J : Ji) (K : Jl) (out : Ji) (hE : M_does a1 a2 J = some out) : Ct l yX8_does (ws_ yX8_does cX8_does 4 none) rmM_does vwCl arTy D A [.ref th, .int a1, .int a2] (RM D th J K) (RM D th out K) none 0 0 := by
  refine Ct.of (by decide) (Nat.le_of_ble_eq_true rfl) rfl ?_
  intro X hl hrm hC hR hXA hnL _
  exact w_M_does ⟨hC, by unfold Ft; rw [hXA]; exact hA, hnL, hrm⟩ hR a1 a2 J hE
theorem cw_M_does {X : Ctx} {cc : ByteArray} {D : Dd} {th mL : Nat} {rm : Room} (hM : Mx X cc D th mL rm) (h1 : rmM_does.frames + 1 ≤ rm.frames) (h2 : 8 + (4 + 11) + rmM_does.locals ≤ rm.locals) : CallW X.2.2.2.1 X.2.2.2.2.1 X.2.2.2.2.2.2.1 RX8 RX8 403 yX8_does cX8_does 4 none (ws_ yX8_does cX8_does 4 none) rmM_does 0 0 2 := cwV 2 (cx_w hM.1) (lw_V q2037 q2039 qs95 q128 q2040) rfl rfl rfl (by decide +kernel) (by rw [hM.2.2.2]; exact ⟨h1, h2⟩)
abbrev rmM_work : Room := { frames := 3, cells := 0, slots := 0, locals := 65 }
set_option maxHeartbeats 4000000 in
theorem w_M_work_B42 {X : Ctx} {D : Dd} {th : Nat} {K : Jl} {out : Int32 × Ji} (hM : Mx X cX8_work D th 4 rmM_work) (hR : Rt X (some .boolean) (RM D th out.2 K) (some (.int out.1)) 0 0) (F : Nat) (k42 : Int32 → Ji → Option (Int32 × Ji)) (hk42 : ∀ (a3 : Int32) (J : Ji) , k42 a3 J = some out → Wk X 0 0 (RM D th J K) 42 [(0, .ref th), (3, .int a3)] []) (a3 : Int32) (J : Ji) (hE : M_work_B42 F k42 a3 J = some out) : Wk X 0 0 (RM D th J K) 42 [(0, .ref th), (3, .int a3)] [] := by
  have hC := hM.1
  have hnL := hM.2.2.1
  have hrm := hM.2.2.2
  unfold M_work_B42 at hE
  refine k_iload_n (pc := 42) hC dX8_work_42 rfl 1 rfl ?_
  refine k_bipush (pc := 43) (v := 100) hC dX8_work_43 (by decide) ?_
  refine k_icmp_ge (pc := 45) (tgt := 66) hC dX8_work_45 (by decide) hE (fun hE => ?_) (fun hE => ?_)
  · refine k_iconst (pc := 66) (v := 1) hC dX8_work_66 (by decide) ?_
    exact k_zret (pc := 67) (by decide) hC hR ⟨Nat.le_refl 0, Nat.le_refl 0⟩ dX8_work_67 (by cases hE; rfl) (by cases hE; exact fun _ h => h)
  · refine k_aload_n (pc := 48) hC dX8_work_48 rfl 0 rfl ?_
    refine gM_64 (pc := 49) hM dX8_work_49 ?_
    refine k_iload_n (pc := 52) hC dX8_work_52 rfl 1 rfl ?_
    refine k_aload_n (pc := 53) hC dX8_work_53 rfl 0 rfl ?_
    refine gM_65 (pc := 54) hM dX8_work_54 ?_
    refine k_iload_n (pc := 57) hC dX8_work_57 rfl 1 rfl ?_
    refine m_iald (pc := 58) 48 ly_48 hM dX8_work_58 hE (fun x7 hE => ?_)
    refine m_iast (pc := 59) 47 ly_47 hM dX8_work_59 hE (fun J8 hE => ?_)
    refine k_iincE (pc := 60) (k := 1) (d := 1) (lv' := fun x9 => [(3, .int x9), (0, .ref th)]) hC dX8_work_60 rfl (by decide) (by rw [hnL]; decide) hE (fun _ => rfl) (fun x9 hE => ?_)
    refine k_goto (pc := 63) (tgt := 42) hC dX8_work_63 (by decide) ?_
    refine k_sub [1, 0] rfl ?_
    exact hk42 _ _ hE
theorem w_M_work_L42 {X : Ctx} {D : Dd} {th : Nat} {K : Jl} {out : Int32 × Ji} (hM : Mx X cX8_work D th 4 rmM_work) (hR : Rt X (some .boolean) (RM D th out.2 K) (some (.int out.1)) 0 0) (F : Nat) (n : Nat) : ∀ (a3 : Int32) (J : Ji) , M_work_L42 F n a3 J = some out → Wk X 0 0 (RM D th J K) 42 [(0, .ref th), (3, .int a3)] [] := by
  induction n with
  | zero => intro a3 J h; cases h
  | succ n ih => intro a3 J h; exact w_M_work_B42 hM hR F (M_work_L42 F n) ih a3 J h
set_option maxHeartbeats 4000000 in
theorem w_M_work {X : Ctx} {D : Dd} {th : Nat} {K : Jl} {out : Int32 × Ji} (hM : Mx X cX8_work D th 4 rmM_work) (hR : Rt X (some .boolean) (RM D th out.2 K) (some (.int out.1)) 0 0) (F : Nat) (a1 : Int32) (a2 : Int32) (J : Ji) (hE : M_work F a1 a2 J = some out) : Wk X 0 0 (RM D th J K) 0 [(0, .ref th), (1, .int a1), (2, .int a2)] [] := by
  have hC := hM.1
  have hnL := hM.2.2.1
  have hrm := hM.2.2.2
  unfold M_work at hE
  refine k_aload_n (pc := 0) hC dX8_work_0 rfl 0 rfl ?_
  refine k_iload_n (pc := 1) hC dX8_work_1 rfl 1 rfl ?_
  refine k_iload_n (pc := 2) hC dX8_work_2 rfl 2 rfl ?_
  refine m_clI (pc := 3) (As := [.int a1, .int a2]) hM (cw_M_isStep hM (Nat.le_of_ble_eq_true rfl) (Nat.le_of_ble_eq_true rfl)) rfl rfl (Nat.le_of_ble_eq_true rfl) dX8_work_3 hE (fun r h => ct_M_isStep _ _ _ _ hM.2.1 a1 a2 J K r h) (fun r1 hE => ?_)
  refine k_if_eq (pc := 6) (tgt := 18) hC dX8_work_6 (by decide) hE (fun hE => ?_) (fun hE => ?_)
  · refine k_iconst (pc := 18) (v := 0) hC dX8_work_18 (by decide) ?_
    exact k_zret (pc := 19) (by decide) hC hR ⟨Nat.le_refl 0, Nat.le_refl 0⟩ dX8_work_19 (by cases hE; rfl) (by cases hE; exact fun _ h => h)
  · refine k_aload_n (pc := 9) hC dX8_work_9 rfl 0 rfl ?_
    refine gM_64 (pc := 10) hM dX8_work_10 ?_
    refine k_iload_n (pc := 13) hC dX8_work_13 rfl 1 rfl ?_
    refine m_iald (pc := 14) 47 ly_47 hM dX8_work_14 hE (fun x2 hE => ?_)
    refine k_if_ne (pc := 15) (tgt := 20) hC dX8_work_15 (by decide) hE (fun hE => ?_) (fun hE => ?_)
    · refine k_iconst (pc := 18) (v := 0) hC dX8_work_18 (by decide) ?_
      exact k_zret (pc := 19) (by decide) hC hR ⟨Nat.le_refl 0, Nat.le_refl 0⟩ dX8_work_19 (by cases hE; rfl) (by cases hE; exact fun _ h => h)
    · refine k_aload_n (pc := 20) hC dX8_work_20 rfl 0 rfl ?_
      refine m_clVj (pc := 21) (As := []) hM (cw_M_takes hM (Nat.le_of_ble_eq_true rfl) (Nat.le_of_ble_eq_true rfl)) rfl rfl (Nat.le_of_ble_eq_true rfl) dX8_work_21 hE (fun r h => ct_M_takes _ _ _ _ hM.2.1 F J K r h) (fun r3 hE => ?_)
      refine k_aload_n (pc := 24) hC dX8_work_24 rfl 0 rfl ?_
      refine gM_65 (pc := 25) hM dX8_work_25 ?_
      refine k_iload_n (pc := 28) hC dX8_work_28 rfl 1 rfl ?_
      refine k_dup2 (pc := 29) hC dX8_work_29 rfl rfl ?_
      refine m_iald (pc := 30) 48 ly_48 hM dX8_work_30 hE (fun x4 hE => ?_)
      refine k_iconst (pc := 31) (v := 1) hC dX8_work_31 (by decide) ?_
      refine k_isub (pc := 32) hC dX8_work_32 ?_
      refine m_iast (pc := 33) 48 ly_48 hM dX8_work_33 hE (fun J5 hE => ?_)
      refine k_aload_n (pc := 34) hC dX8_work_34 rfl 0 rfl ?_
      refine k_iload_n (pc := 35) hC dX8_work_35 rfl 1 rfl ?_
      refine k_iload_n (pc := 36) hC dX8_work_36 rfl 2 rfl ?_
      refine m_clVj (pc := 37) (As := [.int a1, .int a2]) hM (cw_M_does hM (Nat.le_of_ble_eq_true rfl) (Nat.le_of_ble_eq_true rfl)) rfl rfl (Nat.le_of_ble_eq_true rfl) dX8_work_37 hE (fun r h => ct_M_does _ _ _ _ hM.2.1 a1 a2 J5 K r h) (fun r6 hE => ?_)
      refine k_iconst (pc := 40) (v := 0) hC dX8_work_40 (by decide) ?_
      refine k_istore_n (pc := 41) (lv' := [(3, .int 0), (0, .ref th), (1, .int a1), (2, .int a2)]) hC dX8_work_41 rfl (by rw [hnL]; decide) rfl ?_
      refine k_sub [1, 0] rfl ?_
      exact w_M_work_L42 hM hR F _ _ _ hE
theorem ct_M_work (l : Launch) (D : Dd) (A : Nat → Prop) (th : Nat) (hA : ∀ (off : Nat) (kd : Kd), layM off = some kd → A (th + off)) (F : Nat) (a1 : Int32) (a2 : Int32) (J : Ji) (K : Jl) (out : Int32 × Ji) (hE : M_work F a1 a2 J = some out) : Ct l yX8_work (ws_ yX8_work cX8_work 4 (some .boolean)) rmM_work vwCl arTy D A [.ref th, .int a1, .int a2] (RM D th J K) (RM D th out.2 K) (some (.int out.1)) 0 0 := by
  refine Ct.of (by decide) (Nat.le_of_ble_eq_true rfl) rfl ?_
  intro X hl hrm hC hR hXA hnL _
  exact w_M_work ⟨hC, by unfold Ft; rw [hXA]; exact hA, hnL, hrm⟩ hR F a1 a2 J hE
abbrev rmM_lay : Room := { frames := 2, cells := 0, slots := 0, locals := 43 }
set_option maxHeartbeats 4000000 in
theorem w_M_lay {X : Ctx} {D : Dd} {th : Nat} {K : Jl} {out : Int32 × Ji} (hM : Mx X cX8_lay D th 3 rmM_lay) (hR : Rt X (some .boolean) (RM D th out.2 K) (some (.int out.1)) 0 0) (a1 : Int32) (a2 : Int32) (J : Ji) (hE : M_lay a1 a2 J = some out) : Wk X 0 0 (RM D th J K) 0 [(0, .ref th), (1, .int a1), (2, .int a2)] [] := by
  have hC := hM.1
  have hnL := hM.2.2.1
  have hrm := hM.2.2.2
  unfold M_lay at hE
  refine k_aload_n (pc := 0) hC dX8_lay_0 rfl 0 rfl ?_
  refine k_iload_n (pc := 1) hC dX8_lay_1 rfl 1 rfl ?_
  refine m_clI (pc := 2) (As := [.int a1]) hM (cw_M_isTool hM (Nat.le_of_ble_eq_true rfl) (Nat.le_of_ble_eq_true rfl)) rfl rfl (Nat.le_of_ble_eq_true rfl) dX8_lay_2 hE (fun r h => ct_M_isTool _ _ _ _ hM.2.1 a1 J K r h) (fun r1 hE => ?_)
  refine k_if_eq (pc := 5) (tgt := 16) hC dX8_lay_5 (by decide) hE (fun hE => ?_) (fun hE => ?_)
  · refine k_iconst (pc := 16) (v := 0) hC dX8_lay_16 (by decide) ?_
    exact k_zret (pc := 17) (by decide) hC hR ⟨Nat.le_refl 0, Nat.le_refl 0⟩ dX8_lay_17 (by cases hE; rfl) (by cases hE; exact fun _ h => h)
  · refine k_aload_n (pc := 8) hC dX8_lay_8 rfl 0 rfl ?_
    refine k_iload_n (pc := 9) hC dX8_lay_9 rfl 2 rfl ?_
    refine m_clI (pc := 10) (As := [.int a2]) hM (cw_M_isRoom hM (Nat.le_of_ble_eq_true rfl) (Nat.le_of_ble_eq_true rfl)) rfl rfl (Nat.le_of_ble_eq_true rfl) dX8_lay_10 hE (fun r h => ct_M_isRoom _ _ _ _ hM.2.1 a2 J K r h) (fun r2 hE => ?_)
    refine k_if_ne (pc := 13) (tgt := 18) hC dX8_lay_13 (by decide) hE (fun hE => ?_) (fun hE => ?_)
    · refine k_iconst (pc := 16) (v := 0) hC dX8_lay_16 (by decide) ?_
      exact k_zret (pc := 17) (by decide) hC hR ⟨Nat.le_refl 0, Nat.le_refl 0⟩ dX8_lay_17 (by cases hE; rfl) (by cases hE; exact fun _ h => h)
    · refine k_aload_n (pc := 18) hC dX8_lay_18 rfl 0 rfl ?_
      refine gM_64 (pc := 19) hM dX8_lay_19 ?_
      refine k_bipush (pc := 22) (v := 72) hC dX8_lay_22 (by decide) ?_
      refine k_iload_n (pc := 24) hC dX8_lay_24 rfl 1 rfl ?_
      refine k_iadd (pc := 25) hC dX8_lay_25 ?_
      refine k_iload_n (pc := 26) hC dX8_lay_26 rfl 2 rfl ?_
      refine m_iast (pc := 27) 47 ly_47 hM dX8_lay_27 hE (fun J3 hE => ?_)
      refine k_iconst (pc := 28) (v := 1) hC dX8_lay_28 (by decide) ?_
      exact k_zret (pc := 29) (by decide) hC hR ⟨Nat.le_refl 0, Nat.le_refl 0⟩ dX8_lay_29 (by cases hE; rfl) (by cases hE; exact fun _ h => h)
theorem ct_M_lay (l : Launch) (D : Dd) (A : Nat → Prop) (th : Nat) (hA : ∀ (off : Nat) (kd : Kd), layM off = some kd → A (th + off)) (a1 : Int32) (a2 : Int32) (J : Ji) (K : Jl) (out : Int32 × Ji) (hE : M_lay a1 a2 J = some out) : Ct l yX8_lay (ws_ yX8_lay cX8_lay 3 (some .boolean)) rmM_lay vwCl arTy D A [.ref th, .int a1, .int a2] (RM D th J K) (RM D th out.2 K) (some (.int out.1)) 0 0 := by
  refine Ct.of (by decide) (Nat.le_of_ble_eq_true rfl) rfl ?_
  intro X hl hrm hC hR hXA hnL _
  exact w_M_lay ⟨hC, by unfold Ft; rw [hXA]; exact hA, hnL, hrm⟩ hR a1 a2 J hE
abbrev rmM_give : Room := { frames := 2, cells := 0, slots := 0, locals := 43 }
set_option maxHeartbeats 4000000 in
theorem w_M_give {X : Ctx} {D : Dd} {th : Nat} {K : Jl} {out : Int32 × Ji} (hM : Mx X cX8_give D th 3 rmM_give) (hR : Rt X (some .boolean) (RM D th out.2 K) (some (.int out.1)) 0 0) (a1 : Int32) (a2 : Int32) (J : Ji) (hE : M_give a1 a2 J = some out) : Wk X 0 0 (RM D th J K) 0 [(0, .ref th), (1, .int a1), (2, .int a2)] [] := by
  have hC := hM.1
  have hnL := hM.2.2.1
  have hrm := hM.2.2.2
  unfold M_give at hE
  refine k_aload_n (pc := 0) hC dX8_give_0 rfl 0 rfl ?_
  refine k_iload_n (pc := 1) hC dX8_give_1 rfl 1 rfl ?_
  refine m_clI (pc := 2) (As := [.int a1]) hM (cw_M_isTool hM (Nat.le_of_ble_eq_true rfl) (Nat.le_of_ble_eq_true rfl)) rfl rfl (Nat.le_of_ble_eq_true rfl) dX8_give_2 hE (fun r h => ct_M_isTool _ _ _ _ hM.2.1 a1 J K r h) (fun r1 hE => ?_)
  refine k_if_eq (pc := 5) (tgt := 16) hC dX8_give_5 (by decide) hE (fun hE => ?_) (fun hE => ?_)
  · refine k_iconst (pc := 16) (v := 0) hC dX8_give_16 (by decide) ?_
    exact k_zret (pc := 17) (by decide) hC hR ⟨Nat.le_refl 0, Nat.le_refl 0⟩ dX8_give_17 (by cases hE; rfl) (by cases hE; exact fun _ h => h)
  · refine k_aload_n (pc := 8) hC dX8_give_8 rfl 0 rfl ?_
    refine k_iload_n (pc := 9) hC dX8_give_9 rfl 2 rfl ?_
    refine m_clI (pc := 10) (As := [.int a2]) hM (cw_M_isMan hM (Nat.le_of_ble_eq_true rfl) (Nat.le_of_ble_eq_true rfl)) rfl rfl (Nat.le_of_ble_eq_true rfl) dX8_give_10 hE (fun r h => ct_M_isMan _ _ _ _ hM.2.1 a2 J K r h) (fun r2 hE => ?_)
    refine k_if_ne (pc := 13) (tgt := 18) hC dX8_give_13 (by decide) hE (fun hE => ?_) (fun hE => ?_)
    · refine k_iconst (pc := 16) (v := 0) hC dX8_give_16 (by decide) ?_
      exact k_zret (pc := 17) (by decide) hC hR ⟨Nat.le_refl 0, Nat.le_refl 0⟩ dX8_give_17 (by cases hE; rfl) (by cases hE; exact fun _ h => h)
    · refine k_aload_n (pc := 18) hC dX8_give_18 rfl 0 rfl ?_
      refine gM_64 (pc := 19) hM dX8_give_19 ?_
      refine k_bipush (pc := 22) (v := 72) hC dX8_give_22 (by decide) ?_
      refine k_iload_n (pc := 24) hC dX8_give_24 rfl 1 rfl ?_
      refine k_iadd (pc := 25) hC dX8_give_25 ?_
      refine k_bipush (pc := 26) (v := 100) hC dX8_give_26 (by decide) ?_
      refine k_iload_n (pc := 28) hC dX8_give_28 rfl 2 rfl ?_
      refine k_iadd (pc := 29) hC dX8_give_29 ?_
      refine m_iast (pc := 30) 47 ly_47 hM dX8_give_30 hE (fun J3 hE => ?_)
      refine k_iconst (pc := 31) (v := 1) hC dX8_give_31 (by decide) ?_
      exact k_zret (pc := 32) (by decide) hC hR ⟨Nat.le_refl 0, Nat.le_refl 0⟩ dX8_give_32 (by cases hE; rfl) (by cases hE; exact fun _ h => h)
theorem ct_M_give (l : Launch) (D : Dd) (A : Nat → Prop) (th : Nat) (hA : ∀ (off : Nat) (kd : Kd), layM off = some kd → A (th + off)) (a1 : Int32) (a2 : Int32) (J : Ji) (K : Jl) (out : Int32 × Ji) (hE : M_give a1 a2 J = some out) : Ct l yX8_give (ws_ yX8_give cX8_give 3 (some .boolean)) rmM_give vwCl arTy D A [.ref th, .int a1, .int a2] (RM D th J K) (RM D th out.2 K) (some (.int out.1)) 0 0 := by
  refine Ct.of (by decide) (Nat.le_of_ble_eq_true rfl) rfl ?_
  intro X hl hrm hC hR hXA hnL _
  exact w_M_give ⟨hC, by unfold Ft; rw [hXA]; exact hA, hnL, hrm⟩ hR a1 a2 J hE
abbrev rmM_bar : Room := { frames := 1, cells := 0, slots := 0, locals := 22 }
set_option maxHeartbeats 4000000 in
theorem w_M_bar_B58 {X : Ctx} {D : Dd} {th : Nat} {K : Jl} {out : Int32 × Ji} (hM : Mx X cX8_bar D th 3 rmM_bar) (hR : Rt X (some .boolean) (RM D th out.2 K) (some (.int out.1)) 0 0) (s0 : Int32) (s1 : Int32) (J : Ji) (hE : M_bar_B58 s0 s1 J = some out) : Wk X 0 0 (RM D th J K) 58 [(0, .ref th)] [.int s0, .int s1, .ref (th + 47)] := by
  have hC := hM.1
  have hnL := hM.2.2.1
  have hrm := hM.2.2.2
  unfold M_bar_B58 at hE
  refine m_iast (pc := 58) 47 ly_47 hM dX8_bar_58 hE (fun J5 hE => ?_)
  refine k_iconst (pc := 59) (v := 1) hC dX8_bar_59 (by decide) ?_
  exact k_zret (pc := 60) (by decide) hC hR ⟨Nat.le_refl 0, Nat.le_refl 0⟩ dX8_bar_60 (by cases hE; rfl) (by cases hE; exact fun _ h => h)
set_option maxHeartbeats 4000000 in
theorem w_M_bar {X : Ctx} {D : Dd} {th : Nat} {K : Jl} {out : Int32 × Ji} (hM : Mx X cX8_bar D th 3 rmM_bar) (hR : Rt X (some .boolean) (RM D th out.2 K) (some (.int out.1)) 0 0) (a1 : Int32) (a2 : Int32) (J : Ji) (hE : M_bar a1 a2 J = some out) : Wk X 0 0 (RM D th J K) 0 [(0, .ref th), (1, .int a1), (2, .int a2)] [] := by
  have hC := hM.1
  have hnL := hM.2.2.1
  have hrm := hM.2.2.2
  unfold M_bar at hE
  refine k_iload_n (pc := 0) hC dX8_bar_0 rfl 1 rfl ?_
  refine k_iconst (pc := 1) (v := 0) hC dX8_bar_1 (by decide) ?_
  refine k_aload_n (pc := 2) hC dX8_bar_2 rfl 0 rfl ?_
  refine gM_25 (pc := 3) hM dX8_bar_3 ?_
  refine k_aload_n (pc := 6) hC dX8_bar_6 rfl 0 rfl ?_
  refine gM_18 (pc := 7) hM dX8_bar_7 ?_
  refine m_iald (pc := 10) 12 ly_12 hM dX8_bar_10 hE (fun x1 hE => ?_)
  refine k_iconst (pc := 11) (v := 1) hC dX8_bar_11 (by decide) ?_
  refine k_isub (pc := 12) hC dX8_bar_12 ?_
  refine m_callSI (pc := 13) (As := [.int a1, .int 0, .int (x1 - 1)]) (fun r => r) hC (cw_M_in hC hrm (Nat.le_of_ble_eq_true rfl) (Nat.le_of_ble_eq_true rfl)) rfl rfl (Nat.le_of_ble_eq_true rfl) ⟨Nat.zero_le _, Nat.zero_le _⟩ dX8_bar_13 hE (fun r h => ct_M_in _ _ _ _ a1 0 (x1 - 1) r h) (fun r2 hE => ?_)
  refine k_if_ne (pc := 16) (tgt := 21) hC dX8_bar_16 (by decide) hE (fun hE => ?_) (fun hE => ?_)
  · refine k_iconst (pc := 19) (v := 0) hC dX8_bar_19 (by decide) ?_
    exact k_zret (pc := 20) (by decide) hC hR ⟨Nat.le_refl 0, Nat.le_refl 0⟩ dX8_bar_20 (by cases hE; rfl) (by cases hE; exact fun _ h => h)
  · refine k_aload_n (pc := 21) hC dX8_bar_21 rfl 0 rfl ?_
    refine gM_64 (pc := 22) hM dX8_bar_22 ?_
    refine k_bipush (pc := 25) (v := 78) hC dX8_bar_25 (by decide) ?_
    refine k_iload_n (pc := 27) hC dX8_bar_27 rfl 2 rfl ?_
    refine k_if_eq (pc := 28) (tgt := 45) hC dX8_bar_28 (by decide) hE (fun hE => ?_) (fun hE => ?_)
    · refine k_aload_n (pc := 45) hC dX8_bar_45 rfl 0 rfl ?_
      refine gM_64 (pc := 46) hM dX8_bar_46 ?_
      refine k_bipush (pc := 49) (v := 78) hC dX8_bar_49 (by decide) ?_
      refine m_iald (pc := 51) 47 ly_47 hM dX8_bar_51 hE (fun x3 hE => ?_)
      refine k_iconst (pc := 52) (v := 1) hC dX8_bar_52 (by decide) ?_
      refine k_iload_n (pc := 53) hC dX8_bar_53 rfl 1 rfl ?_
      refine k_ishl (pc := 54) hC dX8_bar_54 ?_
      refine k_iconst (pc := 55) (v := (-1)) hC dX8_bar_55 (by decide) ?_
      refine k_ixor (pc := 56) hC dX8_bar_56 ?_
      refine k_iand (pc := 57) hC dX8_bar_57 ?_
      refine k_sub [0] rfl ?_
      exact w_M_bar_B58 hM hR  _ _ _ hE
    · refine k_aload_n (pc := 31) hC dX8_bar_31 rfl 0 rfl ?_
      refine gM_64 (pc := 32) hM dX8_bar_32 ?_
      refine k_bipush (pc := 35) (v := 78) hC dX8_bar_35 (by decide) ?_
      refine m_iald (pc := 37) 47 ly_47 hM dX8_bar_37 hE (fun x4 hE => ?_)
      refine k_iconst (pc := 38) (v := 1) hC dX8_bar_38 (by decide) ?_
      refine k_iload_n (pc := 39) hC dX8_bar_39 rfl 1 rfl ?_
      refine k_ishl (pc := 40) hC dX8_bar_40 ?_
      refine k_ior (pc := 41) hC dX8_bar_41 ?_
      refine k_goto (pc := 42) (tgt := 58) hC dX8_bar_42 (by decide) ?_
      refine k_sub [0] rfl ?_
      exact w_M_bar_B58 hM hR  _ _ _ hE
theorem ct_M_bar (l : Launch) (D : Dd) (A : Nat → Prop) (th : Nat) (hA : ∀ (off : Nat) (kd : Kd), layM off = some kd → A (th + off)) (a1 : Int32) (a2 : Int32) (J : Ji) (K : Jl) (out : Int32 × Ji) (hE : M_bar a1 a2 J = some out) : Ct l yX8_bar (ws_ yX8_bar cX8_bar 3 (some .boolean)) rmM_bar vwCl arTy D A [.ref th, .int a1, .int a2] (RM D th J K) (RM D th out.2 K) (some (.int out.1)) 0 0 := by
  refine Ct.of (by decide) (Nat.le_of_ble_eq_true rfl) rfl ?_
  intro X hl hrm hC hR hXA hnL _
  exact w_M_bar ⟨hC, by unfold Ft; rw [hXA]; exact hA, hnL, hrm⟩ hR a1 a2 J hE
abbrev rmM_isInUse : Room := { frames := 1, cells := 0, slots := 0, locals := 22 }
set_option maxHeartbeats 4000000 in
theorem w_M_isInUse_B2 {X : Ctx} {D : Dd} {th : Nat} {J : Ji} {K : Jl} {out : Int32} (hM : Mx X cX8_isInUse D th 4 rmM_isInUse) (hR : Rt X (some .boolean) (RM D th J K) (some (.int out)) 0 0) (F : Nat) (k2 : Int32 → Int32 → Int32 → Option (Int32)) (hk2 : ∀ (a1 : Int32) (a2 : Int32) (a3 : Int32) , k2 a1 a2 a3  = some out → Wk X 0 0 (RM D th J K) 2 [(0, .ref th), (1, .int a1), (2, .int a2), (3, .int a3)] []) (a1 : Int32) (a2 : Int32) (a3 : Int32) (hE : M_isInUse_B2 F k2 J a1 a2 a3 = some out) : Wk X 0 0 (RM D th J K) 2 [(0, .ref th), (1, .int a1), (2, .int a2), (3, .int a3)] [] := by
  have hC := hM.1
  have hnL := hM.2.2.1
  have hrm := hM.2.2.2
  unfold M_isInUse_B2 at hE
  refine k_iload_n (pc := 2) hC dX8_isInUse_2 rfl 3 rfl ?_
  refine k_aload_n (pc := 3) hC dX8_isInUse_3 rfl 0 rfl ?_
  refine m_clI (pc := 4) (As := []) hM (cw_M_menNow hM (Nat.le_of_ble_eq_true rfl) (Nat.le_of_ble_eq_true rfl)) rfl rfl (Nat.le_of_ble_eq_true rfl) dX8_isInUse_4 hE (fun r h => ct_M_menNow _ _ _ _ hM.2.1  J K r h) (fun r1 hE => ?_)
  refine k_icmp_ge (pc := 7) (tgt := 61) hC dX8_isInUse_7 (by decide) hE (fun hE => ?_) (fun hE => ?_)
  · refine k_iconst (pc := 61) (v := 0) hC dX8_isInUse_61 (by decide) ?_
    exact k_zret (pc := 62) (by decide) hC hR ⟨Nat.le_refl 0, Nat.le_refl 0⟩ dX8_isInUse_62 (by cases hE; rfl) (by cases hE; exact fun _ h => h)
  · refine k_iload_n (pc := 10) hC dX8_isInUse_10 rfl 3 rfl ?_
    refine k_iload_n (pc := 11) hC dX8_isInUse_11 rfl 2 rfl ?_
    refine k_icmp_eq (pc := 12) (tgt := 55) hC dX8_isInUse_12 (by decide) hE (fun hE => ?_) (fun hE => ?_)
    · refine k_iincE (pc := 55) (k := 3) (d := 1) (lv' := fun x2 => [(3, .int x2), (0, .ref th), (1, .int a1), (2, .int a2)]) hC dX8_isInUse_55 rfl (by decide) (by rw [hnL]; decide) hE (fun _ => rfl) (fun x2 hE => ?_)
      refine k_goto (pc := 58) (tgt := 2) hC dX8_isInUse_58 (by decide) ?_
      refine k_sub [1, 2, 3, 0] rfl ?_
      exact hk2 _ _ _ hE
    · refine k_aload_n (pc := 15) hC dX8_isInUse_15 rfl 0 rfl ?_
      refine gM_67 (pc := 16) hM dX8_isInUse_16 ?_
      refine k_iload_n (pc := 19) hC dX8_isInUse_19 rfl 3 rfl ?_
      refine m_iald (pc := 20) 50 ly_50 hM dX8_isInUse_20 hE (fun x3 hE => ?_)
      refine k_iconst (pc := 21) (v := 2) hC dX8_isInUse_21 (by decide) ?_
      refine k_icmp_ne (pc := 22) (tgt := 55) hC dX8_isInUse_22 (by decide) hE (fun hE => ?_) (fun hE => ?_)
      · refine k_aload_n (pc := 25) hC dX8_isInUse_25 rfl 0 rfl ?_
        refine gM_40 (pc := 26) hM dX8_isInUse_26 ?_
        refine k_aload_n (pc := 29) hC dX8_isInUse_29 rfl 0 rfl ?_
        refine k_aload_n (pc := 30) hC dX8_isInUse_30 rfl 0 rfl ?_
        refine gM_65 (pc := 31) hM dX8_isInUse_31 ?_
        refine k_bipush (pc := 34) (v := 42) hC dX8_isInUse_34 (by decide) ?_
        refine k_iload_n (pc := 36) hC dX8_isInUse_36 rfl 3 rfl ?_
        refine k_iadd (pc := 37) hC dX8_isInUse_37 ?_
        refine m_iald (pc := 38) 48 ly_48 hM dX8_isInUse_38 hE (fun x4 hE => ?_)
        refine k_aload_n (pc := 39) hC dX8_isInUse_39 rfl 0 rfl ?_
        refine gM_70 (pc := 40) hM dX8_isInUse_40 ?_
        refine k_iload_n (pc := 43) hC dX8_isInUse_43 rfl 3 rfl ?_
        refine m_iald (pc := 44) 53 ly_53 hM dX8_isInUse_44 hE (fun x5 hE => ?_)
        refine m_clI (pc := 45) (As := [.int x4, .int x5]) hM (cw_M_stepAt hM (Nat.le_of_ble_eq_true rfl) (Nat.le_of_ble_eq_true rfl)) rfl rfl (Nat.le_of_ble_eq_true rfl) dX8_isInUse_45 hE (fun r h => ct_M_stepAt _ _ _ _ hM.2.1 x4 x5 J K r h) (fun r6 hE => ?_)
        refine m_iald (pc := 48) 27 ly_27 hM dX8_isInUse_48 hE (fun x7 hE => ?_)
        refine k_iload_n (pc := 49) hC dX8_isInUse_49 rfl 1 rfl ?_
        refine k_icmp_ne (pc := 50) (tgt := 55) hC dX8_isInUse_50 (by decide) hE (fun hE => ?_) (fun hE => ?_)
        · refine k_iconst (pc := 53) (v := 1) hC dX8_isInUse_53 (by decide) ?_
          exact k_zret (pc := 54) (by decide) hC hR ⟨Nat.le_refl 0, Nat.le_refl 0⟩ dX8_isInUse_54 (by cases hE; rfl) (by cases hE; exact fun _ h => h)
        · refine k_iincE (pc := 55) (k := 3) (d := 1) (lv' := fun x8 => [(3, .int x8), (0, .ref th), (1, .int a1), (2, .int a2)]) hC dX8_isInUse_55 rfl (by decide) (by rw [hnL]; decide) hE (fun _ => rfl) (fun x8 hE => ?_)
          refine k_goto (pc := 58) (tgt := 2) hC dX8_isInUse_58 (by decide) ?_
          refine k_sub [1, 2, 3, 0] rfl ?_
          exact hk2 _ _ _ hE
      · refine k_iincE (pc := 55) (k := 3) (d := 1) (lv' := fun x9 => [(3, .int x9), (0, .ref th), (1, .int a1), (2, .int a2)]) hC dX8_isInUse_55 rfl (by decide) (by rw [hnL]; decide) hE (fun _ => rfl) (fun x9 hE => ?_)
        refine k_goto (pc := 58) (tgt := 2) hC dX8_isInUse_58 (by decide) ?_
        refine k_sub [1, 2, 3, 0] rfl ?_
        exact hk2 _ _ _ hE
theorem w_M_isInUse_L2 {X : Ctx} {D : Dd} {th : Nat} {J : Ji} {K : Jl} {out : Int32} (hM : Mx X cX8_isInUse D th 4 rmM_isInUse) (hR : Rt X (some .boolean) (RM D th J K) (some (.int out)) 0 0) (F : Nat) (n : Nat) : ∀ (a1 : Int32) (a2 : Int32) (a3 : Int32) , M_isInUse_L2 F J n a1 a2 a3 = some out → Wk X 0 0 (RM D th J K) 2 [(0, .ref th), (1, .int a1), (2, .int a2), (3, .int a3)] [] := by
  induction n with
  | zero => intro a1 a2 a3 h; cases h
  | succ n ih => intro a1 a2 a3 h; exact w_M_isInUse_B2 hM hR F (M_isInUse_L2 F J n) ih a1 a2 a3 h
set_option maxHeartbeats 4000000 in
theorem w_M_isInUse {X : Ctx} {D : Dd} {th : Nat} {J : Ji} {K : Jl} {out : Int32} (hM : Mx X cX8_isInUse D th 4 rmM_isInUse) (hR : Rt X (some .boolean) (RM D th J K) (some (.int out)) 0 0) (F : Nat) (a1 : Int32) (a2 : Int32) (hE : M_isInUse F J a1 a2 = some out) : Wk X 0 0 (RM D th J K) 0 [(0, .ref th), (1, .int a1), (2, .int a2)] [] := by
  have hC := hM.1
  have hnL := hM.2.2.1
  have hrm := hM.2.2.2
  unfold M_isInUse at hE
  refine k_iconst (pc := 0) (v := 0) hC dX8_isInUse_0 (by decide) ?_
  refine k_istore_n (pc := 1) (lv' := [(3, .int 0), (0, .ref th), (1, .int a1), (2, .int a2)]) hC dX8_isInUse_1 rfl (by rw [hnL]; decide) rfl ?_
  refine k_sub [1, 2, 3, 0] rfl ?_
  exact w_M_isInUse_L2 hM hR F _ _ _ _ hE
theorem ct_M_isInUse (l : Launch) (D : Dd) (A : Nat → Prop) (th : Nat) (hA : ∀ (off : Nat) (kd : Kd), layM off = some kd → A (th + off)) (F : Nat) (a1 : Int32) (a2 : Int32) (J : Ji) (K : Jl) (out : Int32) (hE : M_isInUse F J a1 a2 = some out) : Ct l yX8_isInUse (ws_ yX8_isInUse cX8_isInUse 4 (some .boolean)) rmM_isInUse vwCl arTy D A [.ref th, .int a1, .int a2] (RM D th J K) (RM D th J K) (some (.int out)) 0 0 := by
  refine Ct.of (by decide) (Nat.le_of_ble_eq_true rfl) rfl ?_
  intro X hl hrm hC hR hXA hnL _
  exact w_M_isInUse ⟨hC, by unfold Ft; rw [hXA]; exact hA, hnL, hrm⟩ hR F a1 a2 hE
theorem cw_M_isInUse {X : Ctx} {cc : ByteArray} {D : Dd} {th mL : Nat} {rm : Room} (hM : Mx X cc D th mL rm) (h1 : rmM_isInUse.frames + 1 ≤ rm.frames) (h2 : 8 + (4 + 11) + rmM_isInUse.locals ≤ rm.locals) : CallW X.2.2.2.1 X.2.2.2.2.1 X.2.2.2.2.2.2.1 RX8 RX8 415 yX8_isInUse cX8_isInUse 4 (some .boolean) (ws_ yX8_isInUse cX8_isInUse 4 (some .boolean)) rmM_isInUse 0 0 2 := cwV 2 (cx_w hM.1) (lw_V q2093 q2095 qs105 q128 q2096) rfl rfl rfl (by decide +kernel) (by rw [hM.2.2.2]; exact ⟨h1, h2⟩)
abbrev rmM_lies : Room := { frames := 0, cells := 0, slots := 0, locals := 0 }
set_option maxHeartbeats 4000000 in
theorem w_M_lies {X : Ctx} {D : Dd} {th : Nat} {K : Jl} {out : Ji} (hM : Mx X cX8_lies D th 3 rmM_lies) (hR : Rt X none (RM D th out K) none 0 0) (a1 : Int32) (a2 : Int32) (J : Ji) (hE : M_lies a1 a2 J = some out) : Wk X 0 0 (RM D th J K) 0 [(0, .ref th), (1, .int a1), (2, .int a2)] [] := by
  have hC := hM.1
  have hnL := hM.2.2.1
  have hrm := hM.2.2.2
  unfold M_lies at hE
  refine k_aload_n (pc := 0) hC dX8_lies_0 rfl 0 rfl ?_
  refine gM_67 (pc := 1) hM dX8_lies_1 ?_
  refine k_iload_n (pc := 4) hC dX8_lies_4 rfl 1 rfl ?_
  refine k_iconst (pc := 5) (v := 3) hC dX8_lies_5 (by decide) ?_
  refine m_iast (pc := 6) 50 ly_50 hM dX8_lies_6 hE (fun J1 hE => ?_)
  refine k_aload_n (pc := 7) hC dX8_lies_7 rfl 0 rfl ?_
  refine gM_65 (pc := 8) hM dX8_lies_8 ?_
  refine k_bipush (pc := 11) (v := 66) hC dX8_lies_11 (by decide) ?_
  refine k_iload_n (pc := 13) hC dX8_lies_13 rfl 1 rfl ?_
  refine k_iadd (pc := 14) hC dX8_lies_14 ?_
  refine k_iload_n (pc := 15) hC dX8_lies_15 rfl 2 rfl ?_
  refine m_iast (pc := 16) 48 ly_48 hM dX8_lies_16 hE (fun J2 hE => ?_)
  exact k_vret (pc := 17) hC hR ⟨Nat.le_refl 0, Nat.le_refl 0⟩ dX8_lies_17 (by cases hE; rfl) (by cases hE; exact fun _ h => h)
theorem ct_M_lies (l : Launch) (D : Dd) (A : Nat → Prop) (th : Nat) (hA : ∀ (off : Nat) (kd : Kd), layM off = some kd → A (th + off)) (a1 : Int32) (a2 : Int32) (J : Ji) (K : Jl) (out : Ji) (hE : M_lies a1 a2 J = some out) : Ct l yX8_lies (ws_ yX8_lies cX8_lies 3 none) rmM_lies vwCl arTy D A [.ref th, .int a1, .int a2] (RM D th J K) (RM D th out K) none 0 0 := by
  refine Ct.of (by decide) (Nat.le_of_ble_eq_true rfl) rfl ?_
  intro X hl hrm hC hR hXA hnL _
  exact w_M_lies ⟨hC, by unfold Ft; rw [hXA]; exact hA, hnL, hrm⟩ hR a1 a2 J hE
theorem cw_M_lies {X : Ctx} {cc : ByteArray} {D : Dd} {th mL : Nat} {rm : Room} (hM : Mx X cc D th mL rm) (h1 : rmM_lies.frames + 1 ≤ rm.frames) (h2 : 8 + (3 + 11) + rmM_lies.locals ≤ rm.locals) : CallW X.2.2.2.1 X.2.2.2.2.1 X.2.2.2.2.2.2.1 RX8 RX8 409 yX8_lies cX8_lies 3 none (ws_ yX8_lies cX8_lies 3 none) rmM_lies 0 0 2 := cwV 2 (cx_w hM.1) (lw_V q2081 q2083 qs102 q128 q2084) rfl rfl rfl (by decide +kernel) (by rw [hM.2.2.2]; exact ⟨h1, h2⟩)
abbrev rmM_termOf : Room := { frames := 0, cells := 0, slots := 0, locals := 0 }
set_option maxHeartbeats 4000000 in
theorem w_M_termOf_B158 {X : Ctx} {D : Dd} {th : Nat} {K : Jl} {out : Int32 × Ji} (hM : Mx X cX8_termOf D th 8 rmM_termOf) (hR : Rt X (some .int) (RM D th out.2 K) (some (.int out.1)) 0 0) (F : Nat) (k5 : Int32 → Int32 → Int32 → Ji → Option (Int32 × Ji)) (hk5 : ∀ (a2 : Int32) (a3 : Int32) (a4 : Int32) (J : Ji) , k5 a2 a3 a4 J = some out → Wk X 0 0 (RM D th J K) 5 [(0, .ref th), (2, .int a2), (3, .int a3), (4, .int a4)] []) (a2 : Int32) (a3 : Int32) (a4 : Int32) (s0 : Int32) (s1 : Int32) (J : Ji) (hE : M_termOf_B158 F k5 a2 a3 a4 s0 s1 J = some out) : Wk X 0 0 (RM D th J K) 158 [(0, .ref th), (2, .int a2), (3, .int a3), (4, .int a4)] [.int s0, .int s1, .ref (th + 46)] := by
  have hC := hM.1
  have hnL := hM.2.2.1
  have hrm := hM.2.2.2
  unfold M_termOf_B158 at hE
  refine m_iast (pc := 158) 46 ly_46 hM dX8_termOf_158 hE (fun J13 hE => ?_)
  refine k_iincE (pc := 159) (k := 3) (d := 1) (lv' := fun x14 => [(4, .int x14), (0, .ref th), (2, .int a2), (3, .int a3)]) hC dX8_termOf_159 rfl (by decide) (by rw [hnL]; decide) hE (fun _ => rfl) (fun x14 hE => ?_)
  refine k_goto (pc := 162) (tgt := 5) hC dX8_termOf_162 (by decide) ?_
  refine k_sub [1, 2, 3, 0] rfl ?_
  exact hk5 _ _ _ _ hE
set_option maxHeartbeats 4000000 in
theorem w_M_termOf_B104 {X : Ctx} {D : Dd} {th : Nat} {K : Jl} {out : Int32 × Ji} (hM : Mx X cX8_termOf D th 8 rmM_termOf) (hR : Rt X (some .int) (RM D th out.2 K) (some (.int out.1)) 0 0) (F : Nat) (k5 : Int32 → Int32 → Int32 → Ji → Option (Int32 × Ji)) (hk5 : ∀ (a2 : Int32) (a3 : Int32) (a4 : Int32) (J : Ji) , k5 a2 a3 a4 J = some out → Wk X 0 0 (RM D th J K) 5 [(0, .ref th), (2, .int a2), (3, .int a3), (4, .int a4)] []) (a2 : Int32) (a3 : Int32) (a4 : Int32) (a5 : Int32) (a6 : Int32) (a7 : Int32) (J : Ji) (hE : M_termOf_B104 F k5 a2 a3 a4 a5 a6 a7 J = some out) : Wk X 0 0 (RM D th J K) 104 [(0, .ref th), (2, .int a2), (3, .int a3), (4, .int a4), (5, .int a5), (6, .int a6), (7, .int a7)] [] := by
  have hC := hM.1
  have hnL := hM.2.2.1
  have hrm := hM.2.2.2
  unfold M_termOf_B104 at hE
  refine k_aload_n (pc := 104) hC dX8_termOf_104 rfl 0 rfl ?_
  refine gM_62 (pc := 105) hM dX8_termOf_105 ?_
  refine k_iload_n (pc := 108) hC dX8_termOf_108 rfl 2 rfl ?_
  refine k_iconst (pc := 109) (v := 1) hC dX8_termOf_109 (by decide) ?_
  refine k_isub (pc := 110) hC dX8_termOf_110 ?_
  refine k_iload (pc := 111) hC dX8_termOf_111 4 rfl ?_
  refine k_iconst (pc := 113) (v := 2) hC dX8_termOf_113 (by decide) ?_
  refine k_icmp_ne (pc := 114) (tgt := 125) hC dX8_termOf_114 (by decide) hE (fun hE => ?_) (fun hE => ?_)
  · refine k_iload (pc := 117) hC dX8_termOf_117 5 rfl ?_
    refine k_iload (pc := 119) hC dX8_termOf_119 6 rfl ?_
    refine k_iadd (pc := 121) hC dX8_termOf_121 ?_
    refine k_goto (pc := 122) (tgt := 158) hC dX8_termOf_122 (by decide) ?_
    refine k_sub [0, 1, 2, 3] rfl ?_
    exact w_M_termOf_B158 hM hR F k5 hk5 _ _ _ _ _ _ hE
  · refine k_iload (pc := 125) hC dX8_termOf_125 4 rfl ?_
    refine k_iconst (pc := 127) (v := 3) hC dX8_termOf_127 (by decide) ?_
    refine k_icmp_ne (pc := 128) (tgt := 139) hC dX8_termOf_128 (by decide) hE (fun hE => ?_) (fun hE => ?_)
    · refine k_iload (pc := 131) hC dX8_termOf_131 5 rfl ?_
      refine k_iload (pc := 133) hC dX8_termOf_133 6 rfl ?_
      refine k_isub (pc := 135) hC dX8_termOf_135 ?_
      refine k_goto (pc := 136) (tgt := 158) hC dX8_termOf_136 (by decide) ?_
      refine k_sub [0, 1, 2, 3] rfl ?_
      exact w_M_termOf_B158 hM hR F k5 hk5 _ _ _ _ _ _ hE
    · refine k_iload (pc := 139) hC dX8_termOf_139 4 rfl ?_
      refine k_iconst (pc := 141) (v := 4) hC dX8_termOf_141 (by decide) ?_
      refine k_icmp_ne (pc := 142) (tgt := 153) hC dX8_termOf_142 (by decide) hE (fun hE => ?_) (fun hE => ?_)
      · refine k_iload (pc := 145) hC dX8_termOf_145 5 rfl ?_
        refine k_iload (pc := 147) hC dX8_termOf_147 6 rfl ?_
        refine k_imul (pc := 149) hC dX8_termOf_149 ?_
        refine k_goto (pc := 150) (tgt := 158) hC dX8_termOf_150 (by decide) ?_
        refine k_sub [0, 1, 2, 3] rfl ?_
        exact w_M_termOf_B158 hM hR F k5 hk5 _ _ _ _ _ _ hE
      · refine k_iload (pc := 153) hC dX8_termOf_153 5 rfl ?_
        refine k_iload (pc := 155) hC dX8_termOf_155 6 rfl ?_
        refine k_idiv (pc := 157) hC dX8_termOf_157 hE (fun hE => ?_)
        refine k_sub [0, 1, 2, 3] rfl ?_
        exact w_M_termOf_B158 hM hR F k5 hk5 _ _ _ _ _ _ hE
set_option maxHeartbeats 4000000 in
theorem w_M_termOf_B58 {X : Ctx} {D : Dd} {th : Nat} {K : Jl} {out : Int32 × Ji} (hM : Mx X cX8_termOf D th 8 rmM_termOf) (hR : Rt X (some .int) (RM D th out.2 K) (some (.int out.1)) 0 0) (F : Nat) (k5 : Int32 → Int32 → Int32 → Ji → Option (Int32 × Ji)) (hk5 : ∀ (a2 : Int32) (a3 : Int32) (a4 : Int32) (J : Ji) , k5 a2 a3 a4 J = some out → Wk X 0 0 (RM D th J K) 5 [(0, .ref th), (2, .int a2), (3, .int a3), (4, .int a4)] []) (a2 : Int32) (a3 : Int32) (a4 : Int32) (s0 : Int32) (s1 : Int32) (J : Ji) (hE : M_termOf_B58 F k5 a2 a3 a4 s0 s1 J = some out) : Wk X 0 0 (RM D th J K) 58 [(0, .ref th), (2, .int a2), (3, .int a3), (4, .int a4)] [.int s0, .int s1, .ref (th + 46)] := by
  have hC := hM.1
  have hnL := hM.2.2.1
  have hrm := hM.2.2.2
  unfold M_termOf_B58 at hE
  refine m_iast (pc := 58) 46 ly_46 hM dX8_termOf_58 hE (fun J10 hE => ?_)
  refine k_iincE (pc := 59) (k := 2) (d := 1) (lv' := fun x11 => [(3, .int x11), (0, .ref th), (2, .int a2), (4, .int a4)]) hC dX8_termOf_59 rfl (by decide) (by rw [hnL]; decide) hE (fun _ => rfl) (fun x11 hE => ?_)
  refine k_goto (pc := 62) (tgt := 159) hC dX8_termOf_62 (by decide) ?_
  refine k_iincE (pc := 159) (k := 3) (d := 1) (lv' := fun x12 => [(4, .int x12), (3, .int x11), (0, .ref th), (2, .int a2)]) hC dX8_termOf_159 rfl (by decide) (by rw [hnL]; decide) hE (fun _ => rfl) (fun x12 hE => ?_)
  refine k_goto (pc := 162) (tgt := 5) hC dX8_termOf_162 (by decide) ?_
  refine k_sub [2, 3, 1, 0] rfl ?_
  exact hk5 _ _ _ _ hE
set_option maxHeartbeats 4000000 in
theorem w_M_termOf_B5 {X : Ctx} {D : Dd} {th : Nat} {K : Jl} {out : Int32 × Ji} (hM : Mx X cX8_termOf D th 8 rmM_termOf) (hR : Rt X (some .int) (RM D th out.2 K) (some (.int out.1)) 0 0) (F : Nat) (k5 : Int32 → Int32 → Int32 → Ji → Option (Int32 × Ji)) (hk5 : ∀ (a2 : Int32) (a3 : Int32) (a4 : Int32) (J : Ji) , k5 a2 a3 a4 J = some out → Wk X 0 0 (RM D th J K) 5 [(0, .ref th), (2, .int a2), (3, .int a3), (4, .int a4)] []) (a2 : Int32) (a3 : Int32) (a4 : Int32) (J : Ji) (hE : M_termOf_B5 F k5 a2 a3 a4 J = some out) : Wk X 0 0 (RM D th J K) 5 [(0, .ref th), (2, .int a2), (3, .int a3), (4, .int a4)] [] := by
  have hC := hM.1
  have hnL := hM.2.2.1
  have hrm := hM.2.2.2
  unfold M_termOf_B5 at hE
  refine k_iload (pc := 5) hC dX8_termOf_5 3 rfl ?_
  refine k_iload_n (pc := 7) hC dX8_termOf_7 rfl 1 rfl ?_
  refine k_icmp_ge (pc := 8) (tgt := 165) hC dX8_termOf_8 (by decide) hE (fun hE => ?_) (fun hE => ?_)
  · refine k_aload_n (pc := 165) hC dX8_termOf_165 rfl 0 rfl ?_
    refine gM_62 (pc := 166) hM dX8_termOf_166 ?_
    refine k_iconst (pc := 169) (v := 0) hC dX8_termOf_169 (by decide) ?_
    refine m_iald (pc := 170) 46 ly_46 hM dX8_termOf_170 hE (fun x1 hE => ?_)
    exact k_iret (pc := 171) hC hR ⟨Nat.le_refl 0, Nat.le_refl 0⟩ dX8_termOf_171 (by cases hE; rfl) (by cases hE; exact fun _ h => h)
  · refine k_aload_n (pc := 11) hC dX8_termOf_11 rfl 0 rfl ?_
    refine gM_57 (pc := 12) hM dX8_termOf_12 ?_
    refine k_iload (pc := 15) hC dX8_termOf_15 3 rfl ?_
    refine m_iald (pc := 17) 42 ly_42 hM dX8_termOf_17 hE (fun x2 hE => ?_)
    refine k_istore (pc := 18) (lv' := [(5, .int x2), (0, .ref th), (2, .int a2), (3, .int a3), (4, .int a4)]) hC dX8_termOf_18 (by rw [hnL]; decide) rfl ?_
    refine k_iload (pc := 20) hC dX8_termOf_20 0 rfl ?_
    refine k_iconst (pc := 22) (v := 2) hC dX8_termOf_22 (by decide) ?_
    refine k_icmp_ge (pc := 23) (tgt := 65) hC dX8_termOf_23 (by decide) hE (fun hE => ?_) (fun hE => ?_)
    · refine k_iincE (pc := 65) (k := 3) (d := (-1)) (lv' := fun x3 => [(3, .int x3), (5, .int x2), (0, .ref th), (2, .int a2), (4, .int a4)]) hC dX8_termOf_65 rfl (by decide) (by rw [hnL]; decide) hE (fun _ => rfl) (fun x3 hE => ?_)
      refine k_aload_n (pc := 68) hC dX8_termOf_68 rfl 2 rfl ?_
      refine gM_62 (pc := 69) hM dX8_termOf_69 ?_
      refine k_iload_n (pc := 72) hC dX8_termOf_72 rfl 0 rfl ?_
      refine k_iconst (pc := 73) (v := 1) hC dX8_termOf_73 (by decide) ?_
      refine k_isub (pc := 74) hC dX8_termOf_74 ?_
      refine m_iald (pc := 75) 46 ly_46 hM dX8_termOf_75 hE (fun x4 hE => ?_)
      refine k_istore (pc := 76) (lv' := [(6, .int x4), (3, .int x3), (5, .int x2), (0, .ref th), (2, .int a2), (4, .int a4)]) hC dX8_termOf_76 (by rw [hnL]; decide) rfl ?_
      refine k_aload_n (pc := 78) hC dX8_termOf_78 rfl 3 rfl ?_
      refine gM_62 (pc := 79) hM dX8_termOf_79 ?_
      refine k_iload_n (pc := 82) hC dX8_termOf_82 rfl 1 rfl ?_
      refine m_iald (pc := 83) 46 ly_46 hM dX8_termOf_83 hE (fun x5 hE => ?_)
      refine k_istore (pc := 84) (lv' := [(7, .int x5), (6, .int x4), (3, .int x3), (5, .int x2), (0, .ref th), (2, .int a2), (4, .int a4)]) hC dX8_termOf_84 (by rw [hnL]; decide) rfl ?_
      refine k_iload (pc := 86) hC dX8_termOf_86 3 rfl ?_
      refine k_iconst (pc := 88) (v := 5) hC dX8_termOf_88 (by decide) ?_
      refine k_icmp_ne (pc := 89) (tgt := 104) hC dX8_termOf_89 (by decide) hE (fun hE => ?_) (fun hE => ?_)
      · refine k_iload (pc := 92) hC dX8_termOf_92 0 rfl ?_
        refine k_if_ne (pc := 94) (tgt := 104) hC dX8_termOf_94 (by decide) hE (fun hE => ?_) (fun hE => ?_)
        · refine k_aload_n (pc := 97) hC dX8_termOf_97 rfl 4 rfl ?_
          refine k_iconst (pc := 98) (v := 1) hC dX8_termOf_98 (by decide) ?_
          refine pM_63 (pc := 99) (by decide) hM dX8_termOf_99 hE (fun J6 hE => ?_)
          refine k_iconst (pc := 102) (v := 0) hC dX8_termOf_102 (by decide) ?_
          exact k_iret (pc := 103) hC hR ⟨Nat.le_refl 0, Nat.le_refl 0⟩ dX8_termOf_103 (by cases hE; rfl) (by cases hE; exact fun _ h => h)
        · refine k_sub [4, 5, 2, 6, 3, 1, 0] rfl ?_
          exact w_M_termOf_B104 hM hR F k5 hk5 _ _ _ _ _ _ _ hE
      · refine k_sub [4, 5, 2, 6, 3, 1, 0] rfl ?_
        exact w_M_termOf_B104 hM hR F k5 hk5 _ _ _ _ _ _ _ hE
    · refine k_aload_n (pc := 26) hC dX8_termOf_26 rfl 1 rfl ?_
      refine gM_62 (pc := 27) hM dX8_termOf_27 ?_
      refine k_iload_n (pc := 30) hC dX8_termOf_30 rfl 3 rfl ?_
      refine k_iload (pc := 31) hC dX8_termOf_31 0 rfl ?_
      refine k_if_ne (pc := 33) (tgt := 46) hC dX8_termOf_33 (by decide) hE (fun hE => ?_) (fun hE => ?_)
      · refine k_aload_n (pc := 36) hC dX8_termOf_36 rfl 1 rfl ?_
        refine gM_58 (pc := 37) hM dX8_termOf_37 ?_
        refine k_iload (pc := 40) hC dX8_termOf_40 4 rfl ?_
        refine m_iald (pc := 42) 43 ly_43 hM dX8_termOf_42 hE (fun x7 hE => ?_)
        refine k_goto (pc := 43) (tgt := 58) hC dX8_termOf_43 (by decide) ?_
        refine k_sub [1, 2, 3, 4] rfl ?_
        exact w_M_termOf_B58 hM hR F k5 hk5 _ _ _ _ _ _ hE
      · refine k_aload_n (pc := 46) hC dX8_termOf_46 rfl 1 rfl ?_
        refine gM_61 (pc := 47) hM dX8_termOf_47 ?_
        refine k_aload_n (pc := 50) hC dX8_termOf_50 rfl 1 rfl ?_
        refine gM_58 (pc := 51) hM dX8_termOf_51 ?_
        refine k_iload (pc := 54) hC dX8_termOf_54 4 rfl ?_
        refine m_iald (pc := 56) 43 ly_43 hM dX8_termOf_56 hE (fun x8 hE => ?_)
        refine m_iald (pc := 57) 45 ly_45 hM dX8_termOf_57 hE (fun x9 hE => ?_)
        refine k_sub [1, 2, 3, 4] rfl ?_
        exact w_M_termOf_B58 hM hR F k5 hk5 _ _ _ _ _ _ hE
theorem w_M_termOf_L5 {X : Ctx} {D : Dd} {th : Nat} {K : Jl} {out : Int32 × Ji} (hM : Mx X cX8_termOf D th 8 rmM_termOf) (hR : Rt X (some .int) (RM D th out.2 K) (some (.int out.1)) 0 0) (F : Nat) (n : Nat) : ∀ (a2 : Int32) (a3 : Int32) (a4 : Int32) (J : Ji) , M_termOf_L5 F n a2 a3 a4 J = some out → Wk X 0 0 (RM D th J K) 5 [(0, .ref th), (2, .int a2), (3, .int a3), (4, .int a4)] [] := by
  induction n with
  | zero => intro a2 a3 a4 J h; cases h
  | succ n ih => intro a2 a3 a4 J h; exact w_M_termOf_B5 hM hR F (M_termOf_L5 F n) ih a2 a3 a4 J h
set_option maxHeartbeats 4000000 in
theorem w_M_termOf {X : Ctx} {D : Dd} {th : Nat} {K : Jl} {out : Int32 × Ji} (hM : Mx X cX8_termOf D th 8 rmM_termOf) (hR : Rt X (some .int) (RM D th out.2 K) (some (.int out.1)) 0 0) (F : Nat) (a1 : Int32) (a2 : Int32) (J : Ji) (hE : M_termOf F a1 a2 J = some out) : Wk X 0 0 (RM D th J K) 0 [(0, .ref th), (1, .int a1), (2, .int a2)] [] := by
  have hC := hM.1
  have hnL := hM.2.2.1
  have hrm := hM.2.2.2
  unfold M_termOf at hE
  refine k_iconst (pc := 0) (v := 0) hC dX8_termOf_0 (by decide) ?_
  refine k_istore_n (pc := 1) (lv' := [(3, .int 0), (0, .ref th), (1, .int a1), (2, .int a2)]) hC dX8_termOf_1 rfl (by rw [hnL]; decide) rfl ?_
  refine k_iload_n (pc := 2) hC dX8_termOf_2 rfl 2 rfl ?_
  refine k_istore (pc := 3) (lv' := [(4, .int a1), (3, .int 0), (0, .ref th), (1, .int a1), (2, .int a2)]) hC dX8_termOf_3 (by rw [hnL]; decide) rfl ?_
  refine k_sub [2, 4, 1, 0] rfl ?_
  exact w_M_termOf_L5 hM hR F _ _ _ _ _ hE
theorem ct_M_termOf (l : Launch) (D : Dd) (A : Nat → Prop) (th : Nat) (hA : ∀ (off : Nat) (kd : Kd), layM off = some kd → A (th + off)) (F : Nat) (a1 : Int32) (a2 : Int32) (J : Ji) (K : Jl) (out : Int32 × Ji) (hE : M_termOf F a1 a2 J = some out) : Ct l yX8_termOf (ws_ yX8_termOf cX8_termOf 8 (some .int)) rmM_termOf vwCl arTy D A [.ref th, .int a1, .int a2] (RM D th J K) (RM D th out.2 K) (some (.int out.1)) 0 0 := by
  refine Ct.of (by decide) (Nat.le_of_ble_eq_true rfl) rfl ?_
  intro X hl hrm hC hR hXA hnL _
  exact w_M_termOf ⟨hC, by unfold Ft; rw [hXA]; exact hA, hnL, hrm⟩ hR F a1 a2 J hE
theorem cw_M_termOf {X : Ctx} {cc : ByteArray} {D : Dd} {th mL : Nat} {rm : Room} (hM : Mx X cc D th mL rm) (h1 : rmM_termOf.frames + 1 ≤ rm.frames) (h2 : 8 + (8 + 11) + rmM_termOf.locals ≤ rm.locals) : CallW X.2.2.2.1 X.2.2.2.2.1 X.2.2.2.2.2.2.1 RX8 RX8 400 yX8_termOf cX8_termOf 8 (some .int) (ws_ yX8_termOf cX8_termOf 8 (some .int)) rmM_termOf 0 0 2 := cwV 2 (cx_w hM.1) (lw_V q2089 q2091 qs104 q128 q2092) rfl rfl rfl (by decide +kernel) (by rw [hM.2.2.2]; exact ⟨h1, h2⟩)
