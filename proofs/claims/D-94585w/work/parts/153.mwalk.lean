set_option maxRecDepth 100000
abbrev rmM_tells : Room := { frames := 1, cells := 0, slots := 0, locals := 27 }
set_option maxHeartbeats 4000000 in
theorem w_M_tells_B211 {X : Ctx} {D : Dd} {th : Nat} {K : Jl} {out : Int32 × Ji} (hM : Mx X cX8_tells D th 9 rmM_tells) (hR : Rt X (some .int) (RM D th out.2 K) (some (.int out.1)) 0 0) (F : Nat) (a1 : Int32) (a3 : Int32) (a6 : Int32) (J : Ji) (hE : M_tells_B211 F a1 a3 a6 J = some out) : Wk X 0 0 (RM D th J K) 211 [(0, .ref th), (1, .int a1), (3, .int a3), (6, .int a6)] [] := by
  have hC := hM.1
  have hnL := hM.2.2.1
  have hrm := hM.2.2.2
  unfold M_tells_B211 at hE
  refine k_aload_n (pc := 211) hC dX8_tells_211 rfl 0 rfl ?_
  refine k_aload_n (pc := 212) hC dX8_tells_212 rfl 0 rfl ?_
  refine gM_53 (pc := 213) hM dX8_tells_213 ?_
  refine k_iload (pc := 216) hC dX8_tells_216 3 rfl ?_
  refine m_iald (pc := 218) 39 ly_39 hM dX8_tells_218 hE (fun x27 hE => ?_)
  refine k_aload_n (pc := 219) hC dX8_tells_219 rfl 0 rfl ?_
  refine gM_54 (pc := 220) hM dX8_tells_220 ?_
  refine k_iload (pc := 223) hC dX8_tells_223 3 rfl ?_
  refine m_iald (pc := 225) 40 ly_40 hM dX8_tells_225 hE (fun x28 hE => ?_)
  refine m_clIj (pc := 226) (As := [.int x27, .int x28]) hM (cw_M_termOf hM (Nat.le_of_ble_eq_true rfl) (Nat.le_of_ble_eq_true rfl)) rfl rfl (Nat.le_of_ble_eq_true rfl) dX8_tells_226 hE (fun r h => ct_M_termOf _ _ _ _ hM.2.1 F x27 x28 J K r h) (fun r29 hE => ?_)
  refine k_istore (pc := 229) (lv' := [(7, .int r29.1), (0, .ref th), (1, .int a1), (3, .int a3), (6, .int a6)]) hC dX8_tells_229 (by rw [hnL]; decide) rfl ?_
  refine k_aload_n (pc := 231) hC dX8_tells_231 rfl 1 rfl ?_
  refine gM_63 (pc := 232) hM dX8_tells_232 ?_
  refine k_if_eq (pc := 235) (tgt := 245) hC dX8_tells_235 (by decide) hE (fun hE => ?_) (fun hE => ?_)
  · refine k_iload (pc := 245) hC dX8_tells_245 0 rfl ?_
    refine k_if_ge (pc := 247) (tgt := 254) hC dX8_tells_247 (by decide) hE (fun hE => ?_) (fun hE => ?_)
    · refine k_iload (pc := 254) hC dX8_tells_254 0 rfl ?_
      refine k_aload_n (pc := 256) hC dX8_tells_256 rfl 1 rfl ?_
      refine k_iload_n (pc := 257) hC dX8_tells_257 rfl 3 rfl ?_
      refine m_clI (pc := 258) (As := [.int a3]) hM (cw_M_stepsOf hM (Nat.le_of_ble_eq_true rfl) (Nat.le_of_ble_eq_true rfl)) rfl rfl (Nat.le_of_ble_eq_true rfl) dX8_tells_258 hE (fun r h => ct_M_stepsOf _ _ _ _ hM.2.1 a3 r29.2 K r h) (fun r30 hE => ?_)
      refine k_icmp_lt (pc := 261) (tgt := 274) hC dX8_tells_261 (by decide) hE (fun hE => ?_) (fun hE => ?_)
      · refine k_iload (pc := 274) hC dX8_tells_274 0 rfl ?_
        exact k_iret (pc := 276) hC hR ⟨Nat.le_refl 0, Nat.le_refl 0⟩ dX8_tells_276 (by cases hE; rfl) (by cases hE; exact fun _ h => h)
      · refine k_aload_n (pc := 264) hC dX8_tells_264 rfl 1 rfl ?_
        refine k_iload_n (pc := 265) hC dX8_tells_265 rfl 3 rfl ?_
        refine m_clI (pc := 266) (As := [.int a3]) hM (cw_M_stepsOf hM (Nat.le_of_ble_eq_true rfl) (Nat.le_of_ble_eq_true rfl)) rfl rfl (Nat.le_of_ble_eq_true rfl) dX8_tells_266 hE (fun r h => ct_M_stepsOf _ _ _ _ hM.2.1 a3 r29.2 K r h) (fun r31 hE => ?_)
        refine k_iconst (pc := 269) (v := 1) hC dX8_tells_269 (by decide) ?_
        refine k_isub (pc := 270) hC dX8_tells_270 ?_
        refine k_goto (pc := 271) (tgt := 276) hC dX8_tells_271 (by decide) ?_
        exact k_iret (pc := 276) hC hR ⟨Nat.le_refl 0, Nat.le_refl 0⟩ dX8_tells_276 (by cases hE; rfl) (by cases hE; exact fun _ h => h)
    · refine k_iconst (pc := 250) (v := 0) hC dX8_tells_250 (by decide) ?_
      refine k_goto (pc := 251) (tgt := 276) hC dX8_tells_251 (by decide) ?_
      exact k_iret (pc := 276) hC hR ⟨Nat.le_refl 0, Nat.le_refl 0⟩ dX8_tells_276 (by cases hE; rfl) (by cases hE; exact fun _ h => h)
  · refine k_aload_n (pc := 238) hC dX8_tells_238 rfl 1 rfl ?_
    refine gM_71 (pc := 239) hM dX8_tells_239 ?_
    refine k_iload_n (pc := 242) hC dX8_tells_242 rfl 2 rfl ?_
    refine m_iald (pc := 243) 54 ly_54 hM dX8_tells_243 hE (fun x32 hE => ?_)
    exact k_iret (pc := 244) hC hR ⟨Nat.le_refl 0, Nat.le_refl 0⟩ dX8_tells_244 (by cases hE; rfl) (by cases hE; exact fun _ h => h)
set_option maxHeartbeats 4000000 in
theorem w_M_tells_B130 {X : Ctx} {D : Dd} {th : Nat} {K : Jl} {out : Int32 × Ji} (hM : Mx X cX8_tells D th 9 rmM_tells) (hR : Rt X (some .int) (RM D th out.2 K) (some (.int out.1)) 0 0) (F : Nat) (k130 : Int32 → Int32 → Int32 → Int32 → Ji → Option (Int32 × Ji)) (hk130 : ∀ (a1 : Int32) (a3 : Int32) (a5 : Int32) (a6 : Int32) (J : Ji) , k130 a1 a3 a5 a6 J = some out → Wk X 0 0 (RM D th J K) 130 [(0, .ref th), (1, .int a1), (3, .int a3), (5, .int a5), (6, .int a6)] []) (a1 : Int32) (a3 : Int32) (a5 : Int32) (a6 : Int32) (J : Ji) (hE : M_tells_B130 F k130 a1 a3 a5 a6 J = some out) : Wk X 0 0 (RM D th J K) 130 [(0, .ref th), (1, .int a1), (3, .int a3), (5, .int a5), (6, .int a6)] [] := by
  have hC := hM.1
  have hnL := hM.2.2.1
  have hrm := hM.2.2.2
  unfold M_tells_B130 at hE
  refine k_iload (pc := 130) hC dX8_tells_130 4 rfl ?_
  refine k_iload (pc := 132) hC dX8_tells_132 3 rfl ?_
  refine k_icmp_ge (pc := 134) (tgt := 283) hC dX8_tells_134 (by decide) hE (fun hE => ?_) (fun hE => ?_)
  · refine k_aload_n (pc := 283) hC dX8_tells_283 rfl 0 rfl ?_
    refine gM_71 (pc := 284) hM dX8_tells_284 ?_
    refine k_iload_n (pc := 287) hC dX8_tells_287 rfl 1 rfl ?_
    refine m_iald (pc := 288) 54 ly_54 hM dX8_tells_288 hE (fun x17 hE => ?_)
    exact k_iret (pc := 289) hC hR ⟨Nat.le_refl 0, Nat.le_refl 0⟩ dX8_tells_289 (by cases hE; rfl) (by cases hE; exact fun _ h => h)
  · refine k_aload_n (pc := 137) hC dX8_tells_137 rfl 0 rfl ?_
    refine gM_50 (pc := 138) hM dX8_tells_138 ?_
    refine k_iload (pc := 141) hC dX8_tells_141 4 rfl ?_
    refine m_zald (pc := 143) 36 ly_36 hM dX8_tells_143 hE (fun x18 hE => ?_)
    refine k_if_eq (pc := 144) (tgt := 211) hC dX8_tells_144 (by decide) hE (fun hE => ?_) (fun hE => ?_)
    · refine k_sub [0, 1, 2, 4] rfl ?_
      exact w_M_tells_B211 hM hR F _ _ _ _ hE
    · refine k_aload_n (pc := 147) hC dX8_tells_147 rfl 0 rfl ?_
      refine k_aload_n (pc := 148) hC dX8_tells_148 rfl 0 rfl ?_
      refine gM_51 (pc := 149) hM dX8_tells_149 ?_
      refine k_iload (pc := 152) hC dX8_tells_152 4 rfl ?_
      refine m_iald (pc := 154) 37 ly_37 hM dX8_tells_154 hE (fun x19 hE => ?_)
      refine k_aload_n (pc := 155) hC dX8_tells_155 rfl 0 rfl ?_
      refine gM_52 (pc := 156) hM dX8_tells_156 ?_
      refine k_iload (pc := 159) hC dX8_tells_159 4 rfl ?_
      refine m_iald (pc := 161) 38 ly_38 hM dX8_tells_161 hE (fun x20 hE => ?_)
      refine m_clIj (pc := 162) (As := [.int x19, .int x20]) hM (cw_M_termOf hM (Nat.le_of_ble_eq_true rfl) (Nat.le_of_ble_eq_true rfl)) rfl rfl (Nat.le_of_ble_eq_true rfl) dX8_tells_162 hE (fun r h => ct_M_termOf _ _ _ _ hM.2.1 F x19 x20 J K r h) (fun r21 hE => ?_)
      refine k_istore (pc := 165) (lv' := [(7, .int r21.1), (0, .ref th), (1, .int a1), (3, .int a3), (5, .int a5), (6, .int a6)]) hC dX8_tells_165 (by rw [hnL]; decide) rfl ?_
      refine k_aload_n (pc := 167) hC dX8_tells_167 rfl 1 rfl ?_
      refine k_aload_n (pc := 168) hC dX8_tells_168 rfl 1 rfl ?_
      refine gM_52 (pc := 169) hM dX8_tells_169 ?_
      refine k_iload (pc := 172) hC dX8_tells_172 5 rfl ?_
      refine m_iald (pc := 174) 38 ly_38 hM dX8_tells_174 hE (fun x22 hE => ?_)
      refine k_aload_n (pc := 175) hC dX8_tells_175 rfl 1 rfl ?_
      refine gM_53 (pc := 176) hM dX8_tells_176 ?_
      refine k_iload (pc := 179) hC dX8_tells_179 5 rfl ?_
      refine m_iald (pc := 181) 39 ly_39 hM dX8_tells_181 hE (fun x23 hE => ?_)
      refine m_clIj (pc := 182) (As := [.int x22, .int x23]) hM (cw_M_termOf hM (Nat.le_of_ble_eq_true rfl) (Nat.le_of_ble_eq_true rfl)) rfl rfl (Nat.le_of_ble_eq_true rfl) dX8_tells_182 hE (fun r h => ct_M_termOf _ _ _ _ hM.2.1 F x22 x23 r21.2 K r h) (fun r24 hE => ?_)
      refine k_istore (pc := 185) (lv' := [(8, .int r24.1), (7, .int r21.1), (0, .ref th), (1, .int a1), (3, .int a3), (5, .int a5), (6, .int a6)]) hC dX8_tells_185 (by rw [hnL]; decide) rfl ?_
      refine k_aload_n (pc := 187) hC dX8_tells_187 rfl 2 rfl ?_
      refine gM_63 (pc := 188) hM dX8_tells_188 ?_
      refine k_if_eq (pc := 191) (tgt := 201) hC dX8_tells_191 (by decide) hE (fun hE => ?_) (fun hE => ?_)
      · refine k_iload (pc := 201) hC dX8_tells_201 1 rfl ?_
        refine k_iload (pc := 203) hC dX8_tells_203 0 rfl ?_
        refine k_icmp_lt (pc := 205) (tgt := 211) hC dX8_tells_205 (by decide) hE (fun hE => ?_) (fun hE => ?_)
        · refine k_sub [2, 3, 4, 6] rfl ?_
          exact w_M_tells_B211 hM hR F _ _ _ _ hE
        · refine k_goto (pc := 208) (tgt := 277) hC dX8_tells_208 (by decide) ?_
          refine k_iincE (pc := 277) (k := 6) (d := 1) (lv' := fun x25 => [(6, .int x25), (8, .int r24.1), (7, .int r21.1), (0, .ref th), (1, .int a1), (3, .int a3), (5, .int a5)]) hC dX8_tells_277 rfl (by decide) (by rw [hnL]; decide) hE (fun _ => rfl) (fun x25 hE => ?_)
          refine k_goto (pc := 280) (tgt := 130) hC dX8_tells_280 (by decide) ?_
          refine k_sub [3, 4, 5, 6, 0] rfl ?_
          exact hk130 _ _ _ _ _ hE
      · refine k_aload_n (pc := 194) hC dX8_tells_194 rfl 2 rfl ?_
        refine gM_71 (pc := 195) hM dX8_tells_195 ?_
        refine k_iload_n (pc := 198) hC dX8_tells_198 rfl 3 rfl ?_
        refine m_iald (pc := 199) 54 ly_54 hM dX8_tells_199 hE (fun x26 hE => ?_)
        exact k_iret (pc := 200) hC hR ⟨Nat.le_refl 0, Nat.le_refl 0⟩ dX8_tells_200 (by cases hE; rfl) (by cases hE; exact fun _ h => h)
theorem w_M_tells_L130 {X : Ctx} {D : Dd} {th : Nat} {K : Jl} {out : Int32 × Ji} (hM : Mx X cX8_tells D th 9 rmM_tells) (hR : Rt X (some .int) (RM D th out.2 K) (some (.int out.1)) 0 0) (F : Nat) (n : Nat) : ∀ (a1 : Int32) (a3 : Int32) (a5 : Int32) (a6 : Int32) (J : Ji) , M_tells_L130 F n a1 a3 a5 a6 J = some out → Wk X 0 0 (RM D th J K) 130 [(0, .ref th), (1, .int a1), (3, .int a3), (5, .int a5), (6, .int a6)] [] := by
  induction n with
  | zero => intro a1 a3 a5 a6 J h; cases h
  | succ n ih => intro a1 a3 a5 a6 J h; exact w_M_tells_B130 hM hR F (M_tells_L130 F n) ih a1 a3 a5 a6 J h
set_option maxHeartbeats 4000000 in
theorem w_M_tells {X : Ctx} {D : Dd} {th : Nat} {K : Jl} {out : Int32 × Ji} (hM : Mx X cX8_tells D th 9 rmM_tells) (hR : Rt X (some .int) (RM D th out.2 K) (some (.int out.1)) 0 0) (F : Nat) (a1 : Int32) (a2 : Int32) (J : Ji) (hE : M_tells F a1 a2 J = some out) : Wk X 0 0 (RM D th J K) 0 [(0, .ref th), (1, .int a1), (2, .int a2)] [] := by
  have hC := hM.1
  have hnL := hM.2.2.1
  have hrm := hM.2.2.2
  unfold M_tells at hE
  refine k_aload_n (pc := 0) hC dX8_tells_0 rfl 0 rfl ?_
  refine gM_65 (pc := 1) hM dX8_tells_1 ?_
  refine k_bipush (pc := 4) (v := 42) hC dX8_tells_4 (by decide) ?_
  refine k_iload_n (pc := 6) hC dX8_tells_6 rfl 1 rfl ?_
  refine k_iadd (pc := 7) hC dX8_tells_7 ?_
  refine m_iald (pc := 8) 48 ly_48 hM dX8_tells_8 hE (fun x1 hE => ?_)
  refine k_istore_n (pc := 9) (lv' := [(3, .int x1), (0, .ref th), (1, .int a1), (2, .int a2)]) hC dX8_tells_9 rfl (by rw [hnL]; decide) rfl ?_
  refine k_aload_n (pc := 10) hC dX8_tells_10 rfl 1 rfl ?_
  refine gM_47 (pc := 11) hM dX8_tells_11 ?_
  refine k_bipush (pc := 14) (v := 6) hC dX8_tells_14 (by decide) ?_
  refine k_aload_n (pc := 16) hC dX8_tells_16 rfl 1 rfl ?_
  refine gM_18 (pc := 17) hM dX8_tells_17 ?_
  refine k_imul (pc := 20) hC dX8_tells_20 ?_
  refine k_iload_n (pc := 21) hC dX8_tells_21 rfl 2 rfl ?_
  refine k_iadd (pc := 22) hC dX8_tells_22 ?_
  refine m_iald (pc := 23) 34 ly_34 hM dX8_tells_23 hE (fun x2 hE => ?_)
  refine k_istore (pc := 24) (lv' := [(4, .int x2), (3, .int x1), (0, .ref th), (1, .int a1), (2, .int a2)]) hC dX8_tells_24 (by rw [hnL]; decide) rfl ?_
  refine k_aload_n (pc := 26) hC dX8_tells_26 rfl 2 rfl ?_
  refine gM_48 (pc := 27) hM dX8_tells_27 ?_
  refine k_bipush (pc := 30) (v := 6) hC dX8_tells_30 (by decide) ?_
  refine k_aload_n (pc := 32) hC dX8_tells_32 rfl 2 rfl ?_
  refine gM_18 (pc := 33) hM dX8_tells_33 ?_
  refine k_imul (pc := 36) hC dX8_tells_36 ?_
  refine k_iload_n (pc := 37) hC dX8_tells_37 rfl 3 rfl ?_
  refine k_iadd (pc := 38) hC dX8_tells_38 ?_
  refine m_iald (pc := 39) 35 ly_35 hM dX8_tells_39 hE (fun x3 hE => ?_)
  refine k_istore (pc := 40) (lv' := [(5, .int x3), (4, .int x2), (3, .int x1), (0, .ref th), (1, .int a1), (2, .int a2)]) hC dX8_tells_40 (by rw [hnL]; decide) rfl ?_
  refine k_aload_n (pc := 42) hC dX8_tells_42 rfl 3 rfl ?_
  refine gM_61 (pc := 43) hM dX8_tells_43 ?_
  refine k_iconst (pc := 46) (v := 0) hC dX8_tells_46 (by decide) ?_
  refine k_aload_n (pc := 47) hC dX8_tells_47 rfl 3 rfl ?_
  refine gM_71 (pc := 48) hM dX8_tells_48 ?_
  refine k_iload_n (pc := 51) hC dX8_tells_51 rfl 4 rfl ?_
  refine m_iald (pc := 52) 54 ly_54 hM dX8_tells_52 hE (fun x4 hE => ?_)
  refine m_iast (pc := 53) 45 ly_45 hM dX8_tells_53 hE (fun J5 hE => ?_)
  refine k_aload_n (pc := 54) hC dX8_tells_54 rfl 3 rfl ?_
  refine gM_61 (pc := 55) hM dX8_tells_55 ?_
  refine k_iconst (pc := 58) (v := 1) hC dX8_tells_58 (by decide) ?_
  refine k_aload_n (pc := 59) hC dX8_tells_59 rfl 3 rfl ?_
  refine gM_65 (pc := 60) hM dX8_tells_60 ?_
  refine k_bipush (pc := 63) (v := 6) hC dX8_tells_63 (by decide) ?_
  refine k_bipush (pc := 65) (v := 6) hC dX8_tells_65 (by decide) ?_
  refine k_iload_n (pc := 67) hC dX8_tells_67 rfl 2 rfl ?_
  refine k_imul (pc := 68) hC dX8_tells_68 ?_
  refine k_iadd (pc := 69) hC dX8_tells_69 ?_
  refine k_aload_n (pc := 70) hC dX8_tells_70 rfl 3 rfl ?_
  refine gM_71 (pc := 71) hM dX8_tells_71 ?_
  refine k_iload_n (pc := 74) hC dX8_tells_74 rfl 4 rfl ?_
  refine m_iald (pc := 75) 54 ly_54 hM dX8_tells_75 hE (fun x6 hE => ?_)
  refine k_iadd (pc := 76) hC dX8_tells_76 ?_
  refine m_iald (pc := 77) 48 ly_48 hM dX8_tells_77 hE (fun x7 hE => ?_)
  refine m_iast (pc := 78) 45 ly_45 hM dX8_tells_78 hE (fun J8 hE => ?_)
  refine k_aload_n (pc := 79) hC dX8_tells_79 rfl 3 rfl ?_
  refine gM_61 (pc := 80) hM dX8_tells_80 ?_
  refine k_iconst (pc := 83) (v := 2) hC dX8_tells_83 (by decide) ?_
  refine k_aload_n (pc := 84) hC dX8_tells_84 rfl 3 rfl ?_
  refine k_iload_n (pc := 85) hC dX8_tells_85 rfl 2 rfl ?_
  refine m_clI (pc := 86) (As := [.int x1]) hM (cw_M_stepsOf hM (Nat.le_of_ble_eq_true rfl) (Nat.le_of_ble_eq_true rfl)) rfl rfl (Nat.le_of_ble_eq_true rfl) dX8_tells_86 hE (fun r h => ct_M_stepsOf _ _ _ _ hM.2.1 x1 J8 K r h) (fun r9 hE => ?_)
  refine m_iast (pc := 89) 45 ly_45 hM dX8_tells_89 hE (fun J10 hE => ?_)
  refine k_aload_n (pc := 90) hC dX8_tells_90 rfl 3 rfl ?_
  refine gM_61 (pc := 91) hM dX8_tells_91 ?_
  refine k_iconst (pc := 94) (v := 3) hC dX8_tells_94 (by decide) ?_
  refine k_iload_n (pc := 95) hC dX8_tells_95 rfl 5 rfl ?_
  refine m_iast (pc := 96) 45 ly_45 hM dX8_tells_96 hE (fun J11 hE => ?_)
  refine k_aload_n (pc := 97) hC dX8_tells_97 rfl 3 rfl ?_
  refine gM_61 (pc := 98) hM dX8_tells_98 ?_
  refine k_iconst (pc := 101) (v := 4) hC dX8_tells_101 (by decide) ?_
  refine k_aload_n (pc := 102) hC dX8_tells_102 rfl 3 rfl ?_
  refine gM_65 (pc := 103) hM dX8_tells_103 ?_
  refine k_iload_n (pc := 106) hC dX8_tells_106 rfl 2 rfl ?_
  refine m_iald (pc := 107) 48 ly_48 hM dX8_tells_107 hE (fun x12 hE => ?_)
  refine m_iast (pc := 108) 45 ly_45 hM dX8_tells_108 hE (fun J13 hE => ?_)
  refine k_aload_n (pc := 109) hC dX8_tells_109 rfl 3 rfl ?_
  refine gM_61 (pc := 110) hM dX8_tells_110 ?_
  refine k_iconst (pc := 113) (v := 5) hC dX8_tells_113 (by decide) ?_
  refine k_aload_n (pc := 114) hC dX8_tells_114 rfl 3 rfl ?_
  refine gM_72 (pc := 115) hM dX8_tells_115 ?_
  refine k_iload_n (pc := 118) hC dX8_tells_118 rfl 4 rfl ?_
  refine m_iald (pc := 119) 55 ly_55 hM dX8_tells_119 hE (fun x14 hE => ?_)
  refine m_iast (pc := 120) 45 ly_45 hM dX8_tells_120 hE (fun J15 hE => ?_)
  refine k_aload_n (pc := 121) hC dX8_tells_121 rfl 3 rfl ?_
  refine k_iconst (pc := 122) (v := 0) hC dX8_tells_122 (by decide) ?_
  refine pM_63 (pc := 123) (by decide) hM dX8_tells_123 hE (fun J16 hE => ?_)
  refine k_iload (pc := 126) hC dX8_tells_126 1 rfl ?_
  refine k_istore (pc := 128) (lv' := [(6, .int x2), (5, .int x3), (4, .int x2), (3, .int x1), (0, .ref th), (1, .int a1), (2, .int a2)]) hC dX8_tells_128 (by rw [hnL]; decide) rfl ?_
  refine k_sub [4, 5, 3, 1, 0] rfl ?_
  exact w_M_tells_L130 hM hR F _ _ _ _ _ _ hE
theorem ct_M_tells (l : Launch) (D : Dd) (A : Nat → Prop) (th : Nat) (hA : ∀ (off : Nat) (kd : Kd), layM off = some kd → A (th + off)) (F : Nat) (a1 : Int32) (a2 : Int32) (J : Ji) (K : Jl) (out : Int32 × Ji) (hE : M_tells F a1 a2 J = some out) : Ct l yX8_tells (ws_ yX8_tells cX8_tells 9 (some .int)) rmM_tells vwCl arTy D A [.ref th, .int a1, .int a2] (RM D th J K) (RM D th out.2 K) (some (.int out.1)) 0 0 := by
  refine Ct.of (by decide) (Nat.le_of_ble_eq_true rfl) rfl ?_
  intro X hl hrm hC hR hXA hnL _
  exact w_M_tells ⟨hC, by unfold Ft; rw [hXA]; exact hA, hnL, hrm⟩ hR F a1 a2 J hE
theorem cw_M_tells {X : Ctx} {cc : ByteArray} {D : Dd} {th mL : Nat} {rm : Room} (hM : Mx X cc D th mL rm) (h1 : rmM_tells.frames + 1 ≤ rm.frames) (h2 : 8 + (9 + 11) + rmM_tells.locals ≤ rm.locals) : CallW X.2.2.2.1 X.2.2.2.2.1 X.2.2.2.2.2.2.1 RX8 RX8 412 yX8_tells cX8_tells 9 (some .int) (ws_ yX8_tells cX8_tells 9 (some .int)) rmM_tells 0 0 2 := cwV 2 (cx_w hM.1) (lw_V q2085 q2087 qs103 q128 q2088) rfl rfl rfl (by decide +kernel) (by rw [hM.2.2.2]; exact ⟨h1, h2⟩)
abbrev rmM_begins1 : Room := { frames := 2, cells := 0, slots := 0, locals := 55 }
set_option maxHeartbeats 4000000 in
theorem w_M_begins1_B124 {X : Ctx} {D : Dd} {th : Nat} {K : Jl} {out : Ji} (hM : Mx X cX8_begins1 D th 7 rmM_begins1) (hR : Rt X none (RM D th out K) none 0 0) (F : Nat) (a1 : Int32) (a2 : Int32) (J : Ji) (hE : M_begins1_B124 F a1 a2 J = some out) : Wk X 0 0 (RM D th J K) 124 [(0, .ref th), (1, .int a1), (2, .int a2)] [] := by
  have hC := hM.1
  have hnL := hM.2.2.1
  have hrm := hM.2.2.2
  unfold M_begins1_B124 at hE
  refine k_aload_n (pc := 124) hC dX8_begins1_124 rfl 0 rfl ?_
  refine k_iload_n (pc := 125) hC dX8_begins1_125 rfl 1 rfl ?_
  refine k_iload_n (pc := 126) hC dX8_begins1_126 rfl 2 rfl ?_
  refine m_clVj (pc := 127) (As := [.int a1, .int a2]) hM (cw_M_lies hM (Nat.le_of_ble_eq_true rfl) (Nat.le_of_ble_eq_true rfl)) rfl rfl (Nat.le_of_ble_eq_true rfl) dX8_begins1_127 hE (fun r h => ct_M_lies _ _ _ _ hM.2.1 a1 a2 J K r h) (fun r20 hE => ?_)
  exact k_vret (pc := 130) hC hR ⟨Nat.le_refl 0, Nat.le_refl 0⟩ dX8_begins1_130 (by cases hE; rfl) (by cases hE; exact fun _ h => h)
set_option maxHeartbeats 4000000 in
theorem w_M_begins1_B147 {X : Ctx} {D : Dd} {th : Nat} {K : Jl} {out : Ji} (hM : Mx X cX8_begins1 D th 7 rmM_begins1) (hR : Rt X none (RM D th out K) none 0 0) (F : Nat) (a1 : Int32) (a2 : Int32) (a3 : Int32) (a4 : Int32) (J : Ji) (hE : M_begins1_B147 F a1 a2 a3 a4 J = some out) : Wk X 0 0 (RM D th J K) 147 [(0, .ref th), (1, .int a1), (2, .int a2), (3, .int a3), (4, .int a4)] [] := by
  have hC := hM.1
  have hnL := hM.2.2.1
  have hrm := hM.2.2.2
  unfold M_begins1_B147 at hE
  refine k_aload_n (pc := 147) hC dX8_begins1_147 rfl 0 rfl ?_
  refine gM_65 (pc := 148) hM dX8_begins1_148 ?_
  refine k_iload_n (pc := 151) hC dX8_begins1_151 rfl 3 rfl ?_
  refine k_dup2 (pc := 152) hC dX8_begins1_152 rfl rfl ?_
  refine m_iald (pc := 153) 48 ly_48 hM dX8_begins1_153 hE (fun x13 hE => ?_)
  refine k_iconst (pc := 154) (v := 1) hC dX8_begins1_154 (by decide) ?_
  refine k_isub (pc := 155) hC dX8_begins1_155 ?_
  refine m_iast (pc := 156) 48 ly_48 hM dX8_begins1_156 hE (fun J14 hE => ?_)
  refine k_aload_n (pc := 157) hC dX8_begins1_157 rfl 0 rfl ?_
  refine gM_70 (pc := 158) hM dX8_begins1_158 ?_
  refine k_iload_n (pc := 161) hC dX8_begins1_161 rfl 1 rfl ?_
  refine k_iload (pc := 162) hC dX8_begins1_162 4 rfl ?_
  refine m_iast (pc := 164) 53 ly_53 hM dX8_begins1_164 hE (fun J15 hE => ?_)
  refine k_aload_n (pc := 165) hC dX8_begins1_165 rfl 0 rfl ?_
  refine gM_67 (pc := 166) hM dX8_begins1_166 ?_
  refine k_iload_n (pc := 169) hC dX8_begins1_169 rfl 1 rfl ?_
  refine k_iconst (pc := 170) (v := 2) hC dX8_begins1_170 (by decide) ?_
  refine m_iast (pc := 171) 50 ly_50 hM dX8_begins1_171 hE (fun J16 hE => ?_)
  refine k_aload_n (pc := 172) hC dX8_begins1_172 rfl 0 rfl ?_
  refine gM_69 (pc := 173) hM dX8_begins1_173 ?_
  refine k_iload_n (pc := 176) hC dX8_begins1_176 rfl 1 rfl ?_
  refine k_iload_n (pc := 177) hC dX8_begins1_177 rfl 2 rfl ?_
  refine k_aload_n (pc := 178) hC dX8_begins1_178 rfl 0 rfl ?_
  refine gM_36 (pc := 179) hM dX8_begins1_179 ?_
  refine k_aload_n (pc := 182) hC dX8_begins1_182 rfl 0 rfl ?_
  refine k_iload_n (pc := 183) hC dX8_begins1_183 rfl 3 rfl ?_
  refine k_iload (pc := 184) hC dX8_begins1_184 4 rfl ?_
  refine m_clI (pc := 186) (As := [.int a3, .int a4]) hM (cw_M_stepAt hM (Nat.le_of_ble_eq_true rfl) (Nat.le_of_ble_eq_true rfl)) rfl rfl (Nat.le_of_ble_eq_true rfl) dX8_begins1_186 hE (fun r h => ct_M_stepAt _ _ _ _ hM.2.1 a3 a4 J16 K r h) (fun r17 hE => ?_)
  refine m_iald (pc := 189) 23 ly_23 hM dX8_begins1_189 hE (fun x18 hE => ?_)
  refine k_iadd (pc := 190) hC dX8_begins1_190 ?_
  refine m_iast (pc := 191) 52 ly_52 hM dX8_begins1_191 hE (fun J19 hE => ?_)
  exact k_vret (pc := 192) hC hR ⟨Nat.le_refl 0, Nat.le_refl 0⟩ dX8_begins1_192 (by cases hE; rfl) (by cases hE; exact fun _ h => h)
set_option maxHeartbeats 4000000 in
theorem w_M_begins1_B131 {X : Ctx} {D : Dd} {th : Nat} {K : Jl} {out : Ji} (hM : Mx X cX8_begins1 D th 7 rmM_begins1) (hR : Rt X none (RM D th out K) none 0 0) (F : Nat) (a1 : Int32) (a2 : Int32) (a3 : Int32) (a4 : Int32) (a5 : Int32) (a6 : Int32) (J : Ji) (hE : M_begins1_B131 F a1 a2 a3 a4 a5 a6 J = some out) : Wk X 0 0 (RM D th J K) 131 [(0, .ref th), (1, .int a1), (2, .int a2), (3, .int a3), (4, .int a4), (5, .int a5), (6, .int a6)] [] := by
  have hC := hM.1
  have hnL := hM.2.2.1
  have hrm := hM.2.2.2
  unfold M_begins1_B131 at hE
  refine k_iload (pc := 131) hC dX8_begins1_131 6 rfl ?_
  refine k_if_ne (pc := 133) (tgt := 147) hC dX8_begins1_133 (by decide) hE (fun hE => ?_) (fun hE => ?_)
  · refine k_aload_n (pc := 136) hC dX8_begins1_136 rfl 0 rfl ?_
    refine k_iload (pc := 137) hC dX8_begins1_137 5 rfl ?_
    refine k_iload_n (pc := 139) hC dX8_begins1_139 rfl 1 rfl ?_
    refine m_clI (pc := 140) (As := [.int a5, .int a1]) hM (cw_M_isInUse hM (Nat.le_of_ble_eq_true rfl) (Nat.le_of_ble_eq_true rfl)) rfl rfl (Nat.le_of_ble_eq_true rfl) dX8_begins1_140 hE (fun r h => ct_M_isInUse _ _ _ _ hM.2.1 F a5 a1 J K r h) (fun r12 hE => ?_)
    refine k_if_eq (pc := 143) (tgt := 147) hC dX8_begins1_143 (by decide) hE (fun hE => ?_) (fun hE => ?_)
    · refine k_sub [0, 1, 2, 3, 4] rfl ?_
      exact w_M_begins1_B147 hM hR F _ _ _ _ _ hE
    · exact k_vret (pc := 146) hC hR ⟨Nat.le_refl 0, Nat.le_refl 0⟩ dX8_begins1_146 (by cases hE; rfl) (by cases hE; exact fun _ h => h)
  · refine k_sub [0, 1, 2, 3, 4] rfl ?_
    exact w_M_begins1_B147 hM hR F _ _ _ _ _ hE
set_option maxHeartbeats 4000000 in
theorem w_M_begins1_B81 {X : Ctx} {D : Dd} {th : Nat} {K : Jl} {out : Ji} (hM : Mx X cX8_begins1 D th 7 rmM_begins1) (hR : Rt X none (RM D th out K) none 0 0) (F : Nat) (a1 : Int32) (a2 : Int32) (a3 : Int32) (a4 : Int32) (a5 : Int32) (s0 : Int32) (J : Ji) (hE : M_begins1_B81 F a1 a2 a3 a4 a5 s0 J = some out) : Wk X 0 0 (RM D th J K) 81 [(0, .ref th), (1, .int a1), (2, .int a2), (3, .int a3), (4, .int a4), (5, .int a5)] [.int s0] := by
  have hC := hM.1
  have hnL := hM.2.2.1
  have hrm := hM.2.2.2
  unfold M_begins1_B81 at hE
  refine k_istore (pc := 81) (lv' := [(6, .int s0), (0, .ref th), (1, .int a1), (2, .int a2), (3, .int a3), (4, .int a4), (5, .int a5)]) hC dX8_begins1_81 (by rw [hnL]; decide) rfl ?_
  refine k_aload_n (pc := 83) hC dX8_begins1_83 rfl 1 rfl ?_
  refine gM_65 (pc := 84) hM dX8_begins1_84 ?_
  refine k_iload_n (pc := 87) hC dX8_begins1_87 rfl 4 rfl ?_
  refine m_iald (pc := 88) 48 ly_48 hM dX8_begins1_88 hE (fun x9 hE => ?_)
  refine k_if_eq (pc := 89) (tgt := 124) hC dX8_begins1_89 (by decide) hE (fun hE => ?_) (fun hE => ?_)
  · refine k_sub [1, 2, 3] rfl ?_
    exact w_M_begins1_B124 hM hR F _ _ _ hE
  · refine k_iload (pc := 92) hC dX8_begins1_92 0 rfl ?_
    refine k_if_ne (pc := 94) (tgt := 131) hC dX8_begins1_94 (by decide) hE (fun hE => ?_) (fun hE => ?_)
    · refine k_aload_n (pc := 97) hC dX8_begins1_97 rfl 1 rfl ?_
      refine gM_65 (pc := 98) hM dX8_begins1_98 ?_
      refine k_bipush (pc := 101) (v := 72) hC dX8_begins1_101 (by decide) ?_
      refine k_iload (pc := 103) hC dX8_begins1_103 6 rfl ?_
      refine k_iadd (pc := 105) hC dX8_begins1_105 ?_
      refine m_iald (pc := 106) 48 ly_48 hM dX8_begins1_106 hE (fun x10 hE => ?_)
      refine k_aload_n (pc := 107) hC dX8_begins1_107 rfl 1 rfl ?_
      refine gM_33 (pc := 108) hM dX8_begins1_108 ?_
      refine k_bipush (pc := 111) (v := 6) hC dX8_begins1_111 (by decide) ?_
      refine k_aload_n (pc := 113) hC dX8_begins1_113 rfl 1 rfl ?_
      refine gM_18 (pc := 114) hM dX8_begins1_114 ?_
      refine k_imul (pc := 117) hC dX8_begins1_117 ?_
      refine k_iload_n (pc := 118) hC dX8_begins1_118 rfl 4 rfl ?_
      refine k_iadd (pc := 119) hC dX8_begins1_119 ?_
      refine m_iald (pc := 120) 20 ly_20 hM dX8_begins1_120 hE (fun x11 hE => ?_)
      refine k_icmp_eq (pc := 121) (tgt := 131) hC dX8_begins1_121 (by decide) hE (fun hE => ?_) (fun hE => ?_)
      · refine k_sub [1, 2, 3, 4, 5, 6, 0] rfl ?_
        exact w_M_begins1_B131 hM hR F _ _ _ _ _ _ _ hE
      · refine k_sub [1, 2, 3] rfl ?_
        exact w_M_begins1_B124 hM hR F _ _ _ hE
    · refine k_sub [1, 2, 3, 4, 5, 6, 0] rfl ?_
      exact w_M_begins1_B131 hM hR F _ _ _ _ _ _ _ hE
set_option maxHeartbeats 4000000 in
theorem w_M_begins1 {X : Ctx} {D : Dd} {th : Nat} {K : Jl} {out : Ji} (hM : Mx X cX8_begins1 D th 7 rmM_begins1) (hR : Rt X none (RM D th out K) none 0 0) (F : Nat) (a1 : Int32) (a2 : Int32) (J : Ji) (hE : M_begins1 F a1 a2 J = some out) : Wk X 0 0 (RM D th J K) 0 [(0, .ref th), (1, .int a1), (2, .int a2)] [] := by
  have hC := hM.1
  have hnL := hM.2.2.1
  have hrm := hM.2.2.2
  unfold M_begins1 at hE
  refine k_aload_n (pc := 0) hC dX8_begins1_0 rfl 0 rfl ?_
  refine gM_65 (pc := 1) hM dX8_begins1_1 ?_
  refine k_bipush (pc := 4) (v := 42) hC dX8_begins1_4 (by decide) ?_
  refine k_iload_n (pc := 6) hC dX8_begins1_6 rfl 1 rfl ?_
  refine k_iadd (pc := 7) hC dX8_begins1_7 ?_
  refine m_iald (pc := 8) 48 ly_48 hM dX8_begins1_8 hE (fun x1 hE => ?_)
  refine k_istore_n (pc := 9) (lv' := [(3, .int x1), (0, .ref th), (1, .int a1), (2, .int a2)]) hC dX8_begins1_9 rfl (by rw [hnL]; decide) rfl ?_
  refine k_aload_n (pc := 10) hC dX8_begins1_10 rfl 1 rfl ?_
  refine k_iload_n (pc := 11) hC dX8_begins1_11 rfl 0 rfl ?_
  refine m_clI (pc := 12) (As := [.int x1]) hM (cw_M_isEnded hM (Nat.le_of_ble_eq_true rfl) (Nat.le_of_ble_eq_true rfl)) rfl rfl (Nat.le_of_ble_eq_true rfl) dX8_begins1_12 hE (fun r h => ct_M_isEnded _ _ _ _ hM.2.1 F x1 J K r h) (fun r2 hE => ?_)
  refine k_if_eq (pc := 15) (tgt := 32) hC dX8_begins1_15 (by decide) hE (fun hE => ?_) (fun hE => ?_)
  · refine k_aload_n (pc := 32) hC dX8_begins1_32 rfl 1 rfl ?_
    refine k_iload_n (pc := 33) hC dX8_begins1_33 rfl 2 rfl ?_
    refine k_iload_n (pc := 34) hC dX8_begins1_34 rfl 3 rfl ?_
    refine m_clIj (pc := 35) (As := [.int a1, .int a2]) hM (cw_M_tells hM (Nat.le_of_ble_eq_true rfl) (Nat.le_of_ble_eq_true rfl)) rfl rfl (Nat.le_of_ble_eq_true rfl) dX8_begins1_35 hE (fun r h => ct_M_tells _ _ _ _ hM.2.1 F a1 a2 J K r h) (fun r3 hE => ?_)
    refine k_istore (pc := 38) (lv' := [(4, .int r3.1), (3, .int x1), (0, .ref th), (1, .int a1), (2, .int a2)]) hC dX8_begins1_38 (by rw [hnL]; decide) rfl ?_
    refine k_aload_n (pc := 40) hC dX8_begins1_40 rfl 2 rfl ?_
    refine gM_40 (pc := 41) hM dX8_begins1_41 ?_
    refine k_aload_n (pc := 44) hC dX8_begins1_44 rfl 2 rfl ?_
    refine k_iload_n (pc := 45) hC dX8_begins1_45 rfl 1 rfl ?_
    refine k_iload (pc := 46) hC dX8_begins1_46 0 rfl ?_
    refine m_clI (pc := 48) (As := [.int x1, .int r3.1]) hM (cw_M_stepAt hM (Nat.le_of_ble_eq_true rfl) (Nat.le_of_ble_eq_true rfl)) rfl rfl (Nat.le_of_ble_eq_true rfl) dX8_begins1_48 hE (fun r h => ct_M_stepAt _ _ _ _ hM.2.1 x1 r3.1 r3.2 K r h) (fun r4 hE => ?_)
    refine m_iald (pc := 51) 27 ly_27 hM dX8_begins1_51 hE (fun x5 hE => ?_)
    refine k_istore (pc := 52) (lv' := [(5, .int x5), (4, .int r3.1), (3, .int x1), (0, .ref th), (1, .int a1), (2, .int a2)]) hC dX8_begins1_52 (by rw [hnL]; decide) rfl ?_
    refine k_iload (pc := 54) hC dX8_begins1_54 0 rfl ?_
    refine k_if_lt (pc := 56) (tgt := 76) hC dX8_begins1_56 (by decide) hE (fun hE => ?_) (fun hE => ?_)
    · refine k_iconst (pc := 76) (v := 1) hC dX8_begins1_76 (by decide) ?_
      refine k_goto (pc := 77) (tgt := 81) hC dX8_begins1_77 (by decide) ?_
      refine k_sub [3, 4, 5, 2, 1, 0] rfl ?_
      exact w_M_begins1_B81 hM hR F _ _ _ _ _ _ _ hE
    · refine k_aload_n (pc := 59) hC dX8_begins1_59 rfl 3 rfl ?_
      refine gM_65 (pc := 60) hM dX8_begins1_60 ?_
      refine k_bipush (pc := 63) (v := 72) hC dX8_begins1_63 (by decide) ?_
      refine k_iload (pc := 65) hC dX8_begins1_65 0 rfl ?_
      refine k_iadd (pc := 67) hC dX8_begins1_67 ?_
      refine m_iald (pc := 68) 48 ly_48 hM dX8_begins1_68 hE (fun x6 hE => ?_)
      refine k_bipush (pc := 69) (v := 100) hC dX8_begins1_69 (by decide) ?_
      refine k_iload_n (pc := 71) hC dX8_begins1_71 rfl 4 rfl ?_
      refine k_iadd (pc := 72) hC dX8_begins1_72 ?_
      refine k_icmp_ne (pc := 73) (tgt := 80) hC dX8_begins1_73 (by decide) hE (fun hE => ?_) (fun hE => ?_)
      · refine k_iconst (pc := 76) (v := 1) hC dX8_begins1_76 (by decide) ?_
        refine k_goto (pc := 77) (tgt := 81) hC dX8_begins1_77 (by decide) ?_
        refine k_sub [3, 4, 5, 2, 1, 0] rfl ?_
        exact w_M_begins1_B81 hM hR F _ _ _ _ _ _ _ hE
      · refine k_iconst (pc := 80) (v := 0) hC dX8_begins1_80 (by decide) ?_
        refine k_sub [3, 4, 5, 2, 1, 0] rfl ?_
        exact w_M_begins1_B81 hM hR F _ _ _ _ _ _ _ hE
  · refine k_aload_n (pc := 18) hC dX8_begins1_18 rfl 1 rfl ?_
    refine gM_73 (pc := 19) hM dX8_begins1_19 ?_
    refine k_iload_n (pc := 22) hC dX8_begins1_22 rfl 2 rfl ?_
    refine k_iconst (pc := 23) (v := 1) hC dX8_begins1_23 (by decide) ?_
    refine m_zast (pc := 24) 56 ly_56 hM dX8_begins1_24 hE (fun J7 hE => ?_)
    refine k_aload_n (pc := 25) hC dX8_begins1_25 rfl 1 rfl ?_
    refine k_iload_n (pc := 26) hC dX8_begins1_26 rfl 2 rfl ?_
    refine k_iload_n (pc := 27) hC dX8_begins1_27 rfl 3 rfl ?_
    refine m_clVj (pc := 28) (As := [.int a1, .int a2]) hM (cw_M_lies hM (Nat.le_of_ble_eq_true rfl) (Nat.le_of_ble_eq_true rfl)) rfl rfl (Nat.le_of_ble_eq_true rfl) dX8_begins1_28 hE (fun r h => ct_M_lies _ _ _ _ hM.2.1 a1 a2 J7 K r h) (fun r8 hE => ?_)
    exact k_vret (pc := 31) hC hR ⟨Nat.le_refl 0, Nat.le_refl 0⟩ dX8_begins1_31 (by cases hE; rfl) (by cases hE; exact fun _ h => h)
theorem ct_M_begins1 (l : Launch) (D : Dd) (A : Nat → Prop) (th : Nat) (hA : ∀ (off : Nat) (kd : Kd), layM off = some kd → A (th + off)) (F : Nat) (a1 : Int32) (a2 : Int32) (J : Ji) (K : Jl) (out : Ji) (hE : M_begins1 F a1 a2 J = some out) : Ct l yX8_begins1 (ws_ yX8_begins1 cX8_begins1 7 none) rmM_begins1 vwCl arTy D A [.ref th, .int a1, .int a2] (RM D th J K) (RM D th out K) none 0 0 := by
  refine Ct.of (by decide) (Nat.le_of_ble_eq_true rfl) rfl ?_
  intro X hl hrm hC hR hXA hnL _
  exact w_M_begins1 ⟨hC, by unfold Ft; rw [hXA]; exact hA, hnL, hrm⟩ hR F a1 a2 J hE
theorem cw_M_begins1 {X : Ctx} {cc : ByteArray} {D : Dd} {th mL : Nat} {rm : Room} (hM : Mx X cc D th mL rm) (h1 : rmM_begins1.frames + 1 ≤ rm.frames) (h2 : 8 + (7 + 11) + rmM_begins1.locals ≤ rm.locals) : CallW X.2.2.2.1 X.2.2.2.2.1 X.2.2.2.2.2.2.1 RX8 RX8 428 yX8_begins1 cX8_begins1 7 none (ws_ yX8_begins1 cX8_begins1 7 none) rmM_begins1 0 0 2 := cwV 2 (cx_w hM.1) (lw_V q2077 q2079 qs101 q128 q2080) rfl rfl rfl (by decide +kernel) (by rw [hM.2.2.2]; exact ⟨h1, h2⟩)
abbrev rmM_getsUp : Room := { frames := 0, cells := 0, slots := 0, locals := 0 }
set_option maxHeartbeats 4000000 in
theorem w_M_getsUp_B117 {X : Ctx} {D : Dd} {th : Nat} {K : Jl} {out : Ji} (hM : Mx X cX8_getsUp D th 4 rmM_getsUp) (hR : Rt X none (RM D th out K) none 0 0) (a1 : Int32) (a3 : Int32) (s0 : Int32) (s1 : Int32) (J : Ji) (hE : M_getsUp_B117 a1 a3 s0 s1 J = some out) : Wk X 0 0 (RM D th J K) 117 [(0, .ref th), (1, .int a1), (3, .int a3)] [.int s0, .int s1, .ref (th + 50)] := by
  have hC := hM.1
  have hnL := hM.2.2.1
  have hrm := hM.2.2.2
  unfold M_getsUp_B117 at hE
  refine m_iast (pc := 117) 50 ly_50 hM dX8_getsUp_117 hE (fun J11 hE => ?_)
  refine k_aload_n (pc := 118) hC dX8_getsUp_118 rfl 0 rfl ?_
  refine gM_68 (pc := 119) hM dX8_getsUp_119 ?_
  refine k_iload_n (pc := 122) hC dX8_getsUp_122 rfl 1 rfl ?_
  refine k_iload_n (pc := 123) hC dX8_getsUp_123 rfl 2 rfl ?_
  refine m_iast (pc := 124) 51 ly_51 hM dX8_getsUp_124 hE (fun J12 hE => ?_)
  refine k_iload_n (pc := 125) hC dX8_getsUp_125 rfl 2 rfl ?_
  refine k_ldcw (pc := 126) (v := 1000000) hC q2024 dX8_getsUp_126 ?_
  refine k_icmp_ne (pc := 129) (tgt := 142) hC dX8_getsUp_129 (by decide) hE (fun hE => ?_) (fun hE => ?_)
  · refine k_aload_n (pc := 132) hC dX8_getsUp_132 rfl 0 rfl ?_
    refine gM_65 (pc := 133) hM dX8_getsUp_133 ?_
    refine k_bipush (pc := 136) (v := 66) hC dX8_getsUp_136 (by decide) ?_
    refine k_iload_n (pc := 138) hC dX8_getsUp_138 rfl 1 rfl ?_
    refine k_iadd (pc := 139) hC dX8_getsUp_139 ?_
    refine k_iconst (pc := 140) (v := 0) hC dX8_getsUp_140 (by decide) ?_
    refine m_iast (pc := 141) 48 ly_48 hM dX8_getsUp_141 hE (fun J13 hE => ?_)
    exact k_vret (pc := 142) hC hR ⟨Nat.le_refl 0, Nat.le_refl 0⟩ dX8_getsUp_142 (by cases hE; rfl) (by cases hE; exact fun _ h => h)
  · exact k_vret (pc := 142) hC hR ⟨Nat.le_refl 0, Nat.le_refl 0⟩ dX8_getsUp_142 (by cases hE; rfl) (by cases hE; exact fun _ h => h)
set_option maxHeartbeats 4000000 in
theorem w_M_getsUp {X : Ctx} {D : Dd} {th : Nat} {K : Jl} {out : Ji} (hM : Mx X cX8_getsUp D th 4 rmM_getsUp) (hR : Rt X none (RM D th out K) none 0 0) (a1 : Int32) (J : Ji) (hE : M_getsUp a1 J = some out) : Wk X 0 0 (RM D th J K) 0 [(0, .ref th), (1, .int a1)] [] := by
  have hC := hM.1
  have hnL := hM.2.2.1
  have hrm := hM.2.2.2
  unfold M_getsUp at hE
  refine k_aload_n (pc := 0) hC dX8_getsUp_0 rfl 0 rfl ?_
  refine gM_65 (pc := 1) hM dX8_getsUp_1 ?_
  refine k_bipush (pc := 4) (v := 42) hC dX8_getsUp_4 (by decide) ?_
  refine k_iload_n (pc := 6) hC dX8_getsUp_6 rfl 1 rfl ?_
  refine k_iadd (pc := 7) hC dX8_getsUp_7 ?_
  refine m_iald (pc := 8) 48 ly_48 hM dX8_getsUp_8 hE (fun x1 hE => ?_)
  refine k_istore_n (pc := 9) (lv' := [(2, .int x1), (0, .ref th), (1, .int a1)]) hC dX8_getsUp_9 rfl (by rw [hnL]; decide) rfl ?_
  refine k_aload_n (pc := 10) hC dX8_getsUp_10 rfl 1 rfl ?_
  refine gM_67 (pc := 11) hM dX8_getsUp_11 ?_
  refine k_iload_n (pc := 14) hC dX8_getsUp_14 rfl 2 rfl ?_
  refine k_iconst (pc := 15) (v := 0) hC dX8_getsUp_15 (by decide) ?_
  refine m_iast (pc := 16) 50 ly_50 hM dX8_getsUp_16 hE (fun J2 hE => ?_)
  refine k_aload_n (pc := 17) hC dX8_getsUp_17 rfl 1 rfl ?_
  refine gM_72 (pc := 18) hM dX8_getsUp_18 ?_
  refine k_iload_n (pc := 21) hC dX8_getsUp_21 rfl 2 rfl ?_
  refine k_iconst (pc := 22) (v := 0) hC dX8_getsUp_22 (by decide) ?_
  refine m_iast (pc := 23) 55 ly_55 hM dX8_getsUp_23 hE (fun J3 hE => ?_)
  refine k_aload_n (pc := 24) hC dX8_getsUp_24 rfl 1 rfl ?_
  refine gM_73 (pc := 25) hM dX8_getsUp_25 ?_
  refine k_iload_n (pc := 28) hC dX8_getsUp_28 rfl 2 rfl ?_
  refine k_iconst (pc := 29) (v := 0) hC dX8_getsUp_29 (by decide) ?_
  refine m_zast (pc := 30) 56 ly_56 hM dX8_getsUp_30 hE (fun J4 hE => ?_)
  refine k_aload_n (pc := 31) hC dX8_getsUp_31 rfl 1 rfl ?_
  refine gM_65 (pc := 32) hM dX8_getsUp_32 ?_
  refine k_bipush (pc := 35) (v := 66) hC dX8_getsUp_35 (by decide) ?_
  refine k_iload_n (pc := 37) hC dX8_getsUp_37 rfl 2 rfl ?_
  refine k_iadd (pc := 38) hC dX8_getsUp_38 ?_
  refine k_bipush (pc := 39) (v := (-2)) hC dX8_getsUp_39 (by decide) ?_
  refine m_iast (pc := 41) 48 ly_48 hM dX8_getsUp_41 hE (fun J5 hE => ?_)
  refine k_aload_n (pc := 42) hC dX8_getsUp_42 rfl 1 rfl ?_
  refine gM_71 (pc := 43) hM dX8_getsUp_43 ?_
  refine k_iload_n (pc := 46) hC dX8_getsUp_46 rfl 2 rfl ?_
  refine k_aload_n (pc := 47) hC dX8_getsUp_47 rfl 1 rfl ?_
  refine gM_65 (pc := 48) hM dX8_getsUp_48 ?_
  refine k_bipush (pc := 51) (v := 48) hC dX8_getsUp_51 (by decide) ?_
  refine k_iload_n (pc := 53) hC dX8_getsUp_53 rfl 2 rfl ?_
  refine k_iadd (pc := 54) hC dX8_getsUp_54 ?_
  refine m_iald (pc := 55) 48 ly_48 hM dX8_getsUp_55 hE (fun x6 hE => ?_)
  refine m_iast (pc := 56) 54 ly_54 hM dX8_getsUp_56 hE (fun J7 hE => ?_)
  refine k_iload_n (pc := 57) hC dX8_getsUp_57 rfl 0 rfl ?_
  refine k_if_ge (pc := 58) (tgt := 62) hC dX8_getsUp_58 (by decide) hE (fun hE => ?_) (fun hE => ?_)
  · refine k_aload_n (pc := 62) hC dX8_getsUp_62 rfl 1 rfl ?_
    refine gM_66 (pc := 63) hM dX8_getsUp_63 ?_
    refine k_bipush (pc := 66) (v := 8) hC dX8_getsUp_66 (by decide) ?_
    refine k_aload_n (pc := 68) hC dX8_getsUp_68 rfl 1 rfl ?_
    refine gM_43 (pc := 69) hM dX8_getsUp_69 ?_
    refine k_bipush (pc := 72) (v := 6) hC dX8_getsUp_72 (by decide) ?_
    refine k_aload_n (pc := 74) hC dX8_getsUp_74 rfl 1 rfl ?_
    refine gM_18 (pc := 75) hM dX8_getsUp_75 ?_
    refine k_imul (pc := 78) hC dX8_getsUp_78 ?_
    refine k_iload_n (pc := 79) hC dX8_getsUp_79 rfl 2 rfl ?_
    refine k_iadd (pc := 80) hC dX8_getsUp_80 ?_
    refine m_iald (pc := 81) 30 ly_30 hM dX8_getsUp_81 hE (fun x8 hE => ?_)
    refine k_imul (pc := 82) hC dX8_getsUp_82 ?_
    refine k_aload_n (pc := 83) hC dX8_getsUp_83 rfl 1 rfl ?_
    refine gM_33 (pc := 84) hM dX8_getsUp_84 ?_
    refine k_bipush (pc := 87) (v := 6) hC dX8_getsUp_87 (by decide) ?_
    refine k_aload_n (pc := 89) hC dX8_getsUp_89 rfl 1 rfl ?_
    refine gM_18 (pc := 90) hM dX8_getsUp_90 ?_
    refine k_imul (pc := 93) hC dX8_getsUp_93 ?_
    refine k_iload_n (pc := 94) hC dX8_getsUp_94 rfl 0 rfl ?_
    refine k_iadd (pc := 95) hC dX8_getsUp_95 ?_
    refine m_iald (pc := 96) 20 ly_20 hM dX8_getsUp_96 hE (fun x9 hE => ?_)
    refine k_iadd (pc := 97) hC dX8_getsUp_97 ?_
    refine m_iald (pc := 98) 49 ly_49 hM dX8_getsUp_98 hE (fun x10 hE => ?_)
    refine k_istore_n (pc := 99) (lv' := [(3, .int x10), (2, .int x1), (0, .ref th), (1, .int a1)]) hC dX8_getsUp_99 rfl (by rw [hnL]; decide) rfl ?_
    refine k_aload_n (pc := 100) hC dX8_getsUp_100 rfl 2 rfl ?_
    refine gM_67 (pc := 101) hM dX8_getsUp_101 ?_
    refine k_iload_n (pc := 104) hC dX8_getsUp_104 rfl 3 rfl ?_
    refine k_iload_n (pc := 105) hC dX8_getsUp_105 rfl 0 rfl ?_
    refine k_ldcw (pc := 106) (v := 1000000) hC q2024 dX8_getsUp_106 ?_
    refine k_icmp_ne (pc := 109) (tgt := 116) hC dX8_getsUp_109 (by decide) hE (fun hE => ?_) (fun hE => ?_)
    · refine k_iconst (pc := 112) (v := 3) hC dX8_getsUp_112 (by decide) ?_
      refine k_goto (pc := 113) (tgt := 117) hC dX8_getsUp_113 (by decide) ?_
      refine k_sub [2, 3, 0] rfl ?_
      exact w_M_getsUp_B117 hM hR  _ _ _ _ _ hE
    · refine k_iconst (pc := 116) (v := 1) hC dX8_getsUp_116 (by decide) ?_
      refine k_sub [2, 3, 0] rfl ?_
      exact w_M_getsUp_B117 hM hR  _ _ _ _ _ hE
  · exact k_vret (pc := 61) hC hR ⟨Nat.le_refl 0, Nat.le_refl 0⟩ dX8_getsUp_61 (by cases hE; rfl) (by cases hE; exact fun _ h => h)
theorem ct_M_getsUp (l : Launch) (D : Dd) (A : Nat → Prop) (th : Nat) (hA : ∀ (off : Nat) (kd : Kd), layM off = some kd → A (th + off)) (a1 : Int32) (J : Ji) (K : Jl) (out : Ji) (hE : M_getsUp a1 J = some out) : Ct l yX8_getsUp (ws_ yX8_getsUp cX8_getsUp 4 none) rmM_getsUp vwCl arTy D A [.ref th, .int a1] (RM D th J K) (RM D th out K) none 0 0 := by
  refine Ct.of (by decide) (Nat.le_of_ble_eq_true rfl) rfl ?_
  intro X hl hrm hC hR hXA hnL _
  exact w_M_getsUp ⟨hC, by unfold Ft; rw [hXA]; exact hA, hnL, hrm⟩ hR a1 J hE
theorem cw_M_getsUp {X : Ctx} {cc : ByteArray} {D : Dd} {th mL : Nat} {rm : Room} (hM : Mx X cc D th mL rm) (h1 : rmM_getsUp.frames + 1 ≤ rm.frames) (h2 : 8 + (4 + 11) + rmM_getsUp.locals ≤ rm.locals) : CallW X.2.2.2.1 X.2.2.2.2.1 X.2.2.2.2.2.2.1 RX8 RX8 422 yX8_getsUp cX8_getsUp 4 none (ws_ yX8_getsUp cX8_getsUp 4 none) rmM_getsUp 0 0 1 := cwV 1 (cx_w hM.1) (lw_V q2069 q2071 qs99 q128 q2072) rfl rfl rfl (by decide +kernel) (by rw [hM.2.2.2]; exact ⟨h1, h2⟩)
abbrev rmM_isOver : Room := { frames := 2, cells := 0, slots := 0, locals := 45 }
set_option maxHeartbeats 4000000 in
theorem w_M_isOver {X : Ctx} {D : Dd} {th : Nat} {K : Jl} {out : Ji} (hM : Mx X cX8_isOver D th 2 rmM_isOver) (hR : Rt X none (RM D th out K) none 0 0) (a1 : Int32) (J : Ji) (hE : M_isOver a1 J = some out) : Wk X 0 0 (RM D th J K) 0 [(0, .ref th), (1, .int a1)] [] := by
  have hC := hM.1
  have hnL := hM.2.2.1
  have hrm := hM.2.2.2
  unfold M_isOver at hE
  refine k_aload_n (pc := 0) hC dX8_isOver_0 rfl 0 rfl ?_
  refine k_aload_n (pc := 1) hC dX8_isOver_1 rfl 0 rfl ?_
  refine gM_65 (pc := 2) hM dX8_isOver_2 ?_
  refine k_bipush (pc := 5) (v := 42) hC dX8_isOver_5 (by decide) ?_
  refine k_iload_n (pc := 7) hC dX8_isOver_7 rfl 1 rfl ?_
  refine k_iadd (pc := 8) hC dX8_isOver_8 ?_
  refine m_iald (pc := 9) 48 ly_48 hM dX8_isOver_9 hE (fun x1 hE => ?_)
  refine k_aload_n (pc := 10) hC dX8_isOver_10 rfl 0 rfl ?_
  refine gM_70 (pc := 11) hM dX8_isOver_11 ?_
  refine k_iload_n (pc := 14) hC dX8_isOver_14 rfl 1 rfl ?_
  refine m_iald (pc := 15) 53 ly_53 hM dX8_isOver_15 hE (fun x2 hE => ?_)
  refine m_clVj (pc := 16) (As := [.int x1, .int x2]) hM (cw_M_does hM (Nat.le_of_ble_eq_true rfl) (Nat.le_of_ble_eq_true rfl)) rfl rfl (Nat.le_of_ble_eq_true rfl) dX8_isOver_16 hE (fun r h => ct_M_does _ _ _ _ hM.2.1 x1 x2 J K r h) (fun r3 hE => ?_)
  refine k_aload_n (pc := 19) hC dX8_isOver_19 rfl 0 rfl ?_
  refine gM_67 (pc := 20) hM dX8_isOver_20 ?_
  refine k_iload_n (pc := 23) hC dX8_isOver_23 rfl 1 rfl ?_
  refine k_iconst (pc := 24) (v := 1) hC dX8_isOver_24 (by decide) ?_
  refine m_iast (pc := 25) 50 ly_50 hM dX8_isOver_25 hE (fun J4 hE => ?_)
  refine k_aload_n (pc := 26) hC dX8_isOver_26 rfl 0 rfl ?_
  refine gM_71 (pc := 27) hM dX8_isOver_27 ?_
  refine k_iload_n (pc := 30) hC dX8_isOver_30 rfl 1 rfl ?_
  refine k_aload_n (pc := 31) hC dX8_isOver_31 rfl 0 rfl ?_
  refine gM_70 (pc := 32) hM dX8_isOver_32 ?_
  refine k_iload_n (pc := 35) hC dX8_isOver_35 rfl 1 rfl ?_
  refine m_iald (pc := 36) 53 ly_53 hM dX8_isOver_36 hE (fun x5 hE => ?_)
  refine m_iast (pc := 37) 54 ly_54 hM dX8_isOver_37 hE (fun J6 hE => ?_)
  refine k_aload_n (pc := 38) hC dX8_isOver_38 rfl 0 rfl ?_
  refine gM_72 (pc := 39) hM dX8_isOver_39 ?_
  refine k_iload_n (pc := 42) hC dX8_isOver_42 rfl 1 rfl ?_
  refine k_dup2 (pc := 43) hC dX8_isOver_43 rfl rfl ?_
  refine m_iald (pc := 44) 55 ly_55 hM dX8_isOver_44 hE (fun x7 hE => ?_)
  refine k_iconst (pc := 45) (v := 1) hC dX8_isOver_45 (by decide) ?_
  refine k_iadd (pc := 46) hC dX8_isOver_46 ?_
  refine m_iast (pc := 47) 55 ly_55 hM dX8_isOver_47 hE (fun J8 hE => ?_)
  exact k_vret (pc := 48) hC hR ⟨Nat.le_refl 0, Nat.le_refl 0⟩ dX8_isOver_48 (by cases hE; rfl) (by cases hE; exact fun _ h => h)
theorem ct_M_isOver (l : Launch) (D : Dd) (A : Nat → Prop) (th : Nat) (hA : ∀ (off : Nat) (kd : Kd), layM off = some kd → A (th + off)) (a1 : Int32) (J : Ji) (K : Jl) (out : Ji) (hE : M_isOver a1 J = some out) : Ct l yX8_isOver (ws_ yX8_isOver cX8_isOver 2 none) rmM_isOver vwCl arTy D A [.ref th, .int a1] (RM D th J K) (RM D th out K) none 0 0 := by
  refine Ct.of (by decide) (Nat.le_of_ble_eq_true rfl) rfl ?_
  intro X hl hrm hC hR hXA hnL _
  exact w_M_isOver ⟨hC, by unfold Ft; rw [hXA]; exact hA, hnL, hrm⟩ hR a1 J hE
theorem cw_M_isOver {X : Ctx} {cc : ByteArray} {D : Dd} {th mL : Nat} {rm : Room} (hM : Mx X cc D th mL rm) (h1 : rmM_isOver.frames + 1 ≤ rm.frames) (h2 : 8 + (2 + 11) + rmM_isOver.locals ≤ rm.locals) : CallW X.2.2.2.1 X.2.2.2.2.1 X.2.2.2.2.2.2.1 RX8 RX8 425 yX8_isOver cX8_isOver 2 none (ws_ yX8_isOver cX8_isOver 2 none) rmM_isOver 0 0 1 := cwV 1 (cx_w hM.1) (lw_V q2073 q2075 qs100 q128 q2076) rfl rfl rfl (by decide +kernel) (by rw [hM.2.2.2]; exact ⟨h1, h2⟩)
abbrev rmM_goesTill : Room := { frames := 3, cells := 0, slots := 0, locals := 81 }
set_option maxHeartbeats 4000000 in
theorem w_M_goesTill_B75 {X : Ctx} {D : Dd} {th : Nat} {K : Jl} {out : Ji} (hM : Mx X cX8_goesTill D th 4 rmM_goesTill) (hR : Rt X none (RM D th out K) none 0 0) (F : Nat) (k27 : Int32 → Int32 → Ji → Option (Ji)) (hk27 : ∀ (a1 : Int32) (a2 : Int32) (J : Ji) , k27 a1 a2 J = some out → Wk X 0 0 (RM D th J K) 27 [(0, .ref th), (1, .int a1), (2, .int a2)] []) (k75 : Int32 → Int32 → Int32 → Ji → Option (Ji)) (hk75 : ∀ (a1 : Int32) (a2 : Int32) (a3 : Int32) (J : Ji) , k75 a1 a2 a3 J = some out → Wk X 0 0 (RM D th J K) 75 [(0, .ref th), (1, .int a1), (2, .int a2), (3, .int a3)] []) (a1 : Int32) (a2 : Int32) (a3 : Int32) (J : Ji) (hE : M_goesTill_B75 F k27 k75 a1 a2 a3 J = some out) : Wk X 0 0 (RM D th J K) 75 [(0, .ref th), (1, .int a1), (2, .int a2), (3, .int a3)] [] := by
  have hC := hM.1
  have hnL := hM.2.2.1
  have hrm := hM.2.2.2
  unfold M_goesTill_B75 at hE
  refine k_iload_n (pc := 75) hC dX8_goesTill_75 rfl 3 rfl ?_
  refine k_aload_n (pc := 76) hC dX8_goesTill_76 rfl 0 rfl ?_
  refine m_clI (pc := 77) (As := []) hM (cw_M_menNow hM (Nat.le_of_ble_eq_true rfl) (Nat.le_of_ble_eq_true rfl)) rfl rfl (Nat.le_of_ble_eq_true rfl) dX8_goesTill_77 hE (fun r h => ct_M_menNow _ _ _ _ hM.2.1  J K r h) (fun r12 hE => ?_)
  refine k_icmp_ge (pc := 80) (tgt := 128) hC dX8_goesTill_80 (by decide) hE (fun hE => ?_) (fun hE => ?_)
  · refine k_iincE (pc := 128) (k := 2) (d := 1) (lv' := fun x13 => [(2, .int x13), (0, .ref th), (1, .int a1), (3, .int a3)]) hC dX8_goesTill_128 rfl (by decide) (by rw [hnL]; decide) hE (fun _ => rfl) (fun x13 hE => ?_)
    refine k_goto (pc := 131) (tgt := 27) hC dX8_goesTill_131 (by decide) ?_
    refine k_sub [1, 2, 0] rfl ?_
    exact hk27 _ _ _ hE
  · refine k_iload_n (pc := 83) hC dX8_goesTill_83 rfl 2 rfl ?_
    refine k_aload_n (pc := 84) hC dX8_goesTill_84 rfl 0 rfl ?_
    refine gM_55 (pc := 85) hM dX8_goesTill_85 ?_
    refine k_aload_n (pc := 88) hC dX8_goesTill_88 rfl 0 rfl ?_
    refine gM_18 (pc := 89) hM dX8_goesTill_89 ?_
    refine m_iald (pc := 92) 41 ly_41 hM dX8_goesTill_92 hE (fun x14 hE => ?_)
    refine k_icmp_ge (pc := 93) (tgt := 128) hC dX8_goesTill_93 (by decide) hE (fun hE => ?_) (fun hE => ?_)
    · refine k_iincE (pc := 128) (k := 2) (d := 1) (lv' := fun x15 => [(2, .int x15), (0, .ref th), (1, .int a1), (3, .int a3)]) hC dX8_goesTill_128 rfl (by decide) (by rw [hnL]; decide) hE (fun _ => rfl) (fun x15 hE => ?_)
      refine k_goto (pc := 131) (tgt := 27) hC dX8_goesTill_131 (by decide) ?_
      refine k_sub [1, 2, 0] rfl ?_
      exact hk27 _ _ _ hE
    · refine k_aload_n (pc := 96) hC dX8_goesTill_96 rfl 0 rfl ?_
      refine gM_67 (pc := 97) hM dX8_goesTill_97 ?_
      refine k_iload_n (pc := 100) hC dX8_goesTill_100 rfl 3 rfl ?_
      refine m_iald (pc := 101) 50 ly_50 hM dX8_goesTill_101 hE (fun x16 hE => ?_)
      refine k_iconst (pc := 102) (v := 1) hC dX8_goesTill_102 (by decide) ?_
      refine k_icmp_ne (pc := 103) (tgt := 122) hC dX8_goesTill_103 (by decide) hE (fun hE => ?_) (fun hE => ?_)
      · refine k_aload_n (pc := 106) hC dX8_goesTill_106 rfl 0 rfl ?_
        refine gM_68 (pc := 107) hM dX8_goesTill_107 ?_
        refine k_iload_n (pc := 110) hC dX8_goesTill_110 rfl 3 rfl ?_
        refine m_iald (pc := 111) 51 ly_51 hM dX8_goesTill_111 hE (fun x17 hE => ?_)
        refine k_iload_n (pc := 112) hC dX8_goesTill_112 rfl 2 rfl ?_
        refine k_icmp_gt (pc := 113) (tgt := 122) hC dX8_goesTill_113 (by decide) hE (fun hE => ?_) (fun hE => ?_)
        · refine k_iincE (pc := 122) (k := 3) (d := 1) (lv' := fun x18 => [(3, .int x18), (0, .ref th), (1, .int a1), (2, .int a2)]) hC dX8_goesTill_122 rfl (by decide) (by rw [hnL]; decide) hE (fun _ => rfl) (fun x18 hE => ?_)
          refine k_goto (pc := 125) (tgt := 75) hC dX8_goesTill_125 (by decide) ?_
          refine k_sub [1, 2, 3, 0] rfl ?_
          exact hk75 _ _ _ _ hE
        · refine k_aload_n (pc := 116) hC dX8_goesTill_116 rfl 0 rfl ?_
          refine k_iload_n (pc := 117) hC dX8_goesTill_117 rfl 3 rfl ?_
          refine k_iload_n (pc := 118) hC dX8_goesTill_118 rfl 2 rfl ?_
          refine m_clVj (pc := 119) (As := [.int a3, .int a2]) hM (cw_M_begins1 hM (Nat.le_of_ble_eq_true rfl) (Nat.le_of_ble_eq_true rfl)) rfl rfl (Nat.le_of_ble_eq_true rfl) dX8_goesTill_119 hE (fun r h => ct_M_begins1 _ _ _ _ hM.2.1 F a3 a2 J K r h) (fun r19 hE => ?_)
          refine k_iincE (pc := 122) (k := 3) (d := 1) (lv' := fun x20 => [(3, .int x20), (0, .ref th), (1, .int a1), (2, .int a2)]) hC dX8_goesTill_122 rfl (by decide) (by rw [hnL]; decide) hE (fun _ => rfl) (fun x20 hE => ?_)
          refine k_goto (pc := 125) (tgt := 75) hC dX8_goesTill_125 (by decide) ?_
          refine k_sub [1, 2, 3, 0] rfl ?_
          exact hk75 _ _ _ _ hE
      · refine k_iincE (pc := 122) (k := 3) (d := 1) (lv' := fun x21 => [(3, .int x21), (0, .ref th), (1, .int a1), (2, .int a2)]) hC dX8_goesTill_122 rfl (by decide) (by rw [hnL]; decide) hE (fun _ => rfl) (fun x21 hE => ?_)
        refine k_goto (pc := 125) (tgt := 75) hC dX8_goesTill_125 (by decide) ?_
        refine k_sub [1, 2, 3, 0] rfl ?_
        exact hk75 _ _ _ _ hE
theorem w_M_goesTill_L75 {X : Ctx} {D : Dd} {th : Nat} {K : Jl} {out : Ji} (hM : Mx X cX8_goesTill D th 4 rmM_goesTill) (hR : Rt X none (RM D th out K) none 0 0) (F : Nat) (k27 : Int32 → Int32 → Ji → Option (Ji)) (hk27 : ∀ (a1 : Int32) (a2 : Int32) (J : Ji) , k27 a1 a2 J = some out → Wk X 0 0 (RM D th J K) 27 [(0, .ref th), (1, .int a1), (2, .int a2)] []) (n : Nat) : ∀ (a1 : Int32) (a2 : Int32) (a3 : Int32) (J : Ji) , M_goesTill_L75 F k27 n a1 a2 a3 J = some out → Wk X 0 0 (RM D th J K) 75 [(0, .ref th), (1, .int a1), (2, .int a2), (3, .int a3)] [] := by
  induction n with
  | zero => intro a1 a2 a3 J h; cases h
  | succ n ih => intro a1 a2 a3 J h; exact w_M_goesTill_B75 hM hR F k27 hk27 (M_goesTill_L75 F k27 n) ih a1 a2 a3 J h
set_option maxHeartbeats 4000000 in
theorem w_M_goesTill_B34 {X : Ctx} {D : Dd} {th : Nat} {K : Jl} {out : Ji} (hM : Mx X cX8_goesTill D th 4 rmM_goesTill) (hR : Rt X none (RM D th out K) none 0 0) (F : Nat) (k27 : Int32 → Int32 → Ji → Option (Ji)) (hk27 : ∀ (a1 : Int32) (a2 : Int32) (J : Ji) , k27 a1 a2 J = some out → Wk X 0 0 (RM D th J K) 27 [(0, .ref th), (1, .int a1), (2, .int a2)] []) (k34 : Int32 → Int32 → Int32 → Ji → Option (Ji)) (hk34 : ∀ (a1 : Int32) (a2 : Int32) (a3 : Int32) (J : Ji) , k34 a1 a2 a3 J = some out → Wk X 0 0 (RM D th J K) 34 [(0, .ref th), (1, .int a1), (2, .int a2), (3, .int a3)] []) (a1 : Int32) (a2 : Int32) (a3 : Int32) (J : Ji) (hE : M_goesTill_B34 F k27 k34 a1 a2 a3 J = some out) : Wk X 0 0 (RM D th J K) 34 [(0, .ref th), (1, .int a1), (2, .int a2), (3, .int a3)] [] := by
  have hC := hM.1
  have hnL := hM.2.2.1
  have hrm := hM.2.2.2
  unfold M_goesTill_B34 at hE
  refine k_iload_n (pc := 34) hC dX8_goesTill_34 rfl 3 rfl ?_
  refine k_aload_n (pc := 35) hC dX8_goesTill_35 rfl 0 rfl ?_
  refine m_clI (pc := 36) (As := []) hM (cw_M_menNow hM (Nat.le_of_ble_eq_true rfl) (Nat.le_of_ble_eq_true rfl)) rfl rfl (Nat.le_of_ble_eq_true rfl) dX8_goesTill_36 hE (fun r h => ct_M_menNow _ _ _ _ hM.2.1  J K r h) (fun r5 hE => ?_)
  refine k_icmp_ge (pc := 39) (tgt := 73) hC dX8_goesTill_39 (by decide) hE (fun hE => ?_) (fun hE => ?_)
  · refine k_iconst (pc := 73) (v := 0) hC dX8_goesTill_73 (by decide) ?_
    refine k_istore_n (pc := 74) (lv' := [(3, .int 0), (0, .ref th), (1, .int a1), (2, .int a2)]) hC dX8_goesTill_74 rfl (by rw [hnL]; decide) rfl ?_
    refine k_sub [1, 2, 3, 0] rfl ?_
    exact w_M_goesTill_L75 hM hR F k27 hk27 _ _ _ _ _ hE
  · refine k_aload_n (pc := 42) hC dX8_goesTill_42 rfl 0 rfl ?_
    refine gM_67 (pc := 43) hM dX8_goesTill_43 ?_
    refine k_iload_n (pc := 46) hC dX8_goesTill_46 rfl 3 rfl ?_
    refine m_iald (pc := 47) 50 ly_50 hM dX8_goesTill_47 hE (fun x6 hE => ?_)
    refine k_iconst (pc := 48) (v := 2) hC dX8_goesTill_48 (by decide) ?_
    refine k_icmp_ne (pc := 49) (tgt := 67) hC dX8_goesTill_49 (by decide) hE (fun hE => ?_) (fun hE => ?_)
    · refine k_aload_n (pc := 52) hC dX8_goesTill_52 rfl 0 rfl ?_
      refine gM_69 (pc := 53) hM dX8_goesTill_53 ?_
      refine k_iload_n (pc := 56) hC dX8_goesTill_56 rfl 3 rfl ?_
      refine m_iald (pc := 57) 52 ly_52 hM dX8_goesTill_57 hE (fun x7 hE => ?_)
      refine k_iload_n (pc := 58) hC dX8_goesTill_58 rfl 2 rfl ?_
      refine k_icmp_ne (pc := 59) (tgt := 67) hC dX8_goesTill_59 (by decide) hE (fun hE => ?_) (fun hE => ?_)
      · refine k_aload_n (pc := 62) hC dX8_goesTill_62 rfl 0 rfl ?_
        refine k_iload_n (pc := 63) hC dX8_goesTill_63 rfl 3 rfl ?_
        refine m_clVj (pc := 64) (As := [.int a3]) hM (cw_M_isOver hM (Nat.le_of_ble_eq_true rfl) (Nat.le_of_ble_eq_true rfl)) rfl rfl (Nat.le_of_ble_eq_true rfl) dX8_goesTill_64 hE (fun r h => ct_M_isOver _ _ _ _ hM.2.1 a3 J K r h) (fun r8 hE => ?_)
        refine k_iincE (pc := 67) (k := 3) (d := 1) (lv' := fun x9 => [(3, .int x9), (0, .ref th), (1, .int a1), (2, .int a2)]) hC dX8_goesTill_67 rfl (by decide) (by rw [hnL]; decide) hE (fun _ => rfl) (fun x9 hE => ?_)
        refine k_goto (pc := 70) (tgt := 34) hC dX8_goesTill_70 (by decide) ?_
        refine k_sub [1, 2, 3, 0] rfl ?_
        exact hk34 _ _ _ _ hE
      · refine k_iincE (pc := 67) (k := 3) (d := 1) (lv' := fun x10 => [(3, .int x10), (0, .ref th), (1, .int a1), (2, .int a2)]) hC dX8_goesTill_67 rfl (by decide) (by rw [hnL]; decide) hE (fun _ => rfl) (fun x10 hE => ?_)
        refine k_goto (pc := 70) (tgt := 34) hC dX8_goesTill_70 (by decide) ?_
        refine k_sub [1, 2, 3, 0] rfl ?_
        exact hk34 _ _ _ _ hE
    · refine k_iincE (pc := 67) (k := 3) (d := 1) (lv' := fun x11 => [(3, .int x11), (0, .ref th), (1, .int a1), (2, .int a2)]) hC dX8_goesTill_67 rfl (by decide) (by rw [hnL]; decide) hE (fun _ => rfl) (fun x11 hE => ?_)
      refine k_goto (pc := 70) (tgt := 34) hC dX8_goesTill_70 (by decide) ?_
      refine k_sub [1, 2, 3, 0] rfl ?_
      exact hk34 _ _ _ _ hE
theorem w_M_goesTill_L34 {X : Ctx} {D : Dd} {th : Nat} {K : Jl} {out : Ji} (hM : Mx X cX8_goesTill D th 4 rmM_goesTill) (hR : Rt X none (RM D th out K) none 0 0) (F : Nat) (k27 : Int32 → Int32 → Ji → Option (Ji)) (hk27 : ∀ (a1 : Int32) (a2 : Int32) (J : Ji) , k27 a1 a2 J = some out → Wk X 0 0 (RM D th J K) 27 [(0, .ref th), (1, .int a1), (2, .int a2)] []) (n : Nat) : ∀ (a1 : Int32) (a2 : Int32) (a3 : Int32) (J : Ji) , M_goesTill_L34 F k27 n a1 a2 a3 J = some out → Wk X 0 0 (RM D th J K) 34 [(0, .ref th), (1, .int a1), (2, .int a2), (3, .int a3)] [] := by
  induction n with
  | zero => intro a1 a2 a3 J h; cases h
  | succ n ih => intro a1 a2 a3 J h; exact w_M_goesTill_B34 hM hR F k27 hk27 (M_goesTill_L34 F k27 n) ih a1 a2 a3 J h
set_option maxHeartbeats 4000000 in
theorem w_M_goesTill_B27 {X : Ctx} {D : Dd} {th : Nat} {K : Jl} {out : Ji} (hM : Mx X cX8_goesTill D th 4 rmM_goesTill) (hR : Rt X none (RM D th out K) none 0 0) (F : Nat) (k27 : Int32 → Int32 → Ji → Option (Ji)) (hk27 : ∀ (a1 : Int32) (a2 : Int32) (J : Ji) , k27 a1 a2 J = some out → Wk X 0 0 (RM D th J K) 27 [(0, .ref th), (1, .int a1), (2, .int a2)] []) (a1 : Int32) (a2 : Int32) (J : Ji) (hE : M_goesTill_B27 F k27 a1 a2 J = some out) : Wk X 0 0 (RM D th J K) 27 [(0, .ref th), (1, .int a1), (2, .int a2)] [] := by
  have hC := hM.1
  have hnL := hM.2.2.1
  have hrm := hM.2.2.2
  unfold M_goesTill_B27 at hE
  refine k_iload_n (pc := 27) hC dX8_goesTill_27 rfl 2 rfl ?_
  refine k_iload_n (pc := 28) hC dX8_goesTill_28 rfl 1 rfl ?_
  refine k_icmp_gt (pc := 29) (tgt := 134) hC dX8_goesTill_29 (by decide) hE (fun hE => ?_) (fun hE => ?_)
  · exact k_vret (pc := 134) hC hR ⟨Nat.le_refl 0, Nat.le_refl 0⟩ dX8_goesTill_134 (by cases hE; rfl) (by cases hE; exact fun _ h => h)
  · refine k_iconst (pc := 32) (v := 0) hC dX8_goesTill_32 (by decide) ?_
    refine k_istore_n (pc := 33) (lv' := [(3, .int 0), (0, .ref th), (1, .int a1), (2, .int a2)]) hC dX8_goesTill_33 rfl (by rw [hnL]; decide) rfl ?_
    refine k_sub [1, 2, 3, 0] rfl ?_
    exact w_M_goesTill_L34 hM hR F k27 hk27 _ _ _ _ _ hE
theorem w_M_goesTill_L27 {X : Ctx} {D : Dd} {th : Nat} {K : Jl} {out : Ji} (hM : Mx X cX8_goesTill D th 4 rmM_goesTill) (hR : Rt X none (RM D th out K) none 0 0) (F : Nat) (n : Nat) : ∀ (a1 : Int32) (a2 : Int32) (J : Ji) , M_goesTill_L27 F n a1 a2 J = some out → Wk X 0 0 (RM D th J K) 27 [(0, .ref th), (1, .int a1), (2, .int a2)] [] := by
  induction n with
  | zero => intro a1 a2 J h; cases h
  | succ n ih => intro a1 a2 J h; exact w_M_goesTill_B27 hM hR F (M_goesTill_L27 F n) ih a1 a2 J h
set_option maxHeartbeats 4000000 in
theorem w_M_goesTill_B6 {X : Ctx} {D : Dd} {th : Nat} {K : Jl} {out : Ji} (hM : Mx X cX8_goesTill D th 4 rmM_goesTill) (hR : Rt X none (RM D th out K) none 0 0) (F : Nat) (k6 : Int32 → Int32 → Ji → Option (Ji)) (hk6 : ∀ (a1 : Int32) (a2 : Int32) (J : Ji) , k6 a1 a2 J = some out → Wk X 0 0 (RM D th J K) 6 [(0, .ref th), (1, .int a1), (2, .int a2)] []) (a1 : Int32) (a2 : Int32) (J : Ji) (hE : M_goesTill_B6 F k6 a1 a2 J = some out) : Wk X 0 0 (RM D th J K) 6 [(0, .ref th), (1, .int a1), (2, .int a2)] [] := by
  have hC := hM.1
  have hnL := hM.2.2.1
  have hrm := hM.2.2.2
  unfold M_goesTill_B6 at hE
  refine k_iload_n (pc := 6) hC dX8_goesTill_6 rfl 2 rfl ?_
  refine k_aload_n (pc := 7) hC dX8_goesTill_7 rfl 0 rfl ?_
  refine m_clI (pc := 8) (As := []) hM (cw_M_menNow hM (Nat.le_of_ble_eq_true rfl) (Nat.le_of_ble_eq_true rfl)) rfl rfl (Nat.le_of_ble_eq_true rfl) dX8_goesTill_8 hE (fun r h => ct_M_menNow _ _ _ _ hM.2.1  J K r h) (fun r2 hE => ?_)
  refine k_icmp_ge (pc := 11) (tgt := 25) hC dX8_goesTill_11 (by decide) hE (fun hE => ?_) (fun hE => ?_)
  · refine k_iconst (pc := 25) (v := 0) hC dX8_goesTill_25 (by decide) ?_
    refine k_istore_n (pc := 26) (lv' := [(2, .int 0), (0, .ref th), (1, .int a1)]) hC dX8_goesTill_26 rfl (by rw [hnL]; decide) rfl ?_
    refine k_sub [1, 2, 0] rfl ?_
    exact w_M_goesTill_L27 hM hR F _ _ _ _ hE
  · refine k_aload_n (pc := 14) hC dX8_goesTill_14 rfl 0 rfl ?_
    refine k_iload_n (pc := 15) hC dX8_goesTill_15 rfl 2 rfl ?_
    refine m_clVj (pc := 16) (As := [.int a2]) hM (cw_M_getsUp hM (Nat.le_of_ble_eq_true rfl) (Nat.le_of_ble_eq_true rfl)) rfl rfl (Nat.le_of_ble_eq_true rfl) dX8_goesTill_16 hE (fun r h => ct_M_getsUp _ _ _ _ hM.2.1 a2 J K r h) (fun r3 hE => ?_)
    refine k_iincE (pc := 19) (k := 2) (d := 1) (lv' := fun x4 => [(2, .int x4), (0, .ref th), (1, .int a1)]) hC dX8_goesTill_19 rfl (by decide) (by rw [hnL]; decide) hE (fun _ => rfl) (fun x4 hE => ?_)
    refine k_goto (pc := 22) (tgt := 6) hC dX8_goesTill_22 (by decide) ?_
    refine k_sub [1, 2, 0] rfl ?_
    exact hk6 _ _ _ hE
theorem w_M_goesTill_L6 {X : Ctx} {D : Dd} {th : Nat} {K : Jl} {out : Ji} (hM : Mx X cX8_goesTill D th 4 rmM_goesTill) (hR : Rt X none (RM D th out K) none 0 0) (F : Nat) (n : Nat) : ∀ (a1 : Int32) (a2 : Int32) (J : Ji) , M_goesTill_L6 F n a1 a2 J = some out → Wk X 0 0 (RM D th J K) 6 [(0, .ref th), (1, .int a1), (2, .int a2)] [] := by
  induction n with
  | zero => intro a1 a2 J h; cases h
  | succ n ih => intro a1 a2 J h; exact w_M_goesTill_B6 hM hR F (M_goesTill_L6 F n) ih a1 a2 J h
set_option maxHeartbeats 4000000 in
theorem w_M_goesTill {X : Ctx} {D : Dd} {th : Nat} {K : Jl} {out : Ji} (hM : Mx X cX8_goesTill D th 4 rmM_goesTill) (hR : Rt X none (RM D th out K) none 0 0) (F : Nat) (a1 : Int32) (J : Ji) (hE : M_goesTill F a1 J = some out) : Wk X 0 0 (RM D th J K) 0 [(0, .ref th), (1, .int a1)] [] := by
  have hC := hM.1
  have hnL := hM.2.2.1
  have hrm := hM.2.2.2
  unfold M_goesTill at hE
  refine k_aload_n (pc := 0) hC dX8_goesTill_0 rfl 0 rfl ?_
  refine m_clVj (pc := 1) (As := []) hM (cw_M_fillsWays hM (Nat.le_of_ble_eq_true rfl) (Nat.le_of_ble_eq_true rfl)) rfl rfl (Nat.le_of_ble_eq_true rfl) dX8_goesTill_1 hE (fun r h => ct_M_fillsWays _ _ _ _ hM.2.1 F J K r h) (fun r1 hE => ?_)
  refine k_iconst (pc := 4) (v := 0) hC dX8_goesTill_4 (by decide) ?_
  refine k_istore_n (pc := 5) (lv' := [(2, .int 0), (0, .ref th), (1, .int a1)]) hC dX8_goesTill_5 rfl (by rw [hnL]; decide) rfl ?_
  refine k_sub [1, 2, 0] rfl ?_
  exact w_M_goesTill_L6 hM hR F _ _ _ _ hE
theorem ct_M_goesTill (l : Launch) (D : Dd) (A : Nat → Prop) (th : Nat) (hA : ∀ (off : Nat) (kd : Kd), layM off = some kd → A (th + off)) (F : Nat) (a1 : Int32) (J : Ji) (K : Jl) (out : Ji) (hE : M_goesTill F a1 J = some out) : Ct l yX8_goesTill (ws_ yX8_goesTill cX8_goesTill 4 none) rmM_goesTill vwCl arTy D A [.ref th, .int a1] (RM D th J K) (RM D th out K) none 0 0 := by
  refine Ct.of (by decide) (Nat.le_of_ble_eq_true rfl) rfl ?_
  intro X hl hrm hC hR hXA hnL _
  exact w_M_goesTill ⟨hC, by unfold Ft; rw [hXA]; exact hA, hnL, hrm⟩ hR F a1 J hE
theorem cw_M_goesTill {X : Ctx} {cc : ByteArray} {D : Dd} {th mL : Nat} {rm : Room} (hM : Mx X cc D th mL rm) (h1 : rmM_goesTill.frames + 1 ≤ rm.frames) (h2 : 8 + (4 + 11) + rmM_goesTill.locals ≤ rm.locals) : CallW X.2.2.2.1 X.2.2.2.2.1 X.2.2.2.2.2.2.1 RX8 RX8 434 yX8_goesTill cX8_goesTill 4 none (ws_ yX8_goesTill cX8_goesTill 4 none) rmM_goesTill 0 0 1 := cwV 1 (cx_w hM.1) (lw_V q2065 q2067 qs98 q128 q2068) rfl rfl rfl (by decide +kernel) (by rw [hM.2.2.2]; exact ⟨h1, h2⟩)
abbrev rmM_worthNow : Room := { frames := 2, cells := 0, slots := 0, locals := 48 }
set_option maxHeartbeats 4000000 in
theorem w_M_worthNow_B4 {X : Ctx} {D : Dd} {th : Nat} {J : Ji} {K : Jl} {out : Int32} (hM : Mx X cX8_worthNow D th 3 rmM_worthNow) (hR : Rt X (some .int) (RM D th J K) (some (.int out)) 0 0) (F : Nat) (k4 : Int32 → Int32 → Option (Int32)) (hk4 : ∀ (a1 : Int32) (a2 : Int32) , k4 a1 a2  = some out → Wk X 0 0 (RM D th J K) 4 [(0, .ref th), (1, .int a1), (2, .int a2)] []) (a1 : Int32) (a2 : Int32) (hE : M_worthNow_B4 F k4 J a1 a2 = some out) : Wk X 0 0 (RM D th J K) 4 [(0, .ref th), (1, .int a1), (2, .int a2)] [] := by
  have hC := hM.1
  have hnL := hM.2.2.1
  have hrm := hM.2.2.2
  unfold M_worthNow_B4 at hE
  refine k_iload_n (pc := 4) hC dX8_worthNow_4 rfl 2 rfl ?_
  refine k_aload_n (pc := 5) hC dX8_worthNow_5 rfl 0 rfl ?_
  refine m_clI (pc := 6) (As := []) hM (cw_M_tasksNow hM (Nat.le_of_ble_eq_true rfl) (Nat.le_of_ble_eq_true rfl)) rfl rfl (Nat.le_of_ble_eq_true rfl) dX8_worthNow_6 hE (fun r h => ct_M_tasksNow _ _ _ _ hM.2.1  J K r h) (fun r1 hE => ?_)
  refine k_icmp_ge (pc := 9) (tgt := 26) hC dX8_worthNow_9 (by decide) hE (fun hE => ?_) (fun hE => ?_)
  · refine k_iload_n (pc := 26) hC dX8_worthNow_26 rfl 1 rfl ?_
    exact k_iret (pc := 27) hC hR ⟨Nat.le_refl 0, Nat.le_refl 0⟩ dX8_worthNow_27 (by cases hE; rfl) (by cases hE; exact fun _ h => h)
  · refine k_iload_n (pc := 12) hC dX8_worthNow_12 rfl 1 rfl ?_
    refine k_aload_n (pc := 13) hC dX8_worthNow_13 rfl 0 rfl ?_
    refine k_iload_n (pc := 14) hC dX8_worthNow_14 rfl 2 rfl ?_
    refine m_clI (pc := 15) (As := [.int a2]) hM (cw_M_worthOf hM (Nat.le_of_ble_eq_true rfl) (Nat.le_of_ble_eq_true rfl)) rfl rfl (Nat.le_of_ble_eq_true rfl) dX8_worthNow_15 hE (fun r h => ct_M_worthOf _ _ _ _ hM.2.1 F a2 J K r h) (fun r2 hE => ?_)
    refine k_iadd (pc := 18) hC dX8_worthNow_18 ?_
    refine k_istoreE_n (pc := 19) (lv' := fun x3 => [(1, .int x3), (0, .ref th), (2, .int a2)]) hC dX8_worthNow_19 rfl (by rw [hnL]; decide) hE (fun _ => rfl) (fun x3 hE => ?_)
    refine k_iincE (pc := 20) (k := 2) (d := 1) (lv' := fun x4 => [(2, .int x4), (1, .int x3), (0, .ref th)]) hC dX8_worthNow_20 rfl (by decide) (by rw [hnL]; decide) hE (fun _ => rfl) (fun x4 hE => ?_)
    refine k_goto (pc := 23) (tgt := 4) hC dX8_worthNow_23 (by decide) ?_
    refine k_sub [2, 1, 0] rfl ?_
    exact hk4 _ _ hE
theorem w_M_worthNow_L4 {X : Ctx} {D : Dd} {th : Nat} {J : Ji} {K : Jl} {out : Int32} (hM : Mx X cX8_worthNow D th 3 rmM_worthNow) (hR : Rt X (some .int) (RM D th J K) (some (.int out)) 0 0) (F : Nat) (n : Nat) : ∀ (a1 : Int32) (a2 : Int32) , M_worthNow_L4 F J n a1 a2 = some out → Wk X 0 0 (RM D th J K) 4 [(0, .ref th), (1, .int a1), (2, .int a2)] [] := by
  induction n with
  | zero => intro a1 a2 h; cases h
  | succ n ih => intro a1 a2 h; exact w_M_worthNow_B4 hM hR F (M_worthNow_L4 F J n) ih a1 a2 h
set_option maxHeartbeats 4000000 in
theorem w_M_worthNow {X : Ctx} {D : Dd} {th : Nat} {J : Ji} {K : Jl} {out : Int32} (hM : Mx X cX8_worthNow D th 3 rmM_worthNow) (hR : Rt X (some .int) (RM D th J K) (some (.int out)) 0 0) (F : Nat) (hE : M_worthNow F J = some out) : Wk X 0 0 (RM D th J K) 0 [(0, .ref th)] [] := by
  have hC := hM.1
  have hnL := hM.2.2.1
  have hrm := hM.2.2.2
  unfold M_worthNow at hE
  refine k_iconst (pc := 0) (v := 0) hC dX8_worthNow_0 (by decide) ?_
  refine k_istore_n (pc := 1) (lv' := [(1, .int 0), (0, .ref th)]) hC dX8_worthNow_1 rfl (by rw [hnL]; decide) rfl ?_
  refine k_iconst (pc := 2) (v := 0) hC dX8_worthNow_2 (by decide) ?_
  refine k_istore_n (pc := 3) (lv' := [(2, .int 0), (1, .int 0), (0, .ref th)]) hC dX8_worthNow_3 rfl (by rw [hnL]; decide) rfl ?_
  refine k_sub [2, 1, 0] rfl ?_
  exact w_M_worthNow_L4 hM hR F _ _ _ hE
theorem ct_M_worthNow (l : Launch) (D : Dd) (A : Nat → Prop) (th : Nat) (hA : ∀ (off : Nat) (kd : Kd), layM off = some kd → A (th + off)) (F : Nat) (J : Ji) (K : Jl) (out : Int32) (hE : M_worthNow F J = some out) : Ct l yX8_worthNow (ws_ yX8_worthNow cX8_worthNow 3 (some .int)) rmM_worthNow vwCl arTy D A [.ref th] (RM D th J K) (RM D th J K) (some (.int out)) 0 0 := by
  refine Ct.of (by decide) (Nat.le_of_ble_eq_true rfl) rfl ?_
  intro X hl hrm hC hR hXA hnL _
  exact w_M_worthNow ⟨hC, by unfold Ft; rw [hXA]; exact hA, hnL, hrm⟩ hR F hE
theorem cw_M_worthNow {X : Ctx} {cc : ByteArray} {D : Dd} {th mL : Nat} {rm : Room} (hM : Mx X cc D th mL rm) (h1 : rmM_worthNow.frames + 1 ≤ rm.frames) (h2 : 8 + (3 + 11) + rmM_worthNow.locals ≤ rm.locals) : CallW X.2.2.2.1 X.2.2.2.2.1 X.2.2.2.2.2.2.1 RX8 RX8 431 yX8_worthNow cX8_worthNow 3 (some .int) (ws_ yX8_worthNow cX8_worthNow 3 (some .int)) rmM_worthNow 0 0 0 := cwV 0 (cx_w hM.1) (lw_V q2061 q2063 qs97 q128 q2064) rfl rfl rfl (by decide +kernel) (by rw [hM.2.2.2]; exact ⟨h1, h2⟩)
abbrev rmM_wholeNight : Room := { frames := 4, cells := 0, slots := 0, locals := 104 }
set_option maxHeartbeats 4000000 in
theorem w_M_wholeNight_B20 {X : Ctx} {D : Dd} {th : Nat} {K : Jl} {out : Int32 × Ji} (hM : Mx X cX8_wholeNight D th 3 rmM_wholeNight) (hR : Rt X (some .int) (RM D th out.2 K) (some (.int out.1)) 0 0) (F : Nat) (k20 : Int32 → Int32 → Ji → Option (Int32 × Ji)) (hk20 : ∀ (a1 : Int32) (a2 : Int32) (J : Ji) , k20 a1 a2 J = some out → Wk X 0 0 (RM D th J K) 20 [(0, .ref th), (1, .int a1), (2, .int a2)] []) (a1 : Int32) (a2 : Int32) (J : Ji) (hE : M_wholeNight_B20 F k20 a1 a2 J = some out) : Wk X 0 0 (RM D th J K) 20 [(0, .ref th), (1, .int a1), (2, .int a2)] [] := by
  have hC := hM.1
  have hnL := hM.2.2.1
  have hrm := hM.2.2.2
  unfold M_wholeNight_B20 at hE
  refine k_iload_n (pc := 20) hC dX8_wholeNight_20 rfl 2 rfl ?_
  refine k_aload_n (pc := 21) hC dX8_wholeNight_21 rfl 0 rfl ?_
  refine m_clI (pc := 22) (As := []) hM (cw_M_menNow hM (Nat.le_of_ble_eq_true rfl) (Nat.le_of_ble_eq_true rfl)) rfl rfl (Nat.le_of_ble_eq_true rfl) dX8_wholeNight_22 hE (fun r h => ct_M_menNow _ _ _ _ hM.2.1  J K r h) (fun r4 hE => ?_)
  refine k_icmp_ge (pc := 25) (tgt := 114) hC dX8_wholeNight_25 (by decide) hE (fun hE => ?_) (fun hE => ?_)
  · refine k_aload_n (pc := 114) hC dX8_wholeNight_114 rfl 0 rfl ?_
    refine gM_65 (pc := 115) hM dX8_wholeNight_115 ?_
    refine k_bipush (pc := 118) (v := 79) hC dX8_wholeNight_118 (by decide) ?_
    refine k_dup2 (pc := 120) hC dX8_wholeNight_120 rfl rfl ?_
    refine m_iald (pc := 121) 48 ly_48 hM dX8_wholeNight_121 hE (fun x5 hE => ?_)
    refine k_iconst (pc := 122) (v := 1) hC dX8_wholeNight_122 (by decide) ?_
    refine k_iadd (pc := 123) hC dX8_wholeNight_123 ?_
    refine m_iast (pc := 124) 48 ly_48 hM dX8_wholeNight_124 hE (fun J6 hE => ?_)
    refine k_aload_n (pc := 125) hC dX8_wholeNight_125 rfl 0 rfl ?_
    refine m_clI (pc := 126) (As := []) hM (cw_M_worthNow hM (Nat.le_of_ble_eq_true rfl) (Nat.le_of_ble_eq_true rfl)) rfl rfl (Nat.le_of_ble_eq_true rfl) dX8_wholeNight_126 hE (fun r h => ct_M_worthNow _ _ _ _ hM.2.1 F J6 K r h) (fun r7 hE => ?_)
    refine k_iload_n (pc := 129) hC dX8_wholeNight_129 rfl 1 rfl ?_
    refine k_isub (pc := 130) hC dX8_wholeNight_130 ?_
    exact k_iret (pc := 131) hC hR ⟨Nat.le_refl 0, Nat.le_refl 0⟩ dX8_wholeNight_131 (by cases hE; rfl) (by cases hE; exact fun _ h => h)
  · refine k_aload_n (pc := 28) hC dX8_wholeNight_28 rfl 0 rfl ?_
    refine gM_65 (pc := 29) hM dX8_wholeNight_29 ?_
    refine k_bipush (pc := 32) (v := 54) hC dX8_wholeNight_32 (by decide) ?_
    refine k_iload_n (pc := 34) hC dX8_wholeNight_34 rfl 2 rfl ?_
    refine k_iadd (pc := 35) hC dX8_wholeNight_35 ?_
    refine k_aload_n (pc := 36) hC dX8_wholeNight_36 rfl 0 rfl ?_
    refine gM_72 (pc := 37) hM dX8_wholeNight_37 ?_
    refine k_iload_n (pc := 40) hC dX8_wholeNight_40 rfl 2 rfl ?_
    refine m_iald (pc := 41) 55 ly_55 hM dX8_wholeNight_41 hE (fun x8 hE => ?_)
    refine m_iast (pc := 42) 48 ly_48 hM dX8_wholeNight_42 hE (fun J9 hE => ?_)
    refine k_aload_n (pc := 43) hC dX8_wholeNight_43 rfl 0 rfl ?_
    refine gM_65 (pc := 44) hM dX8_wholeNight_44 ?_
    refine k_bipush (pc := 47) (v := 60) hC dX8_wholeNight_47 (by decide) ?_
    refine k_iload_n (pc := 49) hC dX8_wholeNight_49 rfl 2 rfl ?_
    refine k_iadd (pc := 50) hC dX8_wholeNight_50 ?_
    refine k_dup2 (pc := 51) hC dX8_wholeNight_51 rfl rfl ?_
    refine m_iald (pc := 52) 48 ly_48 hM dX8_wholeNight_52 hE (fun x10 hE => ?_)
    refine k_aload_n (pc := 53) hC dX8_wholeNight_53 rfl 0 rfl ?_
    refine gM_72 (pc := 54) hM dX8_wholeNight_54 ?_
    refine k_iload_n (pc := 57) hC dX8_wholeNight_57 rfl 2 rfl ?_
    refine m_iald (pc := 58) 55 ly_55 hM dX8_wholeNight_58 hE (fun x11 hE => ?_)
    refine k_iadd (pc := 59) hC dX8_wholeNight_59 ?_
    refine m_iast (pc := 60) 48 ly_48 hM dX8_wholeNight_60 hE (fun J12 hE => ?_)
    refine k_aload_n (pc := 61) hC dX8_wholeNight_61 rfl 0 rfl ?_
    refine gM_65 (pc := 62) hM dX8_wholeNight_62 ?_
    refine k_bipush (pc := 65) (v := 48) hC dX8_wholeNight_65 (by decide) ?_
    refine k_iload_n (pc := 67) hC dX8_wholeNight_67 rfl 2 rfl ?_
    refine k_iadd (pc := 68) hC dX8_wholeNight_68 ?_
    refine k_aload_n (pc := 69) hC dX8_wholeNight_69 rfl 0 rfl ?_
    refine gM_71 (pc := 70) hM dX8_wholeNight_70 ?_
    refine k_iload_n (pc := 73) hC dX8_wholeNight_73 rfl 2 rfl ?_
    refine m_iald (pc := 74) 54 ly_54 hM dX8_wholeNight_74 hE (fun x13 hE => ?_)
    refine m_iast (pc := 75) 48 ly_48 hM dX8_wholeNight_75 hE (fun J14 hE => ?_)
    refine k_aload_n (pc := 76) hC dX8_wholeNight_76 rfl 0 rfl ?_
    refine gM_73 (pc := 77) hM dX8_wholeNight_77 ?_
    refine k_iload_n (pc := 80) hC dX8_wholeNight_80 rfl 2 rfl ?_
    refine m_zald (pc := 81) 56 ly_56 hM dX8_wholeNight_81 hE (fun x15 hE => ?_)
    refine k_if_ne (pc := 82) (tgt := 88) hC dX8_wholeNight_82 (by decide) hE (fun hE => ?_) (fun hE => ?_)
    · refine k_goto (pc := 85) (tgt := 108) hC dX8_wholeNight_85 (by decide) ?_
      refine k_iincE (pc := 108) (k := 2) (d := 1) (lv' := fun x16 => [(2, .int x16), (0, .ref th), (1, .int a1)]) hC dX8_wholeNight_108 rfl (by decide) (by rw [hnL]; decide) hE (fun _ => rfl) (fun x16 hE => ?_)
      refine k_goto (pc := 111) (tgt := 20) hC dX8_wholeNight_111 (by decide) ?_
      refine k_sub [1, 2, 0] rfl ?_
      exact hk20 _ _ _ hE
    · refine k_aload_n (pc := 88) hC dX8_wholeNight_88 rfl 0 rfl ?_
      refine gM_65 (pc := 89) hM dX8_wholeNight_89 ?_
      refine k_bipush (pc := 92) (v := 42) hC dX8_wholeNight_92 (by decide) ?_
      refine k_iload_n (pc := 94) hC dX8_wholeNight_94 rfl 2 rfl ?_
      refine k_iadd (pc := 95) hC dX8_wholeNight_95 ?_
      refine k_iconst (pc := 96) (v := (-1)) hC dX8_wholeNight_96 (by decide) ?_
      refine m_iast (pc := 97) 48 ly_48 hM dX8_wholeNight_97 hE (fun J17 hE => ?_)
      refine k_aload_n (pc := 98) hC dX8_wholeNight_98 rfl 0 rfl ?_
      refine gM_65 (pc := 99) hM dX8_wholeNight_99 ?_
      refine k_bipush (pc := 102) (v := 48) hC dX8_wholeNight_102 (by decide) ?_
      refine k_iload_n (pc := 104) hC dX8_wholeNight_104 rfl 2 rfl ?_
      refine k_iadd (pc := 105) hC dX8_wholeNight_105 ?_
      refine k_iconst (pc := 106) (v := (-1)) hC dX8_wholeNight_106 (by decide) ?_
      refine m_iast (pc := 107) 48 ly_48 hM dX8_wholeNight_107 hE (fun J18 hE => ?_)
      refine k_iincE (pc := 108) (k := 2) (d := 1) (lv' := fun x19 => [(2, .int x19), (0, .ref th), (1, .int a1)]) hC dX8_wholeNight_108 rfl (by decide) (by rw [hnL]; decide) hE (fun _ => rfl) (fun x19 hE => ?_)
      refine k_goto (pc := 111) (tgt := 20) hC dX8_wholeNight_111 (by decide) ?_
      refine k_sub [1, 2, 0] rfl ?_
      exact hk20 _ _ _ hE
theorem w_M_wholeNight_L20 {X : Ctx} {D : Dd} {th : Nat} {K : Jl} {out : Int32 × Ji} (hM : Mx X cX8_wholeNight D th 3 rmM_wholeNight) (hR : Rt X (some .int) (RM D th out.2 K) (some (.int out.1)) 0 0) (F : Nat) (n : Nat) : ∀ (a1 : Int32) (a2 : Int32) (J : Ji) , M_wholeNight_L20 F n a1 a2 J = some out → Wk X 0 0 (RM D th J K) 20 [(0, .ref th), (1, .int a1), (2, .int a2)] [] := by
  induction n with
  | zero => intro a1 a2 J h; cases h
  | succ n ih => intro a1 a2 J h; exact w_M_wholeNight_B20 hM hR F (M_wholeNight_L20 F n) ih a1 a2 J h
set_option maxHeartbeats 4000000 in
theorem w_M_wholeNight {X : Ctx} {D : Dd} {th : Nat} {K : Jl} {out : Int32 × Ji} (hM : Mx X cX8_wholeNight D th 3 rmM_wholeNight) (hR : Rt X (some .int) (RM D th out.2 K) (some (.int out.1)) 0 0) (F : Nat) (J : Ji) (hE : M_wholeNight F J = some out) : Wk X 0 0 (RM D th J K) 0 [(0, .ref th)] [] := by
  have hC := hM.1
  have hnL := hM.2.2.1
  have hrm := hM.2.2.2
  unfold M_wholeNight at hE
  refine k_aload_n (pc := 0) hC dX8_wholeNight_0 rfl 0 rfl ?_
  refine m_clI (pc := 1) (As := []) hM (cw_M_worthNow hM (Nat.le_of_ble_eq_true rfl) (Nat.le_of_ble_eq_true rfl)) rfl rfl (Nat.le_of_ble_eq_true rfl) dX8_wholeNight_1 hE (fun r h => ct_M_worthNow _ _ _ _ hM.2.1 F J K r h) (fun r1 hE => ?_)
  refine k_istore_n (pc := 4) (lv' := [(1, .int r1), (0, .ref th)]) hC dX8_wholeNight_4 rfl (by rw [hnL]; decide) rfl ?_
  refine k_aload_n (pc := 5) hC dX8_wholeNight_5 rfl 1 rfl ?_
  refine k_aload_n (pc := 6) hC dX8_wholeNight_6 rfl 1 rfl ?_
  refine gM_55 (pc := 7) hM dX8_wholeNight_7 ?_
  refine k_aload_n (pc := 10) hC dX8_wholeNight_10 rfl 1 rfl ?_
  refine gM_18 (pc := 11) hM dX8_wholeNight_11 ?_
  refine m_iald (pc := 14) 41 ly_41 hM dX8_wholeNight_14 hE (fun x2 hE => ?_)
  refine m_clVj (pc := 15) (As := [.int x2]) hM (cw_M_goesTill hM (Nat.le_of_ble_eq_true rfl) (Nat.le_of_ble_eq_true rfl)) rfl rfl (Nat.le_of_ble_eq_true rfl) dX8_wholeNight_15 hE (fun r h => ct_M_goesTill _ _ _ _ hM.2.1 F x2 J K r h) (fun r3 hE => ?_)
  refine k_iconst (pc := 18) (v := 0) hC dX8_wholeNight_18 (by decide) ?_
  refine k_istore_n (pc := 19) (lv' := [(2, .int 0), (1, .int r1), (0, .ref th)]) hC dX8_wholeNight_19 rfl (by rw [hnL]; decide) rfl ?_
  refine k_sub [2, 1, 0] rfl ?_
  exact w_M_wholeNight_L20 hM hR F _ _ _ _ hE
theorem ct_M_wholeNight (l : Launch) (D : Dd) (A : Nat → Prop) (th : Nat) (hA : ∀ (off : Nat) (kd : Kd), layM off = some kd → A (th + off)) (F : Nat) (J : Ji) (K : Jl) (out : Int32 × Ji) (hE : M_wholeNight F J = some out) : Ct l yX8_wholeNight (ws_ yX8_wholeNight cX8_wholeNight 3 (some .int)) rmM_wholeNight vwCl arTy D A [.ref th] (RM D th J K) (RM D th out.2 K) (some (.int out.1)) 0 0 := by
  refine Ct.of (by decide) (Nat.le_of_ble_eq_true rfl) rfl ?_
  intro X hl hrm hC hR hXA hnL _
  exact w_M_wholeNight ⟨hC, by unfold Ft; rw [hXA]; exact hA, hnL, hrm⟩ hR F J hE
theorem cw_M_wholeNight {X : Ctx} {cc : ByteArray} {D : Dd} {th mL : Nat} {rm : Room} (hM : Mx X cc D th mL rm) (h1 : rmM_wholeNight.frames + 1 ≤ rm.frames) (h2 : 8 + (3 + 11) + rmM_wholeNight.locals ≤ rm.locals) : CallW X.2.2.2.1 X.2.2.2.2.1 X.2.2.2.2.2.2.1 RX8 RX8 458 yX8_wholeNight cX8_wholeNight 3 (some .int) (ws_ yX8_wholeNight cX8_wholeNight 3 (some .int)) rmM_wholeNight 0 0 0 := cwV 0 (cx_w hM.1) (lw_V q2057 q2059 qs96 q128 q2060) rfl rfl rfl (by decide +kernel) (by rw [hM.2.2.2]; exact ⟨h1, h2⟩)
abbrev rmM_night : Room := { frames := 5, cells := 0, slots := 0, locals := 126 }
set_option maxHeartbeats 4000000 in
theorem w_M_night_B104 {X : Ctx} {D : Dd} {th : Nat} {K : Jl} {out : Int32 × Ji} (hM : Mx X cX8_night D th 3 rmM_night) (hR : Rt X (some .int) (RM D th out.2 K) (some (.int out.1)) 0 0) (F : Nat) (k104 : Int32 → Int32 → Ji → Option (Int32 × Ji)) (hk104 : ∀ (a1 : Int32) (a2 : Int32) (J : Ji) , k104 a1 a2 J = some out → Wk X 0 0 (RM D th J K) 104 [(0, .ref th), (1, .int a1), (2, .int a2)] []) (a1 : Int32) (a2 : Int32) (J : Ji) (hE : M_night_B104 F k104 a1 a2 J = some out) : Wk X 0 0 (RM D th J K) 104 [(0, .ref th), (1, .int a1), (2, .int a2)] [] := by
  have hC := hM.1
  have hnL := hM.2.2.1
  have hrm := hM.2.2.2
  unfold M_night_B104 at hE
  refine k_iload_n (pc := 104) hC dX8_night_104 rfl 2 rfl ?_
  refine k_bipush (pc := 105) (v := 100) hC dX8_night_105 (by decide) ?_
  refine k_icmp_ge (pc := 107) (tgt := 128) hC dX8_night_107 (by decide) hE (fun hE => ?_) (fun hE => ?_)
  · refine k_iload_n (pc := 128) hC dX8_night_128 rfl 1 rfl ?_
    exact k_iret (pc := 129) hC hR ⟨Nat.le_refl 0, Nat.le_refl 0⟩ dX8_night_129 (by cases hE; rfl) (by cases hE; exact fun _ h => h)
  · refine k_aload_n (pc := 110) hC dX8_night_110 rfl 0 rfl ?_
    refine gM_64 (pc := 111) hM dX8_night_111 ?_
    refine k_iload_n (pc := 114) hC dX8_night_114 rfl 2 rfl ?_
    refine k_aload_n (pc := 115) hC dX8_night_115 rfl 0 rfl ?_
    refine gM_65 (pc := 116) hM dX8_night_116 ?_
    refine k_iload_n (pc := 119) hC dX8_night_119 rfl 2 rfl ?_
    refine m_iald (pc := 120) 48 ly_48 hM dX8_night_120 hE (fun x7 hE => ?_)
    refine m_iast (pc := 121) 47 ly_47 hM dX8_night_121 hE (fun J8 hE => ?_)
    refine k_iincE (pc := 122) (k := 2) (d := 1) (lv' := fun x9 => [(2, .int x9), (0, .ref th), (1, .int a1)]) hC dX8_night_122 rfl (by decide) (by rw [hnL]; decide) hE (fun _ => rfl) (fun x9 hE => ?_)
    refine k_goto (pc := 125) (tgt := 104) hC dX8_night_125 (by decide) ?_
    refine k_sub [1, 2, 0] rfl ?_
    exact hk104 _ _ _ hE
theorem w_M_night_L104 {X : Ctx} {D : Dd} {th : Nat} {K : Jl} {out : Int32 × Ji} (hM : Mx X cX8_night D th 3 rmM_night) (hR : Rt X (some .int) (RM D th out.2 K) (some (.int out.1)) 0 0) (F : Nat) (n : Nat) : ∀ (a1 : Int32) (a2 : Int32) (J : Ji) , M_night_L104 F n a1 a2 J = some out → Wk X 0 0 (RM D th J K) 104 [(0, .ref th), (1, .int a1), (2, .int a2)] [] := by
  induction n with
  | zero => intro a1 a2 J h; cases h
  | succ n ih => intro a1 a2 J h; exact w_M_night_B104 hM hR F (M_night_L104 F n) ih a1 a2 J h
set_option maxHeartbeats 4000000 in
theorem w_M_night_B51 {X : Ctx} {D : Dd} {th : Nat} {K : Jl} {out : Int32 × Ji} (hM : Mx X cX8_night D th 3 rmM_night) (hR : Rt X (some .int) (RM D th out.2 K) (some (.int out.1)) 0 0) (F : Nat) (k51 : Int32 → Ji → Option (Int32 × Ji)) (hk51 : ∀ (a1 : Int32) (J : Ji) , k51 a1 J = some out → Wk X 0 0 (RM D th J K) 51 [(0, .ref th), (1, .int a1)] []) (a1 : Int32) (J : Ji) (hE : M_night_B51 F k51 a1 J = some out) : Wk X 0 0 (RM D th J K) 51 [(0, .ref th), (1, .int a1)] [] := by
  have hC := hM.1
  have hnL := hM.2.2.1
  have hrm := hM.2.2.2
  unfold M_night_B51 at hE
  refine k_iload_n (pc := 51) hC dX8_night_51 rfl 1 rfl ?_
  refine k_bipush (pc := 52) (v := 100) hC dX8_night_52 (by decide) ?_
  refine k_icmp_ge (pc := 54) (tgt := 83) hC dX8_night_54 (by decide) hE (fun hE => ?_) (fun hE => ?_)
  · refine k_aload_n (pc := 83) hC dX8_night_83 rfl 0 rfl ?_
    refine k_dup (pc := 84) hC dX8_night_84 rfl ?_
    refine gM_74 (pc := 85) hM dX8_night_85 ?_
    refine k_iconst (pc := 88) (v := 1) hC dX8_night_88 (by decide) ?_
    refine k_iadd (pc := 89) hC dX8_night_89 ?_
    refine pM_74 (pc := 90) hM dX8_night_90 hE (fun J1 hE => ?_)
    refine k_aload_n (pc := 93) hC dX8_night_93 rfl 0 rfl ?_
    refine m_clVj (pc := 94) (As := []) hM (cw_M_takes hM (Nat.le_of_ble_eq_true rfl) (Nat.le_of_ble_eq_true rfl)) rfl rfl (Nat.le_of_ble_eq_true rfl) dX8_night_94 hE (fun r h => ct_M_takes _ _ _ _ hM.2.1 F J1 K r h) (fun r2 hE => ?_)
    refine k_aload_n (pc := 97) hC dX8_night_97 rfl 0 rfl ?_
    refine m_clIj (pc := 98) (As := []) hM (cw_M_wholeNight hM (Nat.le_of_ble_eq_true rfl) (Nat.le_of_ble_eq_true rfl)) rfl rfl (Nat.le_of_ble_eq_true rfl) dX8_night_98 hE (fun r h => ct_M_wholeNight _ _ _ _ hM.2.1 F r2 K r h) (fun r3 hE => ?_)
    refine k_istore_n (pc := 101) (lv' := [(1, .int r3.1), (0, .ref th)]) hC dX8_night_101 rfl (by rw [hnL]; decide) rfl ?_
    refine k_iconst (pc := 102) (v := 0) hC dX8_night_102 (by decide) ?_
    refine k_istore_n (pc := 103) (lv' := [(2, .int 0), (1, .int r3.1), (0, .ref th)]) hC dX8_night_103 rfl (by rw [hnL]; decide) rfl ?_
    refine k_sub [2, 1, 0] rfl ?_
    exact w_M_night_L104 hM hR F _ _ _ _ hE
  · refine k_aload_n (pc := 57) hC dX8_night_57 rfl 0 rfl ?_
    refine gM_75 (pc := 58) hM dX8_night_58 ?_
    refine k_bipush (pc := 61) (v := 100) hC dX8_night_61 (by decide) ?_
    refine k_aload_n (pc := 63) hC dX8_night_63 rfl 0 rfl ?_
    refine gM_74 (pc := 64) hM dX8_night_64 ?_
    refine k_imul (pc := 67) hC dX8_night_67 ?_
    refine k_iload_n (pc := 68) hC dX8_night_68 rfl 1 rfl ?_
    refine k_iadd (pc := 69) hC dX8_night_69 ?_
    refine k_aload_n (pc := 70) hC dX8_night_70 rfl 0 rfl ?_
    refine gM_64 (pc := 71) hM dX8_night_71 ?_
    refine k_iload_n (pc := 74) hC dX8_night_74 rfl 1 rfl ?_
    refine m_iald (pc := 75) 47 ly_47 hM dX8_night_75 hE (fun x4 hE => ?_)
    refine m_iast (pc := 76) 57 ly_57 hM dX8_night_76 hE (fun J5 hE => ?_)
    refine k_iincE (pc := 77) (k := 1) (d := 1) (lv' := fun x6 => [(1, .int x6), (0, .ref th)]) hC dX8_night_77 rfl (by decide) (by rw [hnL]; decide) hE (fun _ => rfl) (fun x6 hE => ?_)
    refine k_goto (pc := 80) (tgt := 51) hC dX8_night_80 (by decide) ?_
    refine k_sub [1, 0] rfl ?_
    exact hk51 _ _ hE
theorem w_M_night_L51 {X : Ctx} {D : Dd} {th : Nat} {K : Jl} {out : Int32 × Ji} (hM : Mx X cX8_night D th 3 rmM_night) (hR : Rt X (some .int) (RM D th out.2 K) (some (.int out.1)) 0 0) (F : Nat) (n : Nat) : ∀ (a1 : Int32) (J : Ji) , M_night_L51 F n a1 J = some out → Wk X 0 0 (RM D th J K) 51 [(0, .ref th), (1, .int a1)] [] := by
  induction n with
  | zero => intro a1 J h; cases h
  | succ n ih => intro a1 J h; exact w_M_night_B51 hM hR F (M_night_L51 F n) ih a1 J h
set_option maxHeartbeats 4000000 in
theorem w_M_night_B49 {X : Ctx} {D : Dd} {th : Nat} {K : Jl} {out : Int32 × Ji} (hM : Mx X cX8_night D th 3 rmM_night) (hR : Rt X (some .int) (RM D th out.2 K) (some (.int out.1)) 0 0) (F : Nat) (J : Ji) (hE : M_night_B49 F J = some out) : Wk X 0 0 (RM D th J K) 49 [(0, .ref th)] [] := by
  have hC := hM.1
  have hnL := hM.2.2.1
  have hrm := hM.2.2.2
  unfold M_night_B49 at hE
  refine k_iconst (pc := 49) (v := 0) hC dX8_night_49 (by decide) ?_
  refine k_istore_n (pc := 50) (lv' := [(1, .int 0), (0, .ref th)]) hC dX8_night_50 rfl (by rw [hnL]; decide) rfl ?_
  refine k_sub [1, 0] rfl ?_
  exact w_M_night_L51 hM hR F _ _ _ hE
set_option maxHeartbeats 4000000 in
theorem w_M_night_B11 {X : Ctx} {D : Dd} {th : Nat} {K : Jl} {out : Int32 × Ji} (hM : Mx X cX8_night D th 3 rmM_night) (hR : Rt X (some .int) (RM D th out.2 K) (some (.int out.1)) 0 0) (F : Nat) (k11 : Int32 → Ji → Option (Int32 × Ji)) (hk11 : ∀ (a1 : Int32) (J : Ji) , k11 a1 J = some out → Wk X 0 0 (RM D th J K) 11 [(0, .ref th), (1, .int a1)] []) (a1 : Int32) (J : Ji) (hE : M_night_B11 F k11 a1 J = some out) : Wk X 0 0 (RM D th J K) 11 [(0, .ref th), (1, .int a1)] [] := by
  have hC := hM.1
  have hnL := hM.2.2.1
  have hrm := hM.2.2.2
  unfold M_night_B11 at hE
  refine k_iload_n (pc := 11) hC dX8_night_11 rfl 1 rfl ?_
  refine k_sipush (pc := 12) (v := 1900) hC dX8_night_12 (by decide) ?_
  refine k_icmp_ge (pc := 15) (tgt := 39) hC dX8_night_15 (by decide) hE (fun hE => ?_) (fun hE => ?_)
  · refine k_aload_n (pc := 39) hC dX8_night_39 rfl 0 rfl ?_
    refine k_dup (pc := 40) hC dX8_night_40 rfl ?_
    refine gM_74 (pc := 41) hM dX8_night_41 ?_
    refine k_iconst (pc := 44) (v := 1) hC dX8_night_44 (by decide) ?_
    refine k_isub (pc := 45) hC dX8_night_45 ?_
    refine pM_74 (pc := 46) hM dX8_night_46 hE (fun J10 hE => ?_)
    refine k_sub [0] rfl ?_
    exact w_M_night_B49 hM hR F _ hE
  · refine k_aload_n (pc := 18) hC dX8_night_18 rfl 0 rfl ?_
    refine gM_75 (pc := 19) hM dX8_night_19 ?_
    refine k_iload_n (pc := 22) hC dX8_night_22 rfl 1 rfl ?_
    refine k_aload_n (pc := 23) hC dX8_night_23 rfl 0 rfl ?_
    refine gM_75 (pc := 24) hM dX8_night_24 ?_
    refine k_iload_n (pc := 27) hC dX8_night_27 rfl 1 rfl ?_
    refine k_bipush (pc := 28) (v := 100) hC dX8_night_28 (by decide) ?_
    refine k_iadd (pc := 30) hC dX8_night_30 ?_
    refine m_iald (pc := 31) 57 ly_57 hM dX8_night_31 hE (fun x11 hE => ?_)
    refine m_iast (pc := 32) 57 ly_57 hM dX8_night_32 hE (fun J12 hE => ?_)
    refine k_iincE (pc := 33) (k := 1) (d := 1) (lv' := fun x13 => [(1, .int x13), (0, .ref th)]) hC dX8_night_33 rfl (by decide) (by rw [hnL]; decide) hE (fun _ => rfl) (fun x13 hE => ?_)
    refine k_goto (pc := 36) (tgt := 11) hC dX8_night_36 (by decide) ?_
    refine k_sub [1, 0] rfl ?_
    exact hk11 _ _ hE
theorem w_M_night_L11 {X : Ctx} {D : Dd} {th : Nat} {K : Jl} {out : Int32 × Ji} (hM : Mx X cX8_night D th 3 rmM_night) (hR : Rt X (some .int) (RM D th out.2 K) (some (.int out.1)) 0 0) (F : Nat) (n : Nat) : ∀ (a1 : Int32) (J : Ji) , M_night_L11 F n a1 J = some out → Wk X 0 0 (RM D th J K) 11 [(0, .ref th), (1, .int a1)] [] := by
  induction n with
  | zero => intro a1 J h; cases h
  | succ n ih => intro a1 J h; exact w_M_night_B11 hM hR F (M_night_L11 F n) ih a1 J h
set_option maxHeartbeats 4000000 in
theorem w_M_night {X : Ctx} {D : Dd} {th : Nat} {K : Jl} {out : Int32 × Ji} (hM : Mx X cX8_night D th 3 rmM_night) (hR : Rt X (some .int) (RM D th out.2 K) (some (.int out.1)) 0 0) (F : Nat) (J : Ji) (hE : M_night F J = some out) : Wk X 0 0 (RM D th J K) 0 [(0, .ref th)] [] := by
  have hC := hM.1
  have hnL := hM.2.2.1
  have hrm := hM.2.2.2
  unfold M_night at hE
  refine k_aload_n (pc := 0) hC dX8_night_0 rfl 0 rfl ?_
  refine gM_74 (pc := 1) hM dX8_night_1 ?_
  refine k_bipush (pc := 4) (v := 20) hC dX8_night_4 (by decide) ?_
  refine k_icmp_ne (pc := 6) (tgt := 49) hC dX8_night_6 (by decide) hE (fun hE => ?_) (fun hE => ?_)
  · refine k_iconst (pc := 9) (v := 0) hC dX8_night_9 (by decide) ?_
    refine k_istore_n (pc := 10) (lv' := [(1, .int 0), (0, .ref th)]) hC dX8_night_10 rfl (by rw [hnL]; decide) rfl ?_
    refine k_sub [1, 0] rfl ?_
    exact w_M_night_L11 hM hR F _ _ _ hE
  · exact w_M_night_B49 hM hR F _ hE
theorem ct_M_night (l : Launch) (D : Dd) (A : Nat → Prop) (th : Nat) (hA : ∀ (off : Nat) (kd : Kd), layM off = some kd → A (th + off)) (F : Nat) (J : Ji) (K : Jl) (out : Int32 × Ji) (hE : M_night F J = some out) : Ct l yX8_night (ws_ yX8_night cX8_night 3 (some .int)) rmM_night vwCl arTy D A [.ref th] (RM D th J K) (RM D th out.2 K) (some (.int out.1)) 0 0 := by
  refine Ct.of (by decide) (Nat.le_of_ble_eq_true rfl) rfl ?_
  intro X hl hrm hC hR hXA hnL _
  exact w_M_night ⟨hC, by unfold Ft; rw [hXA]; exact hA, hnL, hrm⟩ hR F J hE
abbrev rmM_undo : Room := { frames := 0, cells := 0, slots := 0, locals := 0 }
set_option maxHeartbeats 4000000 in
theorem w_M_undo_B21 {X : Ctx} {D : Dd} {th : Nat} {K : Jl} {out : Int32 × Ji} (hM : Mx X cX8_undo D th 2 rmM_undo) (hR : Rt X (some .boolean) (RM D th out.2 K) (some (.int out.1)) 0 0) (F : Nat) (k21 : Int32 → Ji → Option (Int32 × Ji)) (hk21 : ∀ (a1 : Int32) (J : Ji) , k21 a1 J = some out → Wk X 0 0 (RM D th J K) 21 [(0, .ref th), (1, .int a1)] []) (a1 : Int32) (J : Ji) (hE : M_undo_B21 F k21 a1 J = some out) : Wk X 0 0 (RM D th J K) 21 [(0, .ref th), (1, .int a1)] [] := by
  have hC := hM.1
  have hnL := hM.2.2.1
  have hrm := hM.2.2.2
  unfold M_undo_B21 at hE
  refine k_iload_n (pc := 21) hC dX8_undo_21 rfl 1 rfl ?_
  refine k_bipush (pc := 22) (v := 100) hC dX8_undo_22 (by decide) ?_
  refine k_icmp_ge (pc := 24) (tgt := 53) hC dX8_undo_24 (by decide) hE (fun hE => ?_) (fun hE => ?_)
  · refine k_iconst (pc := 53) (v := 1) hC dX8_undo_53 (by decide) ?_
    exact k_zret (pc := 54) (by decide) hC hR ⟨Nat.le_refl 0, Nat.le_refl 0⟩ dX8_undo_54 (by cases hE; rfl) (by cases hE; exact fun _ h => h)
  · refine k_aload_n (pc := 27) hC dX8_undo_27 rfl 0 rfl ?_
    refine gM_64 (pc := 28) hM dX8_undo_28 ?_
    refine k_iload_n (pc := 31) hC dX8_undo_31 rfl 1 rfl ?_
    refine k_aload_n (pc := 32) hC dX8_undo_32 rfl 0 rfl ?_
    refine gM_75 (pc := 33) hM dX8_undo_33 ?_
    refine k_bipush (pc := 36) (v := 100) hC dX8_undo_36 (by decide) ?_
    refine k_aload_n (pc := 38) hC dX8_undo_38 rfl 0 rfl ?_
    refine gM_74 (pc := 39) hM dX8_undo_39 ?_
    refine k_imul (pc := 42) hC dX8_undo_42 ?_
    refine k_iload_n (pc := 43) hC dX8_undo_43 rfl 1 rfl ?_
    refine k_iadd (pc := 44) hC dX8_undo_44 ?_
    refine m_iald (pc := 45) 57 ly_57 hM dX8_undo_45 hE (fun x2 hE => ?_)
    refine m_iast (pc := 46) 47 ly_47 hM dX8_undo_46 hE (fun J3 hE => ?_)
    refine k_iincE (pc := 47) (k := 1) (d := 1) (lv' := fun x4 => [(1, .int x4), (0, .ref th)]) hC dX8_undo_47 rfl (by decide) (by rw [hnL]; decide) hE (fun _ => rfl) (fun x4 hE => ?_)
    refine k_goto (pc := 50) (tgt := 21) hC dX8_undo_50 (by decide) ?_
    refine k_sub [1, 0] rfl ?_
    exact hk21 _ _ hE
theorem w_M_undo_L21 {X : Ctx} {D : Dd} {th : Nat} {K : Jl} {out : Int32 × Ji} (hM : Mx X cX8_undo D th 2 rmM_undo) (hR : Rt X (some .boolean) (RM D th out.2 K) (some (.int out.1)) 0 0) (F : Nat) (n : Nat) : ∀ (a1 : Int32) (J : Ji) , M_undo_L21 F n a1 J = some out → Wk X 0 0 (RM D th J K) 21 [(0, .ref th), (1, .int a1)] [] := by
  induction n with
  | zero => intro a1 J h; cases h
  | succ n ih => intro a1 J h; exact w_M_undo_B21 hM hR F (M_undo_L21 F n) ih a1 J h
set_option maxHeartbeats 4000000 in
theorem w_M_undo {X : Ctx} {D : Dd} {th : Nat} {K : Jl} {out : Int32 × Ji} (hM : Mx X cX8_undo D th 2 rmM_undo) (hR : Rt X (some .boolean) (RM D th out.2 K) (some (.int out.1)) 0 0) (F : Nat) (J : Ji) (hE : M_undo F J = some out) : Wk X 0 0 (RM D th J K) 0 [(0, .ref th)] [] := by
  have hC := hM.1
  have hnL := hM.2.2.1
  have hrm := hM.2.2.2
  unfold M_undo at hE
  refine k_aload_n (pc := 0) hC dX8_undo_0 rfl 0 rfl ?_
  refine gM_74 (pc := 1) hM dX8_undo_1 ?_
  refine k_if_ne (pc := 4) (tgt := 9) hC dX8_undo_4 (by decide) hE (fun hE => ?_) (fun hE => ?_)
  · refine k_iconst (pc := 7) (v := 0) hC dX8_undo_7 (by decide) ?_
    exact k_zret (pc := 8) (by decide) hC hR ⟨Nat.le_refl 0, Nat.le_refl 0⟩ dX8_undo_8 (by cases hE; rfl) (by cases hE; exact fun _ h => h)
  · refine k_aload_n (pc := 9) hC dX8_undo_9 rfl 0 rfl ?_
    refine k_dup (pc := 10) hC dX8_undo_10 rfl ?_
    refine gM_74 (pc := 11) hM dX8_undo_11 ?_
    refine k_iconst (pc := 14) (v := 1) hC dX8_undo_14 (by decide) ?_
    refine k_isub (pc := 15) hC dX8_undo_15 ?_
    refine pM_74 (pc := 16) hM dX8_undo_16 hE (fun J1 hE => ?_)
    refine k_iconst (pc := 19) (v := 0) hC dX8_undo_19 (by decide) ?_
    refine k_istore_n (pc := 20) (lv' := [(1, .int 0), (0, .ref th)]) hC dX8_undo_20 rfl (by rw [hnL]; decide) rfl ?_
    refine k_sub [1, 0] rfl ?_
    exact w_M_undo_L21 hM hR F _ _ _ hE
theorem ct_M_undo (l : Launch) (D : Dd) (A : Nat → Prop) (th : Nat) (hA : ∀ (off : Nat) (kd : Kd), layM off = some kd → A (th + off)) (F : Nat) (J : Ji) (K : Jl) (out : Int32 × Ji) (hE : M_undo F J = some out) : Ct l yX8_undo (ws_ yX8_undo cX8_undo 2 (some .boolean)) rmM_undo vwCl arTy D A [.ref th] (RM D th J K) (RM D th out.2 K) (some (.int out.1)) 0 0 := by
  refine Ct.of (by decide) (Nat.le_of_ble_eq_true rfl) rfl ?_
  intro X hl hrm hC hR hXA hnL _
  exact w_M_undo ⟨hC, by unfold Ft; rw [hXA]; exact hA, hnL, hrm⟩ hR F J hE
abbrev rmM_gain : Room := { frames := 5, cells := 0, slots := 0, locals := 126 }
set_option maxHeartbeats 4000000 in
theorem w_M_gain {X : Ctx} {D : Dd} {th : Nat} {K : Jl} {out : Int32 × Ji} (hM : Mx X cX8_gain D th 1 rmM_gain) (hR : Rt X (some .int) (RM D th out.2 K) (some (.int out.1)) 0 0) (F : Nat) (J : Ji) (hE : M_gain F J = some out) : Wk X 0 0 (RM D th J K) 0 [(0, .ref th)] [] := by
  have hC := hM.1
  have hnL := hM.2.2.1
  have hrm := hM.2.2.2
  unfold M_gain at hE
  refine k_aload_n (pc := 0) hC dX8_gain_0 rfl 0 rfl ?_
  refine m_clVj (pc := 1) (As := []) hM (cw_M_takes hM (Nat.le_of_ble_eq_true rfl) (Nat.le_of_ble_eq_true rfl)) rfl rfl (Nat.le_of_ble_eq_true rfl) dX8_gain_1 hE (fun r h => ct_M_takes _ _ _ _ hM.2.1 F J K r h) (fun r1 hE => ?_)
  refine k_aload_n (pc := 4) hC dX8_gain_4 rfl 0 rfl ?_
  refine m_clIj (pc := 5) (As := []) hM (cw_M_wholeNight hM (Nat.le_of_ble_eq_true rfl) (Nat.le_of_ble_eq_true rfl)) rfl rfl (Nat.le_of_ble_eq_true rfl) dX8_gain_5 hE (fun r h => ct_M_wholeNight _ _ _ _ hM.2.1 F r1 K r h) (fun r2 hE => ?_)
  exact k_iret (pc := 8) hC hR ⟨Nat.le_refl 0, Nat.le_refl 0⟩ dX8_gain_8 (by cases hE; rfl) (by cases hE; exact fun _ h => h)
theorem ct_M_gain (l : Launch) (D : Dd) (A : Nat → Prop) (th : Nat) (hA : ∀ (off : Nat) (kd : Kd), layM off = some kd → A (th + off)) (F : Nat) (J : Ji) (K : Jl) (out : Int32 × Ji) (hE : M_gain F J = some out) : Ct l yX8_gain (ws_ yX8_gain cX8_gain 1 (some .int)) rmM_gain vwCl arTy D A [.ref th] (RM D th J K) (RM D th out.2 K) (some (.int out.1)) 0 0 := by
  refine Ct.of (by decide) (Nat.le_of_ble_eq_true rfl) rfl ?_
  intro X hl hrm hC hR hXA hnL _
  exact w_M_gain ⟨hC, by unfold Ft; rw [hXA]; exact hA, hnL, hrm⟩ hR F J hE
abbrev rmM_leaves : Room := { frames := 1, cells := 0, slots := 0, locals := 21 }
set_option maxHeartbeats 4000000 in
theorem w_M_leaves_B96 {X : Ctx} {D : Dd} {th : Nat} {K : Jl} {out : Int32 × Ji} (hM : Mx X cX8_leaves D th 5 rmM_leaves) (hR : Rt X (some .boolean) (RM D th out.2 K) (some (.int out.1)) 0 0) (F : Nat) (s0 : Int32) (s1 : Int32) (J : Ji) (hE : M_leaves_B96 F s0 s1 J = some out) : Wk X 0 0 (RM D th J K) 96 [(0, .ref th)] [.int s0, .int s1, .ref (th + 48)] := by
  have hC := hM.1
  have hnL := hM.2.2.1
  have hrm := hM.2.2.2
  unfold M_leaves_B96 at hE
  refine m_iast (pc := 96) 48 ly_48 hM dX8_leaves_96 hE (fun J9 hE => ?_)
  refine k_iconst (pc := 97) (v := 1) hC dX8_leaves_97 (by decide) ?_
  exact k_zret (pc := 98) (by decide) hC hR ⟨Nat.le_refl 0, Nat.le_refl 0⟩ dX8_leaves_98 (by cases hE; rfl) (by cases hE; exact fun _ h => h)
set_option maxHeartbeats 4000000 in
theorem w_M_leaves_B78 {X : Ctx} {D : Dd} {th : Nat} {K : Jl} {out : Int32 × Ji} (hM : Mx X cX8_leaves D th 5 rmM_leaves) (hR : Rt X (some .boolean) (RM D th out.2 K) (some (.int out.1)) 0 0) (F : Nat) (a1 : Int32) (a3 : Int32) (s0 : Int32) (s1 : Int32) (J : Ji) (hE : M_leaves_B78 F a1 a3 s0 s1 J = some out) : Wk X 0 0 (RM D th J K) 78 [(0, .ref th), (1, .int a1), (3, .int a3)] [.int s0, .int s1, .ref (th + 48)] := by
  have hC := hM.1
  have hnL := hM.2.2.1
  have hrm := hM.2.2.2
  unfold M_leaves_B78 at hE
  refine m_iast (pc := 78) 48 ly_48 hM dX8_leaves_78 hE (fun J8 hE => ?_)
  refine k_aload_n (pc := 79) hC dX8_leaves_79 rfl 0 rfl ?_
  refine gM_65 (pc := 80) hM dX8_leaves_80 ?_
  refine k_bipush (pc := 83) (v := 48) hC dX8_leaves_83 (by decide) ?_
  refine k_iload_n (pc := 85) hC dX8_leaves_85 rfl 1 rfl ?_
  refine k_iadd (pc := 86) hC dX8_leaves_86 ?_
  refine k_iload_n (pc := 87) hC dX8_leaves_87 rfl 2 rfl ?_
  refine k_if_ge (pc := 88) (tgt := 95) hC dX8_leaves_88 (by decide) hE (fun hE => ?_) (fun hE => ?_)
  · refine k_iload_n (pc := 95) hC dX8_leaves_95 rfl 2 rfl ?_
    refine k_sub [0] rfl ?_
    exact w_M_leaves_B96 hM hR F _ _ _ hE
  · refine k_iconst (pc := 91) (v := (-1)) hC dX8_leaves_91 (by decide) ?_
    refine k_goto (pc := 92) (tgt := 96) hC dX8_leaves_92 (by decide) ?_
    refine k_sub [0] rfl ?_
    exact w_M_leaves_B96 hM hR F _ _ _ hE
set_option maxHeartbeats 4000000 in
theorem w_M_leaves_B60 {X : Ctx} {D : Dd} {th : Nat} {K : Jl} {out : Int32 × Ji} (hM : Mx X cX8_leaves D th 5 rmM_leaves) (hR : Rt X (some .boolean) (RM D th out.2 K) (some (.int out.1)) 0 0) (F : Nat) (a1 : Int32) (a3 : Int32) (a4 : Int32) (J : Ji) (hE : M_leaves_B60 F a1 a3 a4 J = some out) : Wk X 0 0 (RM D th J K) 60 [(0, .ref th), (1, .int a1), (3, .int a3), (4, .int a4)] [] := by
  have hC := hM.1
  have hnL := hM.2.2.1
  have hrm := hM.2.2.2
  unfold M_leaves_B60 at hE
  refine k_aload_n (pc := 60) hC dX8_leaves_60 rfl 0 rfl ?_
  refine gM_65 (pc := 61) hM dX8_leaves_61 ?_
  refine k_bipush (pc := 64) (v := 42) hC dX8_leaves_64 (by decide) ?_
  refine k_iload_n (pc := 66) hC dX8_leaves_66 rfl 1 rfl ?_
  refine k_iadd (pc := 67) hC dX8_leaves_67 ?_
  refine k_iload_n (pc := 68) hC dX8_leaves_68 rfl 2 rfl ?_
  refine k_if_ge (pc := 69) (tgt := 76) hC dX8_leaves_69 (by decide) hE (fun hE => ?_) (fun hE => ?_)
  · refine k_iload (pc := 76) hC dX8_leaves_76 3 rfl ?_
    refine k_sub [0, 1, 2] rfl ?_
    exact w_M_leaves_B78 hM hR F _ _ _ _ _ hE
  · refine k_iconst (pc := 72) (v := (-1)) hC dX8_leaves_72 (by decide) ?_
    refine k_goto (pc := 73) (tgt := 78) hC dX8_leaves_73 (by decide) ?_
    refine k_sub [0, 1, 2] rfl ?_
    exact w_M_leaves_B78 hM hR F _ _ _ _ _ hE
set_option maxHeartbeats 4000000 in
theorem w_M_leaves_B45 {X : Ctx} {D : Dd} {th : Nat} {K : Jl} {out : Int32 × Ji} (hM : Mx X cX8_leaves D th 5 rmM_leaves) (hR : Rt X (some .boolean) (RM D th out.2 K) (some (.int out.1)) 0 0) (F : Nat) (a1 : Int32) (a3 : Int32) (a4 : Int32) (J : Ji) (hE : M_leaves_B45 F a1 a3 a4 J = some out) : Wk X 0 0 (RM D th J K) 45 [(0, .ref th), (1, .int a1), (3, .int a3), (4, .int a4)] [] := by
  have hC := hM.1
  have hnL := hM.2.2.1
  have hrm := hM.2.2.2
  unfold M_leaves_B45 at hE
  refine k_iload (pc := 45) hC dX8_leaves_45 3 rfl ?_
  refine k_aload_n (pc := 47) hC dX8_leaves_47 rfl 0 rfl ?_
  refine m_clI (pc := 48) (As := []) hM (cw_M_tasksNow hM (Nat.le_of_ble_eq_true rfl) (Nat.le_of_ble_eq_true rfl)) rfl rfl (Nat.le_of_ble_eq_true rfl) dX8_leaves_48 hE (fun r h => ct_M_tasksNow _ _ _ _ hM.2.1  J K r h) (fun r7 hE => ?_)
  refine k_icmp_ne (pc := 51) (tgt := 60) hC dX8_leaves_51 (by decide) hE (fun hE => ?_) (fun hE => ?_)
  · refine k_iload_n (pc := 54) hC dX8_leaves_54 rfl 2 rfl ?_
    refine k_if_lt (pc := 55) (tgt := 60) hC dX8_leaves_55 (by decide) hE (fun hE => ?_) (fun hE => ?_)
    · exact w_M_leaves_B60 hM hR F _ _ _ _ hE
    · refine k_iconst (pc := 58) (v := 0) hC dX8_leaves_58 (by decide) ?_
      exact k_zret (pc := 59) (by decide) hC hR ⟨Nat.le_refl 0, Nat.le_refl 0⟩ dX8_leaves_59 (by cases hE; rfl) (by cases hE; exact fun _ h => h)
  · exact w_M_leaves_B60 hM hR F _ _ _ _ hE
set_option maxHeartbeats 4000000 in
theorem w_M_leaves_B7 {X : Ctx} {D : Dd} {th : Nat} {K : Jl} {out : Int32 × Ji} (hM : Mx X cX8_leaves D th 5 rmM_leaves) (hR : Rt X (some .boolean) (RM D th out.2 K) (some (.int out.1)) 0 0) (F : Nat) (k7 : Int32 → Int32 → Int32 → Ji → Option (Int32 × Ji)) (hk7 : ∀ (a1 : Int32) (a3 : Int32) (a4 : Int32) (J : Ji) , k7 a1 a3 a4 J = some out → Wk X 0 0 (RM D th J K) 7 [(0, .ref th), (1, .int a1), (3, .int a3), (4, .int a4)] []) (a1 : Int32) (a3 : Int32) (a4 : Int32) (J : Ji) (hE : M_leaves_B7 F k7 a1 a3 a4 J = some out) : Wk X 0 0 (RM D th J K) 7 [(0, .ref th), (1, .int a1), (3, .int a3), (4, .int a4)] [] := by
  have hC := hM.1
  have hnL := hM.2.2.1
  have hrm := hM.2.2.2
  unfold M_leaves_B7 at hE
  refine k_iload_n (pc := 7) hC dX8_leaves_7 rfl 2 rfl ?_
  refine k_if_lt (pc := 8) (tgt := 45) hC dX8_leaves_8 (by decide) hE (fun hE => ?_) (fun hE => ?_)
  · exact w_M_leaves_B45 hM hR F _ _ _ _ hE
  · refine k_iload (pc := 11) hC dX8_leaves_11 3 rfl ?_
    refine k_aload_n (pc := 13) hC dX8_leaves_13 rfl 0 rfl ?_
    refine m_clI (pc := 14) (As := []) hM (cw_M_tasksNow hM (Nat.le_of_ble_eq_true rfl) (Nat.le_of_ble_eq_true rfl)) rfl rfl (Nat.le_of_ble_eq_true rfl) dX8_leaves_14 hE (fun r h => ct_M_tasksNow _ _ _ _ hM.2.1  J K r h) (fun r2 hE => ?_)
    refine k_icmp_ge (pc := 17) (tgt := 45) hC dX8_leaves_17 (by decide) hE (fun hE => ?_) (fun hE => ?_)
    · exact w_M_leaves_B45 hM hR F _ _ _ _ hE
    · refine k_iload_n (pc := 20) hC dX8_leaves_20 rfl 2 rfl ?_
      refine k_aload_n (pc := 21) hC dX8_leaves_21 rfl 0 rfl ?_
      refine k_iload (pc := 22) hC dX8_leaves_22 3 rfl ?_
      refine m_clI (pc := 24) (As := [.int a4]) hM (cw_M_stepsOf hM (Nat.le_of_ble_eq_true rfl) (Nat.le_of_ble_eq_true rfl)) rfl rfl (Nat.le_of_ble_eq_true rfl) dX8_leaves_24 hE (fun r h => ct_M_stepsOf _ _ _ _ hM.2.1 a4 J K r h) (fun r3 hE => ?_)
      refine k_icmp_lt (pc := 27) (tgt := 45) hC dX8_leaves_27 (by decide) hE (fun hE => ?_) (fun hE => ?_)
      · exact w_M_leaves_B45 hM hR F _ _ _ _ hE
      · refine k_iload_n (pc := 30) hC dX8_leaves_30 rfl 2 rfl ?_
        refine k_aload_n (pc := 31) hC dX8_leaves_31 rfl 0 rfl ?_
        refine k_iload (pc := 32) hC dX8_leaves_32 3 rfl ?_
        refine m_clI (pc := 34) (As := [.int a4]) hM (cw_M_stepsOf hM (Nat.le_of_ble_eq_true rfl) (Nat.le_of_ble_eq_true rfl)) rfl rfl (Nat.le_of_ble_eq_true rfl) dX8_leaves_34 hE (fun r h => ct_M_stepsOf _ _ _ _ hM.2.1 a4 J K r h) (fun r4 hE => ?_)
        refine k_isub (pc := 37) hC dX8_leaves_37 ?_
        refine k_istoreE_n (pc := 38) (lv' := fun x5 => [(3, .int x5), (0, .ref th), (1, .int a1), (4, .int a4)]) hC dX8_leaves_38 rfl (by rw [hnL]; decide) hE (fun _ => rfl) (fun x5 hE => ?_)
        refine k_iincE (pc := 39) (k := 3) (d := 1) (lv' := fun x6 => [(4, .int x6), (3, .int x5), (0, .ref th), (1, .int a1)]) hC dX8_leaves_39 rfl (by decide) (by rw [hnL]; decide) hE (fun _ => rfl) (fun x6 hE => ?_)
        refine k_goto (pc := 42) (tgt := 7) hC dX8_leaves_42 (by decide) ?_
        refine k_sub [2, 3, 1, 0] rfl ?_
        exact hk7 _ _ _ _ hE
theorem w_M_leaves_L7 {X : Ctx} {D : Dd} {th : Nat} {K : Jl} {out : Int32 × Ji} (hM : Mx X cX8_leaves D th 5 rmM_leaves) (hR : Rt X (some .boolean) (RM D th out.2 K) (some (.int out.1)) 0 0) (F : Nat) (n : Nat) : ∀ (a1 : Int32) (a3 : Int32) (a4 : Int32) (J : Ji) , M_leaves_L7 F n a1 a3 a4 J = some out → Wk X 0 0 (RM D th J K) 7 [(0, .ref th), (1, .int a1), (3, .int a3), (4, .int a4)] [] := by
  induction n with
  | zero => intro a1 a3 a4 J h; cases h
  | succ n ih => intro a1 a3 a4 J h; exact w_M_leaves_B7 hM hR F (M_leaves_L7 F n) ih a1 a3 a4 J h
set_option maxHeartbeats 4000000 in
theorem w_M_leaves {X : Ctx} {D : Dd} {th : Nat} {K : Jl} {out : Int32 × Ji} (hM : Mx X cX8_leaves D th 5 rmM_leaves) (hR : Rt X (some .boolean) (RM D th out.2 K) (some (.int out.1)) 0 0) (F : Nat) (a1 : Int32) (a2 : Int32) (J : Ji) (hE : M_leaves F a1 a2 J = some out) : Wk X 0 0 (RM D th J K) 0 [(0, .ref th), (1, .int a1), (2, .int a2)] [] := by
  have hC := hM.1
  have hnL := hM.2.2.1
  have hrm := hM.2.2.2
  unfold M_leaves at hE
  refine k_iload_n (pc := 0) hC dX8_leaves_0 rfl 2 rfl ?_
  refine k_iconst (pc := 1) (v := 1) hC dX8_leaves_1 (by decide) ?_
  refine k_isub (pc := 2) hC dX8_leaves_2 ?_
  refine k_istoreE_n (pc := 3) (lv' := fun x1 => [(3, .int x1), (0, .ref th), (1, .int a1), (2, .int a2)]) hC dX8_leaves_3 rfl (by rw [hnL]; decide) hE (fun _ => rfl) (fun x1 hE => ?_)
  refine k_iconst (pc := 4) (v := 0) hC dX8_leaves_4 (by decide) ?_
  refine k_istore (pc := 5) (lv' := [(4, .int 0), (3, .int x1), (0, .ref th), (1, .int a1), (2, .int a2)]) hC dX8_leaves_5 (by rw [hnL]; decide) rfl ?_
  refine k_sub [2, 3, 1, 0] rfl ?_
  exact w_M_leaves_L7 hM hR F _ _ _ _ _ hE
theorem ct_M_leaves (l : Launch) (D : Dd) (A : Nat → Prop) (th : Nat) (hA : ∀ (off : Nat) (kd : Kd), layM off = some kd → A (th + off)) (F : Nat) (a1 : Int32) (a2 : Int32) (J : Ji) (K : Jl) (out : Int32 × Ji) (hE : M_leaves F a1 a2 J = some out) : Ct l yX8_leaves (ws_ yX8_leaves cX8_leaves 5 (some .boolean)) rmM_leaves vwCl arTy D A [.ref th, .int a1, .int a2] (RM D th J K) (RM D th out.2 K) (some (.int out.1)) 0 0 := by
  refine Ct.of (by decide) (Nat.le_of_ble_eq_true rfl) rfl ?_
  intro X hl hrm hC hR hXA hnL _
  exact w_M_leaves ⟨hC, by unfold Ft; rw [hXA]; exact hA, hnL, hrm⟩ hR F a1 a2 J hE
theorem cw_M_leaves {X : Ctx} {cc : ByteArray} {D : Dd} {th mL : Nat} {rm : Room} (hM : Mx X cc D th mL rm) (h1 : rmM_leaves.frames + 1 ≤ rm.frames) (h2 : 8 + (5 + 11) + rmM_leaves.locals ≤ rm.locals) : CallW X.2.2.2.1 X.2.2.2.2.1 X.2.2.2.2.2.2.1 RX8 RX8 461 yX8_leaves cX8_leaves 5 (some .boolean) (ws_ yX8_leaves cX8_leaves 5 (some .boolean)) rmM_leaves 0 0 2 := cwV 2 (cx_w hM.1) (lw_V q2117 q2119 qs108 q128 q2120) rfl rfl rfl (by decide +kernel) (by rw [hM.2.2.2]; exact ⟨h1, h2⟩)
abbrev rmM_gainBy : Room := { frames := 5, cells := 0, slots := 0, locals := 126 }
set_option maxHeartbeats 4000000 in
theorem w_M_gainBy {X : Ctx} {D : Dd} {th : Nat} {K : Jl} {out : Int32 × Ji} (hM : Mx X cX8_gainBy D th 3 rmM_gainBy) (hR : Rt X (some .int) (RM D th out.2 K) (some (.int out.1)) 0 0) (F : Nat) (a1 : Int32) (a2 : Int32) (J : Ji) (hE : M_gainBy F a1 a2 J = some out) : Wk X 0 0 (RM D th J K) 0 [(0, .ref th), (1, .int a1), (2, .int a2)] [] := by
  have hC := hM.1
  have hnL := hM.2.2.1
  have hrm := hM.2.2.2
  unfold M_gainBy at hE
  refine k_aload_n (pc := 0) hC dX8_gainBy_0 rfl 0 rfl ?_
  refine m_clVj (pc := 1) (As := []) hM (cw_M_takes hM (Nat.le_of_ble_eq_true rfl) (Nat.le_of_ble_eq_true rfl)) rfl rfl (Nat.le_of_ble_eq_true rfl) dX8_gainBy_1 hE (fun r h => ct_M_takes _ _ _ _ hM.2.1 F J K r h) (fun r1 hE => ?_)
  refine k_aload_n (pc := 4) hC dX8_gainBy_4 rfl 0 rfl ?_
  refine k_iload_n (pc := 5) hC dX8_gainBy_5 rfl 1 rfl ?_
  refine k_iload_n (pc := 6) hC dX8_gainBy_6 rfl 2 rfl ?_
  refine m_clIj (pc := 7) (As := [.int a1, .int a2]) hM (cw_M_leaves hM (Nat.le_of_ble_eq_true rfl) (Nat.le_of_ble_eq_true rfl)) rfl rfl (Nat.le_of_ble_eq_true rfl) dX8_gainBy_7 hE (fun r h => ct_M_leaves _ _ _ _ hM.2.1 F a1 a2 r1 K r h) (fun r2 hE => ?_)
  refine k_pop (pc := 10) hC dX8_gainBy_10 rfl ?_
  refine k_aload_n (pc := 11) hC dX8_gainBy_11 rfl 0 rfl ?_
  refine m_clIj (pc := 12) (As := []) hM (cw_M_wholeNight hM (Nat.le_of_ble_eq_true rfl) (Nat.le_of_ble_eq_true rfl)) rfl rfl (Nat.le_of_ble_eq_true rfl) dX8_gainBy_12 hE (fun r h => ct_M_wholeNight _ _ _ _ hM.2.1 F r2.2 K r h) (fun r3 hE => ?_)
  exact k_iret (pc := 15) hC hR ⟨Nat.le_refl 0, Nat.le_refl 0⟩ dX8_gainBy_15 (by cases hE; rfl) (by cases hE; exact fun _ h => h)
theorem ct_M_gainBy (l : Launch) (D : Dd) (A : Nat → Prop) (th : Nat) (hA : ∀ (off : Nat) (kd : Kd), layM off = some kd → A (th + off)) (F : Nat) (a1 : Int32) (a2 : Int32) (J : Ji) (K : Jl) (out : Int32 × Ji) (hE : M_gainBy F a1 a2 J = some out) : Ct l yX8_gainBy (ws_ yX8_gainBy cX8_gainBy 3 (some .int)) rmM_gainBy vwCl arTy D A [.ref th, .int a1, .int a2] (RM D th J K) (RM D th out.2 K) (some (.int out.1)) 0 0 := by
  refine Ct.of (by decide) (Nat.le_of_ble_eq_true rfl) rfl ?_
  intro X hl hrm hC hR hXA hnL _
  exact w_M_gainBy ⟨hC, by unfold Ft; rw [hXA]; exact hA, hnL, hrm⟩ hR F a1 a2 J hE
theorem cw_M_gainBy {X : Ctx} {cc : ByteArray} {D : Dd} {th mL : Nat} {rm : Room} (hM : Mx X cc D th mL rm) (h1 : rmM_gainBy.frames + 1 ≤ rm.frames) (h2 : 8 + (3 + 11) + rmM_gainBy.locals ≤ rm.locals) : CallW X.2.2.2.1 X.2.2.2.2.1 X.2.2.2.2.2.2.1 RX8 RX8 464 yX8_gainBy cX8_gainBy 3 (some .int) (ws_ yX8_gainBy cX8_gainBy 3 (some .int)) rmM_gainBy 0 0 2 := cwV 2 (cx_w hM.1) (lw_V q2113 q2115 qs107 q128 q2116) rfl rfl rfl (by decide +kernel) (by rw [hM.2.2.2]; exact ⟨h1, h2⟩)
abbrev rmM_options : Room := { frames := 1, cells := 0, slots := 0, locals := 21 }
set_option maxHeartbeats 4000000 in
theorem w_M_options_B4 {X : Ctx} {D : Dd} {th : Nat} {J : Ji} {K : Jl} {out : Int32} (hM : Mx X cX8_options D th 3 rmM_options) (hR : Rt X (some .int) (RM D th J K) (some (.int out)) 0 0) (F : Nat) (k4 : Int32 → Int32 → Option (Int32)) (hk4 : ∀ (a1 : Int32) (a2 : Int32) , k4 a1 a2  = some out → Wk X 0 0 (RM D th J K) 4 [(0, .ref th), (1, .int a1), (2, .int a2)] []) (a1 : Int32) (a2 : Int32) (hE : M_options_B4 F k4 J a1 a2 = some out) : Wk X 0 0 (RM D th J K) 4 [(0, .ref th), (1, .int a1), (2, .int a2)] [] := by
  have hC := hM.1
  have hnL := hM.2.2.1
  have hrm := hM.2.2.2
  unfold M_options_B4 at hE
  refine k_iload_n (pc := 4) hC dX8_options_4 rfl 2 rfl ?_
  refine k_aload_n (pc := 5) hC dX8_options_5 rfl 0 rfl ?_
  refine m_clI (pc := 6) (As := []) hM (cw_M_tasksNow hM (Nat.le_of_ble_eq_true rfl) (Nat.le_of_ble_eq_true rfl)) rfl rfl (Nat.le_of_ble_eq_true rfl) dX8_options_6 hE (fun r h => ct_M_tasksNow _ _ _ _ hM.2.1  J K r h) (fun r1 hE => ?_)
  refine k_icmp_ge (pc := 9) (tgt := 26) hC dX8_options_9 (by decide) hE (fun hE => ?_) (fun hE => ?_)
  · refine k_iload_n (pc := 26) hC dX8_options_26 rfl 1 rfl ?_
    exact k_iret (pc := 27) hC hR ⟨Nat.le_refl 0, Nat.le_refl 0⟩ dX8_options_27 (by cases hE; rfl) (by cases hE; exact fun _ h => h)
  · refine k_iload_n (pc := 12) hC dX8_options_12 rfl 1 rfl ?_
    refine k_aload_n (pc := 13) hC dX8_options_13 rfl 0 rfl ?_
    refine k_iload_n (pc := 14) hC dX8_options_14 rfl 2 rfl ?_
    refine m_clI (pc := 15) (As := [.int a2]) hM (cw_M_stepsOf hM (Nat.le_of_ble_eq_true rfl) (Nat.le_of_ble_eq_true rfl)) rfl rfl (Nat.le_of_ble_eq_true rfl) dX8_options_15 hE (fun r h => ct_M_stepsOf _ _ _ _ hM.2.1 a2 J K r h) (fun r2 hE => ?_)
    refine k_iadd (pc := 18) hC dX8_options_18 ?_
    refine k_istoreE_n (pc := 19) (lv' := fun x3 => [(1, .int x3), (0, .ref th), (2, .int a2)]) hC dX8_options_19 rfl (by rw [hnL]; decide) hE (fun _ => rfl) (fun x3 hE => ?_)
    refine k_iincE (pc := 20) (k := 2) (d := 1) (lv' := fun x4 => [(2, .int x4), (1, .int x3), (0, .ref th)]) hC dX8_options_20 rfl (by decide) (by rw [hnL]; decide) hE (fun _ => rfl) (fun x4 hE => ?_)
    refine k_goto (pc := 23) (tgt := 4) hC dX8_options_23 (by decide) ?_
    refine k_sub [2, 1, 0] rfl ?_
    exact hk4 _ _ hE
theorem w_M_options_L4 {X : Ctx} {D : Dd} {th : Nat} {J : Ji} {K : Jl} {out : Int32} (hM : Mx X cX8_options D th 3 rmM_options) (hR : Rt X (some .int) (RM D th J K) (some (.int out)) 0 0) (F : Nat) (n : Nat) : ∀ (a1 : Int32) (a2 : Int32) , M_options_L4 F J n a1 a2 = some out → Wk X 0 0 (RM D th J K) 4 [(0, .ref th), (1, .int a1), (2, .int a2)] [] := by
  induction n with
  | zero => intro a1 a2 h; cases h
  | succ n ih => intro a1 a2 h; exact w_M_options_B4 hM hR F (M_options_L4 F J n) ih a1 a2 h
set_option maxHeartbeats 4000000 in
theorem w_M_options {X : Ctx} {D : Dd} {th : Nat} {J : Ji} {K : Jl} {out : Int32} (hM : Mx X cX8_options D th 3 rmM_options) (hR : Rt X (some .int) (RM D th J K) (some (.int out)) 0 0) (F : Nat) (hE : M_options F J = some out) : Wk X 0 0 (RM D th J K) 0 [(0, .ref th)] [] := by
  have hC := hM.1
  have hnL := hM.2.2.1
  have hrm := hM.2.2.2
  unfold M_options at hE
  refine k_iconst (pc := 0) (v := 1) hC dX8_options_0 (by decide) ?_
  refine k_istore_n (pc := 1) (lv' := [(1, .int 1), (0, .ref th)]) hC dX8_options_1 rfl (by rw [hnL]; decide) rfl ?_
  refine k_iconst (pc := 2) (v := 0) hC dX8_options_2 (by decide) ?_
  refine k_istore_n (pc := 3) (lv' := [(2, .int 0), (1, .int 1), (0, .ref th)]) hC dX8_options_3 rfl (by rw [hnL]; decide) rfl ?_
  refine k_sub [2, 1, 0] rfl ?_
  exact w_M_options_L4 hM hR F _ _ _ hE
theorem ct_M_options (l : Launch) (D : Dd) (A : Nat → Prop) (th : Nat) (hA : ∀ (off : Nat) (kd : Kd), layM off = some kd → A (th + off)) (F : Nat) (J : Ji) (K : Jl) (out : Int32) (hE : M_options F J = some out) : Ct l yX8_options (ws_ yX8_options cX8_options 3 (some .int)) rmM_options vwCl arTy D A [.ref th] (RM D th J K) (RM D th J K) (some (.int out)) 0 0 := by
  refine Ct.of (by decide) (Nat.le_of_ble_eq_true rfl) rfl ?_
  intro X hl hrm hC hR hXA hnL _
  exact w_M_options ⟨hC, by unfold Ft; rw [hXA]; exact hA, hnL, hrm⟩ hR F hE
theorem cw_M_options {X : Ctx} {cc : ByteArray} {D : Dd} {th mL : Nat} {rm : Room} (hM : Mx X cc D th mL rm) (h1 : rmM_options.frames + 1 ≤ rm.frames) (h2 : 8 + (3 + 11) + rmM_options.locals ≤ rm.locals) : CallW X.2.2.2.1 X.2.2.2.2.1 X.2.2.2.2.2.2.1 RX8 RX8 470 yX8_options cX8_options 3 (some .int) (ws_ yX8_options cX8_options 3 (some .int)) rmM_options 0 0 0 := cwV 0 (cx_w hM.1) (lw_V q2121 q2123 qs109 q128 q2124) rfl rfl rfl (by decide +kernel) (by rw [hM.2.2.2]; exact ⟨h1, h2⟩)
abbrev rmM_bestOption : Room := { frames := 6, cells := 0, slots := 0, locals := 148 }
set_option maxHeartbeats 4000000 in
theorem w_M_bestOption_B14 {X : Ctx} {D : Dd} {th : Nat} {K : Jl} {out : Int32 × Ji} (hM : Mx X cX8_bestOption D th 5 rmM_bestOption) (hR : Rt X (some .int) (RM D th out.2 K) (some (.int out.1)) 0 0) (F : Nat) (k14 : Int32 → Int32 → Int32 → Ji → Option (Int32 × Ji)) (hk14 : ∀ (a1 : Int32) (a2 : Int32) (a3 : Int32) (J : Ji) , k14 a1 a2 a3 J = some out → Wk X 0 0 (RM D th J K) 14 [(0, .ref th), (1, .int a1), (2, .int a2), (3, .int a3)] []) (a1 : Int32) (a2 : Int32) (a3 : Int32) (J : Ji) (hE : M_bestOption_B14 F k14 a1 a2 a3 J = some out) : Wk X 0 0 (RM D th J K) 14 [(0, .ref th), (1, .int a1), (2, .int a2), (3, .int a3)] [] := by
  have hC := hM.1
  have hnL := hM.2.2.1
  have hrm := hM.2.2.2
  unfold M_bestOption_B14 at hE
  refine k_iload_n (pc := 14) hC dX8_bestOption_14 rfl 3 rfl ?_
  refine k_aload_n (pc := 15) hC dX8_bestOption_15 rfl 0 rfl ?_
  refine m_clI (pc := 16) (As := []) hM (cw_M_options hM (Nat.le_of_ble_eq_true rfl) (Nat.le_of_ble_eq_true rfl)) rfl rfl (Nat.le_of_ble_eq_true rfl) dX8_bestOption_16 hE (fun r h => ct_M_options _ _ _ _ hM.2.1 F J K r h) (fun r3 hE => ?_)
  refine k_icmp_ge (pc := 19) (tgt := 56) hC dX8_bestOption_19 (by decide) hE (fun hE => ?_) (fun hE => ?_)
  · refine k_iload_n (pc := 56) hC dX8_bestOption_56 rfl 2 rfl ?_
    exact k_iret (pc := 57) hC hR ⟨Nat.le_refl 0, Nat.le_refl 0⟩ dX8_bestOption_57 (by cases hE; rfl) (by cases hE; exact fun _ h => h)
  · refine k_aload_n (pc := 22) hC dX8_bestOption_22 rfl 0 rfl ?_
    refine k_iload_n (pc := 23) hC dX8_bestOption_23 rfl 1 rfl ?_
    refine k_iload_n (pc := 24) hC dX8_bestOption_24 rfl 3 rfl ?_
    refine m_clIj (pc := 25) (As := [.int a1, .int a3]) hM (cw_M_gainBy hM (Nat.le_of_ble_eq_true rfl) (Nat.le_of_ble_eq_true rfl)) rfl rfl (Nat.le_of_ble_eq_true rfl) dX8_bestOption_25 hE (fun r h => ct_M_gainBy _ _ _ _ hM.2.1 F a1 a3 J K r h) (fun r4 hE => ?_)
    refine k_istore (pc := 28) (lv' := [(4, .int r4.1), (0, .ref th), (1, .int a1), (2, .int a2), (3, .int a3)]) hC dX8_bestOption_28 (by rw [hnL]; decide) rfl ?_
    refine k_iload (pc := 30) hC dX8_bestOption_30 0 rfl ?_
    refine k_aload_n (pc := 32) hC dX8_bestOption_32 rfl 1 rfl ?_
    refine gM_76 (pc := 33) hM dX8_bestOption_33 ?_
    refine k_icmp_gt (pc := 36) (tgt := 42) hC dX8_bestOption_36 (by decide) hE (fun hE => ?_) (fun hE => ?_)
    · refine k_iload_n (pc := 42) hC dX8_bestOption_42 rfl 4 rfl ?_
      refine k_istore_n (pc := 43) (lv' := [(2, .int a3), (4, .int r4.1), (0, .ref th), (1, .int a1), (3, .int a3)]) hC dX8_bestOption_43 rfl (by rw [hnL]; decide) rfl ?_
      refine k_aload_n (pc := 44) hC dX8_bestOption_44 rfl 2 rfl ?_
      refine k_iload (pc := 45) hC dX8_bestOption_45 1 rfl ?_
      refine pM_76 (pc := 47) hM dX8_bestOption_47 hE (fun J5 hE => ?_)
      refine k_iincE (pc := 50) (k := 4) (d := 1) (lv' := fun x6 => [(3, .int x6), (2, .int a3), (4, .int r4.1), (0, .ref th), (1, .int a1)]) hC dX8_bestOption_50 rfl (by decide) (by rw [hnL]; decide) hE (fun _ => rfl) (fun x6 hE => ?_)
      refine k_goto (pc := 53) (tgt := 14) hC dX8_bestOption_53 (by decide) ?_
      refine k_sub [3, 4, 1, 0] rfl ?_
      exact hk14 _ _ _ _ hE
    · refine k_goto (pc := 39) (tgt := 50) hC dX8_bestOption_39 (by decide) ?_
      refine k_iincE (pc := 50) (k := 4) (d := 1) (lv' := fun x7 => [(3, .int x7), (4, .int r4.1), (0, .ref th), (1, .int a1), (2, .int a2)]) hC dX8_bestOption_50 rfl (by decide) (by rw [hnL]; decide) hE (fun _ => rfl) (fun x7 hE => ?_)
      refine k_goto (pc := 53) (tgt := 14) hC dX8_bestOption_53 (by decide) ?_
      refine k_sub [2, 3, 4, 0] rfl ?_
      exact hk14 _ _ _ _ hE
theorem w_M_bestOption_L14 {X : Ctx} {D : Dd} {th : Nat} {K : Jl} {out : Int32 × Ji} (hM : Mx X cX8_bestOption D th 5 rmM_bestOption) (hR : Rt X (some .int) (RM D th out.2 K) (some (.int out.1)) 0 0) (F : Nat) (n : Nat) : ∀ (a1 : Int32) (a2 : Int32) (a3 : Int32) (J : Ji) , M_bestOption_L14 F n a1 a2 a3 J = some out → Wk X 0 0 (RM D th J K) 14 [(0, .ref th), (1, .int a1), (2, .int a2), (3, .int a3)] [] := by
  induction n with
  | zero => intro a1 a2 a3 J h; cases h
  | succ n ih => intro a1 a2 a3 J h; exact w_M_bestOption_B14 hM hR F (M_bestOption_L14 F n) ih a1 a2 a3 J h
set_option maxHeartbeats 4000000 in
theorem w_M_bestOption {X : Ctx} {D : Dd} {th : Nat} {K : Jl} {out : Int32 × Ji} (hM : Mx X cX8_bestOption D th 5 rmM_bestOption) (hR : Rt X (some .int) (RM D th out.2 K) (some (.int out.1)) 0 0) (F : Nat) (a1 : Int32) (J : Ji) (hE : M_bestOption F a1 J = some out) : Wk X 0 0 (RM D th J K) 0 [(0, .ref th), (1, .int a1)] [] := by
  have hC := hM.1
  have hnL := hM.2.2.1
  have hrm := hM.2.2.2
  unfold M_bestOption at hE
  refine k_iconst (pc := 0) (v := 0) hC dX8_bestOption_0 (by decide) ?_
  refine k_istore_n (pc := 1) (lv' := [(2, .int 0), (0, .ref th), (1, .int a1)]) hC dX8_bestOption_1 rfl (by rw [hnL]; decide) rfl ?_
  refine k_aload_n (pc := 2) hC dX8_bestOption_2 rfl 1 rfl ?_
  refine k_aload_n (pc := 3) hC dX8_bestOption_3 rfl 1 rfl ?_
  refine k_iload_n (pc := 4) hC dX8_bestOption_4 rfl 2 rfl ?_
  refine k_iconst (pc := 5) (v := 0) hC dX8_bestOption_5 (by decide) ?_
  refine m_clIj (pc := 6) (As := [.int a1, .int 0]) hM (cw_M_gainBy hM (Nat.le_of_ble_eq_true rfl) (Nat.le_of_ble_eq_true rfl)) rfl rfl (Nat.le_of_ble_eq_true rfl) dX8_bestOption_6 hE (fun r h => ct_M_gainBy _ _ _ _ hM.2.1 F a1 0 J K r h) (fun r1 hE => ?_)
  refine pM_76 (pc := 9) hM dX8_bestOption_9 hE (fun J2 hE => ?_)
  refine k_iconst (pc := 12) (v := 1) hC dX8_bestOption_12 (by decide) ?_
  refine k_istore_n (pc := 13) (lv' := [(3, .int 1), (2, .int 0), (0, .ref th), (1, .int a1)]) hC dX8_bestOption_13 rfl (by rw [hnL]; decide) rfl ?_
  refine k_sub [2, 3, 1, 0] rfl ?_
  exact w_M_bestOption_L14 hM hR F _ _ _ _ _ hE
theorem ct_M_bestOption (l : Launch) (D : Dd) (A : Nat → Prop) (th : Nat) (hA : ∀ (off : Nat) (kd : Kd), layM off = some kd → A (th + off)) (F : Nat) (a1 : Int32) (J : Ji) (K : Jl) (out : Int32 × Ji) (hE : M_bestOption F a1 J = some out) : Ct l yX8_bestOption (ws_ yX8_bestOption cX8_bestOption 5 (some .int)) rmM_bestOption vwCl arTy D A [.ref th, .int a1] (RM D th J K) (RM D th out.2 K) (some (.int out.1)) 0 0 := by
  refine Ct.of (by decide) (Nat.le_of_ble_eq_true rfl) rfl ?_
  intro X hl hrm hC hR hXA hnL _
  exact w_M_bestOption ⟨hC, by unfold Ft; rw [hXA]; exact hA, hnL, hrm⟩ hR F a1 J hE
theorem cw_M_bestOption {X : Ctx} {cc : ByteArray} {D : Dd} {th mL : Nat} {rm : Room} (hM : Mx X cc D th mL rm) (h1 : rmM_bestOption.frames + 1 ≤ rm.frames) (h2 : 8 + (5 + 11) + rmM_bestOption.locals ≤ rm.locals) : CallW X.2.2.2.1 X.2.2.2.2.1 X.2.2.2.2.2.2.1 RX8 RX8 473 yX8_bestOption cX8_bestOption 5 (some .int) (ws_ yX8_bestOption cX8_bestOption 5 (some .int)) rmM_bestOption 0 0 1 := cwV 1 (cx_w hM.1) (lw_V q2109 q2111 qs106 q128 q2112) rfl rfl rfl (by decide +kernel) (by rw [hM.2.2.2]; exact ⟨h1, h2⟩)
abbrev rmM_codeOf : Room := { frames := 2, cells := 0, slots := 0, locals := 45 }
set_option maxHeartbeats 4000000 in
theorem w_M_codeOf {X : Ctx} {D : Dd} {th : Nat} {K : Jl} {out : Int32 × Ji} (hM : Mx X cX8_codeOf D th 3 rmM_codeOf) (hR : Rt X (some .int) (RM D th out.2 K) (some (.int out.1)) 0 0) (F : Nat) (a1 : Int32) (a2 : Int32) (J : Ji) (hE : M_codeOf F a1 a2 J = some out) : Wk X 0 0 (RM D th J K) 0 [(0, .ref th), (1, .int a1), (2, .int a2)] [] := by
  have hC := hM.1
  have hnL := hM.2.2.1
  have hrm := hM.2.2.2
  unfold M_codeOf at hE
  refine k_aload_n (pc := 0) hC dX8_codeOf_0 rfl 0 rfl ?_
  refine k_iload_n (pc := 1) hC dX8_codeOf_1 rfl 1 rfl ?_
  refine k_iload_n (pc := 2) hC dX8_codeOf_2 rfl 2 rfl ?_
  refine m_clIj (pc := 3) (As := [.int a1, .int a2]) hM (cw_M_leaves hM (Nat.le_of_ble_eq_true rfl) (Nat.le_of_ble_eq_true rfl)) rfl rfl (Nat.le_of_ble_eq_true rfl) dX8_codeOf_3 hE (fun r h => ct_M_leaves _ _ _ _ hM.2.1 F a1 a2 J K r h) (fun r1 hE => ?_)
  refine k_if_eq (pc := 6) (tgt := 46) hC dX8_codeOf_6 (by decide) hE (fun hE => ?_) (fun hE => ?_)
  · refine k_bipush (pc := 46) (v := (-2)) hC dX8_codeOf_46 (by decide) ?_
    exact k_iret (pc := 48) hC hR ⟨Nat.le_refl 0, Nat.le_refl 0⟩ dX8_codeOf_48 (by cases hE; rfl) (by cases hE; exact fun _ h => h)
  · refine k_aload_n (pc := 9) hC dX8_codeOf_9 rfl 0 rfl ?_
    refine gM_65 (pc := 10) hM dX8_codeOf_10 ?_
    refine k_bipush (pc := 13) (v := 42) hC dX8_codeOf_13 (by decide) ?_
    refine k_iload_n (pc := 15) hC dX8_codeOf_15 rfl 1 rfl ?_
    refine k_iadd (pc := 16) hC dX8_codeOf_16 ?_
    refine m_iald (pc := 17) 48 ly_48 hM dX8_codeOf_17 hE (fun x2 hE => ?_)
    refine k_if_lt (pc := 18) (tgt := 46) hC dX8_codeOf_18 (by decide) hE (fun hE => ?_) (fun hE => ?_)
    · refine k_bipush (pc := 46) (v := (-2)) hC dX8_codeOf_46 (by decide) ?_
      exact k_iret (pc := 48) hC hR ⟨Nat.le_refl 0, Nat.le_refl 0⟩ dX8_codeOf_48 (by cases hE; rfl) (by cases hE; exact fun _ h => h)
    · refine k_bipush (pc := 21) (v := 10) hC dX8_codeOf_21 (by decide) ?_
      refine k_aload_n (pc := 23) hC dX8_codeOf_23 rfl 0 rfl ?_
      refine gM_65 (pc := 24) hM dX8_codeOf_24 ?_
      refine k_bipush (pc := 27) (v := 42) hC dX8_codeOf_27 (by decide) ?_
      refine k_iload_n (pc := 29) hC dX8_codeOf_29 rfl 1 rfl ?_
      refine k_iadd (pc := 30) hC dX8_codeOf_30 ?_
      refine m_iald (pc := 31) 48 ly_48 hM dX8_codeOf_31 hE (fun x3 hE => ?_)
      refine k_imul (pc := 32) hC dX8_codeOf_32 ?_
      refine k_aload_n (pc := 33) hC dX8_codeOf_33 rfl 0 rfl ?_
      refine gM_65 (pc := 34) hM dX8_codeOf_34 ?_
      refine k_bipush (pc := 37) (v := 48) hC dX8_codeOf_37 (by decide) ?_
      refine k_iload_n (pc := 39) hC dX8_codeOf_39 rfl 1 rfl ?_
      refine k_iadd (pc := 40) hC dX8_codeOf_40 ?_
      refine m_iald (pc := 41) 48 ly_48 hM dX8_codeOf_41 hE (fun x4 hE => ?_)
      refine k_iadd (pc := 42) hC dX8_codeOf_42 ?_
      refine k_goto (pc := 43) (tgt := 48) hC dX8_codeOf_43 (by decide) ?_
      exact k_iret (pc := 48) hC hR ⟨Nat.le_refl 0, Nat.le_refl 0⟩ dX8_codeOf_48 (by cases hE; rfl) (by cases hE; exact fun _ h => h)
theorem ct_M_codeOf (l : Launch) (D : Dd) (A : Nat → Prop) (th : Nat) (hA : ∀ (off : Nat) (kd : Kd), layM off = some kd → A (th + off)) (F : Nat) (a1 : Int32) (a2 : Int32) (J : Ji) (K : Jl) (out : Int32 × Ji) (hE : M_codeOf F a1 a2 J = some out) : Ct l yX8_codeOf (ws_ yX8_codeOf cX8_codeOf 3 (some .int)) rmM_codeOf vwCl arTy D A [.ref th, .int a1, .int a2] (RM D th J K) (RM D th out.2 K) (some (.int out.1)) 0 0 := by
  refine Ct.of (by decide) (Nat.le_of_ble_eq_true rfl) rfl ?_
  intro X hl hrm hC hR hXA hnL _
  exact w_M_codeOf ⟨hC, by unfold Ft; rw [hXA]; exact hA, hnL, hrm⟩ hR F a1 a2 J hE
theorem cw_M_codeOf {X : Ctx} {cc : ByteArray} {D : Dd} {th mL : Nat} {rm : Room} (hM : Mx X cc D th mL rm) (h1 : rmM_codeOf.frames + 1 ≤ rm.frames) (h2 : 8 + (3 + 11) + rmM_codeOf.locals ≤ rm.locals) : CallW X.2.2.2.1 X.2.2.2.2.1 X.2.2.2.2.2.2.1 RX8 RX8 476 yX8_codeOf cX8_codeOf 3 (some .int) (ws_ yX8_codeOf cX8_codeOf 3 (some .int)) rmM_codeOf 0 0 2 := cwV 2 (cx_w hM.1) (lw_V q2125 q2127 qs110 q128 q2128) rfl rfl rfl (by decide +kernel) (by rw [hM.2.2.2]; exact ⟨h1, h2⟩)
abbrev rmM_best : Room := { frames := 7, cells := 0, slots := 0, locals := 172 }
set_option maxHeartbeats 4000000 in
theorem w_M_best {X : Ctx} {D : Dd} {th : Nat} {K : Jl} {out : Int32 × Ji} (hM : Mx X cX8_best D th 4 rmM_best) (hR : Rt X (some .int) (RM D th out.2 K) (some (.int out.1)) 0 0) (F : Nat) (a1 : Int32) (a2 : Int32) (J : Ji) (hE : M_best F a1 a2 J = some out) : Wk X 0 0 (RM D th J K) 0 [(0, .ref th), (1, .int a1), (2, .int a2)] [] := by
  have hC := hM.1
  have hnL := hM.2.2.1
  have hrm := hM.2.2.2
  unfold M_best at hE
  refine k_aload_n (pc := 0) hC dX8_best_0 rfl 0 rfl ?_
  refine k_iload_n (pc := 1) hC dX8_best_1 rfl 1 rfl ?_
  refine m_clI (pc := 2) (As := [.int a1]) hM (cw_M_isMan hM (Nat.le_of_ble_eq_true rfl) (Nat.le_of_ble_eq_true rfl)) rfl rfl (Nat.le_of_ble_eq_true rfl) dX8_best_2 hE (fun r h => ct_M_isMan _ _ _ _ hM.2.1 a1 J K r h) (fun r1 hE => ?_)
  refine k_if_eq (pc := 5) (tgt := 17) hC dX8_best_5 (by decide) hE (fun hE => ?_) (fun hE => ?_)
  · refine k_iconst (pc := 17) (v := (-1)) hC dX8_best_17 (by decide) ?_
    exact k_iret (pc := 18) hC hR ⟨Nat.le_refl 0, Nat.le_refl 0⟩ dX8_best_18 (by cases hE; rfl) (by cases hE; exact fun _ h => h)
  · refine k_iload_n (pc := 8) hC dX8_best_8 rfl 2 rfl ?_
    refine k_iconst (pc := 9) (v := 0) hC dX8_best_9 (by decide) ?_
    refine k_iconst (pc := 10) (v := 1) hC dX8_best_10 (by decide) ?_
    refine m_callSI (pc := 11) (As := [.int a2, .int 0, .int 1]) (fun r => r) hC (cw_M_in hC hrm (Nat.le_of_ble_eq_true rfl) (Nat.le_of_ble_eq_true rfl)) rfl rfl (Nat.le_of_ble_eq_true rfl) ⟨Nat.zero_le _, Nat.zero_le _⟩ dX8_best_11 hE (fun r h => ct_M_in _ _ _ _ a2 0 1 r h) (fun r2 hE => ?_)
    refine k_if_ne (pc := 14) (tgt := 19) hC dX8_best_14 (by decide) hE (fun hE => ?_) (fun hE => ?_)
    · refine k_iconst (pc := 17) (v := (-1)) hC dX8_best_17 (by decide) ?_
      exact k_iret (pc := 18) hC hR ⟨Nat.le_refl 0, Nat.le_refl 0⟩ dX8_best_18 (by cases hE; rfl) (by cases hE; exact fun _ h => h)
    · refine k_aload_n (pc := 19) hC dX8_best_19 rfl 0 rfl ?_
      refine k_iload_n (pc := 20) hC dX8_best_20 rfl 1 rfl ?_
      refine m_clIj (pc := 21) (As := [.int a1]) hM (cw_M_bestOption hM (Nat.le_of_ble_eq_true rfl) (Nat.le_of_ble_eq_true rfl)) rfl rfl (Nat.le_of_ble_eq_true rfl) dX8_best_21 hE (fun r h => ct_M_bestOption _ _ _ _ hM.2.1 F a1 J K r h) (fun r3 hE => ?_)
      refine k_istore_n (pc := 24) (lv' := [(3, .int r3.1), (0, .ref th), (1, .int a1), (2, .int a2)]) hC dX8_best_24 rfl (by rw [hnL]; decide) rfl ?_
      refine k_iload_n (pc := 25) hC dX8_best_25 rfl 3 rfl ?_
      refine k_if_ne (pc := 26) (tgt := 36) hC dX8_best_26 (by decide) hE (fun hE => ?_) (fun hE => ?_)
      · refine k_aload_n (pc := 29) hC dX8_best_29 rfl 1 rfl ?_
        refine gM_76 (pc := 30) hM dX8_best_30 ?_
        refine k_goto (pc := 33) (tgt := 42) hC dX8_best_33 (by decide) ?_
        exact k_iret (pc := 42) hC hR ⟨Nat.le_refl 0, Nat.le_refl 0⟩ dX8_best_42 (by cases hE; rfl) (by cases hE; exact fun _ h => h)
      · refine k_aload_n (pc := 36) hC dX8_best_36 rfl 1 rfl ?_
        refine k_iload_n (pc := 37) hC dX8_best_37 rfl 2 rfl ?_
        refine k_iload_n (pc := 38) hC dX8_best_38 rfl 0 rfl ?_
        refine m_clIj (pc := 39) (As := [.int a1, .int r3.1]) hM (cw_M_codeOf hM (Nat.le_of_ble_eq_true rfl) (Nat.le_of_ble_eq_true rfl)) rfl rfl (Nat.le_of_ble_eq_true rfl) dX8_best_39 hE (fun r h => ct_M_codeOf _ _ _ _ hM.2.1 F a1 r3.1 r3.2 K r h) (fun r4 hE => ?_)
        exact k_iret (pc := 42) hC hR ⟨Nat.le_refl 0, Nat.le_refl 0⟩ dX8_best_42 (by cases hE; rfl) (by cases hE; exact fun _ h => h)
theorem ct_M_best (l : Launch) (D : Dd) (A : Nat → Prop) (th : Nat) (hA : ∀ (off : Nat) (kd : Kd), layM off = some kd → A (th + off)) (F : Nat) (a1 : Int32) (a2 : Int32) (J : Ji) (K : Jl) (out : Int32 × Ji) (hE : M_best F a1 a2 J = some out) : Ct l yX8_best (ws_ yX8_best cX8_best 4 (some .int)) rmM_best vwCl arTy D A [.ref th, .int a1, .int a2] (RM D th J K) (RM D th out.2 K) (some (.int out.1)) 0 0 := by
  refine Ct.of (by decide) (Nat.le_of_ble_eq_true rfl) rfl ?_
  intro X hl hrm hC hR hXA hnL _
  exact w_M_best ⟨hC, by unfold Ft; rw [hXA]; exact hA, hnL, hrm⟩ hR F a1 a2 J hE
abbrev rmM_bestOfTwo : Room := { frames := 5, cells := 0, slots := 0, locals := 126 }
set_option maxHeartbeats 4000000 in
theorem w_M_bestOfTwo_B106 {X : Ctx} {D : Dd} {th : Nat} {K : Jl} {out : Int32 × Ji} (hM : Mx X cX8_bestOfTwo D th 10 rmM_bestOfTwo) (hR : Rt X (some .int) (RM D th out.2 K) (some (.int out.1)) 0 0) (F : Nat) (k44 : Int32 → Int32 → Int32 → Int32 → Int32 → Int32 → Int32 → Ji → Option (Int32 × Ji)) (hk44 : ∀ (a1 : Int32) (a2 : Int32) (a3 : Int32) (a4 : Int32) (a5 : Int32) (a6 : Int32) (a7 : Int32) (J : Ji) , k44 a1 a2 a3 a4 a5 a6 a7 J = some out → Wk X 0 0 (RM D th J K) 44 [(0, .ref th), (1, .int a1), (2, .int a2), (3, .int a3), (4, .int a4), (5, .int a5), (6, .int a6), (7, .int a7)] []) (k56 : Int32 → Int32 → Int32 → Int32 → Int32 → Int32 → Int32 → Int32 → Ji → Option (Int32 × Ji)) (hk56 : ∀ (a1 : Int32) (a2 : Int32) (a3 : Int32) (a4 : Int32) (a5 : Int32) (a6 : Int32) (a7 : Int32) (a8 : Int32) (J : Ji) , k56 a1 a2 a3 a4 a5 a6 a7 a8 J = some out → Wk X 0 0 (RM D th J K) 56 [(0, .ref th), (1, .int a1), (2, .int a2), (3, .int a3), (4, .int a4), (5, .int a5), (6, .int a6), (7, .int a7), (8, .int a8)] []) (a1 : Int32) (a2 : Int32) (a3 : Int32) (a7 : Int32) (a8 : Int32) (a9 : Int32) (J : Ji) (hE : M_bestOfTwo_B106 F k44 k56 a1 a2 a3 a7 a8 a9 J = some out) : Wk X 0 0 (RM D th J K) 106 [(0, .ref th), (1, .int a1), (2, .int a2), (3, .int a3), (7, .int a7), (8, .int a8), (9, .int a9)] [] := by
  have hC := hM.1
  have hnL := hM.2.2.1
  have hrm := hM.2.2.2
  unfold M_bestOfTwo_B106 at hE
  refine k_iload (pc := 106) hC dX8_bestOfTwo_106 4 rfl ?_
  refine k_istore (pc := 108) (lv' := [(4, .int a7), (0, .ref th), (1, .int a1), (2, .int a2), (3, .int a3), (7, .int a7), (8, .int a8), (9, .int a9)]) hC dX8_bestOfTwo_108 (by rw [hnL]; decide) rfl ?_
  refine k_iload (pc := 110) hC dX8_bestOfTwo_110 6 rfl ?_
  refine k_istore (pc := 112) (lv' := [(5, .int a8), (4, .int a7), (0, .ref th), (1, .int a1), (2, .int a2), (3, .int a3), (7, .int a7), (8, .int a8), (9, .int a9)]) hC dX8_bestOfTwo_112 (by rw [hnL]; decide) rfl ?_
  refine k_iload (pc := 114) hC dX8_bestOfTwo_114 8 rfl ?_
  refine k_istore (pc := 116) (lv' := [(6, .int a9), (5, .int a8), (4, .int a7), (0, .ref th), (1, .int a1), (2, .int a2), (3, .int a3), (7, .int a7), (8, .int a8), (9, .int a9)]) hC dX8_bestOfTwo_116 (by rw [hnL]; decide) rfl ?_
  refine k_iincE (pc := 118) (k := 8) (d := 1) (lv' := fun x14 => [(8, .int x14), (6, .int a9), (5, .int a8), (4, .int a7), (0, .ref th), (1, .int a1), (2, .int a2), (3, .int a3), (7, .int a7), (9, .int a9)]) hC dX8_bestOfTwo_118 rfl (by decide) (by rw [hnL]; decide) hE (fun _ => rfl) (fun x14 hE => ?_)
  refine k_goto (pc := 121) (tgt := 56) hC dX8_bestOfTwo_121 (by decide) ?_
  refine k_sub [4, 5, 6, 7, 3, 2, 1, 8, 0] rfl ?_
  exact hk56 _ _ _ _ _ _ _ _ _ hE
set_option maxHeartbeats 4000000 in
theorem w_M_bestOfTwo_B56 {X : Ctx} {D : Dd} {th : Nat} {K : Jl} {out : Int32 × Ji} (hM : Mx X cX8_bestOfTwo D th 10 rmM_bestOfTwo) (hR : Rt X (some .int) (RM D th out.2 K) (some (.int out.1)) 0 0) (F : Nat) (k44 : Int32 → Int32 → Int32 → Int32 → Int32 → Int32 → Int32 → Ji → Option (Int32 × Ji)) (hk44 : ∀ (a1 : Int32) (a2 : Int32) (a3 : Int32) (a4 : Int32) (a5 : Int32) (a6 : Int32) (a7 : Int32) (J : Ji) , k44 a1 a2 a3 a4 a5 a6 a7 J = some out → Wk X 0 0 (RM D th J K) 44 [(0, .ref th), (1, .int a1), (2, .int a2), (3, .int a3), (4, .int a4), (5, .int a5), (6, .int a6), (7, .int a7)] []) (k56 : Int32 → Int32 → Int32 → Int32 → Int32 → Int32 → Int32 → Int32 → Ji → Option (Int32 × Ji)) (hk56 : ∀ (a1 : Int32) (a2 : Int32) (a3 : Int32) (a4 : Int32) (a5 : Int32) (a6 : Int32) (a7 : Int32) (a8 : Int32) (J : Ji) , k56 a1 a2 a3 a4 a5 a6 a7 a8 J = some out → Wk X 0 0 (RM D th J K) 56 [(0, .ref th), (1, .int a1), (2, .int a2), (3, .int a3), (4, .int a4), (5, .int a5), (6, .int a6), (7, .int a7), (8, .int a8)] []) (a1 : Int32) (a2 : Int32) (a3 : Int32) (a4 : Int32) (a5 : Int32) (a6 : Int32) (a7 : Int32) (a8 : Int32) (J : Ji) (hE : M_bestOfTwo_B56 F k44 k56 a1 a2 a3 a4 a5 a6 a7 a8 J = some out) : Wk X 0 0 (RM D th J K) 56 [(0, .ref th), (1, .int a1), (2, .int a2), (3, .int a3), (4, .int a4), (5, .int a5), (6, .int a6), (7, .int a7), (8, .int a8)] [] := by
  have hC := hM.1
  have hnL := hM.2.2.1
  have hrm := hM.2.2.2
  unfold M_bestOfTwo_B56 at hE
  refine k_iload (pc := 56) hC dX8_bestOfTwo_56 8 rfl ?_
  refine k_aload_n (pc := 58) hC dX8_bestOfTwo_58 rfl 0 rfl ?_
  refine m_clI (pc := 59) (As := []) hM (cw_M_options hM (Nat.le_of_ble_eq_true rfl) (Nat.le_of_ble_eq_true rfl)) rfl rfl (Nat.le_of_ble_eq_true rfl) dX8_bestOfTwo_59 hE (fun r h => ct_M_options _ _ _ _ hM.2.1 F J K r h) (fun r7 hE => ?_)
  refine k_icmp_ge (pc := 62) (tgt := 124) hC dX8_bestOfTwo_62 (by decide) hE (fun hE => ?_) (fun hE => ?_)
  · refine k_iincE (pc := 124) (k := 7) (d := 1) (lv' := fun x8 => [(7, .int x8), (0, .ref th), (1, .int a1), (2, .int a2), (3, .int a3), (4, .int a4), (5, .int a5), (6, .int a6), (8, .int a8)]) hC dX8_bestOfTwo_124 rfl (by decide) (by rw [hnL]; decide) hE (fun _ => rfl) (fun x8 hE => ?_)
    refine k_goto (pc := 127) (tgt := 44) hC dX8_bestOfTwo_127 (by decide) ?_
    refine k_sub [1, 2, 3, 4, 5, 6, 7, 0] rfl ?_
    exact hk44 _ _ _ _ _ _ _ _ hE
  · refine k_aload_n (pc := 65) hC dX8_bestOfTwo_65 rfl 0 rfl ?_
    refine m_clVj (pc := 66) (As := []) hM (cw_M_takes hM (Nat.le_of_ble_eq_true rfl) (Nat.le_of_ble_eq_true rfl)) rfl rfl (Nat.le_of_ble_eq_true rfl) dX8_bestOfTwo_66 hE (fun r h => ct_M_takes _ _ _ _ hM.2.1 F J K r h) (fun r9 hE => ?_)
    refine k_aload_n (pc := 69) hC dX8_bestOfTwo_69 rfl 0 rfl ?_
    refine k_iload_n (pc := 70) hC dX8_bestOfTwo_70 rfl 1 rfl ?_
    refine k_iload (pc := 71) hC dX8_bestOfTwo_71 7 rfl ?_
    refine m_clIj (pc := 73) (As := [.int a1, .int a7]) hM (cw_M_leaves hM (Nat.le_of_ble_eq_true rfl) (Nat.le_of_ble_eq_true rfl)) rfl rfl (Nat.le_of_ble_eq_true rfl) dX8_bestOfTwo_73 hE (fun r h => ct_M_leaves _ _ _ _ hM.2.1 F a1 a7 r9 K r h) (fun r10 hE => ?_)
    refine k_pop (pc := 76) hC dX8_bestOfTwo_76 rfl ?_
    refine k_aload_n (pc := 77) hC dX8_bestOfTwo_77 rfl 0 rfl ?_
    refine k_iload_n (pc := 78) hC dX8_bestOfTwo_78 rfl 2 rfl ?_
    refine k_iload (pc := 79) hC dX8_bestOfTwo_79 8 rfl ?_
    refine m_clIj (pc := 81) (As := [.int a2, .int a8]) hM (cw_M_leaves hM (Nat.le_of_ble_eq_true rfl) (Nat.le_of_ble_eq_true rfl)) rfl rfl (Nat.le_of_ble_eq_true rfl) dX8_bestOfTwo_81 hE (fun r h => ct_M_leaves _ _ _ _ hM.2.1 F a2 a8 r10.2 K r h) (fun r11 hE => ?_)
    refine k_pop (pc := 84) hC dX8_bestOfTwo_84 rfl ?_
    refine k_aload_n (pc := 85) hC dX8_bestOfTwo_85 rfl 0 rfl ?_
    refine m_clIj (pc := 86) (As := []) hM (cw_M_wholeNight hM (Nat.le_of_ble_eq_true rfl) (Nat.le_of_ble_eq_true rfl)) rfl rfl (Nat.le_of_ble_eq_true rfl) dX8_bestOfTwo_86 hE (fun r h => ct_M_wholeNight _ _ _ _ hM.2.1 F r11.2 K r h) (fun r12 hE => ?_)
    refine k_istore (pc := 89) (lv' := [(9, .int r12.1), (0, .ref th), (1, .int a1), (2, .int a2), (3, .int a3), (4, .int a4), (5, .int a5), (6, .int a6), (7, .int a7), (8, .int a8)]) hC dX8_bestOfTwo_89 (by rw [hnL]; decide) rfl ?_
    refine k_iload (pc := 91) hC dX8_bestOfTwo_91 5 rfl ?_
    refine k_if_lt (pc := 93) (tgt := 106) hC dX8_bestOfTwo_93 (by decide) hE (fun hE => ?_) (fun hE => ?_)
    · refine k_sub [1, 2, 3, 4, 8, 9, 0] rfl ?_
      exact w_M_bestOfTwo_B106 hM hR F k44 hk44 k56 hk56 _ _ _ _ _ _ _ hE
    · refine k_iload (pc := 96) hC dX8_bestOfTwo_96 0 rfl ?_
      refine k_iload (pc := 98) hC dX8_bestOfTwo_98 7 rfl ?_
      refine k_icmp_gt (pc := 100) (tgt := 106) hC dX8_bestOfTwo_100 (by decide) hE (fun hE => ?_) (fun hE => ?_)
      · refine k_sub [1, 2, 3, 4, 8, 9, 0] rfl ?_
        exact w_M_bestOfTwo_B106 hM hR F k44 hk44 k56 hk56 _ _ _ _ _ _ _ hE
      · refine k_goto (pc := 103) (tgt := 118) hC dX8_bestOfTwo_103 (by decide) ?_
        refine k_iincE (pc := 118) (k := 9) (d := 1) (lv' := fun x13 => [(8, .int x13), (9, .int r12.1), (0, .ref th), (1, .int a1), (2, .int a2), (3, .int a3), (4, .int a4), (5, .int a5), (6, .int a6), (7, .int a7)]) hC dX8_bestOfTwo_118 rfl (by decide) (by rw [hnL]; decide) hE (fun _ => rfl) (fun x13 hE => ?_)
        refine k_goto (pc := 121) (tgt := 56) hC dX8_bestOfTwo_121 (by decide) ?_
        refine k_sub [2, 3, 4, 5, 6, 7, 8, 9, 0] rfl ?_
        exact hk56 _ _ _ _ _ _ _ _ _ hE
theorem w_M_bestOfTwo_L56 {X : Ctx} {D : Dd} {th : Nat} {K : Jl} {out : Int32 × Ji} (hM : Mx X cX8_bestOfTwo D th 10 rmM_bestOfTwo) (hR : Rt X (some .int) (RM D th out.2 K) (some (.int out.1)) 0 0) (F : Nat) (k44 : Int32 → Int32 → Int32 → Int32 → Int32 → Int32 → Int32 → Ji → Option (Int32 × Ji)) (hk44 : ∀ (a1 : Int32) (a2 : Int32) (a3 : Int32) (a4 : Int32) (a5 : Int32) (a6 : Int32) (a7 : Int32) (J : Ji) , k44 a1 a2 a3 a4 a5 a6 a7 J = some out → Wk X 0 0 (RM D th J K) 44 [(0, .ref th), (1, .int a1), (2, .int a2), (3, .int a3), (4, .int a4), (5, .int a5), (6, .int a6), (7, .int a7)] []) (n : Nat) : ∀ (a1 : Int32) (a2 : Int32) (a3 : Int32) (a4 : Int32) (a5 : Int32) (a6 : Int32) (a7 : Int32) (a8 : Int32) (J : Ji) , M_bestOfTwo_L56 F k44 n a1 a2 a3 a4 a5 a6 a7 a8 J = some out → Wk X 0 0 (RM D th J K) 56 [(0, .ref th), (1, .int a1), (2, .int a2), (3, .int a3), (4, .int a4), (5, .int a5), (6, .int a6), (7, .int a7), (8, .int a8)] [] := by
  induction n with
  | zero => intro a1 a2 a3 a4 a5 a6 a7 a8 J h; cases h
  | succ n ih => intro a1 a2 a3 a4 a5 a6 a7 a8 J h; exact w_M_bestOfTwo_B56 hM hR F k44 hk44 (M_bestOfTwo_L56 F k44 n) ih a1 a2 a3 a4 a5 a6 a7 a8 J h
set_option maxHeartbeats 4000000 in
theorem w_M_bestOfTwo_B44 {X : Ctx} {D : Dd} {th : Nat} {K : Jl} {out : Int32 × Ji} (hM : Mx X cX8_bestOfTwo D th 10 rmM_bestOfTwo) (hR : Rt X (some .int) (RM D th out.2 K) (some (.int out.1)) 0 0) (F : Nat) (k44 : Int32 → Int32 → Int32 → Int32 → Int32 → Int32 → Int32 → Ji → Option (Int32 × Ji)) (hk44 : ∀ (a1 : Int32) (a2 : Int32) (a3 : Int32) (a4 : Int32) (a5 : Int32) (a6 : Int32) (a7 : Int32) (J : Ji) , k44 a1 a2 a3 a4 a5 a6 a7 J = some out → Wk X 0 0 (RM D th J K) 44 [(0, .ref th), (1, .int a1), (2, .int a2), (3, .int a3), (4, .int a4), (5, .int a5), (6, .int a6), (7, .int a7)] []) (a1 : Int32) (a2 : Int32) (a3 : Int32) (a4 : Int32) (a5 : Int32) (a6 : Int32) (a7 : Int32) (J : Ji) (hE : M_bestOfTwo_B44 F k44 a1 a2 a3 a4 a5 a6 a7 J = some out) : Wk X 0 0 (RM D th J K) 44 [(0, .ref th), (1, .int a1), (2, .int a2), (3, .int a3), (4, .int a4), (5, .int a5), (6, .int a6), (7, .int a7)] [] := by
  have hC := hM.1
  have hnL := hM.2.2.1
  have hrm := hM.2.2.2
  unfold M_bestOfTwo_B44 at hE
  refine k_iload (pc := 44) hC dX8_bestOfTwo_44 7 rfl ?_
  refine k_aload_n (pc := 46) hC dX8_bestOfTwo_46 rfl 0 rfl ?_
  refine m_clI (pc := 47) (As := []) hM (cw_M_options hM (Nat.le_of_ble_eq_true rfl) (Nat.le_of_ble_eq_true rfl)) rfl rfl (Nat.le_of_ble_eq_true rfl) dX8_bestOfTwo_47 hE (fun r h => ct_M_options _ _ _ _ hM.2.1 F J K r h) (fun r4 hE => ?_)
  refine k_icmp_ge (pc := 50) (tgt := 130) hC dX8_bestOfTwo_50 (by decide) hE (fun hE => ?_) (fun hE => ?_)
  · refine k_iload_n (pc := 130) hC dX8_bestOfTwo_130 rfl 3 rfl ?_
    refine k_if_ne (pc := 131) (tgt := 139) hC dX8_bestOfTwo_131 (by decide) hE (fun hE => ?_) (fun hE => ?_)
    · refine k_iload (pc := 134) hC dX8_bestOfTwo_134 6 rfl ?_
      refine k_goto (pc := 136) (tgt := 161) hC dX8_bestOfTwo_136 (by decide) ?_
      exact k_iret (pc := 161) hC hR ⟨Nat.le_refl 0, Nat.le_refl 0⟩ dX8_bestOfTwo_161 (by cases hE; rfl) (by cases hE; exact fun _ h => h)
    · refine k_iload_n (pc := 139) hC dX8_bestOfTwo_139 rfl 3 rfl ?_
      refine k_iconst (pc := 140) (v := 1) hC dX8_bestOfTwo_140 (by decide) ?_
      refine k_icmp_ne (pc := 141) (tgt := 154) hC dX8_bestOfTwo_141 (by decide) hE (fun hE => ?_) (fun hE => ?_)
      · refine k_aload_n (pc := 144) hC dX8_bestOfTwo_144 rfl 0 rfl ?_
        refine k_iload_n (pc := 145) hC dX8_bestOfTwo_145 rfl 1 rfl ?_
        refine k_iload (pc := 146) hC dX8_bestOfTwo_146 4 rfl ?_
        refine m_clIj (pc := 148) (As := [.int a1, .int a4]) hM (cw_M_codeOf hM (Nat.le_of_ble_eq_true rfl) (Nat.le_of_ble_eq_true rfl)) rfl rfl (Nat.le_of_ble_eq_true rfl) dX8_bestOfTwo_148 hE (fun r h => ct_M_codeOf _ _ _ _ hM.2.1 F a1 a4 J K r h) (fun r5 hE => ?_)
        refine k_goto (pc := 151) (tgt := 161) hC dX8_bestOfTwo_151 (by decide) ?_
        exact k_iret (pc := 161) hC hR ⟨Nat.le_refl 0, Nat.le_refl 0⟩ dX8_bestOfTwo_161 (by cases hE; rfl) (by cases hE; exact fun _ h => h)
      · refine k_aload_n (pc := 154) hC dX8_bestOfTwo_154 rfl 0 rfl ?_
        refine k_iload_n (pc := 155) hC dX8_bestOfTwo_155 rfl 2 rfl ?_
        refine k_iload (pc := 156) hC dX8_bestOfTwo_156 5 rfl ?_
        refine m_clIj (pc := 158) (As := [.int a2, .int a5]) hM (cw_M_codeOf hM (Nat.le_of_ble_eq_true rfl) (Nat.le_of_ble_eq_true rfl)) rfl rfl (Nat.le_of_ble_eq_true rfl) dX8_bestOfTwo_158 hE (fun r h => ct_M_codeOf _ _ _ _ hM.2.1 F a2 a5 J K r h) (fun r6 hE => ?_)
        exact k_iret (pc := 161) hC hR ⟨Nat.le_refl 0, Nat.le_refl 0⟩ dX8_bestOfTwo_161 (by cases hE; rfl) (by cases hE; exact fun _ h => h)
  · refine k_iconst (pc := 53) (v := 0) hC dX8_bestOfTwo_53 (by decide) ?_
    refine k_istore (pc := 54) (lv' := [(8, .int 0), (0, .ref th), (1, .int a1), (2, .int a2), (3, .int a3), (4, .int a4), (5, .int a5), (6, .int a6), (7, .int a7)]) hC dX8_bestOfTwo_54 (by rw [hnL]; decide) rfl ?_
    refine k_sub [1, 2, 3, 4, 5, 6, 7, 8, 0] rfl ?_
    exact w_M_bestOfTwo_L56 hM hR F k44 hk44 _ _ _ _ _ _ _ _ _ _ hE
theorem w_M_bestOfTwo_L44 {X : Ctx} {D : Dd} {th : Nat} {K : Jl} {out : Int32 × Ji} (hM : Mx X cX8_bestOfTwo D th 10 rmM_bestOfTwo) (hR : Rt X (some .int) (RM D th out.2 K) (some (.int out.1)) 0 0) (F : Nat) (n : Nat) : ∀ (a1 : Int32) (a2 : Int32) (a3 : Int32) (a4 : Int32) (a5 : Int32) (a6 : Int32) (a7 : Int32) (J : Ji) , M_bestOfTwo_L44 F n a1 a2 a3 a4 a5 a6 a7 J = some out → Wk X 0 0 (RM D th J K) 44 [(0, .ref th), (1, .int a1), (2, .int a2), (3, .int a3), (4, .int a4), (5, .int a5), (6, .int a6), (7, .int a7)] [] := by
  induction n with
  | zero => intro a1 a2 a3 a4 a5 a6 a7 J h; cases h
  | succ n ih => intro a1 a2 a3 a4 a5 a6 a7 J h; exact w_M_bestOfTwo_B44 hM hR F (M_bestOfTwo_L44 F n) ih a1 a2 a3 a4 a5 a6 a7 J h
set_option maxHeartbeats 4000000 in
theorem w_M_bestOfTwo {X : Ctx} {D : Dd} {th : Nat} {K : Jl} {out : Int32 × Ji} (hM : Mx X cX8_bestOfTwo D th 10 rmM_bestOfTwo) (hR : Rt X (some .int) (RM D th out.2 K) (some (.int out.1)) 0 0) (F : Nat) (a1 : Int32) (a2 : Int32) (a3 : Int32) (J : Ji) (hE : M_bestOfTwo F a1 a2 a3 J = some out) : Wk X 0 0 (RM D th J K) 0 [(0, .ref th), (1, .int a1), (2, .int a2), (3, .int a3)] [] := by
  have hC := hM.1
  have hnL := hM.2.2.1
  have hrm := hM.2.2.2
  unfold M_bestOfTwo at hE
  refine k_aload_n (pc := 0) hC dX8_bestOfTwo_0 rfl 0 rfl ?_
  refine k_iload_n (pc := 1) hC dX8_bestOfTwo_1 rfl 1 rfl ?_
  refine m_clI (pc := 2) (As := [.int a1]) hM (cw_M_isMan hM (Nat.le_of_ble_eq_true rfl) (Nat.le_of_ble_eq_true rfl)) rfl rfl (Nat.le_of_ble_eq_true rfl) dX8_bestOfTwo_2 hE (fun r h => ct_M_isMan _ _ _ _ hM.2.1 a1 J K r h) (fun r1 hE => ?_)
  refine k_if_eq (pc := 5) (tgt := 30) hC dX8_bestOfTwo_5 (by decide) hE (fun hE => ?_) (fun hE => ?_)
  · refine k_iconst (pc := 30) (v := (-1)) hC dX8_bestOfTwo_30 (by decide) ?_
    exact k_iret (pc := 31) hC hR ⟨Nat.le_refl 0, Nat.le_refl 0⟩ dX8_bestOfTwo_31 (by cases hE; rfl) (by cases hE; exact fun _ h => h)
  · refine k_aload_n (pc := 8) hC dX8_bestOfTwo_8 rfl 0 rfl ?_
    refine k_iload_n (pc := 9) hC dX8_bestOfTwo_9 rfl 2 rfl ?_
    refine m_clI (pc := 10) (As := [.int a2]) hM (cw_M_isMan hM (Nat.le_of_ble_eq_true rfl) (Nat.le_of_ble_eq_true rfl)) rfl rfl (Nat.le_of_ble_eq_true rfl) dX8_bestOfTwo_10 hE (fun r h => ct_M_isMan _ _ _ _ hM.2.1 a2 J K r h) (fun r2 hE => ?_)
    refine k_if_eq (pc := 13) (tgt := 30) hC dX8_bestOfTwo_13 (by decide) hE (fun hE => ?_) (fun hE => ?_)
    · refine k_iconst (pc := 30) (v := (-1)) hC dX8_bestOfTwo_30 (by decide) ?_
      exact k_iret (pc := 31) hC hR ⟨Nat.le_refl 0, Nat.le_refl 0⟩ dX8_bestOfTwo_31 (by cases hE; rfl) (by cases hE; exact fun _ h => h)
    · refine k_iload_n (pc := 16) hC dX8_bestOfTwo_16 rfl 1 rfl ?_
      refine k_iload_n (pc := 17) hC dX8_bestOfTwo_17 rfl 2 rfl ?_
      refine k_icmp_eq (pc := 18) (tgt := 30) hC dX8_bestOfTwo_18 (by decide) hE (fun hE => ?_) (fun hE => ?_)
      · refine k_iconst (pc := 30) (v := (-1)) hC dX8_bestOfTwo_30 (by decide) ?_
        exact k_iret (pc := 31) hC hR ⟨Nat.le_refl 0, Nat.le_refl 0⟩ dX8_bestOfTwo_31 (by cases hE; rfl) (by cases hE; exact fun _ h => h)
      · refine k_iload_n (pc := 21) hC dX8_bestOfTwo_21 rfl 3 rfl ?_
        refine k_iconst (pc := 22) (v := 0) hC dX8_bestOfTwo_22 (by decide) ?_
        refine k_iconst (pc := 23) (v := 2) hC dX8_bestOfTwo_23 (by decide) ?_
        refine m_callSI (pc := 24) (As := [.int a3, .int 0, .int 2]) (fun r => r) hC (cw_M_in hC hrm (Nat.le_of_ble_eq_true rfl) (Nat.le_of_ble_eq_true rfl)) rfl rfl (Nat.le_of_ble_eq_true rfl) ⟨Nat.zero_le _, Nat.zero_le _⟩ dX8_bestOfTwo_24 hE (fun r h => ct_M_in _ _ _ _ a3 0 2 r h) (fun r3 hE => ?_)
        refine k_if_ne (pc := 27) (tgt := 32) hC dX8_bestOfTwo_27 (by decide) hE (fun hE => ?_) (fun hE => ?_)
        · refine k_iconst (pc := 30) (v := (-1)) hC dX8_bestOfTwo_30 (by decide) ?_
          exact k_iret (pc := 31) hC hR ⟨Nat.le_refl 0, Nat.le_refl 0⟩ dX8_bestOfTwo_31 (by cases hE; rfl) (by cases hE; exact fun _ h => h)
        · refine k_iconst (pc := 32) (v := (-1)) hC dX8_bestOfTwo_32 (by decide) ?_
          refine k_istore (pc := 33) (lv' := [(4, .int ((-1))), (0, .ref th), (1, .int a1), (2, .int a2), (3, .int a3)]) hC dX8_bestOfTwo_33 (by rw [hnL]; decide) rfl ?_
          refine k_iconst (pc := 35) (v := 0) hC dX8_bestOfTwo_35 (by decide) ?_
          refine k_istore (pc := 36) (lv' := [(5, .int 0), (4, .int ((-1))), (0, .ref th), (1, .int a1), (2, .int a2), (3, .int a3)]) hC dX8_bestOfTwo_36 (by rw [hnL]; decide) rfl ?_
          refine k_iconst (pc := 38) (v := 0) hC dX8_bestOfTwo_38 (by decide) ?_
          refine k_istore (pc := 39) (lv' := [(6, .int 0), (5, .int 0), (4, .int ((-1))), (0, .ref th), (1, .int a1), (2, .int a2), (3, .int a3)]) hC dX8_bestOfTwo_39 (by rw [hnL]; decide) rfl ?_
          refine k_iconst (pc := 41) (v := 0) hC dX8_bestOfTwo_41 (by decide) ?_
          refine k_istore (pc := 42) (lv' := [(7, .int 0), (6, .int 0), (5, .int 0), (4, .int ((-1))), (0, .ref th), (1, .int a1), (2, .int a2), (3, .int a3)]) hC dX8_bestOfTwo_42 (by rw [hnL]; decide) rfl ?_
          refine k_sub [4, 5, 6, 7, 3, 2, 1, 0] rfl ?_
          exact w_M_bestOfTwo_L44 hM hR F _ _ _ _ _ _ _ _ _ hE
theorem ct_M_bestOfTwo (l : Launch) (D : Dd) (A : Nat → Prop) (th : Nat) (hA : ∀ (off : Nat) (kd : Kd), layM off = some kd → A (th + off)) (F : Nat) (a1 : Int32) (a2 : Int32) (a3 : Int32) (J : Ji) (K : Jl) (out : Int32 × Ji) (hE : M_bestOfTwo F a1 a2 a3 J = some out) : Ct l yX8_bestOfTwo (ws_ yX8_bestOfTwo cX8_bestOfTwo 10 (some .int)) rmM_bestOfTwo vwCl arTy D A [.ref th, .int a1, .int a2, .int a3] (RM D th J K) (RM D th out.2 K) (some (.int out.1)) 0 0 := by
  refine Ct.of (by decide) (Nat.le_of_ble_eq_true rfl) rfl ?_
  intro X hl hrm hC hR hXA hnL _
  exact w_M_bestOfTwo ⟨hC, by unfold Ft; rw [hXA]; exact hA, hnL, hrm⟩ hR F a1 a2 a3 J hE
abbrev rmM_hire : Room := { frames := 7, cells := 0, slots := 0, locals := 172 }
set_option maxHeartbeats 4000000 in
theorem w_M_hire {X : Ctx} {D : Dd} {th : Nat} {K : Jl} {out : Int32 × Ji} (hM : Mx X cX8_hire D th 2 rmM_hire) (hR : Rt X (some .int) (RM D th out.2 K) (some (.int out.1)) 0 0) (F : Nat) (a1 : Int32) (J : Ji) (hE : M_hire F a1 J = some out) : Wk X 0 0 (RM D th J K) 0 [(0, .ref th), (1, .int a1)] [] := by
  have hC := hM.1
  have hnL := hM.2.2.1
  have hrm := hM.2.2.2
  unfold M_hire at hE
  refine k_aload_n (pc := 0) hC dX8_hire_0 rfl 0 rfl ?_
  refine k_iload_n (pc := 1) hC dX8_hire_1 rfl 1 rfl ?_
  refine m_clI (pc := 2) (As := [.int a1]) hM (cw_M_isMan hM (Nat.le_of_ble_eq_true rfl) (Nat.le_of_ble_eq_true rfl)) rfl rfl (Nat.le_of_ble_eq_true rfl) dX8_hire_2 hE (fun r h => ct_M_isMan _ _ _ _ hM.2.1 a1 J K r h) (fun r1 hE => ?_)
  refine k_if_ne (pc := 5) (tgt := 12) hC dX8_hire_5 (by decide) hE (fun hE => ?_) (fun hE => ?_)
  · refine k_ldcw (pc := 8) (v := (-1000000)) hC q2137 dX8_hire_8 ?_
    exact k_iret (pc := 11) hC hR ⟨Nat.le_refl 0, Nat.le_refl 0⟩ dX8_hire_11 (by cases hE; rfl) (by cases hE; exact fun _ h => h)
  · refine k_aload_n (pc := 12) hC dX8_hire_12 rfl 0 rfl ?_
    refine k_iload_n (pc := 13) hC dX8_hire_13 rfl 1 rfl ?_
    refine m_clIj (pc := 14) (As := [.int a1]) hM (cw_M_bestOption hM (Nat.le_of_ble_eq_true rfl) (Nat.le_of_ble_eq_true rfl)) rfl rfl (Nat.le_of_ble_eq_true rfl) dX8_hire_14 hE (fun r h => ct_M_bestOption _ _ _ _ hM.2.1 F a1 J K r h) (fun r2 hE => ?_)
    refine k_pop (pc := 17) hC dX8_hire_17 rfl ?_
    refine k_aload_n (pc := 18) hC dX8_hire_18 rfl 0 rfl ?_
    refine gM_76 (pc := 19) hM dX8_hire_19 ?_
    refine k_aload_n (pc := 22) hC dX8_hire_22 rfl 0 rfl ?_
    refine k_iload_n (pc := 23) hC dX8_hire_23 rfl 1 rfl ?_
    refine k_iconst (pc := 24) (v := 0) hC dX8_hire_24 (by decide) ?_
    refine m_clIj (pc := 25) (As := [.int a1, .int 0]) hM (cw_M_gainBy hM (Nat.le_of_ble_eq_true rfl) (Nat.le_of_ble_eq_true rfl)) rfl rfl (Nat.le_of_ble_eq_true rfl) dX8_hire_25 hE (fun r h => ct_M_gainBy _ _ _ _ hM.2.1 F a1 0 r2.2 K r h) (fun r3 hE => ?_)
    refine k_isub (pc := 28) hC dX8_hire_28 ?_
    exact k_iret (pc := 29) hC hR ⟨Nat.le_refl 0, Nat.le_refl 0⟩ dX8_hire_29 (by cases hE; rfl) (by cases hE; exact fun _ h => h)
theorem ct_M_hire (l : Launch) (D : Dd) (A : Nat → Prop) (th : Nat) (hA : ∀ (off : Nat) (kd : Kd), layM off = some kd → A (th + off)) (F : Nat) (a1 : Int32) (J : Ji) (K : Jl) (out : Int32 × Ji) (hE : M_hire F a1 J = some out) : Ct l yX8_hire (ws_ yX8_hire cX8_hire 2 (some .int)) rmM_hire vwCl arTy D A [.ref th, .int a1] (RM D th J K) (RM D th out.2 K) (some (.int out.1)) 0 0 := by
  refine Ct.of (by decide) (Nat.le_of_ble_eq_true rfl) rfl ?_
  intro X hl hrm hC hR hXA hnL _
  exact w_M_hire ⟨hC, by unfold Ft; rw [hXA]; exact hA, hnL, hrm⟩ hR F a1 J hE
abbrev rmM_hide : Room := { frames := 5, cells := 0, slots := 0, locals := 126 }
set_option maxHeartbeats 4000000 in
theorem w_M_hide_B129 {X : Ctx} {D : Dd} {th : Nat} {K : Jl} {out : Int32 × Ji} (hM : Mx X cX8_hide D th 8 rmM_hide) (hR : Rt X (some .int) (RM D th out.2 K) (some (.int out.1)) 0 0) (F : Nat) (k39 : Int32 → Int32 → Int32 → Int32 → Int32 → Ji → Option (Int32 × Ji)) (hk39 : ∀ (a1 : Int32) (a2 : Int32) (a3 : Int32) (a4 : Int32) (a5 : Int32) (J : Ji) , k39 a1 a2 a3 a4 a5 J = some out → Wk X 0 0 (RM D th J K) 39 [(0, .ref th), (1, .int a1), (2, .int a2), (3, .int a3), (4, .int a4), (5, .int a5)] []) (a1 : Int32) (a2 : Int32) (a5 : Int32) (a6 : Int32) (a7 : Int32) (J : Ji) (hE : M_hide_B129 F k39 a1 a2 a5 a6 a7 J = some out) : Wk X 0 0 (RM D th J K) 129 [(0, .ref th), (1, .int a1), (2, .int a2), (5, .int a5), (6, .int a6), (7, .int a7)] [] := by
  have hC := hM.1
  have hnL := hM.2.2.1
  have hrm := hM.2.2.2
  unfold M_hide_B129 at hE
  refine k_iload (pc := 129) hC dX8_hide_129 4 rfl ?_
  refine k_istore_n (pc := 131) (lv' := [(3, .int a6), (0, .ref th), (1, .int a1), (2, .int a2), (5, .int a5), (6, .int a6), (7, .int a7)]) hC dX8_hide_131 rfl (by rw [hnL]; decide) rfl ?_
  refine k_iload (pc := 132) hC dX8_hide_132 6 rfl ?_
  refine k_istore (pc := 134) (lv' := [(4, .int a7), (3, .int a6), (0, .ref th), (1, .int a1), (2, .int a2), (5, .int a5), (6, .int a6), (7, .int a7)]) hC dX8_hide_134 (by rw [hnL]; decide) rfl ?_
  refine k_iincE (pc := 136) (k := 5) (d := 1) (lv' := fun x12 => [(5, .int x12), (4, .int a7), (3, .int a6), (0, .ref th), (1, .int a1), (2, .int a2), (6, .int a6), (7, .int a7)]) hC dX8_hide_136 rfl (by decide) (by rw [hnL]; decide) hE (fun _ => rfl) (fun x12 hE => ?_)
  refine k_goto (pc := 139) (tgt := 39) hC dX8_hide_139 (by decide) ?_
  refine k_sub [3, 4, 5, 2, 1, 0] rfl ?_
  exact hk39 _ _ _ _ _ _ hE
set_option maxHeartbeats 4000000 in
theorem w_M_hide_B92 {X : Ctx} {D : Dd} {th : Nat} {K : Jl} {out : Int32 × Ji} (hM : Mx X cX8_hide D th 8 rmM_hide) (hR : Rt X (some .int) (RM D th out.2 K) (some (.int out.1)) 0 0) (F : Nat) (k39 : Int32 → Int32 → Int32 → Int32 → Int32 → Ji → Option (Int32 × Ji)) (hk39 : ∀ (a1 : Int32) (a2 : Int32) (a3 : Int32) (a4 : Int32) (a5 : Int32) (J : Ji) , k39 a1 a2 a3 a4 a5 J = some out → Wk X 0 0 (RM D th J K) 39 [(0, .ref th), (1, .int a1), (2, .int a2), (3, .int a3), (4, .int a4), (5, .int a5)] []) (a1 : Int32) (a2 : Int32) (a3 : Int32) (a4 : Int32) (a5 : Int32) (s0 : Int32) (J : Ji) (hE : M_hide_B92 F k39 a1 a2 a3 a4 a5 s0 J = some out) : Wk X 0 0 (RM D th J K) 92 [(0, .ref th), (1, .int a1), (2, .int a2), (3, .int a3), (4, .int a4), (5, .int a5)] [.int s0] := by
  have hC := hM.1
  have hnL := hM.2.2.1
  have hrm := hM.2.2.2
  unfold M_hide_B92 at hE
  refine k_istore (pc := 92) (lv' := [(6, .int s0), (0, .ref th), (1, .int a1), (2, .int a2), (3, .int a3), (4, .int a4), (5, .int a5)]) hC dX8_hide_92 (by rw [hnL]; decide) rfl ?_
  refine k_aload_n (pc := 94) hC dX8_hide_94 rfl 1 rfl ?_
  refine m_clVj (pc := 95) (As := []) hM (cw_M_takes hM (Nat.le_of_ble_eq_true rfl) (Nat.le_of_ble_eq_true rfl)) rfl rfl (Nat.le_of_ble_eq_true rfl) dX8_hide_95 hE (fun r h => ct_M_takes _ _ _ _ hM.2.1 F J K r h) (fun r8 hE => ?_)
  refine k_aload_n (pc := 98) hC dX8_hide_98 rfl 1 rfl ?_
  refine gM_65 (pc := 99) hM dX8_hide_99 ?_
  refine k_bipush (pc := 102) (v := 72) hC dX8_hide_102 (by decide) ?_
  refine k_iload_n (pc := 104) hC dX8_hide_104 rfl 2 rfl ?_
  refine k_iadd (pc := 105) hC dX8_hide_105 ?_
  refine k_iload (pc := 106) hC dX8_hide_106 0 rfl ?_
  refine m_iast (pc := 108) 48 ly_48 hM dX8_hide_108 hE (fun J9 hE => ?_)
  refine k_aload_n (pc := 109) hC dX8_hide_109 rfl 1 rfl ?_
  refine m_clIj (pc := 110) (As := []) hM (cw_M_wholeNight hM (Nat.le_of_ble_eq_true rfl) (Nat.le_of_ble_eq_true rfl)) rfl rfl (Nat.le_of_ble_eq_true rfl) dX8_hide_110 hE (fun r h => ct_M_wholeNight _ _ _ _ hM.2.1 F J9 K r h) (fun r10 hE => ?_)
  refine k_istore (pc := 113) (lv' := [(7, .int r10.1), (6, .int s0), (0, .ref th), (1, .int a1), (2, .int a2), (3, .int a3), (4, .int a4), (5, .int a5)]) hC dX8_hide_113 (by rw [hnL]; decide) rfl ?_
  refine k_iload_n (pc := 115) hC dX8_hide_115 rfl 5 rfl ?_
  refine k_if_lt (pc := 116) (tgt := 129) hC dX8_hide_116 (by decide) hE (fun hE => ?_) (fun hE => ?_)
  · refine k_sub [2, 3, 4, 7, 1, 0] rfl ?_
    exact w_M_hide_B129 hM hR F k39 hk39 _ _ _ _ _ _ hE
  · refine k_iload (pc := 119) hC dX8_hide_119 0 rfl ?_
    refine k_iload (pc := 121) hC dX8_hide_121 6 rfl ?_
    refine k_icmp_gt (pc := 123) (tgt := 129) hC dX8_hide_123 (by decide) hE (fun hE => ?_) (fun hE => ?_)
    · refine k_sub [2, 3, 4, 7, 1, 0] rfl ?_
      exact w_M_hide_B129 hM hR F k39 hk39 _ _ _ _ _ _ hE
    · refine k_goto (pc := 126) (tgt := 136) hC dX8_hide_126 (by decide) ?_
      refine k_iincE (pc := 136) (k := 7) (d := 1) (lv' := fun x11 => [(5, .int x11), (7, .int r10.1), (6, .int s0), (0, .ref th), (1, .int a1), (2, .int a2), (3, .int a3), (4, .int a4)]) hC dX8_hide_136 rfl (by decide) (by rw [hnL]; decide) hE (fun _ => rfl) (fun x11 hE => ?_)
      refine k_goto (pc := 139) (tgt := 39) hC dX8_hide_139 (by decide) ?_
      refine k_sub [3, 4, 5, 6, 7, 0] rfl ?_
      exact hk39 _ _ _ _ _ _ hE
set_option maxHeartbeats 4000000 in
theorem w_M_hide_B39 {X : Ctx} {D : Dd} {th : Nat} {K : Jl} {out : Int32 × Ji} (hM : Mx X cX8_hide D th 8 rmM_hide) (hR : Rt X (some .int) (RM D th out.2 K) (some (.int out.1)) 0 0) (F : Nat) (k39 : Int32 → Int32 → Int32 → Int32 → Int32 → Ji → Option (Int32 × Ji)) (hk39 : ∀ (a1 : Int32) (a2 : Int32) (a3 : Int32) (a4 : Int32) (a5 : Int32) (J : Ji) , k39 a1 a2 a3 a4 a5 J = some out → Wk X 0 0 (RM D th J K) 39 [(0, .ref th), (1, .int a1), (2, .int a2), (3, .int a3), (4, .int a4), (5, .int a5)] []) (a1 : Int32) (a2 : Int32) (a3 : Int32) (a4 : Int32) (a5 : Int32) (J : Ji) (hE : M_hide_B39 F k39 a1 a2 a3 a4 a5 J = some out) : Wk X 0 0 (RM D th J K) 39 [(0, .ref th), (1, .int a1), (2, .int a2), (3, .int a3), (4, .int a4), (5, .int a5)] [] := by
  have hC := hM.1
  have hnL := hM.2.2.1
  have hrm := hM.2.2.2
  unfold M_hide_B39 at hE
  refine k_iload (pc := 39) hC dX8_hide_39 5 rfl ?_
  refine k_aload_n (pc := 41) hC dX8_hide_41 rfl 0 rfl ?_
  refine gM_24 (pc := 42) hM dX8_hide_42 ?_
  refine k_aload_n (pc := 45) hC dX8_hide_45 rfl 0 rfl ?_
  refine gM_18 (pc := 46) hM dX8_hide_46 ?_
  refine m_iald (pc := 49) 11 ly_11 hM dX8_hide_49 hE (fun x4 hE => ?_)
  refine k_aload_n (pc := 50) hC dX8_hide_50 rfl 0 rfl ?_
  refine m_clI (pc := 51) (As := []) hM (cw_M_menNow hM (Nat.le_of_ble_eq_true rfl) (Nat.le_of_ble_eq_true rfl)) rfl rfl (Nat.le_of_ble_eq_true rfl) dX8_hide_51 hE (fun r h => ct_M_menNow _ _ _ _ hM.2.1  J K r h) (fun r5 hE => ?_)
  refine k_iadd (pc := 54) hC dX8_hide_54 ?_
  refine k_icmp_ge (pc := 55) (tgt := 142) hC dX8_hide_55 (by decide) hE (fun hE => ?_) (fun hE => ?_)
  · refine k_iload_n (pc := 142) hC dX8_hide_142 rfl 2 rfl ?_
    refine k_if_ne (pc := 143) (tgt := 151) hC dX8_hide_143 (by decide) hE (fun hE => ?_) (fun hE => ?_)
    · refine k_iload (pc := 146) hC dX8_hide_146 4 rfl ?_
      refine k_goto (pc := 148) (tgt := 152) hC dX8_hide_148 (by decide) ?_
      exact k_iret (pc := 152) hC hR ⟨Nat.le_refl 0, Nat.le_refl 0⟩ dX8_hide_152 (by cases hE; rfl) (by cases hE; exact fun _ h => h)
    · refine k_iload_n (pc := 151) hC dX8_hide_151 rfl 3 rfl ?_
      exact k_iret (pc := 152) hC hR ⟨Nat.le_refl 0, Nat.le_refl 0⟩ dX8_hide_152 (by cases hE; rfl) (by cases hE; exact fun _ h => h)
  · refine k_iload (pc := 58) hC dX8_hide_58 5 rfl ?_
    refine k_aload_n (pc := 60) hC dX8_hide_60 rfl 0 rfl ?_
    refine gM_24 (pc := 61) hM dX8_hide_61 ?_
    refine k_aload_n (pc := 64) hC dX8_hide_64 rfl 0 rfl ?_
    refine gM_18 (pc := 65) hM dX8_hide_65 ?_
    refine m_iald (pc := 68) 11 ly_11 hM dX8_hide_68 hE (fun x6 hE => ?_)
    refine k_icmp_ge (pc := 69) (tgt := 77) hC dX8_hide_69 (by decide) hE (fun hE => ?_) (fun hE => ?_)
    · refine k_bipush (pc := 77) (v := 100) hC dX8_hide_77 (by decide) ?_
      refine k_iload (pc := 79) hC dX8_hide_79 5 rfl ?_
      refine k_iadd (pc := 81) hC dX8_hide_81 ?_
      refine k_aload_n (pc := 82) hC dX8_hide_82 rfl 0 rfl ?_
      refine gM_24 (pc := 83) hM dX8_hide_83 ?_
      refine k_aload_n (pc := 86) hC dX8_hide_86 rfl 0 rfl ?_
      refine gM_18 (pc := 87) hM dX8_hide_87 ?_
      refine m_iald (pc := 90) 11 ly_11 hM dX8_hide_90 hE (fun x7 hE => ?_)
      refine k_isub (pc := 91) hC dX8_hide_91 ?_
      exact w_M_hide_B92 hM hR F k39 hk39 _ _ _ _ _ _ _ hE
    · refine k_iload (pc := 72) hC dX8_hide_72 5 rfl ?_
      refine k_goto (pc := 74) (tgt := 92) hC dX8_hide_74 (by decide) ?_
      exact w_M_hide_B92 hM hR F k39 hk39 _ _ _ _ _ _ _ hE
theorem w_M_hide_L39 {X : Ctx} {D : Dd} {th : Nat} {K : Jl} {out : Int32 × Ji} (hM : Mx X cX8_hide D th 8 rmM_hide) (hR : Rt X (some .int) (RM D th out.2 K) (some (.int out.1)) 0 0) (F : Nat) (n : Nat) : ∀ (a1 : Int32) (a2 : Int32) (a3 : Int32) (a4 : Int32) (a5 : Int32) (J : Ji) , M_hide_L39 F n a1 a2 a3 a4 a5 J = some out → Wk X 0 0 (RM D th J K) 39 [(0, .ref th), (1, .int a1), (2, .int a2), (3, .int a3), (4, .int a4), (5, .int a5)] [] := by
  induction n with
  | zero => intro a1 a2 a3 a4 a5 J h; cases h
  | succ n ih => intro a1 a2 a3 a4 a5 J h; exact w_M_hide_B39 hM hR F (M_hide_L39 F n) ih a1 a2 a3 a4 a5 J h
set_option maxHeartbeats 4000000 in
theorem w_M_hide {X : Ctx} {D : Dd} {th : Nat} {K : Jl} {out : Int32 × Ji} (hM : Mx X cX8_hide D th 8 rmM_hide) (hR : Rt X (some .int) (RM D th out.2 K) (some (.int out.1)) 0 0) (F : Nat) (a1 : Int32) (a2 : Int32) (J : Ji) (hE : M_hide F a1 a2 J = some out) : Wk X 0 0 (RM D th J K) 0 [(0, .ref th), (1, .int a1), (2, .int a2)] [] := by
  have hC := hM.1
  have hnL := hM.2.2.1
  have hrm := hM.2.2.2
  unfold M_hide at hE
  refine k_aload_n (pc := 0) hC dX8_hide_0 rfl 0 rfl ?_
  refine k_iload_n (pc := 1) hC dX8_hide_1 rfl 1 rfl ?_
  refine m_clI (pc := 2) (As := [.int a1]) hM (cw_M_isTool hM (Nat.le_of_ble_eq_true rfl) (Nat.le_of_ble_eq_true rfl)) rfl rfl (Nat.le_of_ble_eq_true rfl) dX8_hide_2 hE (fun r h => ct_M_isTool _ _ _ _ hM.2.1 a1 J K r h) (fun r1 hE => ?_)
  refine k_if_eq (pc := 5) (tgt := 29) hC dX8_hide_5 (by decide) hE (fun hE => ?_) (fun hE => ?_)
  · refine k_iconst (pc := 29) (v := (-1)) hC dX8_hide_29 (by decide) ?_
    exact k_iret (pc := 30) hC hR ⟨Nat.le_refl 0, Nat.le_refl 0⟩ dX8_hide_30 (by cases hE; rfl) (by cases hE; exact fun _ h => h)
  · refine k_iload_n (pc := 8) hC dX8_hide_8 rfl 2 rfl ?_
    refine k_iconst (pc := 9) (v := 0) hC dX8_hide_9 (by decide) ?_
    refine k_iconst (pc := 10) (v := 1) hC dX8_hide_10 (by decide) ?_
    refine m_callSI (pc := 11) (As := [.int a2, .int 0, .int 1]) (fun r => r) hC (cw_M_in hC hrm (Nat.le_of_ble_eq_true rfl) (Nat.le_of_ble_eq_true rfl)) rfl rfl (Nat.le_of_ble_eq_true rfl) ⟨Nat.zero_le _, Nat.zero_le _⟩ dX8_hide_11 hE (fun r h => ct_M_in _ _ _ _ a2 0 1 r h) (fun r2 hE => ?_)
    refine k_if_eq (pc := 14) (tgt := 29) hC dX8_hide_14 (by decide) hE (fun hE => ?_) (fun hE => ?_)
    · refine k_iconst (pc := 29) (v := (-1)) hC dX8_hide_29 (by decide) ?_
      exact k_iret (pc := 30) hC hR ⟨Nat.le_refl 0, Nat.le_refl 0⟩ dX8_hide_30 (by cases hE; rfl) (by cases hE; exact fun _ h => h)
    · refine k_aload_n (pc := 17) hC dX8_hide_17 rfl 0 rfl ?_
      refine gM_24 (pc := 18) hM dX8_hide_18 ?_
      refine k_aload_n (pc := 21) hC dX8_hide_21 rfl 0 rfl ?_
      refine gM_18 (pc := 22) hM dX8_hide_22 ?_
      refine m_iald (pc := 25) 11 ly_11 hM dX8_hide_25 hE (fun x3 hE => ?_)
      refine k_if_ne (pc := 26) (tgt := 31) hC dX8_hide_26 (by decide) hE (fun hE => ?_) (fun hE => ?_)
      · refine k_iconst (pc := 29) (v := (-1)) hC dX8_hide_29 (by decide) ?_
        exact k_iret (pc := 30) hC hR ⟨Nat.le_refl 0, Nat.le_refl 0⟩ dX8_hide_30 (by cases hE; rfl) (by cases hE; exact fun _ h => h)
      · refine k_iconst (pc := 31) (v := (-1)) hC dX8_hide_31 (by decide) ?_
        refine k_istore_n (pc := 32) (lv' := [(3, .int ((-1))), (0, .ref th), (1, .int a1), (2, .int a2)]) hC dX8_hide_32 rfl (by rw [hnL]; decide) rfl ?_
        refine k_iconst (pc := 33) (v := 0) hC dX8_hide_33 (by decide) ?_
        refine k_istore (pc := 34) (lv' := [(4, .int 0), (3, .int ((-1))), (0, .ref th), (1, .int a1), (2, .int a2)]) hC dX8_hide_34 (by rw [hnL]; decide) rfl ?_
        refine k_iconst (pc := 36) (v := 0) hC dX8_hide_36 (by decide) ?_
        refine k_istore (pc := 37) (lv' := [(5, .int 0), (4, .int 0), (3, .int ((-1))), (0, .ref th), (1, .int a1), (2, .int a2)]) hC dX8_hide_37 (by rw [hnL]; decide) rfl ?_
        refine k_sub [3, 4, 5, 2, 1, 0] rfl ?_
        exact w_M_hide_L39 hM hR F _ _ _ _ _ _ _ hE
theorem ct_M_hide (l : Launch) (D : Dd) (A : Nat → Prop) (th : Nat) (hA : ∀ (off : Nat) (kd : Kd), layM off = some kd → A (th + off)) (F : Nat) (a1 : Int32) (a2 : Int32) (J : Ji) (K : Jl) (out : Int32 × Ji) (hE : M_hide F a1 a2 J = some out) : Ct l yX8_hide (ws_ yX8_hide cX8_hide 8 (some .int)) rmM_hide vwCl arTy D A [.ref th, .int a1, .int a2] (RM D th J K) (RM D th out.2 K) (some (.int out.1)) 0 0 := by
  refine Ct.of (by decide) (Nat.le_of_ble_eq_true rfl) rfl ?_
  intro X hl hrm hC hR hXA hnL _
  exact w_M_hide ⟨hC, by unfold Ft; rw [hXA]; exact hA, hnL, hrm⟩ hR F a1 a2 J hE
abbrev rmM_bits : Room := { frames := 0, cells := 0, slots := 0, locals := 0 }
set_option maxHeartbeats 4000000 in
theorem w_M_bits_B4 {X : Ctx} {D : Dd} {P : Heap → Prop} {out : Int32} (hM : Sx X cX8_bits D 3 rmM_bits) (hR : Rt X (some .int) P (some (.int out)) 0 0) (F : Nat) (k4 : Int32 → Int32 → Int32 → Option (Int32)) (hk4 : ∀ (a0 : Int32) (a1 : Int32) (a2 : Int32) , k4 a0 a1 a2  = some out → Wk X 0 0 P 4 [(0, .int a0), (1, .int a1), (2, .int a2)] []) (a0 : Int32) (a1 : Int32) (a2 : Int32) (hE : M_bits_B4 F k4 a0 a1 a2 = some out) : Wk X 0 0 P 4 [(0, .int a0), (1, .int a1), (2, .int a2)] [] := by
  have hC := hM.1
  have hnL := hM.2.1
  have hrm := hM.2.2
  unfold M_bits_B4 at hE
  refine k_iload_n (pc := 4) hC dX8_bits_4 rfl 2 rfl ?_
  refine k_bipush (pc := 5) (v := 12) hC dX8_bits_5 (by decide) ?_
  refine k_icmp_ge (pc := 7) (tgt := 24) hC dX8_bits_7 (by decide) hE (fun hE => ?_) (fun hE => ?_)
  · refine k_iload_n (pc := 24) hC dX8_bits_24 rfl 1 rfl ?_
    exact k_iret (pc := 25) hC hR ⟨Nat.le_refl 0, Nat.le_refl 0⟩ dX8_bits_25 (by cases hE; rfl) (by cases hE; exact fun _ h => h)
  · refine k_iload_n (pc := 10) hC dX8_bits_10 rfl 1 rfl ?_
    refine k_iload_n (pc := 11) hC dX8_bits_11 rfl 0 rfl ?_
    refine k_iload_n (pc := 12) hC dX8_bits_12 rfl 2 rfl ?_
    refine k_ishr (pc := 13) hC dX8_bits_13 ?_
    refine k_iconst (pc := 14) (v := 1) hC dX8_bits_14 (by decide) ?_
    refine k_iand (pc := 15) hC dX8_bits_15 ?_
    refine k_iadd (pc := 16) hC dX8_bits_16 ?_
    refine k_istoreE_n (pc := 17) (lv' := fun x1 => [(1, .int x1), (0, .int a0), (2, .int a2)]) hC dX8_bits_17 rfl (by rw [hnL]; decide) hE (fun _ => rfl) (fun x1 hE => ?_)
    refine k_iincE (pc := 18) (k := 2) (d := 1) (lv' := fun x2 => [(2, .int x2), (1, .int x1), (0, .int a0)]) hC dX8_bits_18 rfl (by decide) (by rw [hnL]; decide) hE (fun _ => rfl) (fun x2 hE => ?_)
    refine k_goto (pc := 21) (tgt := 4) hC dX8_bits_21 (by decide) ?_
    refine k_sub [2, 1, 0] rfl ?_
    exact hk4 _ _ _ hE
theorem w_M_bits_L4 {X : Ctx} {D : Dd} {P : Heap → Prop} {out : Int32} (hM : Sx X cX8_bits D 3 rmM_bits) (hR : Rt X (some .int) P (some (.int out)) 0 0) (F : Nat) (n : Nat) : ∀ (a0 : Int32) (a1 : Int32) (a2 : Int32) , M_bits_L4 F n a0 a1 a2 = some out → Wk X 0 0 P 4 [(0, .int a0), (1, .int a1), (2, .int a2)] [] := by
  induction n with
  | zero => intro a0 a1 a2 h; cases h
  | succ n ih => intro a0 a1 a2 h; exact w_M_bits_B4 hM hR F (M_bits_L4 F n) ih a0 a1 a2 h
set_option maxHeartbeats 4000000 in
theorem w_M_bits {X : Ctx} {D : Dd} {P : Heap → Prop} {out : Int32} (hM : Sx X cX8_bits D 3 rmM_bits) (hR : Rt X (some .int) P (some (.int out)) 0 0) (F : Nat) (a0 : Int32) (hE : M_bits F a0 = some out) : Wk X 0 0 P 0 [(0, .int a0)] [] := by
  have hC := hM.1
  have hnL := hM.2.1
  have hrm := hM.2.2
  unfold M_bits at hE
  refine k_iconst (pc := 0) (v := 0) hC dX8_bits_0 (by decide) ?_
  refine k_istore_n (pc := 1) (lv' := [(1, .int 0), (0, .int a0)]) hC dX8_bits_1 rfl (by rw [hnL]; decide) rfl ?_
  refine k_iconst (pc := 2) (v := 0) hC dX8_bits_2 (by decide) ?_
  refine k_istore_n (pc := 3) (lv' := [(2, .int 0), (1, .int 0), (0, .int a0)]) hC dX8_bits_3 rfl (by rw [hnL]; decide) rfl ?_
  refine k_sub [2, 1, 0] rfl ?_
  exact w_M_bits_L4 hM hR F _ _ _ _ hE
theorem ct_M_bits (l : Launch) (D : Dd) (A : Nat → Prop) (P : Heap → Prop) (F : Nat) (a0 : Int32) (out : Int32) (hE : M_bits F a0 = some out) : Ct l yX8_bits (ws_ yX8_bits cX8_bits 3 (some .int)) rmM_bits vwCl arTy D A [.int a0] P P (some (.int out)) 0 0 := by
  refine Ct.of (by decide) (Nat.le_of_ble_eq_true rfl) rfl ?_
  intro X hl hrm hC hR hA hnL _
  exact w_M_bits ⟨hC, hnL, hrm⟩ hR F a0 hE
theorem cw_M_bits {X : Ctx} {cc : ByteArray} {D : Dd} {rm : Room} (hC : Cx X cc RX8 vwCl arTy D) (hrm : X.2.2.2.1 = rm) (h1 : rmM_bits.frames + 1 ≤ rm.frames) (h2 : 8 + (3 + 11) + rmM_bits.locals ≤ rm.locals) : CallB X.2.2.2.1 X.2.2.2.2.1 X.2.2.2.2.2.2.1 RX8 480 yX8_bits cX8_bits 3 (some .int) (ws_ yX8_bits cX8_bits 3 (some .int)) rmM_bits 0 0 1 ∧ (Cond.static yX8_bits).before X.2.2.2.2.2.2.1 X.2.2.2.2.1 = true := va_cwS 1 (cx_w hC) (lw_S q2146 q2147 q128 q2148) rfl rfl rfl (by decide +kernel) (by rw [hrm]; exact ⟨h1, h2⟩)
abbrev rmM_bars : Room := { frames := 5, cells := 0, slots := 0, locals := 126 }
set_option maxHeartbeats 4000000 in
theorem w_M_bars_B84 {X : Ctx} {D : Dd} {th : Nat} {K : Jl} {out : Int32 × Ji} (hM : Mx X cX8_bars D th 6 rmM_bars) (hR : Rt X (some .int) (RM D th out.2 K) (some (.int out.1)) 0 0) (F : Nat) (k18 : Int32 → Int32 → Int32 → Int32 → Ji → Option (Int32 × Ji)) (hk18 : ∀ (a1 : Int32) (a2 : Int32) (a3 : Int32) (a4 : Int32) (J : Ji) , k18 a1 a2 a3 a4 J = some out → Wk X 0 0 (RM D th J K) 18 [(0, .ref th), (1, .int a1), (2, .int a2), (3, .int a3), (4, .int a4)] []) (a1 : Int32) (a4 : Int32) (a5 : Int32) (J : Ji) (hE : M_bars_B84 F k18 a1 a4 a5 J = some out) : Wk X 0 0 (RM D th J K) 84 [(0, .ref th), (1, .int a1), (4, .int a4), (5, .int a5)] [] := by
  have hC := hM.1
  have hnL := hM.2.2.1
  have hrm := hM.2.2.2
  unfold M_bars_B84 at hE
  refine k_iload (pc := 84) hC dX8_bars_84 2 rfl ?_
  refine k_istore_n (pc := 86) (lv' := [(2, .int a4), (0, .ref th), (1, .int a1), (4, .int a4), (5, .int a5)]) hC dX8_bars_86 rfl (by rw [hnL]; decide) rfl ?_
  refine k_iload (pc := 87) hC dX8_bars_87 4 rfl ?_
  refine k_istore_n (pc := 89) (lv' := [(3, .int a5), (2, .int a4), (0, .ref th), (1, .int a1), (4, .int a4), (5, .int a5)]) hC dX8_bars_89 rfl (by rw [hnL]; decide) rfl ?_
  refine k_iincE (pc := 90) (k := 4) (d := 1) (lv' := fun x10 => [(4, .int x10), (3, .int a5), (2, .int a4), (0, .ref th), (1, .int a1), (5, .int a5)]) hC dX8_bars_90 rfl (by decide) (by rw [hnL]; decide) hE (fun _ => rfl) (fun x10 hE => ?_)
  refine k_goto (pc := 93) (tgt := 18) hC dX8_bars_93 (by decide) ?_
  refine k_sub [3, 4, 2, 1, 0] rfl ?_
  exact hk18 _ _ _ _ _ hE
set_option maxHeartbeats 4000000 in
theorem w_M_bars_B18 {X : Ctx} {D : Dd} {th : Nat} {K : Jl} {out : Int32 × Ji} (hM : Mx X cX8_bars D th 6 rmM_bars) (hR : Rt X (some .int) (RM D th out.2 K) (some (.int out.1)) 0 0) (F : Nat) (k18 : Int32 → Int32 → Int32 → Int32 → Ji → Option (Int32 × Ji)) (hk18 : ∀ (a1 : Int32) (a2 : Int32) (a3 : Int32) (a4 : Int32) (J : Ji) , k18 a1 a2 a3 a4 J = some out → Wk X 0 0 (RM D th J K) 18 [(0, .ref th), (1, .int a1), (2, .int a2), (3, .int a3), (4, .int a4)] []) (a1 : Int32) (a2 : Int32) (a3 : Int32) (a4 : Int32) (J : Ji) (hE : M_bars_B18 F k18 a1 a2 a3 a4 J = some out) : Wk X 0 0 (RM D th J K) 18 [(0, .ref th), (1, .int a1), (2, .int a2), (3, .int a3), (4, .int a4)] [] := by
  have hC := hM.1
  have hnL := hM.2.2.1
  have hrm := hM.2.2.2
  unfold M_bars_B18 at hE
  refine k_iload (pc := 18) hC dX8_bars_18 4 rfl ?_
  refine k_iconst (pc := 20) (v := 1) hC dX8_bars_20 (by decide) ?_
  refine k_aload_n (pc := 21) hC dX8_bars_21 rfl 0 rfl ?_
  refine gM_25 (pc := 22) hM dX8_bars_22 ?_
  refine k_aload_n (pc := 25) hC dX8_bars_25 rfl 0 rfl ?_
  refine gM_18 (pc := 26) hM dX8_bars_26 ?_
  refine m_iald (pc := 29) 12 ly_12 hM dX8_bars_29 hE (fun x2 hE => ?_)
  refine k_ishl (pc := 30) hC dX8_bars_30 ?_
  refine k_icmp_ge (pc := 31) (tgt := 96) hC dX8_bars_31 (by decide) hE (fun hE => ?_) (fun hE => ?_)
  · refine k_iload_n (pc := 96) hC dX8_bars_96 rfl 1 rfl ?_
    refine k_if_ne (pc := 97) (tgt := 104) hC dX8_bars_97 (by decide) hE (fun hE => ?_) (fun hE => ?_)
    · refine k_iload_n (pc := 100) hC dX8_bars_100 rfl 3 rfl ?_
      refine k_goto (pc := 101) (tgt := 105) hC dX8_bars_101 (by decide) ?_
      exact k_iret (pc := 105) hC hR ⟨Nat.le_refl 0, Nat.le_refl 0⟩ dX8_bars_105 (by cases hE; rfl) (by cases hE; exact fun _ h => h)
    · refine k_iload_n (pc := 104) hC dX8_bars_104 rfl 2 rfl ?_
      exact k_iret (pc := 105) hC hR ⟨Nat.le_refl 0, Nat.le_refl 0⟩ dX8_bars_105 (by cases hE; rfl) (by cases hE; exact fun _ h => h)
  · refine k_aload_n (pc := 34) hC dX8_bars_34 rfl 0 rfl ?_
    refine m_clVj (pc := 35) (As := []) hM (cw_M_takes hM (Nat.le_of_ble_eq_true rfl) (Nat.le_of_ble_eq_true rfl)) rfl rfl (Nat.le_of_ble_eq_true rfl) dX8_bars_35 hE (fun r h => ct_M_takes _ _ _ _ hM.2.1 F J K r h) (fun r3 hE => ?_)
    refine k_aload_n (pc := 38) hC dX8_bars_38 rfl 0 rfl ?_
    refine gM_65 (pc := 39) hM dX8_bars_39 ?_
    refine k_bipush (pc := 42) (v := 78) hC dX8_bars_42 (by decide) ?_
    refine k_iload (pc := 44) hC dX8_bars_44 4 rfl ?_
    refine m_iast (pc := 46) 48 ly_48 hM dX8_bars_46 hE (fun J4 hE => ?_)
    refine k_aload_n (pc := 47) hC dX8_bars_47 rfl 0 rfl ?_
    refine m_clIj (pc := 48) (As := []) hM (cw_M_wholeNight hM (Nat.le_of_ble_eq_true rfl) (Nat.le_of_ble_eq_true rfl)) rfl rfl (Nat.le_of_ble_eq_true rfl) dX8_bars_48 hE (fun r h => ct_M_wholeNight _ _ _ _ hM.2.1 F J4 K r h) (fun r5 hE => ?_)
    refine k_istore (pc := 51) (lv' := [(5, .int r5.1), (0, .ref th), (1, .int a1), (2, .int a2), (3, .int a3), (4, .int a4)]) hC dX8_bars_51 (by rw [hnL]; decide) rfl ?_
    refine k_iload_n (pc := 53) hC dX8_bars_53 rfl 3 rfl ?_
    refine k_if_lt (pc := 54) (tgt := 84) hC dX8_bars_54 (by decide) hE (fun hE => ?_) (fun hE => ?_)
    · refine k_sub [1, 2, 5, 0] rfl ?_
      exact w_M_bars_B84 hM hR F k18 hk18 _ _ _ _ hE
    · refine k_iload (pc := 57) hC dX8_bars_57 0 rfl ?_
      refine k_iload_n (pc := 59) hC dX8_bars_59 rfl 4 rfl ?_
      refine k_icmp_lt (pc := 60) (tgt := 90) hC dX8_bars_60 (by decide) hE (fun hE => ?_) (fun hE => ?_)
      · refine k_iincE (pc := 90) (k := 5) (d := 1) (lv' := fun x6 => [(4, .int x6), (5, .int r5.1), (0, .ref th), (1, .int a1), (2, .int a2), (3, .int a3)]) hC dX8_bars_90 rfl (by decide) (by rw [hnL]; decide) hE (fun _ => rfl) (fun x6 hE => ?_)
        refine k_goto (pc := 93) (tgt := 18) hC dX8_bars_93 (by decide) ?_
        refine k_sub [2, 3, 4, 5, 0] rfl ?_
        exact hk18 _ _ _ _ _ hE
      · refine k_iload (pc := 63) hC dX8_bars_63 0 rfl ?_
        refine k_iload_n (pc := 65) hC dX8_bars_65 rfl 4 rfl ?_
        refine k_icmp_ne (pc := 66) (tgt := 84) hC dX8_bars_66 (by decide) hE (fun hE => ?_) (fun hE => ?_)
        · refine k_iload (pc := 69) hC dX8_bars_69 5 rfl ?_
          refine m_callSI (pc := 71) (As := [.int a4]) (fun r => r) hC (cw_M_bits hC hrm (Nat.le_of_ble_eq_true rfl) (Nat.le_of_ble_eq_true rfl)) rfl rfl (Nat.le_of_ble_eq_true rfl) ⟨Nat.zero_le _, Nat.zero_le _⟩ dX8_bars_71 hE (fun r h => ct_M_bits _ _ _ _ F a4 r h) (fun r7 hE => ?_)
          refine k_iload_n (pc := 74) hC dX8_bars_74 rfl 3 rfl ?_
          refine m_callSI (pc := 75) (As := [.int a2]) (fun r => r) hC (cw_M_bits hC hrm (Nat.le_of_ble_eq_true rfl) (Nat.le_of_ble_eq_true rfl)) rfl rfl (Nat.le_of_ble_eq_true rfl) ⟨Nat.zero_le _, Nat.zero_le _⟩ dX8_bars_75 hE (fun r h => ct_M_bits _ _ _ _ F a2 r h) (fun r8 hE => ?_)
          refine k_icmp_lt (pc := 78) (tgt := 84) hC dX8_bars_78 (by decide) hE (fun hE => ?_) (fun hE => ?_)
          · refine k_sub [1, 2, 5, 0] rfl ?_
            exact w_M_bars_B84 hM hR F k18 hk18 _ _ _ _ hE
          · refine k_goto (pc := 81) (tgt := 90) hC dX8_bars_81 (by decide) ?_
            refine k_iincE (pc := 90) (k := 5) (d := 1) (lv' := fun x9 => [(4, .int x9), (5, .int r5.1), (0, .ref th), (1, .int a1), (2, .int a2), (3, .int a3)]) hC dX8_bars_90 rfl (by decide) (by rw [hnL]; decide) hE (fun _ => rfl) (fun x9 hE => ?_)
            refine k_goto (pc := 93) (tgt := 18) hC dX8_bars_93 (by decide) ?_
            refine k_sub [2, 3, 4, 5, 0] rfl ?_
            exact hk18 _ _ _ _ _ hE
        · refine k_sub [1, 2, 5, 0] rfl ?_
          exact w_M_bars_B84 hM hR F k18 hk18 _ _ _ _ hE
theorem w_M_bars_L18 {X : Ctx} {D : Dd} {th : Nat} {K : Jl} {out : Int32 × Ji} (hM : Mx X cX8_bars D th 6 rmM_bars) (hR : Rt X (some .int) (RM D th out.2 K) (some (.int out.1)) 0 0) (F : Nat) (n : Nat) : ∀ (a1 : Int32) (a2 : Int32) (a3 : Int32) (a4 : Int32) (J : Ji) , M_bars_L18 F n a1 a2 a3 a4 J = some out → Wk X 0 0 (RM D th J K) 18 [(0, .ref th), (1, .int a1), (2, .int a2), (3, .int a3), (4, .int a4)] [] := by
  induction n with
  | zero => intro a1 a2 a3 a4 J h; cases h
  | succ n ih => intro a1 a2 a3 a4 J h; exact w_M_bars_B18 hM hR F (M_bars_L18 F n) ih a1 a2 a3 a4 J h
set_option maxHeartbeats 4000000 in
theorem w_M_bars {X : Ctx} {D : Dd} {th : Nat} {K : Jl} {out : Int32 × Ji} (hM : Mx X cX8_bars D th 6 rmM_bars) (hR : Rt X (some .int) (RM D th out.2 K) (some (.int out.1)) 0 0) (F : Nat) (a1 : Int32) (J : Ji) (hE : M_bars F a1 J = some out) : Wk X 0 0 (RM D th J K) 0 [(0, .ref th), (1, .int a1)] [] := by
  have hC := hM.1
  have hnL := hM.2.2.1
  have hrm := hM.2.2.2
  unfold M_bars at hE
  refine k_iload_n (pc := 0) hC dX8_bars_0 rfl 1 rfl ?_
  refine k_iconst (pc := 1) (v := 0) hC dX8_bars_1 (by decide) ?_
  refine k_iconst (pc := 2) (v := 1) hC dX8_bars_2 (by decide) ?_
  refine m_callSI (pc := 3) (As := [.int a1, .int 0, .int 1]) (fun r => r) hC (cw_M_in hC hrm (Nat.le_of_ble_eq_true rfl) (Nat.le_of_ble_eq_true rfl)) rfl rfl (Nat.le_of_ble_eq_true rfl) ⟨Nat.zero_le _, Nat.zero_le _⟩ dX8_bars_3 hE (fun r h => ct_M_in _ _ _ _ a1 0 1 r h) (fun r1 hE => ?_)
  refine k_if_ne (pc := 6) (tgt := 11) hC dX8_bars_6 (by decide) hE (fun hE => ?_) (fun hE => ?_)
  · refine k_iconst (pc := 9) (v := (-1)) hC dX8_bars_9 (by decide) ?_
    exact k_iret (pc := 10) hC hR ⟨Nat.le_refl 0, Nat.le_refl 0⟩ dX8_bars_10 (by cases hE; rfl) (by cases hE; exact fun _ h => h)
  · refine k_iconst (pc := 11) (v := (-1)) hC dX8_bars_11 (by decide) ?_
    refine k_istore_n (pc := 12) (lv' := [(2, .int ((-1))), (0, .ref th), (1, .int a1)]) hC dX8_bars_12 rfl (by rw [hnL]; decide) rfl ?_
    refine k_iconst (pc := 13) (v := 0) hC dX8_bars_13 (by decide) ?_
    refine k_istore_n (pc := 14) (lv' := [(3, .int 0), (2, .int ((-1))), (0, .ref th), (1, .int a1)]) hC dX8_bars_14 rfl (by rw [hnL]; decide) rfl ?_
    refine k_iconst (pc := 15) (v := 0) hC dX8_bars_15 (by decide) ?_
    refine k_istore (pc := 16) (lv' := [(4, .int 0), (3, .int 0), (2, .int ((-1))), (0, .ref th), (1, .int a1)]) hC dX8_bars_16 (by rw [hnL]; decide) rfl ?_
    refine k_sub [3, 4, 2, 1, 0] rfl ?_
    exact w_M_bars_L18 hM hR F _ _ _ _ _ _ hE
theorem ct_M_bars (l : Launch) (D : Dd) (A : Nat → Prop) (th : Nat) (hA : ∀ (off : Nat) (kd : Kd), layM off = some kd → A (th + off)) (F : Nat) (a1 : Int32) (J : Ji) (K : Jl) (out : Int32 × Ji) (hE : M_bars F a1 J = some out) : Ct l yX8_bars (ws_ yX8_bars cX8_bars 6 (some .int)) rmM_bars vwCl arTy D A [.ref th, .int a1] (RM D th J K) (RM D th out.2 K) (some (.int out.1)) 0 0 := by
  refine Ct.of (by decide) (Nat.le_of_ble_eq_true rfl) rfl ?_
  intro X hl hrm hC hR hXA hnL _
  exact w_M_bars ⟨hC, by unfold Ft; rw [hXA]; exact hA, hnL, hrm⟩ hR F a1 J hE
abbrev rmM_where : Room := { frames := 2, cells := 0, slots := 0, locals := 43 }
set_option maxHeartbeats 4000000 in
theorem w_M_where {X : Ctx} {D : Dd} {th : Nat} {K : Jl} {out : Int32 × Ji} (hM : Mx X cX8_where D th 5 rmM_where) (hR : Rt X (some .int) (RM D th out.2 K) (some (.int out.1)) 0 0) (F : Nat) (a1 : Int32) (a2 : Int32) (J : Ji) (hE : M_where F a1 a2 J = some out) : Wk X 0 0 (RM D th J K) 0 [(0, .ref th), (1, .int a1), (2, .int a2)] [] := by
  have hC := hM.1
  have hnL := hM.2.2.1
  have hrm := hM.2.2.2
  unfold M_where at hE
  refine k_aload_n (pc := 0) hC dX8_where_0 rfl 0 rfl ?_
  refine k_iload_n (pc := 1) hC dX8_where_1 rfl 1 rfl ?_
  refine m_clI (pc := 2) (As := [.int a1]) hM (cw_M_isMan hM (Nat.le_of_ble_eq_true rfl) (Nat.le_of_ble_eq_true rfl)) rfl rfl (Nat.le_of_ble_eq_true rfl) dX8_where_2 hE (fun r h => ct_M_isMan _ _ _ _ hM.2.1 a1 J K r h) (fun r1 hE => ?_)
  refine k_if_eq (pc := 5) (tgt := 25) hC dX8_where_5 (by decide) hE (fun hE => ?_) (fun hE => ?_)
  · refine k_iconst (pc := 25) (v := (-1)) hC dX8_where_25 (by decide) ?_
    exact k_iret (pc := 26) hC hR ⟨Nat.le_refl 0, Nat.le_refl 0⟩ dX8_where_26 (by cases hE; rfl) (by cases hE; exact fun _ h => h)
  · refine k_iload_n (pc := 8) hC dX8_where_8 rfl 2 rfl ?_
    refine k_iconst (pc := 9) (v := 0) hC dX8_where_9 (by decide) ?_
    refine k_aload_n (pc := 10) hC dX8_where_10 rfl 0 rfl ?_
    refine gM_55 (pc := 11) hM dX8_where_11 ?_
    refine k_aload_n (pc := 14) hC dX8_where_14 rfl 0 rfl ?_
    refine gM_18 (pc := 15) hM dX8_where_15 ?_
    refine m_iald (pc := 18) 41 ly_41 hM dX8_where_18 hE (fun x2 hE => ?_)
    refine m_callSI (pc := 19) (As := [.int a2, .int 0, .int x2]) (fun r => r) hC (cw_M_in hC hrm (Nat.le_of_ble_eq_true rfl) (Nat.le_of_ble_eq_true rfl)) rfl rfl (Nat.le_of_ble_eq_true rfl) ⟨Nat.zero_le _, Nat.zero_le _⟩ dX8_where_19 hE (fun r h => ct_M_in _ _ _ _ a2 0 x2 r h) (fun r3 hE => ?_)
    refine k_if_ne (pc := 22) (tgt := 27) hC dX8_where_22 (by decide) hE (fun hE => ?_) (fun hE => ?_)
    · refine k_iconst (pc := 25) (v := (-1)) hC dX8_where_25 (by decide) ?_
      exact k_iret (pc := 26) hC hR ⟨Nat.le_refl 0, Nat.le_refl 0⟩ dX8_where_26 (by cases hE; rfl) (by cases hE; exact fun _ h => h)
    · refine k_aload_n (pc := 27) hC dX8_where_27 rfl 0 rfl ?_
      refine m_clVj (pc := 28) (As := []) hM (cw_M_takes hM (Nat.le_of_ble_eq_true rfl) (Nat.le_of_ble_eq_true rfl)) rfl rfl (Nat.le_of_ble_eq_true rfl) dX8_where_28 hE (fun r h => ct_M_takes _ _ _ _ hM.2.1 F J K r h) (fun r4 hE => ?_)
      refine k_aload_n (pc := 31) hC dX8_where_31 rfl 0 rfl ?_
      refine m_clVj (pc := 32) (As := []) hM (cw_M_fillsWays hM (Nat.le_of_ble_eq_true rfl) (Nat.le_of_ble_eq_true rfl)) rfl rfl (Nat.le_of_ble_eq_true rfl) dX8_where_32 hE (fun r h => ct_M_fillsWays _ _ _ _ hM.2.1 F r4 K r h) (fun r5 hE => ?_)
      refine k_aload_n (pc := 35) hC dX8_where_35 rfl 0 rfl ?_
      refine gM_43 (pc := 36) hM dX8_where_36 ?_
      refine k_bipush (pc := 39) (v := 6) hC dX8_where_39 (by decide) ?_
      refine k_aload_n (pc := 41) hC dX8_where_41 rfl 0 rfl ?_
      refine gM_18 (pc := 42) hM dX8_where_42 ?_
      refine k_imul (pc := 45) hC dX8_where_45 ?_
      refine k_iload_n (pc := 46) hC dX8_where_46 rfl 1 rfl ?_
      refine k_iadd (pc := 47) hC dX8_where_47 ?_
      refine m_iald (pc := 48) 30 ly_30 hM dX8_where_48 hE (fun x6 hE => ?_)
      refine k_istore_n (pc := 49) (lv' := [(3, .int x6), (0, .ref th), (1, .int a1), (2, .int a2)]) hC dX8_where_49 rfl (by rw [hnL]; decide) rfl ?_
      refine k_aload_n (pc := 50) hC dX8_where_50 rfl 1 rfl ?_
      refine gM_65 (pc := 51) hM dX8_where_51 ?_
      refine k_bipush (pc := 54) (v := 42) hC dX8_where_54 (by decide) ?_
      refine k_iload_n (pc := 56) hC dX8_where_56 rfl 2 rfl ?_
      refine k_iadd (pc := 57) hC dX8_where_57 ?_
      refine m_iald (pc := 58) 48 ly_48 hM dX8_where_58 hE (fun x7 hE => ?_)
      refine k_if_ge (pc := 59) (tgt := 64) hC dX8_where_59 (by decide) hE (fun hE => ?_) (fun hE => ?_)
      · refine k_aload_n (pc := 64) hC dX8_where_64 rfl 1 rfl ?_
        refine gM_33 (pc := 65) hM dX8_where_65 ?_
        refine k_bipush (pc := 68) (v := 6) hC dX8_where_68 (by decide) ?_
        refine k_aload_n (pc := 70) hC dX8_where_70 rfl 1 rfl ?_
        refine gM_18 (pc := 71) hM dX8_where_71 ?_
        refine k_imul (pc := 74) hC dX8_where_74 ?_
        refine k_aload_n (pc := 75) hC dX8_where_75 rfl 1 rfl ?_
        refine gM_65 (pc := 76) hM dX8_where_76 ?_
        refine k_bipush (pc := 79) (v := 42) hC dX8_where_79 (by decide) ?_
        refine k_iload_n (pc := 81) hC dX8_where_81 rfl 2 rfl ?_
        refine k_iadd (pc := 82) hC dX8_where_82 ?_
        refine m_iald (pc := 83) 48 ly_48 hM dX8_where_83 hE (fun x8 hE => ?_)
        refine k_iadd (pc := 84) hC dX8_where_84 ?_
        refine m_iald (pc := 85) 20 ly_20 hM dX8_where_85 hE (fun x9 hE => ?_)
        refine k_istore (pc := 86) (lv' := [(4, .int x9), (3, .int x6), (0, .ref th), (1, .int a1), (2, .int a2)]) hC dX8_where_86 (by rw [hnL]; decide) rfl ?_
        refine k_aload_n (pc := 88) hC dX8_where_88 rfl 2 rfl ?_
        refine gM_66 (pc := 89) hM dX8_where_89 ?_
        refine k_bipush (pc := 92) (v := 8) hC dX8_where_92 (by decide) ?_
        refine k_iload_n (pc := 94) hC dX8_where_94 rfl 1 rfl ?_
        refine k_imul (pc := 95) hC dX8_where_95 ?_
        refine k_iload (pc := 96) hC dX8_where_96 0 rfl ?_
        refine k_iadd (pc := 98) hC dX8_where_98 ?_
        refine m_iald (pc := 99) 49 ly_49 hM dX8_where_99 hE (fun x10 hE => ?_)
        refine k_iload_n (pc := 100) hC dX8_where_100 rfl 4 rfl ?_
        refine k_icmp_gt (pc := 101) (tgt := 109) hC dX8_where_101 (by decide) hE (fun hE => ?_) (fun hE => ?_)
        · refine k_iload_n (pc := 109) hC dX8_where_109 rfl 1 rfl ?_
          exact k_iret (pc := 110) hC hR ⟨Nat.le_refl 0, Nat.le_refl 0⟩ dX8_where_110 (by cases hE; rfl) (by cases hE; exact fun _ h => h)
        · refine k_iload (pc := 104) hC dX8_where_104 0 rfl ?_
          refine k_goto (pc := 106) (tgt := 110) hC dX8_where_106 (by decide) ?_
          exact k_iret (pc := 110) hC hR ⟨Nat.le_refl 0, Nat.le_refl 0⟩ dX8_where_110 (by cases hE; rfl) (by cases hE; exact fun _ h => h)
      · refine k_iload_n (pc := 62) hC dX8_where_62 rfl 0 rfl ?_
        exact k_iret (pc := 63) hC hR ⟨Nat.le_refl 0, Nat.le_refl 0⟩ dX8_where_63 (by cases hE; rfl) (by cases hE; exact fun _ h => h)
theorem ct_M_where (l : Launch) (D : Dd) (A : Nat → Prop) (th : Nat) (hA : ∀ (off : Nat) (kd : Kd), layM off = some kd → A (th + off)) (F : Nat) (a1 : Int32) (a2 : Int32) (J : Ji) (K : Jl) (out : Int32 × Ji) (hE : M_where F a1 a2 J = some out) : Ct l yX8_where (ws_ yX8_where cX8_where 5 (some .int)) rmM_where vwCl arTy D A [.ref th, .int a1, .int a2] (RM D th J K) (RM D th out.2 K) (some (.int out.1)) 0 0 := by
  refine Ct.of (by decide) (Nat.le_of_ble_eq_true rfl) rfl ?_
  intro X hl hrm hC hR hXA hnL _
  exact w_M_where ⟨hC, by unfold Ft; rw [hXA]; exact hA, hnL, hrm⟩ hR F a1 a2 J hE
abbrev rmM_strokes : Room := { frames := 4, cells := 0, slots := 0, locals := 104 }
set_option maxHeartbeats 4000000 in
theorem w_M_strokes {X : Ctx} {D : Dd} {th : Nat} {K : Jl} {out : Int32 × Ji} (hM : Mx X cX8_strokes D th 3 rmM_strokes) (hR : Rt X (some .int) (RM D th out.2 K) (some (.int out.1)) 0 0) (F : Nat) (a1 : Int32) (a2 : Int32) (J : Ji) (hE : M_strokes F a1 a2 J = some out) : Wk X 0 0 (RM D th J K) 0 [(0, .ref th), (1, .int a1), (2, .int a2)] [] := by
  have hC := hM.1
  have hnL := hM.2.2.1
  have hrm := hM.2.2.2
  unfold M_strokes at hE
  refine k_aload_n (pc := 0) hC dX8_strokes_0 rfl 0 rfl ?_
  refine k_iload_n (pc := 1) hC dX8_strokes_1 rfl 1 rfl ?_
  refine m_clI (pc := 2) (As := [.int a1]) hM (cw_M_isMan hM (Nat.le_of_ble_eq_true rfl) (Nat.le_of_ble_eq_true rfl)) rfl rfl (Nat.le_of_ble_eq_true rfl) dX8_strokes_2 hE (fun r h => ct_M_isMan _ _ _ _ hM.2.1 a1 J K r h) (fun r1 hE => ?_)
  refine k_if_eq (pc := 5) (tgt := 25) hC dX8_strokes_5 (by decide) hE (fun hE => ?_) (fun hE => ?_)
  · refine k_iconst (pc := 25) (v := (-1)) hC dX8_strokes_25 (by decide) ?_
    exact k_iret (pc := 26) hC hR ⟨Nat.le_refl 0, Nat.le_refl 0⟩ dX8_strokes_26 (by cases hE; rfl) (by cases hE; exact fun _ h => h)
  · refine k_iload_n (pc := 8) hC dX8_strokes_8 rfl 2 rfl ?_
    refine k_iconst (pc := 9) (v := 0) hC dX8_strokes_9 (by decide) ?_
    refine k_aload_n (pc := 10) hC dX8_strokes_10 rfl 0 rfl ?_
    refine gM_55 (pc := 11) hM dX8_strokes_11 ?_
    refine k_aload_n (pc := 14) hC dX8_strokes_14 rfl 0 rfl ?_
    refine gM_18 (pc := 15) hM dX8_strokes_15 ?_
    refine m_iald (pc := 18) 41 ly_41 hM dX8_strokes_18 hE (fun x2 hE => ?_)
    refine m_callSI (pc := 19) (As := [.int a2, .int 0, .int x2]) (fun r => r) hC (cw_M_in hC hrm (Nat.le_of_ble_eq_true rfl) (Nat.le_of_ble_eq_true rfl)) rfl rfl (Nat.le_of_ble_eq_true rfl) ⟨Nat.zero_le _, Nat.zero_le _⟩ dX8_strokes_19 hE (fun r h => ct_M_in _ _ _ _ a2 0 x2 r h) (fun r3 hE => ?_)
    refine k_if_ne (pc := 22) (tgt := 27) hC dX8_strokes_22 (by decide) hE (fun hE => ?_) (fun hE => ?_)
    · refine k_iconst (pc := 25) (v := (-1)) hC dX8_strokes_25 (by decide) ?_
      exact k_iret (pc := 26) hC hR ⟨Nat.le_refl 0, Nat.le_refl 0⟩ dX8_strokes_26 (by cases hE; rfl) (by cases hE; exact fun _ h => h)
    · refine k_aload_n (pc := 27) hC dX8_strokes_27 rfl 0 rfl ?_
      refine m_clVj (pc := 28) (As := []) hM (cw_M_takes hM (Nat.le_of_ble_eq_true rfl) (Nat.le_of_ble_eq_true rfl)) rfl rfl (Nat.le_of_ble_eq_true rfl) dX8_strokes_28 hE (fun r h => ct_M_takes _ _ _ _ hM.2.1 F J K r h) (fun r4 hE => ?_)
      refine k_aload_n (pc := 31) hC dX8_strokes_31 rfl 0 rfl ?_
      refine k_iload_n (pc := 32) hC dX8_strokes_32 rfl 2 rfl ?_
      refine m_clVj (pc := 33) (As := [.int a2]) hM (cw_M_goesTill hM (Nat.le_of_ble_eq_true rfl) (Nat.le_of_ble_eq_true rfl)) rfl rfl (Nat.le_of_ble_eq_true rfl) dX8_strokes_33 hE (fun r h => ct_M_goesTill _ _ _ _ hM.2.1 F a2 r4 K r h) (fun r5 hE => ?_)
      refine k_aload_n (pc := 36) hC dX8_strokes_36 rfl 0 rfl ?_
      refine gM_72 (pc := 37) hM dX8_strokes_37 ?_
      refine k_iload_n (pc := 40) hC dX8_strokes_40 rfl 1 rfl ?_
      refine m_iald (pc := 41) 55 ly_55 hM dX8_strokes_41 hE (fun x6 hE => ?_)
      exact k_iret (pc := 42) hC hR ⟨Nat.le_refl 0, Nat.le_refl 0⟩ dX8_strokes_42 (by cases hE; rfl) (by cases hE; exact fun _ h => h)
theorem ct_M_strokes (l : Launch) (D : Dd) (A : Nat → Prop) (th : Nat) (hA : ∀ (off : Nat) (kd : Kd), layM off = some kd → A (th + off)) (F : Nat) (a1 : Int32) (a2 : Int32) (J : Ji) (K : Jl) (out : Int32 × Ji) (hE : M_strokes F a1 a2 J = some out) : Ct l yX8_strokes (ws_ yX8_strokes cX8_strokes 3 (some .int)) rmM_strokes vwCl arTy D A [.ref th, .int a1, .int a2] (RM D th J K) (RM D th out.2 K) (some (.int out.1)) 0 0 := by
  refine Ct.of (by decide) (Nat.le_of_ble_eq_true rfl) rfl ?_
  intro X hl hrm hC hR hXA hnL _
  exact w_M_strokes ⟨hC, by unfold Ft; rw [hXA]; exact hA, hnL, hrm⟩ hR F a1 a2 J hE
abbrev rmM_tell_2 : Room := { frames := 3, cells := 0, slots := 0, locals := 65 }
set_option maxHeartbeats 4000000 in
theorem w_M_tell_2 {X : Ctx} {D : Dd} {th : Nat} {K : Jl} {out : Int32 × Ji} (hM : Mx X cX8_tell_2 D th 4 rmM_tell_2) (hR : Rt X (some .int) (RM D th out.2 K) (some (.int out.1)) 0 0) (a1 : Int32) (a2 : Int32) (a3 : Int32) (J : Ji) (hE : M_tell_2 a1 a2 a3 J = some out) : Wk X 0 0 (RM D th J K) 0 [(0, .ref th), (1, .int a1), (2, .int a2), (3, .int a3)] [] := by
  have hC := hM.1
  have hnL := hM.2.2.1
  have hrm := hM.2.2.2
  unfold M_tell_2 at hE
  refine k_aload_n (pc := 0) hC dX8_tell_2_0 rfl 0 rfl ?_
  refine gM_77 (pc := 1) hM dX8_tell_2_1 ?_
  refine k_bipush (pc := 4) (v := 30) hC dX8_tell_2_4 (by decide) ?_
  refine k_icmp_eq (pc := 6) (tgt := 29) hC dX8_tell_2_6 (by decide) hE (fun hE => ?_) (fun hE => ?_)
  · refine k_iconst (pc := 29) (v := (-1)) hC dX8_tell_2_29 (by decide) ?_
    exact k_iret (pc := 30) hC hR ⟨Nat.le_refl 0, Nat.le_refl 0⟩ dX8_tell_2_30 (by cases hE; rfl) (by cases hE; exact fun _ h => h)
  · refine k_aload_n (pc := 9) hC dX8_tell_2_9 rfl 0 rfl ?_
    refine k_iload_n (pc := 10) hC dX8_tell_2_10 rfl 1 rfl ?_
    refine k_iload_n (pc := 11) hC dX8_tell_2_11 rfl 2 rfl ?_
    refine m_clI (pc := 12) (As := [.int a1, .int a2]) hM (cw_M_isStep hM (Nat.le_of_ble_eq_true rfl) (Nat.le_of_ble_eq_true rfl)) rfl rfl (Nat.le_of_ble_eq_true rfl) dX8_tell_2_12 hE (fun r h => ct_M_isStep _ _ _ _ hM.2.1 a1 a2 J K r h) (fun r1 hE => ?_)
    refine k_if_eq (pc := 15) (tgt := 29) hC dX8_tell_2_15 (by decide) hE (fun hE => ?_) (fun hE => ?_)
    · refine k_iconst (pc := 29) (v := (-1)) hC dX8_tell_2_29 (by decide) ?_
      exact k_iret (pc := 30) hC hR ⟨Nat.le_refl 0, Nat.le_refl 0⟩ dX8_tell_2_30 (by cases hE; rfl) (by cases hE; exact fun _ h => h)
    · refine k_iload_n (pc := 18) hC dX8_tell_2_18 rfl 3 rfl ?_
      refine k_iconst (pc := 19) (v := 0) hC dX8_tell_2_19 (by decide) ?_
      refine k_sipush (pc := 20) (v := 999) hC dX8_tell_2_20 (by decide) ?_
      refine m_callSI (pc := 23) (As := [.int a3, .int 0, .int 999]) (fun r => r) hC (cw_M_in hC hrm (Nat.le_of_ble_eq_true rfl) (Nat.le_of_ble_eq_true rfl)) rfl rfl (Nat.le_of_ble_eq_true rfl) ⟨Nat.zero_le _, Nat.zero_le _⟩ dX8_tell_2_23 hE (fun r h => ct_M_in _ _ _ _ a3 0 999 r h) (fun r2 hE => ?_)
      refine k_if_ne (pc := 26) (tgt := 31) hC dX8_tell_2_26 (by decide) hE (fun hE => ?_) (fun hE => ?_)
      · refine k_iconst (pc := 29) (v := (-1)) hC dX8_tell_2_29 (by decide) ?_
        exact k_iret (pc := 30) hC hR ⟨Nat.le_refl 0, Nat.le_refl 0⟩ dX8_tell_2_30 (by cases hE; rfl) (by cases hE; exact fun _ h => h)
      · refine k_aload_n (pc := 31) hC dX8_tell_2_31 rfl 0 rfl ?_
        refine gM_78 (pc := 32) hM dX8_tell_2_32 ?_
        refine k_aload_n (pc := 35) hC dX8_tell_2_35 rfl 0 rfl ?_
        refine gM_77 (pc := 36) hM dX8_tell_2_36 ?_
        refine k_iload_n (pc := 39) hC dX8_tell_2_39 rfl 1 rfl ?_
        refine m_iast (pc := 40) 58 ly_58 hM dX8_tell_2_40 hE (fun J3 hE => ?_)
        refine k_aload_n (pc := 41) hC dX8_tell_2_41 rfl 0 rfl ?_
        refine gM_79 (pc := 42) hM dX8_tell_2_42 ?_
        refine k_aload_n (pc := 45) hC dX8_tell_2_45 rfl 0 rfl ?_
        refine gM_77 (pc := 46) hM dX8_tell_2_46 ?_
        refine k_iload_n (pc := 49) hC dX8_tell_2_49 rfl 2 rfl ?_
        refine m_iast (pc := 50) 59 ly_59 hM dX8_tell_2_50 hE (fun J4 hE => ?_)
        refine k_aload_n (pc := 51) hC dX8_tell_2_51 rfl 0 rfl ?_
        refine gM_80 (pc := 52) hM dX8_tell_2_52 ?_
        refine k_aload_n (pc := 55) hC dX8_tell_2_55 rfl 0 rfl ?_
        refine gM_77 (pc := 56) hM dX8_tell_2_56 ?_
        refine k_iload_n (pc := 59) hC dX8_tell_2_59 rfl 3 rfl ?_
        refine m_iast (pc := 60) 60 ly_60 hM dX8_tell_2_60 hE (fun J5 hE => ?_)
        refine k_aload_n (pc := 61) hC dX8_tell_2_61 rfl 0 rfl ?_
        refine k_dup (pc := 62) hC dX8_tell_2_62 rfl ?_
        refine gM_77 (pc := 63) hM dX8_tell_2_63 ?_
        refine k_iconst (pc := 66) (v := 1) hC dX8_tell_2_66 (by decide) ?_
        refine k_iadd (pc := 67) hC dX8_tell_2_67 ?_
        refine pM_77 (pc := 68) hM dX8_tell_2_68 hE (fun J6 hE => ?_)
        refine k_aload_n (pc := 71) hC dX8_tell_2_71 rfl 0 rfl ?_
        refine gM_77 (pc := 72) hM dX8_tell_2_72 ?_
        refine k_iconst (pc := 75) (v := 1) hC dX8_tell_2_75 (by decide) ?_
        refine k_isub (pc := 76) hC dX8_tell_2_76 ?_
        exact k_iret (pc := 77) hC hR ⟨Nat.le_refl 0, Nat.le_refl 0⟩ dX8_tell_2_77 (by cases hE; rfl) (by cases hE; exact fun _ h => h)
theorem ct_M_tell_2 (l : Launch) (D : Dd) (A : Nat → Prop) (th : Nat) (hA : ∀ (off : Nat) (kd : Kd), layM off = some kd → A (th + off)) (a1 : Int32) (a2 : Int32) (a3 : Int32) (J : Ji) (K : Jl) (out : Int32 × Ji) (hE : M_tell_2 a1 a2 a3 J = some out) : Ct l yX8_tell_2 (ws_ yX8_tell_2 cX8_tell_2 4 (some .int)) rmM_tell_2 vwCl arTy D A [.ref th, .int a1, .int a2, .int a3] (RM D th J K) (RM D th out.2 K) (some (.int out.1)) 0 0 := by
  refine Ct.of (by decide) (Nat.le_of_ble_eq_true rfl) rfl ?_
  intro X hl hrm hC hR hXA hnL _
  exact w_M_tell_2 ⟨hC, by unfold Ft; rw [hXA]; exact hA, hnL, hrm⟩ hR a1 a2 a3 J hE
abbrev rmM_forget : Room := { frames := 0, cells := 0, slots := 0, locals := 0 }
set_option maxHeartbeats 4000000 in
theorem w_M_forget {X : Ctx} {D : Dd} {th : Nat} {K : Jl} {out : Int32 × Ji} (hM : Mx X cX8_forget D th 2 rmM_forget) (hR : Rt X (some .int) (RM D th out.2 K) (some (.int out.1)) 0 0) (J : Ji) (hE : M_forget J = some out) : Wk X 0 0 (RM D th J K) 0 [(0, .ref th)] [] := by
  have hC := hM.1
  have hnL := hM.2.2.1
  have hrm := hM.2.2.2
  unfold M_forget at hE
  refine k_aload_n (pc := 0) hC dX8_forget_0 rfl 0 rfl ?_
  refine gM_77 (pc := 1) hM dX8_forget_1 ?_
  refine k_istoreE_n (pc := 4) (lv' := fun x1 => [(1, .int x1), (0, .ref th)]) hC dX8_forget_4 rfl (by rw [hnL]; decide) hE (fun _ => rfl) (fun x1 hE => ?_)
  refine k_aload_n (pc := 5) hC dX8_forget_5 rfl 1 rfl ?_
  refine k_iconst (pc := 6) (v := 0) hC dX8_forget_6 (by decide) ?_
  refine pM_77 (pc := 7) hM dX8_forget_7 hE (fun J2 hE => ?_)
  refine k_iload_n (pc := 10) hC dX8_forget_10 rfl 0 rfl ?_
  exact k_iret (pc := 11) hC hR ⟨Nat.le_refl 0, Nat.le_refl 0⟩ dX8_forget_11 (by cases hE; rfl) (by cases hE; exact fun _ h => h)
theorem ct_M_forget (l : Launch) (D : Dd) (A : Nat → Prop) (th : Nat) (hA : ∀ (off : Nat) (kd : Kd), layM off = some kd → A (th + off)) (J : Ji) (K : Jl) (out : Int32 × Ji) (hE : M_forget J = some out) : Ct l yX8_forget (ws_ yX8_forget cX8_forget 2 (some .int)) rmM_forget vwCl arTy D A [.ref th] (RM D th J K) (RM D th out.2 K) (some (.int out.1)) 0 0 := by
  refine Ct.of (by decide) (Nat.le_of_ble_eq_true rfl) rfl ?_
  intro X hl hrm hC hR hXA hnL _
  exact w_M_forget ⟨hC, by unfold Ft; rw [hXA]; exact hA, hnL, hrm⟩ hR J hE
abbrev rmM_isSo : Room := { frames := 5, cells := 0, slots := 0, locals := 126 }
set_option maxHeartbeats 4000000 in
theorem w_M_isSo_B7 {X : Ctx} {D : Dd} {th : Nat} {K : Jl} {out : Int32 × Ji} (hM : Mx X cX8_isSo D th 3 rmM_isSo) (hR : Rt X (some .boolean) (RM D th out.2 K) (some (.int out.1)) 0 0) (F : Nat) (k7 : Int32 → Int32 → Ji → Option (Int32 × Ji)) (hk7 : ∀ (a1 : Int32) (a2 : Int32) (J : Ji) , k7 a1 a2 J = some out → Wk X 0 0 (RM D th J K) 7 [(0, .ref th), (1, .int a1), (2, .int a2)] []) (a1 : Int32) (a2 : Int32) (J : Ji) (hE : M_isSo_B7 F k7 a1 a2 J = some out) : Wk X 0 0 (RM D th J K) 7 [(0, .ref th), (1, .int a1), (2, .int a2)] [] := by
  have hC := hM.1
  have hnL := hM.2.2.1
  have hrm := hM.2.2.2
  unfold M_isSo_B7 at hE
  refine k_iload_n (pc := 7) hC dX8_isSo_7 rfl 2 rfl ?_
  refine k_iload_n (pc := 8) hC dX8_isSo_8 rfl 1 rfl ?_
  refine k_icmp_ge (pc := 9) (tgt := 53) hC dX8_isSo_9 (by decide) hE (fun hE => ?_) (fun hE => ?_)
  · refine k_iconst (pc := 53) (v := 1) hC dX8_isSo_53 (by decide) ?_
    exact k_zret (pc := 54) (by decide) hC hR ⟨Nat.le_refl 0, Nat.le_refl 0⟩ dX8_isSo_54 (by cases hE; rfl) (by cases hE; exact fun _ h => h)
  · refine k_aload_n (pc := 12) hC dX8_isSo_12 rfl 0 rfl ?_
    refine gM_65 (pc := 13) hM dX8_isSo_13 ?_
    refine k_bipush (pc := 16) (v := 6) hC dX8_isSo_16 (by decide) ?_
    refine k_bipush (pc := 18) (v := 6) hC dX8_isSo_18 (by decide) ?_
    refine k_aload_n (pc := 20) hC dX8_isSo_20 rfl 0 rfl ?_
    refine gM_78 (pc := 21) hM dX8_isSo_21 ?_
    refine k_iload_n (pc := 24) hC dX8_isSo_24 rfl 2 rfl ?_
    refine m_iald (pc := 25) 58 ly_58 hM dX8_isSo_25 hE (fun x2 hE => ?_)
    refine k_imul (pc := 26) hC dX8_isSo_26 ?_
    refine k_iadd (pc := 27) hC dX8_isSo_27 ?_
    refine k_aload_n (pc := 28) hC dX8_isSo_28 rfl 0 rfl ?_
    refine gM_79 (pc := 29) hM dX8_isSo_29 ?_
    refine k_iload_n (pc := 32) hC dX8_isSo_32 rfl 2 rfl ?_
    refine m_iald (pc := 33) 59 ly_59 hM dX8_isSo_33 hE (fun x3 hE => ?_)
    refine k_iadd (pc := 34) hC dX8_isSo_34 ?_
    refine m_iald (pc := 35) 48 ly_48 hM dX8_isSo_35 hE (fun x4 hE => ?_)
    refine k_aload_n (pc := 36) hC dX8_isSo_36 rfl 0 rfl ?_
    refine gM_80 (pc := 37) hM dX8_isSo_37 ?_
    refine k_iload_n (pc := 40) hC dX8_isSo_40 rfl 2 rfl ?_
    refine m_iald (pc := 41) 60 ly_60 hM dX8_isSo_41 hE (fun x5 hE => ?_)
    refine k_icmp_eq (pc := 42) (tgt := 47) hC dX8_isSo_42 (by decide) hE (fun hE => ?_) (fun hE => ?_)
    · refine k_iincE (pc := 47) (k := 2) (d := 1) (lv' := fun x6 => [(2, .int x6), (0, .ref th), (1, .int a1)]) hC dX8_isSo_47 rfl (by decide) (by rw [hnL]; decide) hE (fun _ => rfl) (fun x6 hE => ?_)
      refine k_goto (pc := 50) (tgt := 7) hC dX8_isSo_50 (by decide) ?_
      refine k_sub [1, 2, 0] rfl ?_
      exact hk7 _ _ _ hE
    · refine k_iconst (pc := 45) (v := 0) hC dX8_isSo_45 (by decide) ?_
      exact k_zret (pc := 46) (by decide) hC hR ⟨Nat.le_refl 0, Nat.le_refl 0⟩ dX8_isSo_46 (by cases hE; rfl) (by cases hE; exact fun _ h => h)
theorem w_M_isSo_L7 {X : Ctx} {D : Dd} {th : Nat} {K : Jl} {out : Int32 × Ji} (hM : Mx X cX8_isSo D th 3 rmM_isSo) (hR : Rt X (some .boolean) (RM D th out.2 K) (some (.int out.1)) 0 0) (F : Nat) (n : Nat) : ∀ (a1 : Int32) (a2 : Int32) (J : Ji) , M_isSo_L7 F n a1 a2 J = some out → Wk X 0 0 (RM D th J K) 7 [(0, .ref th), (1, .int a1), (2, .int a2)] [] := by
  induction n with
  | zero => intro a1 a2 J h; cases h
  | succ n ih => intro a1 a2 J h; exact w_M_isSo_B7 hM hR F (M_isSo_L7 F n) ih a1 a2 J h
set_option maxHeartbeats 4000000 in
theorem w_M_isSo {X : Ctx} {D : Dd} {th : Nat} {K : Jl} {out : Int32 × Ji} (hM : Mx X cX8_isSo D th 3 rmM_isSo) (hR : Rt X (some .boolean) (RM D th out.2 K) (some (.int out.1)) 0 0) (F : Nat) (a1 : Int32) (J : Ji) (hE : M_isSo F a1 J = some out) : Wk X 0 0 (RM D th J K) 0 [(0, .ref th), (1, .int a1)] [] := by
  have hC := hM.1
  have hnL := hM.2.2.1
  have hrm := hM.2.2.2
  unfold M_isSo at hE
  refine k_aload_n (pc := 0) hC dX8_isSo_0 rfl 0 rfl ?_
  refine m_clIj (pc := 1) (As := []) hM (cw_M_wholeNight hM (Nat.le_of_ble_eq_true rfl) (Nat.le_of_ble_eq_true rfl)) rfl rfl (Nat.le_of_ble_eq_true rfl) dX8_isSo_1 hE (fun r h => ct_M_wholeNight _ _ _ _ hM.2.1 F J K r h) (fun r1 hE => ?_)
  refine k_pop (pc := 4) hC dX8_isSo_4 rfl ?_
  refine k_iconst (pc := 5) (v := 0) hC dX8_isSo_5 (by decide) ?_
  refine k_istore_n (pc := 6) (lv' := [(2, .int 0), (0, .ref th), (1, .int a1)]) hC dX8_isSo_6 rfl (by rw [hnL]; decide) rfl ?_
  refine k_sub [1, 2, 0] rfl ?_
  exact w_M_isSo_L7 hM hR F _ _ _ _ hE
theorem ct_M_isSo (l : Launch) (D : Dd) (A : Nat → Prop) (th : Nat) (hA : ∀ (off : Nat) (kd : Kd), layM off = some kd → A (th + off)) (F : Nat) (a1 : Int32) (J : Ji) (K : Jl) (out : Int32 × Ji) (hE : M_isSo F a1 J = some out) : Ct l yX8_isSo (ws_ yX8_isSo cX8_isSo 3 (some .boolean)) rmM_isSo vwCl arTy D A [.ref th, .int a1] (RM D th J K) (RM D th out.2 K) (some (.int out.1)) 0 0 := by
  refine Ct.of (by decide) (Nat.le_of_ble_eq_true rfl) rfl ?_
  intro X hl hrm hC hR hXA hnL _
  exact w_M_isSo ⟨hC, by unfold Ft; rw [hXA]; exact hA, hnL, hrm⟩ hR F a1 J hE
theorem cw_M_isSo {X : Ctx} {cc : ByteArray} {D : Dd} {th mL : Nat} {rm : Room} (hM : Mx X cc D th mL rm) (h1 : rmM_isSo.frames + 1 ≤ rm.frames) (h2 : 8 + (3 + 11) + rmM_isSo.locals ≤ rm.locals) : CallW X.2.2.2.1 X.2.2.2.2.1 X.2.2.2.2.2.2.1 RX8 RX8 483 yX8_isSo cX8_isSo 3 (some .boolean) (ws_ yX8_isSo cX8_isSo 3 (some .boolean)) rmM_isSo 0 0 1 := cwV 1 (cx_w hM.1) (lw_V q2169 q2171 qs111 q128 q2172) rfl rfl rfl (by decide +kernel) (by rw [hM.2.2.2]; exact ⟨h1, h2⟩)
abbrev rmM_fits : Room := { frames := 6, cells := 0, slots := 0, locals := 148 }
set_option maxHeartbeats 4000000 in
theorem w_M_fits_B33 {X : Ctx} {D : Dd} {th : Nat} {K : Jl} {out : Int32 × Ji} (hM : Mx X cX8_fits D th 6 rmM_fits) (hR : Rt X (some .int) (RM D th out.2 K) (some (.int out.1)) 0 0) (F : Nat) (k33 : Int32 → Int32 → Int32 → Int32 → Int32 → Ji → Option (Int32 × Ji)) (hk33 : ∀ (a1 : Int32) (a2 : Int32) (a3 : Int32) (a4 : Int32) (a5 : Int32) (J : Ji) , k33 a1 a2 a3 a4 a5 J = some out → Wk X 0 0 (RM D th J K) 33 [(0, .ref th), (1, .int a1), (2, .int a2), (3, .int a3), (4, .int a4), (5, .int a5)] []) (a1 : Int32) (a2 : Int32) (a3 : Int32) (a4 : Int32) (a5 : Int32) (J : Ji) (hE : M_fits_B33 F k33 a1 a2 a3 a4 a5 J = some out) : Wk X 0 0 (RM D th J K) 33 [(0, .ref th), (1, .int a1), (2, .int a2), (3, .int a3), (4, .int a4), (5, .int a5)] [] := by
  have hC := hM.1
  have hnL := hM.2.2.1
  have hrm := hM.2.2.2
  unfold M_fits_B33 at hE
  refine k_iload (pc := 33) hC dX8_fits_33 5 rfl ?_
  refine k_aload_n (pc := 35) hC dX8_fits_35 rfl 0 rfl ?_
  refine m_clI (pc := 36) (As := []) hM (cw_M_options hM (Nat.le_of_ble_eq_true rfl) (Nat.le_of_ble_eq_true rfl)) rfl rfl (Nat.le_of_ble_eq_true rfl) dX8_fits_36 hE (fun r h => ct_M_options _ _ _ _ hM.2.1 F J K r h) (fun r3 hE => ?_)
  refine k_icmp_ge (pc := 39) (tgt := 88) hC dX8_fits_39 (by decide) hE (fun hE => ?_) (fun hE => ?_)
  · refine k_iload_n (pc := 88) hC dX8_fits_88 rfl 3 rfl ?_
    refine k_iconst (pc := 89) (v := (-1)) hC dX8_fits_89 (by decide) ?_
    refine k_icmp_ne (pc := 90) (tgt := 98) hC dX8_fits_90 (by decide) hE (fun hE => ?_) (fun hE => ?_)
    · refine k_iload (pc := 93) hC dX8_fits_93 4 rfl ?_
      refine k_goto (pc := 95) (tgt := 99) hC dX8_fits_95 (by decide) ?_
      exact k_iret (pc := 99) hC hR ⟨Nat.le_refl 0, Nat.le_refl 0⟩ dX8_fits_99 (by cases hE; rfl) (by cases hE; exact fun _ h => h)
    · refine k_iconst (pc := 98) (v := (-1)) hC dX8_fits_98 (by decide) ?_
      exact k_iret (pc := 99) hC hR ⟨Nat.le_refl 0, Nat.le_refl 0⟩ dX8_fits_99 (by cases hE; rfl) (by cases hE; exact fun _ h => h)
  · refine k_aload_n (pc := 42) hC dX8_fits_42 rfl 0 rfl ?_
    refine m_clVj (pc := 43) (As := []) hM (cw_M_takes hM (Nat.le_of_ble_eq_true rfl) (Nat.le_of_ble_eq_true rfl)) rfl rfl (Nat.le_of_ble_eq_true rfl) dX8_fits_43 hE (fun r h => ct_M_takes _ _ _ _ hM.2.1 F J K r h) (fun r4 hE => ?_)
    refine k_aload_n (pc := 46) hC dX8_fits_46 rfl 0 rfl ?_
    refine k_iload_n (pc := 47) hC dX8_fits_47 rfl 1 rfl ?_
    refine k_iload (pc := 48) hC dX8_fits_48 5 rfl ?_
    refine m_clIj (pc := 50) (As := [.int a1, .int a5]) hM (cw_M_leaves hM (Nat.le_of_ble_eq_true rfl) (Nat.le_of_ble_eq_true rfl)) rfl rfl (Nat.le_of_ble_eq_true rfl) dX8_fits_50 hE (fun r h => ct_M_leaves _ _ _ _ hM.2.1 F a1 a5 r4 K r h) (fun r5 hE => ?_)
    refine k_pop (pc := 53) hC dX8_fits_53 rfl ?_
    refine k_aload_n (pc := 54) hC dX8_fits_54 rfl 0 rfl ?_
    refine k_iload_n (pc := 55) hC dX8_fits_55 rfl 2 rfl ?_
    refine m_clIj (pc := 56) (As := [.int a2]) hM (cw_M_isSo hM (Nat.le_of_ble_eq_true rfl) (Nat.le_of_ble_eq_true rfl)) rfl rfl (Nat.le_of_ble_eq_true rfl) dX8_fits_56 hE (fun r h => ct_M_isSo _ _ _ _ hM.2.1 F a2 r5.2 K r h) (fun r6 hE => ?_)
    refine k_if_ne (pc := 59) (tgt := 65) hC dX8_fits_59 (by decide) hE (fun hE => ?_) (fun hE => ?_)
    · refine k_goto (pc := 62) (tgt := 82) hC dX8_fits_62 (by decide) ?_
      refine k_iincE (pc := 82) (k := 5) (d := 1) (lv' := fun x7 => [(5, .int x7), (0, .ref th), (1, .int a1), (2, .int a2), (3, .int a3), (4, .int a4)]) hC dX8_fits_82 rfl (by decide) (by rw [hnL]; decide) hE (fun _ => rfl) (fun x7 hE => ?_)
      refine k_goto (pc := 85) (tgt := 33) hC dX8_fits_85 (by decide) ?_
      refine k_sub [1, 2, 3, 4, 5, 0] rfl ?_
      exact hk33 _ _ _ _ _ _ hE
    · refine k_iload (pc := 65) hC dX8_fits_65 4 rfl ?_
      refine k_iload_n (pc := 67) hC dX8_fits_67 rfl 3 rfl ?_
      refine k_icmp_ne (pc := 68) (tgt := 79) hC dX8_fits_68 (by decide) hE (fun hE => ?_) (fun hE => ?_)
      · refine k_aload_n (pc := 71) hC dX8_fits_71 rfl 0 rfl ?_
        refine k_iload_n (pc := 72) hC dX8_fits_72 rfl 1 rfl ?_
        refine k_iload (pc := 73) hC dX8_fits_73 5 rfl ?_
        refine m_clIj (pc := 75) (As := [.int a1, .int a5]) hM (cw_M_codeOf hM (Nat.le_of_ble_eq_true rfl) (Nat.le_of_ble_eq_true rfl)) rfl rfl (Nat.le_of_ble_eq_true rfl) dX8_fits_75 hE (fun r h => ct_M_codeOf _ _ _ _ hM.2.1 F a1 a5 r6.2 K r h) (fun r8 hE => ?_)
        exact k_iret (pc := 78) hC hR ⟨Nat.le_refl 0, Nat.le_refl 0⟩ dX8_fits_78 (by cases hE; rfl) (by cases hE; exact fun _ h => h)
      · refine k_iincE (pc := 79) (k := 4) (d := 1) (lv' := fun x9 => [(4, .int x9), (0, .ref th), (1, .int a1), (2, .int a2), (3, .int a3), (5, .int a5)]) hC dX8_fits_79 rfl (by decide) (by rw [hnL]; decide) hE (fun _ => rfl) (fun x9 hE => ?_)
        refine k_iincE (pc := 82) (k := 5) (d := 1) (lv' := fun x10 => [(5, .int x10), (4, .int x9), (0, .ref th), (1, .int a1), (2, .int a2), (3, .int a3)]) hC dX8_fits_82 rfl (by decide) (by rw [hnL]; decide) hE (fun _ => rfl) (fun x10 hE => ?_)
        refine k_goto (pc := 85) (tgt := 33) hC dX8_fits_85 (by decide) ?_
        refine k_sub [2, 3, 4, 5, 1, 0] rfl ?_
        exact hk33 _ _ _ _ _ _ hE
theorem w_M_fits_L33 {X : Ctx} {D : Dd} {th : Nat} {K : Jl} {out : Int32 × Ji} (hM : Mx X cX8_fits D th 6 rmM_fits) (hR : Rt X (some .int) (RM D th out.2 K) (some (.int out.1)) 0 0) (F : Nat) (n : Nat) : ∀ (a1 : Int32) (a2 : Int32) (a3 : Int32) (a4 : Int32) (a5 : Int32) (J : Ji) , M_fits_L33 F n a1 a2 a3 a4 a5 J = some out → Wk X 0 0 (RM D th J K) 33 [(0, .ref th), (1, .int a1), (2, .int a2), (3, .int a3), (4, .int a4), (5, .int a5)] [] := by
  induction n with
  | zero => intro a1 a2 a3 a4 a5 J h; cases h
  | succ n ih => intro a1 a2 a3 a4 a5 J h; exact w_M_fits_B33 hM hR F (M_fits_L33 F n) ih a1 a2 a3 a4 a5 J h
set_option maxHeartbeats 4000000 in
theorem w_M_fits {X : Ctx} {D : Dd} {th : Nat} {K : Jl} {out : Int32 × Ji} (hM : Mx X cX8_fits D th 6 rmM_fits) (hR : Rt X (some .int) (RM D th out.2 K) (some (.int out.1)) 0 0) (F : Nat) (a1 : Int32) (a2 : Int32) (a3 : Int32) (J : Ji) (hE : M_fits F a1 a2 a3 J = some out) : Wk X 0 0 (RM D th J K) 0 [(0, .ref th), (1, .int a1), (2, .int a2), (3, .int a3)] [] := by
  have hC := hM.1
  have hnL := hM.2.2.1
  have hrm := hM.2.2.2
  unfold M_fits at hE
  refine k_aload_n (pc := 0) hC dX8_fits_0 rfl 0 rfl ?_
  refine k_iload_n (pc := 1) hC dX8_fits_1 rfl 1 rfl ?_
  refine m_clI (pc := 2) (As := [.int a1]) hM (cw_M_isMan hM (Nat.le_of_ble_eq_true rfl) (Nat.le_of_ble_eq_true rfl)) rfl rfl (Nat.le_of_ble_eq_true rfl) dX8_fits_2 hE (fun r h => ct_M_isMan _ _ _ _ hM.2.1 a1 J K r h) (fun r1 hE => ?_)
  refine k_if_eq (pc := 5) (tgt := 25) hC dX8_fits_5 (by decide) hE (fun hE => ?_) (fun hE => ?_)
  · refine k_iconst (pc := 25) (v := (-1)) hC dX8_fits_25 (by decide) ?_
    exact k_iret (pc := 26) hC hR ⟨Nat.le_refl 0, Nat.le_refl 0⟩ dX8_fits_26 (by cases hE; rfl) (by cases hE; exact fun _ h => h)
  · refine k_iload_n (pc := 8) hC dX8_fits_8 rfl 2 rfl ?_
    refine k_iconst (pc := 9) (v := 0) hC dX8_fits_9 (by decide) ?_
    refine k_aload_n (pc := 10) hC dX8_fits_10 rfl 0 rfl ?_
    refine gM_77 (pc := 11) hM dX8_fits_11 ?_
    refine m_callSI (pc := 14) (As := [.int a2, .int 0, .int (J 0 77)]) (fun r => r) hC (cw_M_in hC hrm (Nat.le_of_ble_eq_true rfl) (Nat.le_of_ble_eq_true rfl)) rfl rfl (Nat.le_of_ble_eq_true rfl) ⟨Nat.zero_le _, Nat.zero_le _⟩ dX8_fits_14 hE (fun r h => ct_M_in _ _ _ _ a2 0 (J 0 77) r h) (fun r2 hE => ?_)
    refine k_if_eq (pc := 17) (tgt := 25) hC dX8_fits_17 (by decide) hE (fun hE => ?_) (fun hE => ?_)
    · refine k_iconst (pc := 25) (v := (-1)) hC dX8_fits_25 (by decide) ?_
      exact k_iret (pc := 26) hC hR ⟨Nat.le_refl 0, Nat.le_refl 0⟩ dX8_fits_26 (by cases hE; rfl) (by cases hE; exact fun _ h => h)
    · refine k_iload_n (pc := 20) hC dX8_fits_20 rfl 3 rfl ?_
      refine k_iconst (pc := 21) (v := (-1)) hC dX8_fits_21 (by decide) ?_
      refine k_icmp_ge (pc := 22) (tgt := 27) hC dX8_fits_22 (by decide) hE (fun hE => ?_) (fun hE => ?_)
      · refine k_iconst (pc := 27) (v := 0) hC dX8_fits_27 (by decide) ?_
        refine k_istore (pc := 28) (lv' := [(4, .int 0), (0, .ref th), (1, .int a1), (2, .int a2), (3, .int a3)]) hC dX8_fits_28 (by rw [hnL]; decide) rfl ?_
        refine k_iconst (pc := 30) (v := 0) hC dX8_fits_30 (by decide) ?_
        refine k_istore (pc := 31) (lv' := [(5, .int 0), (4, .int 0), (0, .ref th), (1, .int a1), (2, .int a2), (3, .int a3)]) hC dX8_fits_31 (by rw [hnL]; decide) rfl ?_
        refine k_sub [2, 3, 4, 5, 1, 0] rfl ?_
        exact w_M_fits_L33 hM hR F _ _ _ _ _ _ _ hE
      · refine k_iconst (pc := 25) (v := (-1)) hC dX8_fits_25 (by decide) ?_
        exact k_iret (pc := 26) hC hR ⟨Nat.le_refl 0, Nat.le_refl 0⟩ dX8_fits_26 (by cases hE; rfl) (by cases hE; exact fun _ h => h)
theorem ct_M_fits (l : Launch) (D : Dd) (A : Nat → Prop) (th : Nat) (hA : ∀ (off : Nat) (kd : Kd), layM off = some kd → A (th + off)) (F : Nat) (a1 : Int32) (a2 : Int32) (a3 : Int32) (J : Ji) (K : Jl) (out : Int32 × Ji) (hE : M_fits F a1 a2 a3 J = some out) : Ct l yX8_fits (ws_ yX8_fits cX8_fits 6 (some .int)) rmM_fits vwCl arTy D A [.ref th, .int a1, .int a2, .int a3] (RM D th J K) (RM D th out.2 K) (some (.int out.1)) 0 0 := by
  refine Ct.of (by decide) (Nat.le_of_ble_eq_true rfl) rfl ?_
  intro X hl hrm hC hR hXA hnL _
  exact w_M_fits ⟨hC, by unfold Ft; rw [hXA]; exact hA, hnL, hrm⟩ hR F a1 a2 a3 J hE
abbrev rmM_isSuspect : Room := { frames := 6, cells := 0, slots := 0, locals := 148 }
set_option maxHeartbeats 4000000 in
theorem w_M_isSuspect_B66 {X : Ctx} {D : Dd} {th : Nat} {K : Jl} {out : Int32 × Ji} (hM : Mx X cX8_isSuspect D th 4 rmM_isSuspect) (hR : Rt X (some .boolean) (RM D th out.2 K) (some (.int out.1)) 0 0) (F : Nat) (k2 : Int32 → Int32 → Int32 → Ji → Option (Int32 × Ji)) (hk2 : ∀ (a1 : Int32) (a2 : Int32) (a3 : Int32) (J : Ji) , k2 a1 a2 a3 J = some out → Wk X 0 0 (RM D th J K) 2 [(0, .ref th), (1, .int a1), (2, .int a2), (3, .int a3)] []) (a1 : Int32) (a2 : Int32) (a3 : Int32) (J : Ji) (hE : M_isSuspect_B66 F k2 a1 a2 a3 J = some out) : Wk X 0 0 (RM D th J K) 66 [(0, .ref th), (1, .int a1), (2, .int a2), (3, .int a3)] [] := by
  have hC := hM.1
  have hnL := hM.2.2.1
  have hrm := hM.2.2.2
  unfold M_isSuspect_B66 at hE
  refine k_aload_n (pc := 66) hC dX8_isSuspect_66 rfl 0 rfl ?_
  refine k_iload_n (pc := 67) hC dX8_isSuspect_67 rfl 2 rfl ?_
  refine m_clIj (pc := 68) (As := [.int a2]) hM (cw_M_isSo hM (Nat.le_of_ble_eq_true rfl) (Nat.le_of_ble_eq_true rfl)) rfl rfl (Nat.le_of_ble_eq_true rfl) dX8_isSuspect_68 hE (fun r h => ct_M_isSo _ _ _ _ hM.2.1 F a2 J K r h) (fun r9 hE => ?_)
  refine k_if_eq (pc := 71) (tgt := 76) hC dX8_isSuspect_71 (by decide) hE (fun hE => ?_) (fun hE => ?_)
  · refine k_iincE (pc := 76) (k := 3) (d := 1) (lv' := fun x10 => [(3, .int x10), (0, .ref th), (1, .int a1), (2, .int a2)]) hC dX8_isSuspect_76 rfl (by decide) (by rw [hnL]; decide) hE (fun _ => rfl) (fun x10 hE => ?_)
    refine k_goto (pc := 79) (tgt := 2) hC dX8_isSuspect_79 (by decide) ?_
    refine k_sub [1, 2, 3, 0] rfl ?_
    exact hk2 _ _ _ _ hE
  · refine k_iconst (pc := 74) (v := 1) hC dX8_isSuspect_74 (by decide) ?_
    exact k_zret (pc := 75) (by decide) hC hR ⟨Nat.le_refl 0, Nat.le_refl 0⟩ dX8_isSuspect_75 (by cases hE; rfl) (by cases hE; exact fun _ h => h)
set_option maxHeartbeats 4000000 in
theorem w_M_isSuspect_B2 {X : Ctx} {D : Dd} {th : Nat} {K : Jl} {out : Int32 × Ji} (hM : Mx X cX8_isSuspect D th 4 rmM_isSuspect) (hR : Rt X (some .boolean) (RM D th out.2 K) (some (.int out.1)) 0 0) (F : Nat) (k2 : Int32 → Int32 → Int32 → Ji → Option (Int32 × Ji)) (hk2 : ∀ (a1 : Int32) (a2 : Int32) (a3 : Int32) (J : Ji) , k2 a1 a2 a3 J = some out → Wk X 0 0 (RM D th J K) 2 [(0, .ref th), (1, .int a1), (2, .int a2), (3, .int a3)] []) (a1 : Int32) (a2 : Int32) (a3 : Int32) (J : Ji) (hE : M_isSuspect_B2 F k2 a1 a2 a3 J = some out) : Wk X 0 0 (RM D th J K) 2 [(0, .ref th), (1, .int a1), (2, .int a2), (3, .int a3)] [] := by
  have hC := hM.1
  have hnL := hM.2.2.1
  have hrm := hM.2.2.2
  unfold M_isSuspect_B2 at hE
  refine k_iload_n (pc := 2) hC dX8_isSuspect_2 rfl 3 rfl ?_
  refine k_aload_n (pc := 3) hC dX8_isSuspect_3 rfl 0 rfl ?_
  refine m_clI (pc := 4) (As := []) hM (cw_M_options hM (Nat.le_of_ble_eq_true rfl) (Nat.le_of_ble_eq_true rfl)) rfl rfl (Nat.le_of_ble_eq_true rfl) dX8_isSuspect_4 hE (fun r h => ct_M_options _ _ _ _ hM.2.1 F J K r h) (fun r1 hE => ?_)
  refine k_icmp_ge (pc := 7) (tgt := 82) hC dX8_isSuspect_7 (by decide) hE (fun hE => ?_) (fun hE => ?_)
  · refine k_iconst (pc := 82) (v := 0) hC dX8_isSuspect_82 (by decide) ?_
    exact k_zret (pc := 83) (by decide) hC hR ⟨Nat.le_refl 0, Nat.le_refl 0⟩ dX8_isSuspect_83 (by cases hE; rfl) (by cases hE; exact fun _ h => h)
  · refine k_aload_n (pc := 10) hC dX8_isSuspect_10 rfl 0 rfl ?_
    refine m_clVj (pc := 11) (As := []) hM (cw_M_takes hM (Nat.le_of_ble_eq_true rfl) (Nat.le_of_ble_eq_true rfl)) rfl rfl (Nat.le_of_ble_eq_true rfl) dX8_isSuspect_11 hE (fun r h => ct_M_takes _ _ _ _ hM.2.1 F J K r h) (fun r2 hE => ?_)
    refine k_aload_n (pc := 14) hC dX8_isSuspect_14 rfl 0 rfl ?_
    refine k_iload_n (pc := 15) hC dX8_isSuspect_15 rfl 1 rfl ?_
    refine k_iload_n (pc := 16) hC dX8_isSuspect_16 rfl 3 rfl ?_
    refine m_clIj (pc := 17) (As := [.int a1, .int a3]) hM (cw_M_leaves hM (Nat.le_of_ble_eq_true rfl) (Nat.le_of_ble_eq_true rfl)) rfl rfl (Nat.le_of_ble_eq_true rfl) dX8_isSuspect_17 hE (fun r h => ct_M_leaves _ _ _ _ hM.2.1 F a1 a3 r2 K r h) (fun r3 hE => ?_)
    refine k_pop (pc := 20) hC dX8_isSuspect_20 rfl ?_
    refine k_aload_n (pc := 21) hC dX8_isSuspect_21 rfl 0 rfl ?_
    refine gM_65 (pc := 22) hM dX8_isSuspect_22 ?_
    refine k_bipush (pc := 25) (v := 42) hC dX8_isSuspect_25 (by decide) ?_
    refine k_iload_n (pc := 27) hC dX8_isSuspect_27 rfl 1 rfl ?_
    refine k_iadd (pc := 28) hC dX8_isSuspect_28 ?_
    refine m_iald (pc := 29) 48 ly_48 hM dX8_isSuspect_29 hE (fun x4 hE => ?_)
    refine k_aload_n (pc := 30) hC dX8_isSuspect_30 rfl 0 rfl ?_
    refine gM_64 (pc := 31) hM dX8_isSuspect_31 ?_
    refine k_bipush (pc := 34) (v := 42) hC dX8_isSuspect_34 (by decide) ?_
    refine k_iload_n (pc := 36) hC dX8_isSuspect_36 rfl 1 rfl ?_
    refine k_iadd (pc := 37) hC dX8_isSuspect_37 ?_
    refine m_iald (pc := 38) 47 ly_47 hM dX8_isSuspect_38 hE (fun x5 hE => ?_)
    refine k_icmp_ne (pc := 39) (tgt := 66) hC dX8_isSuspect_39 (by decide) hE (fun hE => ?_) (fun hE => ?_)
    · refine k_aload_n (pc := 42) hC dX8_isSuspect_42 rfl 0 rfl ?_
      refine gM_65 (pc := 43) hM dX8_isSuspect_43 ?_
      refine k_bipush (pc := 46) (v := 48) hC dX8_isSuspect_46 (by decide) ?_
      refine k_iload_n (pc := 48) hC dX8_isSuspect_48 rfl 1 rfl ?_
      refine k_iadd (pc := 49) hC dX8_isSuspect_49 ?_
      refine m_iald (pc := 50) 48 ly_48 hM dX8_isSuspect_50 hE (fun x6 hE => ?_)
      refine k_aload_n (pc := 51) hC dX8_isSuspect_51 rfl 0 rfl ?_
      refine gM_64 (pc := 52) hM dX8_isSuspect_52 ?_
      refine k_bipush (pc := 55) (v := 48) hC dX8_isSuspect_55 (by decide) ?_
      refine k_iload_n (pc := 57) hC dX8_isSuspect_57 rfl 1 rfl ?_
      refine k_iadd (pc := 58) hC dX8_isSuspect_58 ?_
      refine m_iald (pc := 59) 47 ly_47 hM dX8_isSuspect_59 hE (fun x7 hE => ?_)
      refine k_icmp_ne (pc := 60) (tgt := 66) hC dX8_isSuspect_60 (by decide) hE (fun hE => ?_) (fun hE => ?_)
      · refine k_goto (pc := 63) (tgt := 76) hC dX8_isSuspect_63 (by decide) ?_
        refine k_iincE (pc := 76) (k := 3) (d := 1) (lv' := fun x8 => [(3, .int x8), (0, .ref th), (1, .int a1), (2, .int a2)]) hC dX8_isSuspect_76 rfl (by decide) (by rw [hnL]; decide) hE (fun _ => rfl) (fun x8 hE => ?_)
        refine k_goto (pc := 79) (tgt := 2) hC dX8_isSuspect_79 (by decide) ?_
        refine k_sub [1, 2, 3, 0] rfl ?_
        exact hk2 _ _ _ _ hE
      · exact w_M_isSuspect_B66 hM hR F k2 hk2 _ _ _ _ hE
    · exact w_M_isSuspect_B66 hM hR F k2 hk2 _ _ _ _ hE
theorem w_M_isSuspect_L2 {X : Ctx} {D : Dd} {th : Nat} {K : Jl} {out : Int32 × Ji} (hM : Mx X cX8_isSuspect D th 4 rmM_isSuspect) (hR : Rt X (some .boolean) (RM D th out.2 K) (some (.int out.1)) 0 0) (F : Nat) (n : Nat) : ∀ (a1 : Int32) (a2 : Int32) (a3 : Int32) (J : Ji) , M_isSuspect_L2 F n a1 a2 a3 J = some out → Wk X 0 0 (RM D th J K) 2 [(0, .ref th), (1, .int a1), (2, .int a2), (3, .int a3)] [] := by
  induction n with
  | zero => intro a1 a2 a3 J h; cases h
  | succ n ih => intro a1 a2 a3 J h; exact w_M_isSuspect_B2 hM hR F (M_isSuspect_L2 F n) ih a1 a2 a3 J h
set_option maxHeartbeats 4000000 in
theorem w_M_isSuspect {X : Ctx} {D : Dd} {th : Nat} {K : Jl} {out : Int32 × Ji} (hM : Mx X cX8_isSuspect D th 4 rmM_isSuspect) (hR : Rt X (some .boolean) (RM D th out.2 K) (some (.int out.1)) 0 0) (F : Nat) (a1 : Int32) (a2 : Int32) (J : Ji) (hE : M_isSuspect F a1 a2 J = some out) : Wk X 0 0 (RM D th J K) 0 [(0, .ref th), (1, .int a1), (2, .int a2)] [] := by
  have hC := hM.1
  have hnL := hM.2.2.1
  have hrm := hM.2.2.2
  unfold M_isSuspect at hE
  refine k_iconst (pc := 0) (v := 0) hC dX8_isSuspect_0 (by decide) ?_
  refine k_istore_n (pc := 1) (lv' := [(3, .int 0), (0, .ref th), (1, .int a1), (2, .int a2)]) hC dX8_isSuspect_1 rfl (by rw [hnL]; decide) rfl ?_
  refine k_sub [1, 2, 3, 0] rfl ?_
  exact w_M_isSuspect_L2 hM hR F _ _ _ _ _ hE
theorem ct_M_isSuspect (l : Launch) (D : Dd) (A : Nat → Prop) (th : Nat) (hA : ∀ (off : Nat) (kd : Kd), layM off = some kd → A (th + off)) (F : Nat) (a1 : Int32) (a2 : Int32) (J : Ji) (K : Jl) (out : Int32 × Ji) (hE : M_isSuspect F a1 a2 J = some out) : Ct l yX8_isSuspect (ws_ yX8_isSuspect cX8_isSuspect 4 (some .boolean)) rmM_isSuspect vwCl arTy D A [.ref th, .int a1, .int a2] (RM D th J K) (RM D th out.2 K) (some (.int out.1)) 0 0 := by
  refine Ct.of (by decide) (Nat.le_of_ble_eq_true rfl) rfl ?_
  intro X hl hrm hC hR hXA hnL _
  exact w_M_isSuspect ⟨hC, by unfold Ft; rw [hXA]; exact hA, hnL, hrm⟩ hR F a1 a2 J hE
theorem cw_M_isSuspect {X : Ctx} {cc : ByteArray} {D : Dd} {th mL : Nat} {rm : Room} (hM : Mx X cc D th mL rm) (h1 : rmM_isSuspect.frames + 1 ≤ rm.frames) (h2 : 8 + (4 + 11) + rmM_isSuspect.locals ≤ rm.locals) : CallW X.2.2.2.1 X.2.2.2.2.1 X.2.2.2.2.2.2.1 RX8 RX8 486 yX8_isSuspect cX8_isSuspect 4 (some .boolean) (ws_ yX8_isSuspect cX8_isSuspect 4 (some .boolean)) rmM_isSuspect 0 0 2 := cwV 2 (cx_w hM.1) (lw_V q2177 q2179 qs112 q128 q2180) rfl rfl rfl (by decide +kernel) (by rw [hM.2.2.2]; exact ⟨h1, h2⟩)
abbrev rmM_suspects : Room := { frames := 7, cells := 0, slots := 0, locals := 171 }
set_option maxHeartbeats 4000000 in
theorem w_M_suspects_B18 {X : Ctx} {D : Dd} {th : Nat} {K : Jl} {out : Int32 × Ji} (hM : Mx X cX8_suspects D th 4 rmM_suspects) (hR : Rt X (some .int) (RM D th out.2 K) (some (.int out.1)) 0 0) (F : Nat) (k18 : Int32 → Int32 → Int32 → Ji → Option (Int32 × Ji)) (hk18 : ∀ (a1 : Int32) (a2 : Int32) (a3 : Int32) (J : Ji) , k18 a1 a2 a3 J = some out → Wk X 0 0 (RM D th J K) 18 [(0, .ref th), (1, .int a1), (2, .int a2), (3, .int a3)] []) (a1 : Int32) (a2 : Int32) (a3 : Int32) (J : Ji) (hE : M_suspects_B18 F k18 a1 a2 a3 J = some out) : Wk X 0 0 (RM D th J K) 18 [(0, .ref th), (1, .int a1), (2, .int a2), (3, .int a3)] [] := by
  have hC := hM.1
  have hnL := hM.2.2.1
  have hrm := hM.2.2.2
  unfold M_suspects_B18 at hE
  refine k_iload_n (pc := 18) hC dX8_suspects_18 rfl 3 rfl ?_
  refine k_aload_n (pc := 19) hC dX8_suspects_19 rfl 0 rfl ?_
  refine m_clI (pc := 20) (As := []) hM (cw_M_menNow hM (Nat.le_of_ble_eq_true rfl) (Nat.le_of_ble_eq_true rfl)) rfl rfl (Nat.le_of_ble_eq_true rfl) dX8_suspects_20 hE (fun r h => ct_M_menNow _ _ _ _ hM.2.1  J K r h) (fun r2 hE => ?_)
  refine k_icmp_ge (pc := 23) (tgt := 47) hC dX8_suspects_23 (by decide) hE (fun hE => ?_) (fun hE => ?_)
  · refine k_iload_n (pc := 47) hC dX8_suspects_47 rfl 2 rfl ?_
    exact k_iret (pc := 48) hC hR ⟨Nat.le_refl 0, Nat.le_refl 0⟩ dX8_suspects_48 (by cases hE; rfl) (by cases hE; exact fun _ h => h)
  · refine k_aload_n (pc := 26) hC dX8_suspects_26 rfl 0 rfl ?_
    refine k_iload_n (pc := 27) hC dX8_suspects_27 rfl 3 rfl ?_
    refine k_iload_n (pc := 28) hC dX8_suspects_28 rfl 1 rfl ?_
    refine m_clIj (pc := 29) (As := [.int a3, .int a1]) hM (cw_M_isSuspect hM (Nat.le_of_ble_eq_true rfl) (Nat.le_of_ble_eq_true rfl)) rfl rfl (Nat.le_of_ble_eq_true rfl) dX8_suspects_29 hE (fun r h => ct_M_isSuspect _ _ _ _ hM.2.1 F a3 a1 J K r h) (fun r3 hE => ?_)
    refine k_if_eq (pc := 32) (tgt := 41) hC dX8_suspects_32 (by decide) hE (fun hE => ?_) (fun hE => ?_)
    · refine k_iincE (pc := 41) (k := 3) (d := 1) (lv' := fun x4 => [(3, .int x4), (0, .ref th), (1, .int a1), (2, .int a2)]) hC dX8_suspects_41 rfl (by decide) (by rw [hnL]; decide) hE (fun _ => rfl) (fun x4 hE => ?_)
      refine k_goto (pc := 44) (tgt := 18) hC dX8_suspects_44 (by decide) ?_
      refine k_sub [1, 2, 3, 0] rfl ?_
      exact hk18 _ _ _ _ hE
    · refine k_iload_n (pc := 35) hC dX8_suspects_35 rfl 2 rfl ?_
      refine k_iconst (pc := 36) (v := 1) hC dX8_suspects_36 (by decide) ?_
      refine k_iload_n (pc := 37) hC dX8_suspects_37 rfl 3 rfl ?_
      refine k_ishl (pc := 38) hC dX8_suspects_38 ?_
      refine k_ior (pc := 39) hC dX8_suspects_39 ?_
      refine k_istoreE_n (pc := 40) (lv' := fun x5 => [(2, .int x5), (0, .ref th), (1, .int a1), (3, .int a3)]) hC dX8_suspects_40 rfl (by rw [hnL]; decide) hE (fun _ => rfl) (fun x5 hE => ?_)
      refine k_iincE (pc := 41) (k := 3) (d := 1) (lv' := fun x6 => [(3, .int x6), (2, .int x5), (0, .ref th), (1, .int a1)]) hC dX8_suspects_41 rfl (by decide) (by rw [hnL]; decide) hE (fun _ => rfl) (fun x6 hE => ?_)
      refine k_goto (pc := 44) (tgt := 18) hC dX8_suspects_44 (by decide) ?_
      refine k_sub [2, 3, 1, 0] rfl ?_
      exact hk18 _ _ _ _ hE
theorem w_M_suspects_L18 {X : Ctx} {D : Dd} {th : Nat} {K : Jl} {out : Int32 × Ji} (hM : Mx X cX8_suspects D th 4 rmM_suspects) (hR : Rt X (some .int) (RM D th out.2 K) (some (.int out.1)) 0 0) (F : Nat) (n : Nat) : ∀ (a1 : Int32) (a2 : Int32) (a3 : Int32) (J : Ji) , M_suspects_L18 F n a1 a2 a3 J = some out → Wk X 0 0 (RM D th J K) 18 [(0, .ref th), (1, .int a1), (2, .int a2), (3, .int a3)] [] := by
  induction n with
  | zero => intro a1 a2 a3 J h; cases h
  | succ n ih => intro a1 a2 a3 J h; exact w_M_suspects_B18 hM hR F (M_suspects_L18 F n) ih a1 a2 a3 J h
set_option maxHeartbeats 4000000 in
theorem w_M_suspects {X : Ctx} {D : Dd} {th : Nat} {K : Jl} {out : Int32 × Ji} (hM : Mx X cX8_suspects D th 4 rmM_suspects) (hR : Rt X (some .int) (RM D th out.2 K) (some (.int out.1)) 0 0) (F : Nat) (a1 : Int32) (J : Ji) (hE : M_suspects F a1 J = some out) : Wk X 0 0 (RM D th J K) 0 [(0, .ref th), (1, .int a1)] [] := by
  have hC := hM.1
  have hnL := hM.2.2.1
  have hrm := hM.2.2.2
  unfold M_suspects at hE
  refine k_iload_n (pc := 0) hC dX8_suspects_0 rfl 1 rfl ?_
  refine k_iconst (pc := 1) (v := 0) hC dX8_suspects_1 (by decide) ?_
  refine k_aload_n (pc := 2) hC dX8_suspects_2 rfl 0 rfl ?_
  refine gM_77 (pc := 3) hM dX8_suspects_3 ?_
  refine m_callSI (pc := 6) (As := [.int a1, .int 0, .int (J 0 77)]) (fun r => r) hC (cw_M_in hC hrm (Nat.le_of_ble_eq_true rfl) (Nat.le_of_ble_eq_true rfl)) rfl rfl (Nat.le_of_ble_eq_true rfl) ⟨Nat.zero_le _, Nat.zero_le _⟩ dX8_suspects_6 hE (fun r h => ct_M_in _ _ _ _ a1 0 (J 0 77) r h) (fun r1 hE => ?_)
  refine k_if_ne (pc := 9) (tgt := 14) hC dX8_suspects_9 (by decide) hE (fun hE => ?_) (fun hE => ?_)
  · refine k_iconst (pc := 12) (v := (-1)) hC dX8_suspects_12 (by decide) ?_
    exact k_iret (pc := 13) hC hR ⟨Nat.le_refl 0, Nat.le_refl 0⟩ dX8_suspects_13 (by cases hE; rfl) (by cases hE; exact fun _ h => h)
  · refine k_iconst (pc := 14) (v := 0) hC dX8_suspects_14 (by decide) ?_
    refine k_istore_n (pc := 15) (lv' := [(2, .int 0), (0, .ref th), (1, .int a1)]) hC dX8_suspects_15 rfl (by rw [hnL]; decide) rfl ?_
    refine k_iconst (pc := 16) (v := 0) hC dX8_suspects_16 (by decide) ?_
    refine k_istore_n (pc := 17) (lv' := [(3, .int 0), (2, .int 0), (0, .ref th), (1, .int a1)]) hC dX8_suspects_17 rfl (by rw [hnL]; decide) rfl ?_
    refine k_sub [2, 3, 1, 0] rfl ?_
    exact w_M_suspects_L18 hM hR F _ _ _ _ _ hE
theorem ct_M_suspects (l : Launch) (D : Dd) (A : Nat → Prop) (th : Nat) (hA : ∀ (off : Nat) (kd : Kd), layM off = some kd → A (th + off)) (F : Nat) (a1 : Int32) (J : Ji) (K : Jl) (out : Int32 × Ji) (hE : M_suspects F a1 J = some out) : Ct l yX8_suspects (ws_ yX8_suspects cX8_suspects 4 (some .int)) rmM_suspects vwCl arTy D A [.ref th, .int a1] (RM D th J K) (RM D th out.2 K) (some (.int out.1)) 0 0 := by
  refine Ct.of (by decide) (Nat.le_of_ble_eq_true rfl) rfl ?_
  intro X hl hrm hC hR hXA hnL _
  exact w_M_suspects ⟨hC, by unfold Ft; rw [hXA]; exact hA, hnL, hrm⟩ hR F a1 J hE
