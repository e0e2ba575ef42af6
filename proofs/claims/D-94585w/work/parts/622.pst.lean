/-! PURE LAW 25: strings are made -/
set_option maxRecDepth 100000
section HP
variable {α : Type} {T : Th}
theorem tNew_1 {dk : Dk} {n a : Nat} : (tNew T dk n).1 a = if a = tN T then some dk else T.1 a := by
  unfold tNew vf_upd; rfl
theorem tNew_2 {dk : Dk} {n a : Nat} : (tNew T dk n).2.1 a = if a = tN T then (fun _ => 0) else T.2.1 a := by
  unfold tNew vf_upd; rfl
theorem tNew_3 {dk : Dk} {n a : Nat} : (tNew T dk n).2.2.1 a = if a = tN T then (fun _ => none) else T.2.2.1 a := by
  unfold tNew vf_upd; rfl
theorem tI_2 {a k b j : Nat} {v : Int32} : (tI T a k v).2.1 b j = if b = a ∧ j = k then v else T.2.1 b j := uJ_ap
theorem uR_ap {X : Jr} {a i b j : Nat} {v : Option Nat} : uR X a i v b j = if b = a ∧ j = i then v else X b j := by
  unfold uR vf_upd
  by_cases h : b = a
  · subst h
    by_cases h2 : j = i
    · simp [h2]
    · simp [h2]
  · simp [h]
theorem tR_3 {a k b j : Nat} {v : Option Nat} : (tR T a k v).2.2.1 b j = if b = a ∧ j = k then v else T.2.2.1 b j := uR_ap
theorem nO_p {ci n : Nat} {f : Th → Option α} (h1 : tN T + 1 ≤ (tL T).1) (h2 : tZ T + n ≤ (tL T).2.1) : nO T ci n f = f (tNew T (.inl ci) n) := if_pos ⟨h1, h2⟩
theorem nA_p {ty : FieldType} {n : Nat} {f : Th → Option α} (hn : n ≤ 65536) (h1 : tN T + 1 ≤ (tL T).1) (h2 : tZ T + n ≤ (tL T).2.1) : nA T ty (iN n) f = f (tNew T (.inr (ty, n)) n) := by
  unfold nA
  rw [iN_tN (by omega), if_pos ⟨by rw [i_0, iN_lt (by omega) (by omega)]; omega, hn, h1, h2⟩]
theorem pI_p {a ci k : Nat} {v : Int32} {f : Th → Option α} (h1 : T.1 a = some (.inl ci)) (h2 : (tL T).2.2.1 ≤ a) : pI T a ci k v f = f (tI T a k v) := if_pos ⟨h1, h2⟩
theorem pR_p {a ci k : Nat} {v : Option Nat} {f : Th → Option α} (h1 : T.1 a = some (.inl ci)) (h2 : (tL T).2.2.1 ≤ a) : pR T a ci k v f = f (tR T a k v) := if_pos ⟨h1, h2⟩
theorem sB_p {a n i : Nat} {v : Int32} {f : Th → Option α} (h1 : T.1 a = some (.inr (.byte, n))) (h2 : (tL T).2.2.1 ≤ a) (hi : i < n) (hn : n ≤ 65536) : sB T a (iN i) v f = f (tI T a i v.toInt8.toInt32) := by
  unfold sB
  rw [h1]
  simp only [h2, and_self, if_true, true_and, ix_n hi (show n ≤ 2147483648 by omega), Option.bind_some]
end HP
/-- all that is in the heap lies below its size -/
def HB (T : Th) : Prop := ∀ a, T.1 a ≠ none → a < tN T
theorem HB.new {T : Th} {dk : Dk} {m : Nat} (h : HB T) : HB (tNew T dk m) := fun a ha => by
  rw [tNew_1] at ha
  show a < tN T + 1
  by_cases c : a = tN T
  · omega
  · rw [if_neg c] at ha
    have := h a ha
    omega
/-- the heap grew, what was there is as it was -/
def ExN (T T1 : Th) : Prop := tN T ≤ tN T1 ∧ tL T1 = tL T ∧ (∀ a, a < tN T → T1.1 a = T.1 a ∧ T1.2.1 a = T.2.1 a ∧ T1.2.2.1 a = T.2.2.1 a) ∧ (HB T → HB T1)
theorem ExN.rf {T : Th} : ExN T T := ⟨Nat.le_refl _, rfl, fun _ _ => ⟨rfl, rfl, rfl⟩, id⟩
theorem ExN.tr {T T1 T2 : Th} (h : ExN T T1) (h2 : ExN T1 T2) : ExN T T2 := ⟨by have := h.1; have := h2.1; omega, h2.2.1.trans h.2.1, fun a ha => by
  obtain ⟨x1, x2, x3⟩ := h2.2.2.1 a (by have := h.1; omega)
  obtain ⟨y1, y2, y3⟩ := h.2.2.1 a ha
  exact ⟨x1.trans y1, x2.trans y2, x3.trans y3⟩, fun hb => h2.2.2.2 (h.2.2.2 hb)⟩
/-- a builder at sb with c bytes in it -/
def BdT (T : Th) (sb c : Nat) (f : Nat → Int32) (p : Nat) : Prop := T.1 sb = some (.inl 21) ∧ T.1 (sb + 1) = some (.inr (.byte, 16)) ∧ T.2.2.1 sb 0 = some (sb + 1) ∧ T.2.1 sb 1 = 0 ∧ T.2.1 sb 3 = iN c ∧ ∀ i, i < c → T.2.1 (sb + 1) i = f (p + i)
theorem ch_26b : ∀ d : Fin 26, ((((iN (97 + d.1)).toUInt32 % 65536).toInt32 = iN (97 + d.1)) ∧ (iN (97 + d.1)).toInt8.toInt32.toInt8.toInt32 = iN (97 + d.1) ∧ fits .byte (.int (iN (97 + d.1))) = true ∧ ¬ (255 : Int32) < iN (97 + d.1)) := by decide +kernel
section SR
variable {F : Nat} {T : Th}
theorem bd_app {sb c p : Nat} {f : Nat → Int32} {x : Int32} (h : BdT T sb c f p) (hb : (tL T).2.2.1 ≤ sb) (hc : c < 15) (hx : isL x = true) (hf : x = f (p + c)) : ∃ T1, A_B_append sb ((x.toUInt32 % 65536).toInt32) T = some (some sb, T1) ∧ BdT T1 sb (c + 1) f p ∧ T1.1 = T.1 ∧ tN T1 = tN T ∧ tZ T1 = tZ T ∧ tL T1 = tL T ∧ (∀ a, a ≠ sb → a ≠ sb + 1 → T1.2.1 a = T.2.1 a) ∧ T1.2.2.1 = T.2.2.1 := by
  obtain ⟨h1, h2, h3, h4, h5, h6⟩ := h
  obtain ⟨d, hd, rfl⟩ := isL_n hx
  obtain ⟨q1, q2, q3, q4⟩ := ch_26b ⟨d, hd⟩
  have q1 : (((iN (97 + d)).toUInt32 % 65536).toInt32) = iN (97 + d) := q1
  have q2 : (iN (97 + d)).toInt8.toInt32.toInt8.toInt32 = iN (97 + d) := q2
  have q4 : ¬ (255 : Int32) < iN (97 + d) := q4
  have z10 : ¬ (1 : Int32) = 0 := by decide
  have e1 : iN c + 1 = iN (c + 1) := by rw [i_1, iN_add]
  have k1 : (tI T sb 3 (iN (c + 1))).1 (sb + 1) = some (.inr (.byte, 16)) := h2
  have e2 : ¬ (iN (c + 1) - iN 16 ≤ 0 → False) := by
    intro hh
    apply hh
    rw [iN_subm (by omega)]
    have := iM_len (a := 0) (b := 16 - (c + 1)) (by omega) (by omega)
    rw [← i_0] at this
    exact this ▸ trivial
  have e3 : iN (c + 1) - iN 16 ≤ 0 := Classical.byContradiction e2
  refine ⟨tI (tI T sb 3 (iN (c + 1))) (sb + 1) c (iN (97 + d)), ?_, ⟨h1, h2, h3, ?_, ?_, fun i hi => ?_⟩, rfl, rfl, rfl, rfl, fun a a1 a2 => ?_, rfl⟩
  · have hens : A_AB_ensureCapacityInternal sb (iN (c + 1)) T = some T := by
      simp only [A_AB_ensureCapacityInternal, dR_p h1, h3, Option.bind_some, dL_p h2, dI_p h1, h4, sh_0, lt_e, if_pos e3]
    have hlat : A_AB_isLatin1 T sb = some 1 := by
      simp only [A_AB_isLatin1, if_neg z10, dI_p h1, h4, if_true]
    have hcan : A_U_canEncode (iN (97 + d)) = some 1 := by
      simp only [A_U_canEncode, if_neg q4]
    have hst : ∀ g : Th → Option (Option Nat × Th), sB (tI T sb 3 (iN (c + 1))) (sb + 1) (iN c) (iN (97 + d)).toInt8.toInt32 g = g (tI (tI T sb 3 (iN (c + 1))) (sb + 1) c (iN (97 + d))) := fun g => by
      rw [sB_p k1 (show (tL T).2.2.1 ≤ sb + 1 by omega) (by omega) (by omega), q2]
    rw [q1]
    simp only [A_B_append, A_AB_append, A_AB_append_B75, dC_p h1, dI_p h1, h5, e1, hens, Option.bind_some, hlat, if_neg z10, hcan, dR_p h1, h3, pI_p h1 hb, hst]
  · rw [tI_2, if_neg (by omega), tI_2, if_neg (by omega)]; exact h4
  · rw [tI_2, if_neg (by omega), tI_2, if_pos ⟨rfl, rfl⟩]
  · rw [tI_2]
    by_cases ci : i = c
    · subst ci
      rw [if_pos ⟨rfl, rfl⟩, hf]
    · rw [if_neg (by omega), tI_2, if_neg (by omega)]
      exact h6 i (by omega)
  · funext j
    rw [tI_2, if_neg (by omega), tI_2, if_neg (by omega)]
theorem tx_L {sb i p q : Nat} {Q : Ji} (hF : 2100 ≤ F) (hi : i < 2001) (hpq : p ≤ q) (hq : q ≤ 2000) (h8 : q - p ≤ 8) (h7 : Q 7 i = iN q) (hL : ∀ k, k < q - p → isL (Q 4 (p + k)) = true) : ∀ d m c T, c + d = q - p → d < m → BdT T sb c (Q 4) p → (tL T).2.2.1 ≤ sb → ∃ T1, T_text_L15 F Q m (iN i) sb (iN (p + c)) T = (A_B_toString sb T1).bind (fun r5 => some (r5.1, r5.2)) ∧ BdT T1 sb (q - p) (Q 4) p ∧ T1.1 = T.1 ∧ tN T1 = tN T ∧ tZ T1 = tZ T ∧ tL T1 = tL T ∧ (∀ a, a ≠ sb → a ≠ sb + 1 → T1.2.1 a = T.2.1 a) ∧ T1.2.2.1 = T.2.2.1 := by
  intro d
  induction d with
  | zero =>
    intro m c T h1 h2 hB hb
    obtain ⟨m, rfl⟩ : ∃ g, m = g + 1 := ⟨m - 1, by omega⟩
    have : c = q - p := by omega
    subst this
    refine ⟨T, ?_, hB, rfl, rfl, rfl, rfl, fun _ _ _ => rfl, rfl⟩
    simp (disch := omega) only [T_text_L15, T_text_B15, ldI_n, h7, iN_le, if_pos (show q ≤ p + (q - p) by omega), dC_p hB.1]
  | succ d ih =>
    intro m c T h1 h2 hB hb
    obtain ⟨m, rfl⟩ : ∃ g, m = g + 1 := ⟨m - 1, by omega⟩
    obtain ⟨T1, a1, a2, a3, a4, a5, a6, a7, a8⟩ := bd_app hB hb (show c < 15 by omega) (hL c (by omega)) rfl
    obtain ⟨T2, b1, b2, b3, b4, b5, b6, b7, b8⟩ := ih m (c + 1) T1 (by omega) (by omega) a2 (by rw [a6]; exact hb)
    refine ⟨T2, ?_, b2, b3.trans a3, b4.trans a4, b5.trans a5, b6.trans a6, fun a x y => (b7 a x y).trans (a7 a x y), b8.trans a8⟩
    rw [← b1]
    simp (disch := omega) only [T_text_L15, T_text_B15, ldI_n, h7, iN_le, if_neg (show ¬ q ≤ p + c by omega), dC_p hB.1, a1, Option.bind_some, lt_e, show iN (p + c) + 1 = iN (p + (c + 1)) by rw [i_1, iN_add]; rfl]
/-- a builder's string -/
theorem bd_str {sb n p : Nat} {f : Nat → Int32} (h : BdT T sb n f p) (h8 : n ≤ 8) (hL : ∀ k, k < n → isL (f (p + k)) = true) (h0 : (tL T).2.2.1 ≤ tN T) (hs : sb + 1 < tN T) (hN : tN T + 2 ≤ (tL T).1) (hZ : tZ T + 12 ≤ (tL T).2.1) : ∃ T1, A_B_toString sb T = some (some (tN T), T1) ∧ StT T1 (tN T) (seg f p n) ∧ ExN T T1 ∧ tN T1 = tN T + 2 ∧ tZ T1 ≤ tZ T + 12 := by
  obtain ⟨h1, h2, h3, h4, h5, h6⟩ := h
  have z10 : ¬ (1 : Int32) = 0 := by decide
  -- the string's own cell
  let T1 := tNew T (.inl 20) 4
  have k1 : T1.1 sb = some (.inl 21) := by
    show (tNew T (.inl 20) 4).1 sb = _
    rw [tNew_1, if_neg (by omega)]; exact h1
  have k2 : T1.1 (sb + 1) = some (.inr (.byte, 16)) := by
    show (tNew T (.inl 20) 4).1 (sb + 1) = _
    rw [tNew_1, if_neg (by omega)]; exact h2
  have k3 : T1.2.2.1 sb 0 = some (sb + 1) := by
    show (tNew T (.inl 20) 4).2.2.1 sb 0 = _
    rw [tNew_3, if_neg (by omega)]; exact h3
  have k4 : T1.2.1 sb 1 = 0 := by
    show (tNew T (.inl 20) 4).2.1 sb 1 = _
    rw [tNew_2, if_neg (by omega)]; exact h4
  have k5 : T1.2.1 sb 3 = iN n := by
    show (tNew T (.inl 20) 4).2.1 sb 3 = _
    rw [tNew_2, if_neg (by omega)]; exact h5
  have k6 : ∀ i, i < n → T1.2.1 (sb + 1) i = f (p + i) := fun i hi => by
    show (tNew T (.inl 20) 4).2.1 (sb + 1) i = _
    rw [tNew_2, if_neg (by omega)]; exact h6 i hi
  have k7 : T1.1 (tN T) = some (.inl 20) := by
    show (tNew T (.inl 20) 4).1 (tN T) = _
    rw [tNew_1, if_pos rfl]
  have k8 : tL T1 = tL T := rfl
  have k9 : tN T1 = tN T + 1 := rfl
  have k10 : tZ T1 = tZ T + 4 := rfl
  let T2 := tI T1 (tN T) 1 0
  let T3 := tNew T2 (.inr (.byte, n)) n
  have m1 : T3.1 (sb + 1) = some (.inr (.byte, 16)) := by
    show (tNew T2 (.inr (.byte, n)) n).1 (sb + 1) = _
    rw [tNew_1, if_neg (show ¬ sb + 1 = tN T2 from by show ¬ sb + 1 = tN T + 1; omega)]; exact k2
  have m2 : T3.1 (tN T + 1) = some (.inr (.byte, n)) := by
    show (tNew T2 (.inr (.byte, n)) n).1 (tN T + 1) = _
    rw [tNew_1]
    exact if_pos rfl
  have m3 : ∀ i, i < n → T3.2.1 (sb + 1) i = f (p + i) := fun i hi => by
    show (tNew T2 (.inr (.byte, n)) n).2.1 (sb + 1) i = _
    rw [tNew_2, if_neg (show ¬ sb + 1 = tN T2 from by show ¬ sb + 1 = tN T + 1; omega)]
    show (tI T1 (tN T) 1 0).2.1 (sb + 1) i = _
    rw [tI_2, if_neg (by omega)]
    exact k6 i hi
  let T4 := tC T3 (tN T + 1) (va_cpy (T3.2.1 (sb + 1)) (T3.2.1 (tN T + 1)) 0 0 n)
  have hcB : ∀ g : Th → Option (Option Nat × Th), cB T3 (sb + 1) 0 (tN T + 1) 0 (iN n) g = g T4 := fun g => by
    unfold cB
    rw [m1, m2]
    have e0 : (0 : Int32).toNatClampNeg = 0 := rfl
    have hc : ∀ i, i < n → fits .byte (.int (T3.2.1 (sb + 1) (0 + i))) = true := fun i hi => by
      rw [Nat.zero_add, m3 i hi]
      obtain ⟨d, hd, he⟩ := isL_n (hL i hi)
      rw [he]
      exact (ch_26b ⟨d, hd⟩).2.2.1
    simp only [e0, iN_tN (show n < 2147483648 by omega), true_and]
    rw [if_pos ⟨show (tL T).2.2.1 ≤ tN T + 1 by omega, by decide, by decide, by rw [i_0, iN_lt (by omega) (by omega)]; omega, by omega, by omega, hc⟩]
  let T5 := tR T4 (tN T) 0 (some (tN T + 1))
  refine ⟨T5, ?_, ⟨?_, ?_, tN T + 1, ?_, ?_, fun i c hc => ?_⟩, ⟨by show tN T ≤ tN T + 1 + 1; omega, rfl, fun a ha => ⟨?_, ?_, ?_⟩, fun hb => HB.new (T := T2) (HB.new (T := T) hb)⟩, rfl, by show tZ T + 4 + n ≤ tZ T + 12; omega⟩
  · have hlat : A_AB_isLatin1 T1 sb = some 1 := by
      simp only [A_AB_isLatin1, if_neg z10, dI_p k1, k4, if_true]
    have hlen : A_B_length T1 sb = some (iN n) := by
      simp only [A_B_length, A_AB_length, dC_p k1, dI_p k1, k5, Option.bind_some]
    have hval : A_AB_getValue T1 sb = some (some (sb + 1)) := by
      simp only [A_AB_getValue, dR_p k1, k3]
    have hchk : A_checkLength 0 (iN n) T2 = some T2 := by
      simp only [A_checkLength, if_pos (show (0 : Int32) ≤ iN n by rw [i_0, iN_le (by omega) (by omega)]; omega)]
    have k2' : T2.1 (sb + 1) = some (.inr (.byte, 16)) := k2
    have e16 : ¬ iN n = iN 16 := by rw [iN_eq (by omega) (by omega)]; omega
    have hcp : A_copyOfRange (sb + 1) 0 (iN n) T2 = some (some (tN T + 1), T4) := by
      have e1 : iN n - 0 = iN n := by rw [i_0, iN_sub (by omega)]; rfl
      have e2 : (16 : Nat) = 16 := rfl
      have hmin : (if iN n < iN 16 - 0 then iN n else iN 16 - 0) = iN n := by
        have : iN 16 - 0 = iN 16 := by decide
        rw [this, if_pos (by rw [iN_lt (by omega) (by omega)]; omega)]
      simp only [A_copyOfRange, A_copyOfRange_B10, A_copyOfRangeByte, if_true, dL_p k2', if_neg e16, hchk, Option.bind_some, lt_e, e1]
      rw [nA_p (by omega) (show tN T2 + 1 ≤ (tL T2).1 from by show tN T + 1 + 1 ≤ (tL T).1; omega) (show tZ T2 + n ≤ (tL T2).2.1 from by show tZ T + 4 + n ≤ (tL T).2.1; omega)]
      show ((dL T3 (sb + 1) .byte fun x4 => cB T3 (sb + 1) 0 (tN T + 1) 0 (if iN n < x4 - 0 then iN n else x4 - 0) fun T5 => some (some (tN T + 1), T5)).bind _) = _
      rw [dL_p m1, hmin, hcB, Option.bind_some]
    unfold A_B_toString
    rw [nO_p (by omega) (by omega)]
    show ((A_S_init (tN T) sb T1).bind _) = _
    have hinit : A_S_init (tN T) sb T1 = some T5 := by
      have hp1 : ∀ g : Th → Option Th, pI T1 (tN T) 20 1 0 g = g T2 := fun g => pI_p k7 (by rw [k8]; exact h0)
      have k7' : T4.1 (tN T) = some (.inl 20) := by
        show (tNew T2 (.inr (.byte, n)) n).1 (tN T) = _
        rw [tNew_1, if_neg (show ¬ tN T = tN T2 from by show ¬ tN T = tN T + 1; omega)]; exact k7
      have hp2 : ∀ g : Th → Option Th, pR T4 (tN T) 20 0 (some (tN T + 1)) g = g T5 := fun g => pR_p k7' (show (tL T).2.2.1 ≤ tN T from h0)
      simp only [A_S_init, A_S_init_2, dC_p k1, hval, hlen, hlat, Option.bind_some, if_neg z10, hp1, hcp, hp2]
    rw [hinit, Option.bind_some]
  · show (tNew T2 (.inr (.byte, n)) n).1 (tN T) = _
    rw [tNew_1, if_neg (show ¬ tN T = tN T2 from by show ¬ tN T = tN T + 1; omega)]; exact k7
  · show (vf_upd T3.2.1 (tN T + 1) _) (tN T) 1 = 0
    rw [vf_ne _ _ (by omega)]
    show (tNew T2 (.inr (.byte, n)) n).2.1 (tN T) 1 = 0
    rw [tNew_2, if_neg (show ¬ tN T = tN T2 from by show ¬ tN T = tN T + 1; omega)]
    show (tI T1 (tN T) 1 0).2.1 (tN T) 1 = 0
    rw [tI_2, if_pos ⟨rfl, rfl⟩]
  · show (tR T4 (tN T) 0 (some (tN T + 1))).2.2.1 (tN T) 0 = _
    rw [tR_3, if_pos ⟨rfl, rfl⟩]
  · show T3.1 (tN T + 1) = _
    rw [m2, seg_len]
  · have hlt : i < n := by
      rcases Nat.lt_or_ge i n with h | h
      · exact h
      · rw [List.getElem?_eq_none (by rw [seg_len]; exact h)] at hc; cases hc
    rw [seg_get _ _ hlt] at hc
    show (vf_upd T3.2.1 (tN T + 1) (va_cpy (T3.2.1 (sb + 1)) (T3.2.1 (tN T + 1)) 0 0 n)) (tN T + 1) i = c
    rw [vf_self]
    unfold va_cpy
    rw [if_pos ⟨by omega, by omega⟩, Nat.sub_zero, Nat.zero_add, m3 i hlt]
    exact Option.some.inj hc
  · show (tNew T2 (.inr (.byte, n)) n).1 a = _
    rw [tNew_1, if_neg (show ¬ a = tN T2 from by show ¬ a = tN T + 1; omega)]
    show (tNew T (.inl 20) 4).1 a = _
    rw [tNew_1, if_neg (by omega)]
  · show (vf_upd T3.2.1 (tN T + 1) _) a = _
    rw [vf_ne _ _ (by omega)]
    show (tNew T2 (.inr (.byte, n)) n).2.1 a = _
    rw [tNew_2, if_neg (show ¬ a = tN T2 from by show ¬ a = tN T + 1; omega)]
    funext j
    show (tI T1 (tN T) 1 0).2.1 a j = _
    rw [tI_2, if_neg (by omega)]
    show (tNew T (.inl 20) 4).2.1 a j = _
    rw [tNew_2, if_neg (by omega)]
  · funext j
    show (tR T4 (tN T) 0 (some (tN T + 1))).2.2.1 a j = _
    rw [tR_3, if_neg (by omega)]
    show (tNew T2 (.inr (.byte, n)) n).2.2.1 a j = _
    rw [tNew_3, if_neg (show ¬ a = tN T2 from by show ¬ a = tN T + 1; omega)]
    show (tNew T (.inl 20) 4).2.2.1 a j = _
    rw [tNew_3, if_neg (by omega)]
end SR
