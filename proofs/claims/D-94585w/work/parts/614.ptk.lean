/-! PURE LAW 21: a token, on both sides -/
set_option maxRecDepth 100000
def TpR (n : Nat) (Q J : Ji) : Prop := n ≤ 2000 ∧ Q 2 2 = iN n ∧ J 0 4 = iN n ∧ ∀ i, i < n → Q 4 i = J 2 i ∧ byt (Q 4 i)
def av (Q : Ji) (n k : Nat) : Int32 := if n ≤ k then 0 else Q 4 k
/-- a token: the i-th of the component, the j-th of the model -/
def TR (Q : Ji) (J : Ji) (K : Jl) (i j p q : Nat) : Prop := Q 6 i = iN p ∧ Q 7 i = iN q ∧ J 4 j = iN p ∧ p ≤ q ∧ q ≤ 2000 ∧ ((Q 5 i = iN 0 ∧ J 3 j = iN 1 ∧ 1 ≤ q - p ∧ q - p ≤ 8 ∧ allL (seg (Q 4) p (q - p)) ∧ K 6 j = c27 (seg (Q 4) p (q - p))) ∨ (Q 5 i = iN 1 ∧ J 3 j = iN 2 ∧ ∃ v, v ≤ 9999 ∧ J 5 j = iN v ∧ nv (Q 4) p (q - p) = iN v) ∨ (Q 5 i = iN 2 ∧ isG (Q 8 i) = true ∧ J 3 j = sgM (Q 8 i)) ∨ (Q 5 i = iN 3 ∧ ∃ w, w < 21 ∧ Q 8 i = iN w ∧ J 3 j = iN (20 + w)) ∨ (Q 5 i = iN 4 ∧ J 3 j = iN 0) ∨ (Q 5 i = iN 5 ∧ J 3 j = iN 3))
theorem i16 {p : Nat} (h : p ≤ 2000) : (iN p).toInt16.toInt32.toInt16.toInt32 = iN p := by
  have e : (iN p).toInt16.toInt32 = iN p := by
    unfold iN
    rw [Int32.toInt16_ofNat', Int16.toInt32_ofNat' (by
      show (p : Int) ≤ 32767
      omega)]
  rw [e, e]
theorem i16m : (-1 : Int32).toInt16.toInt32.toInt16.toInt32 = -1 := by decide
theorem i8s {s : Nat} (h : s ≤ 5) : (iN s).toInt8.toInt32.toInt8.toInt32 = iN s := by
  have : s = 0 ∨ s = 1 ∨ s = 2 ∨ s = 3 ∨ s = 4 ∨ s = 5 := by omega
  rcases this with rfl | rfl | rfl | rfl | rfl | rfl <;> decide
theorem i16b : ∀ x : Fin 256, (byF x).toInt16.toInt32.toInt16.toInt32 = byF x := by decide +kernel
theorem i16y {c : Int32} (h : byt c) : c.toInt16.toInt32.toInt16.toInt32 = c := by
  obtain ⟨x, rfl⟩ := by_fin h
  exact i16b x
theorem byt_0 : byt 0 := by unfold byt; decide
theorem run_ex {P : Nat → Bool} {n : Nat} (hn : ∀ e, n ≤ e → P e = false) : ∀ d e0, e0 + d = n → ∃ e1, e0 ≤ e1 ∧ e1 ≤ n ∧ (∀ i, e0 ≤ i → i < e1 → P i = true) ∧ P e1 = false := by
  intro d
  induction d with
  | zero => intro e0 h; exact ⟨e0, Nat.le_refl _, by omega, fun i a b => by omega, hn e0 (by omega)⟩
  | succ d ih =>
    intro e0 h
    cases hP : P e0 with
    | false => exact ⟨e0, Nat.le_refl _, by omega, fun i a b => by omega, hP⟩
    | true =>
      obtain ⟨e1, a1, a2, a3, a4⟩ := ih (e0 + 1) (by omega)
      refine ⟨e1, by omega, a2, fun i b1 b2 => ?_, a4⟩
      by_cases c : i = e0
      · rw [c]; exact hP
      · exact a3 i (by omega) b2
section TK
variable {T : Th} {F n : Nat} {Q J : Ji} {K : Jl} {Xp : Jr}
theorem av_byt (h : TpR n Q J) (k : Nat) : byt (av Q n k) := by
  unfold av
  by_cases c : n ≤ k
  · rw [if_pos c]; exact byt_0
  · rw [if_neg c]; exact (h.2.2.2 k (by omega)).2
theorem t_at (h : TpR n Q J) {k : Nat} (hk : k ≤ 3000) : T_at Q T (iN k) = some (av Q n k) := by
  have hn := h.1
  unfold av
  by_cases c : n ≤ k
  · simp (disch := omega) only [T_at, h.2.1, iN_le, if_pos c]
  · simp (disch := omega) only [T_at, h.2.1, iN_le, if_neg c, ldI_n]
theorem m_at (h : TpR n Q J) {k : Nat} (hk : k ≤ 3000) : M_byteAt J (iN k) = some (av Q n k &&& 255) := by
  have hn := h.1
  unfold av
  by_cases c : n ≤ k
  · simp (disch := omega) only [M_byteAt, h.2.2.1, iN_le, if_pos c]
    rfl
  · simp (disch := omega) only [M_byteAt, h.2.2.1, iN_le, if_neg c, ldI_n, (h.2.2.2 k (by omega)).1]
theorem t_let (h : TpR n Q J) {k : Nat} (hk : k ≤ 3000) : T_isLetter Q T (iN k) = some (if isL (av Q n k) = true then 1 else 0) := by
  unfold T_isLetter isL
  rw [t_at h hk]
  simp only [Option.bind_some, decide_eq_true_eq]
  by_cases c1 : av Q n k < 97
  · rw [if_pos c1, if_neg (fun hh => hh.1 c1)]
  · by_cases c2 : 122 < av Q n k
    · rw [if_neg c1, if_pos c2, if_neg (fun hh => hh.2 c2)]
    · rw [if_neg c1, if_neg c2, if_pos ⟨c1, c2⟩]
theorem t_dig (h : TpR n Q J) {k : Nat} (hk : k ≤ 3000) : T_isDigit Q T (iN k) = some (if isD (av Q n k) = true then 1 else 0) := by
  unfold T_isDigit isD
  rw [t_at h hk]
  simp only [Option.bind_some, decide_eq_true_eq]
  by_cases c1 : av Q n k < 48
  · rw [if_pos c1, if_neg (fun hh => hh.1 c1)]
  · by_cases c2 : 57 < av Q n k
    · rw [if_neg c1, if_pos c2, if_neg (fun hh => hh.2 c2)]
    · rw [if_neg c1, if_neg c2, if_pos ⟨c1, c2⟩]
theorem m_let {c : Int32} : M_isLetter c = some (if isL c = true then 1 else 0) := by
  unfold M_isLetter isL
  simp only [decide_eq_true_eq]
  by_cases c1 : c < 97
  · rw [if_pos c1, if_neg (fun hh => hh.1 c1)]
  · by_cases c2 : 122 < c
    · rw [if_neg c1, if_pos c2, if_neg (fun hh => hh.2 c2)]
    · rw [if_neg c1, if_neg c2, if_pos ⟨c1, c2⟩]
theorem m_dig {c : Int32} : M_isDigit c = some (if isD c = true then 1 else 0) := by
  unfold M_isDigit isD
  simp only [decide_eq_true_eq]
  by_cases c1 : c < 48
  · rw [if_pos c1, if_neg (fun hh => hh.1 c1)]
  · by_cases c2 : 57 < c
    · rw [if_neg c1, if_pos c2, if_neg (fun hh => hh.2 c2)]
    · rw [if_neg c1, if_neg c2, if_pos ⟨c1, c2⟩]
theorem av_out {k : Nat} (h : n ≤ k) : isL (av Q n k) = false ∧ isD (av Q n k) = false := by
  unfold av
  rw [if_pos h]
  exact ⟨by decide, by decide⟩
/-! adding a token -/
theorem t_add {tc s p q : Nat} {w : Int32} (h7 : Q 2 7 = iN tc) (ht : tc ≤ 2000) (hs : s ≤ 5) (hp : p ≤ 2000) (hq : q ≤ 2000) (hw : w.toInt16.toInt32.toInt16.toInt32 = w) : ∃ Q1, T_add (iN s) (iN p) (iN q) w Q = some Q1 ∧ Q1 5 tc = iN s ∧ Q1 6 tc = iN p ∧ Q1 7 tc = iN q ∧ Q1 8 tc = w ∧ Q1 2 7 = iN (tc + 1) ∧ (∀ o, (o < 5 ∨ 8 < o) → o ≠ 2 → Q1 o = Q o) ∧ (∀ i, i ≠ 7 → Q1 2 i = Q 2 i) ∧ ∀ o i, 5 ≤ o → o ≤ 8 → i ≠ tc → Q1 o i = Q o i := by
  have e1 : iN tc + 1 = iN (tc + 1) := by rw [i_1, iN_add]
  refine ⟨uJ (uJ (uJ (uJ (uJ Q 5 tc (iN s)) 6 tc (iN p)) 7 tc (iN q)) 8 tc w) 2 7 (iN (tc + 1)), ?_, ?_, ?_, ?_, ?_, uJ_ss, fun o ho ho2 => ?_, fun i hi => ?_, fun o i o1 o2 hi => ?_⟩
  · simp (disch := omega) only [T_add, h7, stI_n, i8s hs, i16 hp, i16 hq, hw, uJ_o, lt_e, e1]
  · simp (disch := omega) only [uJ_o, uJ_ss]
  · simp (disch := omega) only [uJ_o, uJ_ss]
  · simp (disch := omega) only [uJ_o, uJ_ss]
  · simp (disch := omega) only [uJ_o, uJ_ss]
  · simp (disch := omega) only [uJ_o]
  · simp (disch := omega) only [uJ_o, uJ_sn]
  · simp (disch := omega) only [uJ_ap, if_neg (show ¬ (o = 2 ∧ i = 7) by omega), if_neg (show ¬ (o = 8 ∧ i = tc) by omega), if_neg (show ¬ (o = 7 ∧ i = tc) by omega), if_neg (show ¬ (o = 6 ∧ i = tc) by omega), if_neg (show ¬ (o = 5 ∧ i = tc) by omega)]
theorem m_tok {tm : Nat} {kd v : Int32} {p : Int32} {nm : Int64} (h10 : J 0 10 = iN tm) (ht : tm ≤ 400) : ∃ J1 K1, M_token kd p v nm J K = some (J1, K1) ∧ J1 3 tm = kd ∧ J1 4 tm = p ∧ J1 5 tm = v ∧ K1 6 tm = nm ∧ J1 0 10 = iN (tm + 1) ∧ (∀ o, o ≠ 0 → (o < 3 ∨ 5 < o) → J1 o = J o) ∧ (∀ i, i ≠ 10 → J1 0 i = J 0 i) ∧ (∀ o i, 3 ≤ o → o ≤ 5 → i ≠ tm → J1 o i = J o i) ∧ (∀ o, o ≠ 6 → K1 o = K o) ∧ ∀ i, i ≠ tm → K1 6 i = K 6 i := by
  have e1 : iN tm + 1 = iN (tm + 1) := by rw [i_1, iN_add]
  refine ⟨uJ (uJ (uJ (uJ J 3 tm kd) 4 tm p) 5 tm v) 0 10 (iN (tm + 1)), uL K 6 tm nm, ?_, ?_, ?_, ?_, ?_, uJ_ss, fun o ho ho2 => ?_, fun i hi => ?_, fun o i o1 o2 hi => ?_, fun o ho => ?_, fun i hi => ?_⟩
  · simp (disch := omega) only [M_token, h10, stI_n, stL_n, uJ_o, lt_e, e1]
  · simp (disch := omega) only [uJ_o, uJ_ss]
  · simp (disch := omega) only [uJ_o, uJ_ss]
  · simp (disch := omega) only [uJ_o, uJ_ss]
  · unfold uL; rw [vf_self, vf_self]
  · simp (disch := omega) only [uJ_o]
  · simp (disch := omega) only [uJ_o, uJ_sn]
  · simp (disch := omega) only [uJ_ap, if_neg (show ¬ (o = 0 ∧ i = 10) by omega), if_neg (show ¬ (o = 5 ∧ i = tm) by omega), if_neg (show ¬ (o = 4 ∧ i = tm) by omega), if_neg (show ¬ (o = 3 ∧ i = tm) by omega)]
  · unfold uL; rw [vf_ne _ _ ho]
  · unfold uL; rw [vf_self, vf_ne _ _ hi]
/-! runs of letters, of digits -/
theorem tl_run (h : TpR n Q J) {k e1 : Nat} {k9 : Int32 → Int32 → Ji → Option Ji} (hk : k ≤ e1) (he : e1 ≤ n) (hL : ∀ i, k ≤ i → i < e1 → isL (av Q n i) = true) (hN : isL (av Q n e1) = false) : ∀ d m e, e + d = e1 → k ≤ e → d < m → T_read_L74 F k9 Xp T m (iN k) (iN e) Q = (T_word F Q Xp T (iN k) (iN e1)).bind fun r12 => if r12 < 0 then (if iN e1 - iN k ≤ 8 then T_read_B121 F k9 Xp T (iN k) (iN e1) r12 0 Q else T_read_B121 F k9 Xp T (iN k) (iN e1) r12 5 Q) else T_read_B121 F k9 Xp T (iN k) (iN e1) r12 3 Q := by
  have hn := h.1
  intro d
  induction d with
  | zero =>
    intro m e h1 h2 h3
    obtain ⟨m, rfl⟩ : ∃ g, m = g + 1 := ⟨m - 1, by omega⟩
    have : e = e1 := by omega
    subst this
    simp (disch := omega) only [T_read_L74, T_read_B74, t_let h, hN, Option.bind_some, Bool.false_eq_true, if_false, if_true]
  | succ d ih =>
    intro m e h1 h2 h3
    obtain ⟨m, rfl⟩ : ∃ g, m = g + 1 := ⟨m - 1, by omega⟩
    rw [← ih m (e + 1) (by omega) (by omega) (by omega)]
    simp (disch := omega) only [T_read_L74, T_read_B74, t_let h, hL e h2 (by omega), Option.bind_some, if_true, if_neg (show ¬ (1 : Int32) = 0 by decide), lt_e, show iN e + 1 = iN (e + 1) by rw [i_1, iN_add]]
theorem td_run (h : TpR n Q J) {k e1 : Nat} {k9 : Int32 → Int32 → Ji → Option Ji} (hk : k ≤ e1) (he : e1 ≤ n) (hL : ∀ i, k ≤ i → i < e1 → isD (av Q n i) = true) (hN : isD (av Q n e1) = false) : ∀ d m e, e + d = e1 → k ≤ e → d < m → T_read_L134 F k9 Xp T m (iN k) (iN e) 0 Q = if iN e1 - iN k ≤ 4 then T_read_B162 F k9 Xp T (iN k) (iN e1) 0 1 Q else T_read_B162 F k9 Xp T (iN k) (iN e1) 0 5 Q := by
  have hn := h.1
  intro d
  induction d with
  | zero =>
    intro m e h1 h2 h3
    obtain ⟨m, rfl⟩ : ∃ g, m = g + 1 := ⟨m - 1, by omega⟩
    have : e = e1 := by omega
    subst this
    simp (disch := omega) only [T_read_L134, T_read_B134, t_dig h, hN, Option.bind_some, Bool.false_eq_true, if_false, if_true]
  | succ d ih =>
    intro m e h1 h2 h3
    obtain ⟨m, rfl⟩ : ∃ g, m = g + 1 := ⟨m - 1, by omega⟩
    rw [← ih m (e + 1) (by omega) (by omega) (by omega)]
    simp (disch := omega) only [T_read_L134, T_read_B134, t_dig h, hL e h2 (by omega), Option.bind_some, if_true, if_neg (show ¬ (1 : Int32) = 0 by decide), lt_e, show iN e + 1 = iN (e + 1) by rw [i_1, iN_add]]
theorem av_in (he : ∀ i : Nat, i < n → True) {i : Nat} (hi : i < n) : av Q n i = Q 4 i := if_neg (by omega)
theorem ml_run (h : TpR n Q J) {k e1 : Nat} {k7 : Int32 → Ji → Jl → Option (Ji × Jl)} (hk : k ≤ e1) (he : e1 ≤ n) (hL : ∀ i, k ≤ i → i < e1 → isL (av Q n i) = true) (hN : isL (av Q n e1) = false) : ∀ d m c, k + c + d = e1 → d < m → M_cut_L85 F k7 m (iN k) (iN c) (c27 (seg (Q 4) k (min c 8))) J K = if e1 - k ≤ 8 then M_cut_B135 F k7 (iN k) (iN (e1 - k)) (c27 (seg (Q 4) k (min (e1 - k) 8))) 1 J K else M_cut_B135 F k7 (iN k) (iN (e1 - k)) (c27 (seg (Q 4) k (min (e1 - k) 8))) 3 J K := by
  have hn := h.1
  intro d
  induction d with
  | zero =>
    intro m c h1 h2
    obtain ⟨m, rfl⟩ : ∃ g, m = g + 1 := ⟨m - 1, by omega⟩
    have : c = e1 - k := by omega
    subst this
    have e8 : (8 : Int32) = iN 8 := rfl
    simp (disch := omega) only [M_cut_L85, M_cut_B85, iN_add, m_at h, Option.bind_some, m_let, (by_255 (av_byt h _)).1, show k + (e1 - k) = e1 by omega, hN, Bool.false_eq_true, if_false, if_true, e8, iN_le]
  | succ d ih =>
    intro m c h1 h2
    obtain ⟨m, rfl⟩ : ∃ g, m = g + 1 := ⟨m - 1, by omega⟩
    have hl := hL (k + c) (by omega) (by omega)
    have hb := by_255 (av_byt h (k + c))
    have hav : av Q n (k + c) = Q 4 (k + c) := if_neg (by omega)
    have e8 : (8 : Int32) = iN 8 := rfl
    have ec : iN c + 1 = iN (c + 1) := by rw [i_1, iN_add]
    rw [← ih m (c + 1) (by omega) (by omega)]
    by_cases c8 : 8 ≤ c
    · rw [show min (c + 1) 8 = min c 8 by omega]
      simp (disch := omega) only [M_cut_L85, M_cut_B85, iN_add, m_at h, Option.bind_some, m_let, hb.1, hl, if_true, if_neg (show ¬ (1 : Int32) = 0 by decide), e8, iN_le, if_pos c8, lt_e, ec]
    · rw [show min (c + 1) 8 = c + 1 by omega, show min c 8 = c by omega]
      have ha : M_appends (c27 (seg (Q 4) k c)) (av Q n (k + c) &&& 255) = some (c27 (seg (Q 4) k (c + 1))) := by
        rw [hb.2.2.2.2.1 hl, hav]
        unfold M_appends
        have : ¬ Q 4 (k + c) = 0 := by
          intro h0
          rw [hav, h0] at hl
          exact absurd hl (by decide)
        rw [if_neg this]
        show _ = some (c27 (seg (Q 4) k c ++ [Q 4 (k + c)]))
        rw [c27_s]
      simp (disch := omega) only [M_cut_L85, M_cut_B85, iN_add, m_at h, Option.bind_some, m_let, hb.1, hl, if_true, if_neg (show ¬ (1 : Int32) = 0 by decide), e8, iN_le, if_neg c8, ha, lt_e, ec]
theorem md_run (h : TpR n Q J) {k e1 : Nat} {k7 : Int32 → Ji → Jl → Option (Ji × Jl)} (hk : k ≤ e1) (he : e1 ≤ n) (hL : ∀ i, k ≤ i → i < e1 → isD (av Q n i) = true) (hN : isD (av Q n e1) = false) : ∀ d m c, k + c + d = e1 → d < m → M_cut_L208 F k7 m (iN k) (iN c) (nv (Q 4) k (min c 4)) J K = if e1 - k ≤ 4 then M_cut_B261 F k7 (iN k) (iN (e1 - k)) (nv (Q 4) k (min (e1 - k) 4)) 2 J K else M_cut_B261 F k7 (iN k) (iN (e1 - k)) (nv (Q 4) k (min (e1 - k) 4)) 3 J K := by
  have hn := h.1
  intro d
  induction d with
  | zero =>
    intro m c h1 h2
    obtain ⟨m, rfl⟩ : ∃ g, m = g + 1 := ⟨m - 1, by omega⟩
    have : c = e1 - k := by omega
    subst this
    have e4 : (4 : Int32) = iN 4 := rfl
    simp (disch := omega) only [M_cut_L208, M_cut_B208, iN_add, m_at h, Option.bind_some, m_dig, (by_255 (av_byt h _)).2.1, show k + (e1 - k) = e1 by omega, hN, Bool.false_eq_true, if_false, if_true, e4, iN_le]
  | succ d ih =>
    intro m c h1 h2
    obtain ⟨m, rfl⟩ : ∃ g, m = g + 1 := ⟨m - 1, by omega⟩
    have hl := hL (k + c) (by omega) (by omega)
    have hb := by_255 (av_byt h (k + c))
    have hav : av Q n (k + c) = Q 4 (k + c) := if_neg (by omega)
    have e4 : (4 : Int32) = iN 4 := rfl
    have ec : iN c + 1 = iN (c + 1) := by rw [i_1, iN_add]
    rw [← ih m (c + 1) (by omega) (by omega)]
    by_cases c8 : 4 ≤ c
    · rw [show min (c + 1) 4 = min c 4 by omega]
      simp (disch := omega) only [M_cut_L208, M_cut_B208, iN_add, m_at h, Option.bind_some, m_dig, hb.2.1, hl, if_true, if_neg (show ¬ (1 : Int32) = 0 by decide), e4, iN_le, if_pos c8, lt_e, ec]
    · rw [show min (c + 1) 4 = c + 1 by omega, show min c 4 = c by omega]
      have hv : 10 * nv (Q 4) k c + av Q n (k + c) - 48 = nv (Q 4) k (c + 1) := by
        rw [hav]
        rfl
      simp (disch := omega) only [M_cut_L208, M_cut_B208, iN_add, m_at h, Option.bind_some, m_dig, hb.2.1, hl, hb.2.2.2.2.2 hl, if_true, if_neg (show ¬ (1 : Int32) = 0 by decide), e4, iN_le, if_neg c8, hv, lt_e, ec]
/-- the keys' loop -/
theorem mk_run {k c : Nat} {L : List Int32} {k7 : Int32 → Ji → Jl → Option (Ji × Jl)} (hK : KyM K) (hL : allL L) (hl : L.length ≤ 8) : ∀ d m w a, w + d = 21 → d < m → M_cut_L146 F k7 m (iN k) (iN c) (c27 L) a (iN w) J K = M_cut_B179 F k7 (iN k) (iN c) (c27 L) (wK L d w a) J K := by
  intro d
  induction d with
  | zero =>
    intro m w a h1 h2
    obtain ⟨m, rfl⟩ : ∃ g, m = g + 1 := ⟨m - 1, by omega⟩
    have e21 : (21 : Int32) = iN 21 := rfl
    simp (disch := omega) only [M_cut_L146, M_cut_B146, e21, iN_le, if_pos (show 21 ≤ w by omega)]
    rfl
  | succ d ih =>
    intro m w a h1 h2
    obtain ⟨m, rfl⟩ : ∃ g, m = g + 1 := ⟨m - 1, by omega⟩
    have hlt : w < 21 := by omega
    have hg : Wds[w]? = some (Wds[w]'hlt) := List.getElem?_eq_getElem hlt
    obtain ⟨_, w1, w2, w3⟩ := wd_ok w _ hg
    have hk := hK w _ hg
    have e21 : (21 : Int32) = iN 21 := rfl
    have ew : iN w + 1 = iN (w + 1) := by rw [i_1, iN_add]
    show _ = M_cut_B179 F k7 (iN k) (iN c) (c27 L) (wK L d (w + 1) (if Wds[w]? = some L then iN (20 + w) else a)) J K
    rw [← ih m (w + 1) _ (by omega) (by omega), hg]
    by_cases cc : Wds[w]'hlt = L
    · have hcmp : lg_cmp (K 7 w) (c27 L) = 0 := by rw [hk, cc]; simp [lg_cmp]
      rw [if_pos (by rw [cc])]
      simp (disch := omega) only [M_cut_L146, M_cut_B146, e21, iN_le, if_neg (show ¬ 21 ≤ w by omega), ldL_n, if_pos hcmp, lt_e, i_20, iN_add, ew]
    · have hcmp : ¬ lg_cmp (K 7 w) (c27 L) = 0 := by
        have hne : c27 (Wds[w]'hlt) ≠ c27 L := fun h => cc ((c27_i w1 hL (by omega) hl).1 h)
        rw [hk]
        unfold lg_cmp
        rw [if_neg hne]
        intro h0
        split at h0 <;> exact absurd h0 (by decide)
      rw [if_neg (fun h => cc (Option.some.inj h))]
      simp (disch := omega) only [M_cut_L146, M_cut_B146, e21, iN_le, if_neg (show ¬ 21 ≤ w by omega), ldL_n, if_neg hcmp, lt_e, ew]
end TK
