/-! PURE LAW 22: all tokens -/
set_option maxRecDepth 100000
/-- what a token's adding leaves alone -/
def fQ (tc : Nat) (Q Q1 : Ji) : Prop := (∀ o, (o < 5 ∨ 8 < o) → o ≠ 2 → Q1 o = Q o) ∧ (∀ i, i ≠ 7 → Q1 2 i = Q 2 i) ∧ ∀ o i, 5 ≤ o → o ≤ 8 → i < tc → Q1 o i = Q o i
def fJ (tm : Nat) (J J1 : Ji) (K K1 : Jl) : Prop := (∀ o, o ≠ 0 → (o < 3 ∨ 5 < o) → J1 o = J o) ∧ (∀ i, i ≠ 10 → J1 0 i = J 0 i) ∧ (∀ o i, 3 ≤ o → o ≤ 5 → i < tm → J1 o i = J o i) ∧ (∀ o, o ≠ 6 → K1 o = K o) ∧ ∀ i, i < tm → K1 6 i = K 6 i
theorem fQ.rf {tc : Nat} {Q : Ji} : fQ tc Q Q := ⟨fun _ _ _ => rfl, fun _ _ => rfl, fun _ _ _ _ _ => rfl⟩
theorem fJ.rf {tm : Nat} {J : Ji} {K : Jl} : fJ tm J J K K := ⟨fun _ _ _ => rfl, fun _ _ => rfl, fun _ _ _ _ _ => rfl, fun _ _ => rfl, fun _ _ => rfl⟩
theorem fQ.tr {t1 t2 : Nat} {Q Q1 Q2 : Ji} (h : fQ t1 Q Q1) (h2 : fQ t2 Q1 Q2) (ht : t1 ≤ t2) : fQ t1 Q Q2 := ⟨fun o a c => by rw [h2.1 o a c, h.1 o a c], fun i hi => by rw [h2.2.1 i hi, h.2.1 i hi], fun o i a c d => by rw [h2.2.2 o i a c (by omega), h.2.2 o i a c d]⟩
theorem fJ.tr {t1 t2 : Nat} {J J1 J2 : Ji} {K K1 K2 : Jl} (h : fJ t1 J J1 K K1) (h2 : fJ t2 J1 J2 K1 K2) (ht : t1 ≤ t2) : fJ t1 J J2 K K2 := ⟨fun o a c => by rw [h2.1 o a c, h.1 o a c], fun i hi => by rw [h2.2.1 i hi, h.2.1 i hi], fun o i a c d => by rw [h2.2.2.1 o i a c (by omega), h.2.2.1 o i a c d], fun o a => by rw [h2.2.2.2.1 o a, h.2.2.2.1 o a], fun i hi => by rw [h2.2.2.2.2 i (by omega), h.2.2.2.2 i hi]⟩
theorem TpR.f {n tc tm : Nat} {Q Q1 J J1 : Ji} {K K1 : Jl} (h : TpR n Q J) (hQ : fQ tc Q Q1) (hJ : fJ tm J J1 K K1) : TpR n Q1 J1 := ⟨h.1, by rw [hQ.2.1 2 (by omega)]; exact h.2.1, by rw [hJ.2.1 4 (by omega)]; exact h.2.2.1, fun i hi => by rw [hQ.1 4 (by omega) (by omega), hJ.1 2 (by omega) (by omega)]; exact h.2.2.2 i hi⟩
theorem TR.f {i j p q tc tm : Nat} {Q Q1 J J1 : Ji} {K K1 : Jl} (h : TR Q J K i j p q) (hi : i < tc) (hj : j < tm) (hQ : fQ tc Q Q1) (hJ : fJ tm J J1 K K1) : TR Q1 J1 K1 i j p q := by
  unfold TR
  rw [hQ.1 4 (by omega) (by omega), hQ.2.2 5 i (by omega) (by omega) hi, hQ.2.2 6 i (by omega) (by omega) hi, hQ.2.2 7 i (by omega) (by omega) hi, hQ.2.2 8 i (by omega) (by omega) hi, hJ.2.2.1 3 j (by omega) (by omega) hj, hJ.2.2.1 4 j (by omega) (by omega) hj, hJ.2.2.1 5 j (by omega) (by omega) hj, hJ.2.2.2.2 j hj]
  exact h
theorem m_sgn {a1 a2 a3 : Int32} {J : Ji} {K : Jl} : M_sign a1 a2 a3 J K = (M_token (sgM a2) a1 0 0 J K).bind fun r1 => some (1, r1.1, r1.2) := by
  unfold M_sign M_sign_B43 M_sign_B55 M_sign_B65 M_sign_B75 M_sign_B85 M_sign_B95 sgM
  by_cases c1 : a2 = 59
  · subst c1; rfl
  by_cases c2 : a2 = 61
  · subst c2; rfl
  by_cases c3 : a2 = 40
  · subst c3; rfl
  by_cases c4 : a2 = 41
  · subst c4; rfl
  by_cases c5 : a2 = 43
  · subst c5; rfl
  by_cases c6 : a2 = 45
  · subst c6; rfl
  by_cases c7 : a2 = 42
  · subst c7; rfl
  by_cases c8 : a2 = 47
  · subst c8; rfl
  by_cases c9 : a2 = 60
  · subst c9; rfl
  simp only [if_neg c1, if_neg c2, if_neg c3, if_neg c4, if_neg c5, if_neg c6, if_neg c7, if_neg c8, if_neg c9]
section CT
variable {T : Th} {F n : Nat} {Q J : Ji} {K : Jl} {Xp : Jr}
theorem t_sgn (h : TpR n Q J) {k : Nat} (hk : k ≤ 3000) : T_sign Q T (iN k) = some (if isG (av Q n k) = true then av Q n k else 0) := by
  unfold T_sign isG
  rw [t_at h hk, Option.bind_some]
  simp only [decide_eq_true_eq]
  generalize av Q n k = a2
  by_cases c1 : a2 = 59
  · subst c1; rfl
  by_cases c2 : a2 = 61
  · subst c2; rfl
  by_cases c3 : a2 = 40
  · subst c3; rfl
  by_cases c4 : a2 = 41
  · subst c4; rfl
  by_cases c5 : a2 = 43
  · subst c5; rfl
  by_cases c6 : a2 = 45
  · subst c6; rfl
  by_cases c7 : a2 = 42
  · subst c7; rfl
  by_cases c8 : a2 = 47
  · subst c8; rfl
  by_cases c9 : a2 = 60
  · subst c9; rfl
  simp only [if_neg c1, if_neg c2, if_neg c3, if_neg c4, if_neg c5, if_neg c6, if_neg c7, if_neg c8, if_neg c9, c1, c2, c3, c4, c5, c6, c7, c8, c9, or_self, if_false]
theorem sg_no {c : Int32} (h : isG c = false) : sgM c = 3 := by
  unfold isG at h
  rw [decide_eq_false_iff_not] at h
  simp only [not_or] at h
  obtain ⟨c1, c2, c3, c4, c5, c6, c7, c8, c9⟩ := h
  unfold sgM
  rw [if_neg c1, if_neg c2, if_neg c3, if_neg c4, if_neg c5, if_neg c6, if_neg c7, if_neg c8, if_neg c9]
/-- one step of both: white, or a token -/
def Stk (n : Nat) (T : Th) (F : Nat) (Xp : Jr) (Q J : Ji) (K : Jl) (tc tm k : Nat) : Prop := ((∀ k9, T_read_B9 F k9 Xp T (iN k) 1 Q = k9 (iN (k + 1)) 1 Q) ∧ ∀ k7, M_cut_B7 F k7 (iN k) J K = k7 (iN (k + 1)) J K) ∨ ∃ k' g Q1 J1 K1, k < k' ∧ k' ≤ n ∧ (∀ k9, T_read_B9 F k9 Xp T (iN k) 1 Q = k9 (iN k') g Q1) ∧ (∀ k7, M_cut_B7 F k7 (iN k) J K = k7 (iN k') J1 K1) ∧ TR Q1 J1 K1 tc tm k k' ∧ Q1 2 7 = iN (tc + 1) ∧ J1 0 10 = iN (tm + 1) ∧ fQ tc Q Q1 ∧ fJ tm J J1 K K1 ∧ ((g = 0 ∧ Q1 5 tc = iN 5) ∨ (g = 1 ∧ Q1 5 tc ≠ iN 4 ∧ Q1 5 tc ≠ iN 5))
theorem tk_step (hF : 2100 ≤ F) (h : TpR n Q J) (hW : WdT T Xp) (hK : KyM K) {tc tm k : Nat} (h7 : Q 2 7 = iN tc) (htc : tc ≤ 2000) (h10 : J 0 10 = iN tm) (htm : tm ≤ 400) (hk : k < n) : Stk n T F Xp Q J K tc tm k := by
  have hn := h.1
  have hav : av Q n k = Q 4 k := if_neg (by omega)
  have hby := (h.2.2.2 k hk).2
  have ek : iN k + 1 = iN (k + 1) := by rw [i_1, iN_add]
  have z10 : ¬ (1 : Int32) = 0 := by decide
  obtain ⟨y9, y10, y13, y32⟩ := by_ws hby
  have b255 := by_255 hby
  -- both, down to the byte
  have hC : ∀ k9, T_read_B9 F k9 Xp T (iN k) 1 Q = if Q 4 k = 32 then k9 (iN (k + 1)) 1 Q else if Q 4 k = 9 then k9 (iN (k + 1)) 1 Q else if Q 4 k = 10 then k9 (iN (k + 1)) 1 Q else if Q 4 k = 13 then k9 (iN (k + 1)) 1 Q else if isL (Q 4 k) = true then T_read_L74 F k9 Xp T F (iN k) (iN (k + 1)) Q else if isD (Q 4 k) = true then T_read_L134 F k9 Xp T F (iN k) (iN (k + 1)) 0 Q else if isG (Q 4 k) = true then (if Q 4 k = 0 then T_read_B184 F k9 Xp T (iN k) (iN (k + 1)) (Q 4 k) 5 Q else T_read_B184 F k9 Xp T (iN k) (iN (k + 1)) (Q 4 k) 2 Q) else T_read_B184 F k9 Xp T (iN k) (iN (k + 1)) 0 5 Q := by
    intro k9
    have s1 := t_let (T := T) h (show k ≤ 3000 by omega)
    have s2 := t_dig (T := T) h (show k ≤ 3000 by omega)
    have s3 := t_sgn (T := T) h (show k ≤ 3000 by omega)
    rw [hav] at s1 s2 s3
    unfold T_read_B9
    rw [h.2.1, if_neg (by rw [iN_le (by omega) (by omega)]; omega), if_neg z10, ldI_n (by omega) (by omega)]
    rw [lt_e, lt_e, ek, s1, Option.bind_some, s2, Option.bind_some, s3, Option.bind_some]
    cases isL (Q 4 k) <;> cases isD (Q 4 k) <;> cases isG (Q 4 k) <;> simp only [if_true, Bool.false_eq_true, if_false, if_neg z10]
  have hM : ∀ k7, M_cut_B7 F k7 (iN k) J K = if Q 4 k = 9 then k7 (iN (k + 1)) J K else if Q 4 k = 10 then k7 (iN (k + 1)) J K else if Q 4 k = 13 then k7 (iN (k + 1)) J K else if Q 4 k = 32 then k7 (iN (k + 1)) J K else if isL (Q 4 k) = true then M_cut_L85 F k7 F (iN k) 0 0 J K else if isD (Q 4 k) = true then M_cut_L208 F k7 F (iN k) 0 0 J K else (M_token (sgM (Q 4 k)) (iN k) 0 0 J K).bind fun r10 => k7 (iN (k + 1)) r10.1 r10.2 := by
    intro k7
    have s1 := m_at h (show k ≤ 3000 by omega)
    have s2 := m_at h (show k + 1 ≤ 3000 by omega)
    rw [hav] at s1
    have e400 : (400 : Int32) = iN 400 := rfl
    simp (disch := omega) only [M_cut_B7, h10, e400, iN_lt, if_neg (show ¬ 400 < tm by omega), s1, Option.bind_some, h.2.2.1, if_pos hk, m_let, m_dig, b255.1, b255.2.1, ek, s2, m_sgn, b255.2.2.2.1, lt_e]
    simp only [← y9, ← y10, ← y13, ← y32]
    cases isL (Q 4 k) <;> cases isD (Q 4 k) <;> simp only [if_true, Bool.false_eq_true, if_false, if_neg z10]
    all_goals (cases M_token (sgM (Q 4 k)) (iN k) 0 0 J K with
      | none => rfl
      | some r => simp only [Option.bind_some, ek])
  by_cases w1 : Q 4 k = 32
  · left
    refine ⟨fun k9 => by rw [hC, if_pos w1], fun k7 => ?_⟩
    rw [hM, w1, if_neg (by decide), if_neg (by decide), if_neg (by decide), if_pos rfl]
  by_cases w2 : Q 4 k = 9
  · left
    exact ⟨fun k9 => by rw [hC, if_neg w1, if_pos w2], fun k7 => by rw [hM, if_pos w2]⟩
  by_cases w3 : Q 4 k = 10
  · left
    exact ⟨fun k9 => by rw [hC, if_neg w1, if_neg w2, if_pos w3], fun k7 => by rw [hM, if_neg w2, if_pos w3]⟩
  by_cases w4 : Q 4 k = 13
  · left
    exact ⟨fun k9 => by rw [hC, if_neg w1, if_neg w2, if_neg w3, if_pos w4], fun k7 => by rw [hM, if_neg w2, if_neg w3, if_pos w4]⟩
  right
  -- a token is laid
  have fin : ∀ (s k' : Nat) (w kd v : Int32) (nm : Int64), s ≤ 5 → s ≠ 4 → k < k' → k' ≤ n → w.toInt16.toInt32.toInt16.toInt32 = w → (∀ k9, T_read_B9 F k9 Xp T (iN k) 1 Q = T_read_B186 F k9 Xp T (iN k) (iN k') (iN s) w Q) → (∀ k7, M_cut_B7 F k7 (iN k) J K = (M_token kd (iN k) v nm J K).bind fun r => k7 (iN k') r.1 r.2) → ((s = 0 ∧ kd = iN 1 ∧ 1 ≤ k' - k ∧ k' - k ≤ 8 ∧ allL (seg (Q 4) k (k' - k)) ∧ nm = c27 (seg (Q 4) k (k' - k))) ∨ (s = 1 ∧ kd = iN 2 ∧ ∃ x, x ≤ 9999 ∧ v = iN x ∧ nv (Q 4) k (k' - k) = iN x) ∨ (s = 2 ∧ isG w = true ∧ kd = sgM w) ∨ (s = 3 ∧ ∃ x, x < 21 ∧ w = iN x ∧ kd = iN (20 + x)) ∨ (s = 5 ∧ kd = iN 3)) → ∃ k' g Q1 J1 K1, k < k' ∧ k' ≤ n ∧ (∀ k9, T_read_B9 F k9 Xp T (iN k) 1 Q = k9 (iN k') g Q1) ∧ (∀ k7, M_cut_B7 F k7 (iN k) J K = k7 (iN k') J1 K1) ∧ TR Q1 J1 K1 tc tm k k' ∧ Q1 2 7 = iN (tc + 1) ∧ J1 0 10 = iN (tm + 1) ∧ fQ tc Q Q1 ∧ fJ tm J J1 K K1 ∧ ((g = 0 ∧ Q1 5 tc = iN 5) ∨ (g = 1 ∧ Q1 5 tc ≠ iN 4 ∧ Q1 5 tc ≠ iN 5)) := by
    intro s k' w kd v nm hs hs4 hk1 hk2 hw hc hm hcase
    obtain ⟨Q1, a1, a2, a3, a4, a5, a6, a7, a8, a9⟩ := t_add h7 htc hs (show k ≤ 2000 by omega) (show k' ≤ 2000 by omega) hw
    obtain ⟨J1, K1, b1, b2, b3, b4, b5, b6, b7, b8, b9, b10, b11⟩ := m_tok (K := K) (kd := kd) (v := v) (p := iN k) (nm := nm) h10 htm
    have f1 : fQ tc Q Q1 := ⟨a7, a8, fun o i o1 o2 hi => a9 o i o1 o2 (by omega)⟩
    have f2 : fJ tm J J1 K K1 := ⟨b7, b8, fun o i o1 o2 hi => b9 o i o1 o2 (by omega), b10, fun i hi => b11 i (by omega)⟩
    have q4 : Q1 4 = Q 4 := a7 4 (by omega) (by omega)
    have hTR : TR Q1 J1 K1 tc tm k k' := by
      unfold TR
      rw [a2, a3, a4, a5, b2, b3, b4, b5, q4]
      refine ⟨rfl, rfl, rfl, by omega, by omega, ?_⟩
      rcases hcase with ⟨rfl, c2, c3, c4, c5, c6⟩ | ⟨rfl, c2, c3⟩ | ⟨rfl, c2, c3⟩ | ⟨rfl, c2⟩ | ⟨rfl, c2⟩
      · exact Or.inl ⟨rfl, c2, c3, c4, c5, c6⟩
      · exact Or.inr (Or.inl ⟨rfl, c2, c3⟩)
      · exact Or.inr (Or.inr (Or.inl ⟨rfl, c2, c3⟩))
      · exact Or.inr (Or.inr (Or.inr (Or.inl ⟨rfl, c2⟩)))
      · exact Or.inr (Or.inr (Or.inr (Or.inr (Or.inr ⟨rfl, c2⟩))))
    by_cases c5 : s = 5
    · subst c5
      refine ⟨k', 0, Q1, J1, K1, hk1, hk2, fun k9 => ?_, fun k7 => ?_, hTR, a6, b6, f1, f2, Or.inl ⟨rfl, a2⟩⟩
      · rw [hc]
        simp only [T_read_B186, T_read_B208, a1, Option.bind_some, if_pos (show iN 5 = 5 from rfl)]
      · rw [hm, b1, Option.bind_some]
    · refine ⟨k', 1, Q1, J1, K1, hk1, hk2, fun k9 => ?_, fun k7 => ?_, hTR, a6, b6, f1, f2, Or.inr ⟨rfl, ?_, ?_⟩⟩
      · rw [hc]
        simp only [T_read_B186, T_read_B208, a1, Option.bind_some, if_neg (show ¬ iN s = 5 by rw [i_5, iN_eq (by omega) (by omega)]; exact c5)]
      · rw [hm, b1, Option.bind_some]
      · rw [a2, Ne, iN_eq (by omega) (by omega)]; exact hs4
      · rw [a2, Ne, iN_eq (by omega) (by omega)]; exact c5
  by_cases cl : isL (Q 4 k) = true
  · -- letters
    obtain ⟨e1, r1, r2, r3, r4⟩ := run_ex (P := fun i => isL (av Q n i)) (n := n) (fun e he => (av_out (Q := Q) he).1) (n - (k + 1)) (k + 1) (by omega)
    have r3' : ∀ i, k ≤ i → i < e1 → isL (av Q n i) = true := fun i h1 h2 => by
      by_cases c : i = k
      · rw [c, hav]; exact cl
      · exact r3 i (by omega) h2
    have r5 : allL (seg (Q 4) k (e1 - k)) := by
      intro c hc
      obtain ⟨i, hi⟩ := List.mem_iff_getElem?.1 hc
      have hlt : i < e1 - k := by
        rcases Nat.lt_or_ge i (e1 - k) with h | h
        · exact h
        · rw [List.getElem?_eq_none (by rw [seg_len]; exact h)] at hi; cases hi
      rw [seg_get _ _ hlt] at hi
      have := r3' (k + i) (by omega) (by omega)
      unfold av at this
      rw [if_neg (by omega)] at this
      rw [← Option.some.inj hi]
      exact this
    have ee : iN e1 - iN k = iN (e1 - k) := iN_sub (by omega)
    have hc1 : ∀ k9, T_read_B9 F k9 Xp T (iN k) 1 Q = if wS (seg (Q 4) k (e1 - k)) 21 0 < 0 then (if e1 - k ≤ 8 then T_read_B186 F k9 Xp T (iN k) (iN e1) 0 (wS (seg (Q 4) k (e1 - k)) 21 0) Q else T_read_B186 F k9 Xp T (iN k) (iN e1) 5 (wS (seg (Q 4) k (e1 - k)) 21 0) Q) else T_read_B186 F k9 Xp T (iN k) (iN e1) 3 (wS (seg (Q 4) k (e1 - k)) 21 0) Q := by
      intro k9
      rw [hC, if_neg w1, if_neg w2, if_neg w3, if_neg w4, if_pos cl, tl_run h (by omega) r2 r3' r4 (e1 - (k + 1)) F (k + 1) (by omega) (by omega) (by omega), tw_ok hF (by omega) (by omega) hW, Option.bind_some, ee]
      have e8 : (8 : Int32) = iN 8 := rfl
      simp (disch := omega) only [e8, iN_le, T_read_B121]
    have hm1 : ∀ k7, M_cut_B7 F k7 (iN k) J K = if e1 - k ≤ 8 then M_cut_B135 F k7 (iN k) (iN (e1 - k)) (c27 (seg (Q 4) k (min (e1 - k) 8))) 1 J K else M_cut_B135 F k7 (iN k) (iN (e1 - k)) (c27 (seg (Q 4) k (min (e1 - k) 8))) 3 J K := by
      intro k7
      rw [hM, if_neg w2, if_neg w3, if_neg w4, if_neg w1, if_pos cl]
      exact ml_run h (by omega) r2 r3' r4 (e1 - k) F 0 (by omega) (by omega)
    have e7 : (7 : Int32) = iN 7 := rfl
    have ea : iN k + iN (e1 - k) = iN e1 := by rw [iN_add, show k + (e1 - k) = e1 by omega]
    have hlen : (seg (Q 4) k (e1 - k)).length = e1 - k := seg_len _
    rcases wS_c (seg (Q 4) k (e1 - k)) 1 with ⟨s1, s2, s3⟩ | ⟨w, s1, s2, s3, s4⟩
    · by_cases c8 : e1 - k ≤ 8
      · -- a name
        refine fin 0 e1 (-1) (iN 1) 0 (c27 (seg (Q 4) k (e1 - k))) (by omega) (by omega) (by omega) r2 i16m (fun k9 => ?_) (fun k7 => ?_) (Or.inl ⟨rfl, rfl, by omega, c8, r5, rfl⟩)
        · rw [hc1, s1, if_pos (by decide), if_pos c8]
          rfl
        · rw [hm1, if_pos c8, show min (e1 - k) 8 = e1 - k by omega]
          by_cases c7 : 7 < e1 - k
          · simp (disch := omega) only [M_cut_B135, M_cut_B179, e7, iN_lt, if_pos c7, lt_e, ea]
            rfl
          · have := mk_run (F := F) (J := J) (k := k) (c := e1 - k) (k7 := k7) hK r5 (by omega) 21 F 0 1 rfl (by omega)
            rw [s2] at this
            simp (disch := omega) only [M_cut_B135, e7, iN_lt, if_neg c7]
            rw [i_0, this]
            simp only [M_cut_B179, lt_e, ea]
            rfl
      · -- too long
        refine fin 5 e1 (-1) (iN 3) 0 (c27 (seg (Q 4) k (min (e1 - k) 8))) (by omega) (by omega) (by omega) r2 i16m (fun k9 => ?_) (fun k7 => ?_) (Or.inr (Or.inr (Or.inr (Or.inr ⟨rfl, rfl⟩))))
        · rw [hc1, s1, if_pos (by decide), if_neg c8]
          rfl
        · rw [hm1, if_neg c8]
          simp (disch := omega) only [M_cut_B135, M_cut_B179, e7, iN_lt, if_pos (show 7 < e1 - k by omega), lt_e, ea]
          rfl
    · -- a word
      obtain ⟨_, _, g6, g2⟩ := wd_ok w _ s4
      rw [hlen] at g6
      refine fin 3 e1 (iN w) (iN (20 + w)) 0 (c27 (seg (Q 4) k (e1 - k))) (by omega) (by omega) (by omega) r2 (i16 (by omega)) (fun k9 => ?_) (fun k7 => ?_) (Or.inr (Or.inr (Or.inr (Or.inl ⟨rfl, w, s1, rfl, rfl⟩))))
      · rw [hc1, s2, if_neg (by rw [i_0, iN_lt (by omega) (by omega)]; omega)]
        rfl
      · rw [hm1, if_pos (by omega), show min (e1 - k) 8 = e1 - k by omega]
        have := mk_run (F := F) (J := J) (k := k) (c := e1 - k) (k7 := k7) hK r5 (by omega) 21 F 0 1 rfl (by omega)
        rw [s3] at this
        simp (disch := omega) only [M_cut_B135, e7, iN_lt, if_neg (show ¬ 7 < e1 - k by omega)]
        rw [i_0, this]
        simp only [M_cut_B179, lt_e, ea]
        rfl
  by_cases cd : isD (Q 4 k) = true
  · -- digits
    obtain ⟨e1, r1, r2, r3, r4⟩ := run_ex (P := fun i => isD (av Q n i)) (n := n) (fun e he => (av_out (Q := Q) he).2) (n - (k + 1)) (k + 1) (by omega)
    have r3' : ∀ i, k ≤ i → i < e1 → isD (av Q n i) = true := fun i h1 h2 => by
      by_cases c : i = k
      · rw [c, hav]; exact cd
      · exact r3 i (by omega) h2
    have ee : iN e1 - iN k = iN (e1 - k) := iN_sub (by omega)
    have ea : iN k + iN (e1 - k) = iN e1 := by rw [iN_add, show k + (e1 - k) = e1 by omega]
    have hc1 : ∀ k9, T_read_B9 F k9 Xp T (iN k) 1 Q = if e1 - k ≤ 4 then T_read_B186 F k9 Xp T (iN k) (iN e1) 1 0 Q else T_read_B186 F k9 Xp T (iN k) (iN e1) 5 0 Q := by
      intro k9
      rw [hC, if_neg w1, if_neg w2, if_neg w3, if_neg w4, if_neg cl, if_pos cd, td_run h (by omega) r2 r3' r4 (e1 - (k + 1)) F (k + 1) (by omega) (by omega) (by omega), ee]
      have e4 : (4 : Int32) = iN 4 := rfl
      simp (disch := omega) only [e4, iN_le, T_read_B162]
    have hm1 : ∀ k7, M_cut_B7 F k7 (iN k) J K = if e1 - k ≤ 4 then M_cut_B261 F k7 (iN k) (iN (e1 - k)) (nv (Q 4) k (min (e1 - k) 4)) 2 J K else M_cut_B261 F k7 (iN k) (iN (e1 - k)) (nv (Q 4) k (min (e1 - k) 4)) 3 J K := by
      intro k7
      rw [hM, if_neg w2, if_neg w3, if_neg w4, if_neg w1, if_neg cl, if_pos cd]
      exact md_run h (by omega) r2 r3' r4 (e1 - k) F 0 (by omega) (by omega)
    by_cases c4 : e1 - k ≤ 4
    · obtain ⟨v, v1, v2⟩ := nv_b (f := Q 4) (p := k) (e1 - k) c4 (fun i hi => by
        have := r3' (k + i) (by omega) (by omega)
        unfold av at this
        rw [if_neg (by omega)] at this
        exact this)
      have hp : 10 ^ (e1 - k) ≤ 10 ^ 4 := Nat.pow_le_pow_right (by omega) c4
      refine fin 1 e1 0 (iN 2) (iN v) 0 (by omega) (by omega) (by omega) r2 (by decide) (fun k9 => ?_) (fun k7 => ?_) (Or.inr (Or.inl ⟨rfl, rfl, v, by omega, rfl, v2⟩))
      · rw [hc1, if_pos c4]
        rfl
      · rw [hm1, if_pos c4, show min (e1 - k) 4 = e1 - k by omega, v2]
        simp only [M_cut_B261, lt_e, ea]
        rfl
    · refine fin 5 e1 0 (iN 3) (nv (Q 4) k (min (e1 - k) 4)) 0 (by omega) (by omega) (by omega) r2 (by decide) (fun k9 => ?_) (fun k7 => ?_) (Or.inr (Or.inr (Or.inr (Or.inr ⟨rfl, rfl⟩))))
      · rw [hc1, if_neg c4]
        rfl
      · rw [hm1, if_neg c4]
        simp only [M_cut_B261, lt_e, ea]
        rfl
  · -- signs
    have hm1 : ∀ k7, M_cut_B7 F k7 (iN k) J K = (M_token (sgM (Q 4 k)) (iN k) 0 0 J K).bind fun r10 => k7 (iN (k + 1)) r10.1 r10.2 := fun k7 => by
      rw [hM, if_neg w2, if_neg w3, if_neg w4, if_neg w1, if_neg cl, if_neg cd]
    cases cg : isG (Q 4 k) with
    | true =>
      have hz : ¬ Q 4 k = 0 := by
        intro h0
        rw [h0] at cg
        exact absurd cg (by decide)
      refine fin 2 (k + 1) (Q 4 k) (sgM (Q 4 k)) 0 0 (by omega) (by omega) (by omega) (by omega) (i16y hby) (fun k9 => ?_) hm1 (Or.inr (Or.inr (Or.inl ⟨rfl, cg, rfl⟩)))
      rw [hC, if_neg w1, if_neg w2, if_neg w3, if_neg w4, if_neg cl, if_neg cd, if_pos cg, if_neg hz]
      rfl
    | false =>
      refine fin 5 (k + 1) 0 (sgM (Q 4 k)) 0 0 (by omega) (by omega) (by omega) (by omega) (by decide) (fun k9 => ?_) hm1 (Or.inr (Or.inr (Or.inr (Or.inr ⟨rfl, sg_no cg⟩))))
      rw [hC, if_neg w1, if_neg w2, if_neg w3, if_neg w4, if_neg cl, if_neg cd, if_neg (by rw [cg]; simp)]
      rfl
end CT
