/-! PURE LAW 23: the whole tape -/
set_option maxRecDepth 100000
section TA
variable {T : Th} {F n : Nat} {Xp : Jr}
theorem fQ.d {tc v : Nat} {Q : Ji} : fQ tc Q (uJ Q 2 7 (iN v)) := ⟨fun o _ o2 => uJ_o o2, fun i hi => uJ_sn hi, fun o i _ _ _ => by rw [uJ_o (by omega)]⟩
/-- the model's rest of the tape -/
theorem mt_tail (hF : 2100 ≤ F) (hW : WdT T Xp) : ∀ d m k tm (Q J : Ji) (K : Jl), k + d = n → d + 1 < m → TpR n Q J → KyM K → J 0 10 = iN tm → tm ≤ 401 → ∃ J1 K1, M_cut_L7 F m (iN k) J K = some (J1, K1) ∧ fJ tm J J1 K K1 := by
  intro d
  induction d using Nat.strongRecOn with
  | ind d ih =>
    intro m k tm Q J K hk hm h hK h10 htm
    obtain ⟨m, rfl⟩ : ∃ g, m = g + 1 := ⟨m - 1, by omega⟩
    have hn := h.1
    have e400 : (400 : Int32) = iN 400 := rfl
    by_cases c : 400 < tm
    · refine ⟨J, K, ?_, fJ.rf⟩
      simp (disch := omega) only [M_cut_L7, M_cut_B7, h10, e400, iN_lt, if_pos c]
    · by_cases ck : k < n
      · have hst := tk_step (Q := uJ Q 2 7 (iN 0)) (tc := 0) hF (h.f (fQ.d (tc := 0)) (fJ.rf (tm := 0) (K := K))) hW hK uJ_ss (by omega) h10 (by omega) ck
        rcases hst with ⟨_, s2⟩ | ⟨k', g, Q1, J1, K1, a1, a2, a3, a4, a5, a6, a7, a8, a9, a10⟩
        · obtain ⟨J2, K2, u1, u2⟩ := ih (d - 1) (by omega) m (k + 1) tm Q J K (by omega) (by omega) h hK h10 htm
          refine ⟨J2, K2, ?_, u2⟩
          rw [← u1]
          exact s2 _
        · obtain ⟨J2, K2, u1, u2⟩ := ih (n - k') (by omega) m k' (tm + 1) (uJ Q 2 7 (iN 0)) J1 K1 (by omega) (by omega) ((h.f (fQ.d (tc := 0)) a9)) (fun w L hL => by rw [a9.2.2.2.1 7 (by omega)]; exact hK w L hL) a7 (by omega)
          refine ⟨J2, K2, ?_, a9.tr u2 (by omega)⟩
          rw [← u1]
          exact a4 _
      · obtain ⟨J1, K1, b1, b2, b3, b4, b5, b6, b7, b8, b9, b10, b11⟩ := m_tok (K := K) (kd := 0) (v := 0) (p := iN n) (nm := 0) h10 (show tm ≤ 400 by omega)
        refine ⟨J1, K1, ?_, ⟨b7, b8, fun o i o1 o2 hi => b9 o i o1 o2 (by omega), b10, fun i hi => b11 i (by omega)⟩⟩
        have s1 := m_at h (show k ≤ 3000 by omega)
        simp (disch := omega) only [M_cut_L7, M_cut_B7, h10, e400, iN_lt, if_neg c, s1, Option.bind_some, h.2.2.1, if_neg ck, b1]
/-- the component's -/
theorem ct_tail (hF : 2100 ≤ F) (hW : WdT T Xp) : ∀ d m k tc (Q J : Ji) (K : Jl), k + d = n → d + 2 < m → TpR n Q J → KyM K → Q 2 7 = iN tc → tc ≤ k → ∃ Q1, T_read_L9 F Xp T m (iN k) 1 Q = some Q1 ∧ fQ tc Q Q1 := by
  intro d
  induction d using Nat.strongRecOn with
  | ind d ih =>
    intro m k tc Q J K hk hm h hK h7 htc
    obtain ⟨m, rfl⟩ : ∃ g, m = g + 1 := ⟨m - 1, by omega⟩
    have hn := h.1
    have z10 : ¬ (1 : Int32) = 0 := by decide
    by_cases ck : k < n
    · have hJd : fJ 0 J (uJ J 0 10 (iN 0)) K K := ⟨fun o o1 _ => uJ_o o1, fun i hi => uJ_sn hi, fun o i _ _ _ => by rw [uJ_o (by omega)], fun _ _ => rfl, fun _ _ => rfl⟩
      have hst := tk_step (J := uJ J 0 10 (iN 0)) (tm := 0) hF (h.f (fQ.rf (tc := 0)) hJd) hW hK h7 (by omega) uJ_ss (by omega) ck
      rcases hst with ⟨s1, _⟩ | ⟨k', g, Q1, J1, K1, a1, a2, a3, a4, a5, a6, a7, a8, a9, a10⟩
      · obtain ⟨Q2, u1, u2⟩ := ih (d - 1) (by omega) m (k + 1) tc Q J K (by omega) (by omega) h hK h7 (by omega)
        refine ⟨Q2, ?_, u2⟩
        rw [← u1]
        exact s1 _
      · rcases a10 with ⟨rfl, _⟩ | ⟨rfl, _⟩
        · refine ⟨Q1, ?_, a8⟩
          have e0 : T_read_L9 F Xp T (m + 1) (iN k) 1 Q = T_read_L9 F Xp T m (iN k') 0 Q1 := a3 _
          rw [e0]
          obtain ⟨m, rfl⟩ : ∃ g, m = g + 1 := ⟨m - 1, by omega⟩
          by_cases cc : Q1 2 2 ≤ iN k'
          · simp only [T_read_L9, T_read_B9, T_read_B215, if_pos cc, if_true]
          · simp only [T_read_L9, T_read_B9, T_read_B215, if_neg cc, if_true]
        · obtain ⟨Q2, u1, u2⟩ := ih (n - k') (by omega) m k' (tc + 1) Q1 J K (by omega) (by omega) (h.f a8 (fJ.rf (tm := 0) (K := K))) hK a6 (by omega)
          refine ⟨Q2, ?_, a8.tr u2 (by omega)⟩
          rw [← u1]
          exact a3 _
    · obtain ⟨Q1, a1, a2, a3, a4, a5, a6, a7, a8, a9⟩ := t_add (s := 4) (p := k) (q := k) (w := 0) h7 (by omega) (by omega) (by omega) (by omega) (by decide)
      refine ⟨Q1, ?_, ⟨a7, a8, fun o i o1 o2 hi => a9 o i o1 o2 (by omega)⟩⟩
      have e4 : (4 : Int32) = iN 4 := rfl
      simp (disch := omega) only [T_read_L9, T_read_B9, T_read_B215, h.2.1, iN_le, if_pos (show n ≤ k by omega), if_neg z10, e4, a1, Option.bind_some]
/-- N tokens, alike on both sides; where they begin, where they end -/
def TkS (Q J : Ji) (K : Jl) (N : Nat) (P E : Nat → Nat) : Prop := (∀ i, i < N → TR Q J K i i (P i) (E i)) ∧ (∀ i j, i < j → j < N → P i < P j) ∧ (∀ i, i + 1 < N → Q 5 i ≠ iN 4 ∧ Q 5 i ≠ iN 5) ∧ 1 ≤ N ∧ N ≤ 401 ∧ (N = 401 ∨ Q 5 (N - 1) = iN 4 ∨ Q 5 (N - 1) = iN 5)
theorem tk_L (hF : 2100 ≤ F) (hW : WdT T Xp) : ∀ d m m2 k t (Q J : Ji) (K : Jl) (P E : Nat → Nat), k + d = n → d + 2 < m → d + 1 < m2 → TpR n Q J → KyM K → Q 2 7 = iN t → J 0 10 = iN t → t ≤ k → t ≤ 401 → (∀ i, i < t → TR Q J K i i (P i) (E i)) → (∀ i j, i < j → j < t → P i < P j) → (∀ i, i < t → P i < k) → (∀ i, i < t → Q 5 i ≠ iN 4 ∧ Q 5 i ≠ iN 5) → ∃ Q1 J1 K1 N P1 E1, T_read_L9 F Xp T m (iN k) 1 Q = some Q1 ∧ M_cut_L7 F m2 (iN k) J K = some (J1, K1) ∧ TkS Q1 J1 K1 N P1 E1 ∧ fQ 0 Q Q1 ∧ fJ 0 J J1 K K1 := by
  intro d
  induction d using Nat.strongRecOn with
  | ind d ih =>
    intro m m2 k t Q J K P E hk hm hm2 h hK h7 h10 htk ht hTR hP hPk hG
    have hn := h.1
    have e400 : (400 : Int32) = iN 400 := rfl
    have z10 : ¬ (1 : Int32) = 0 := by decide
    by_cases c : t = 401
    · subst c
      obtain ⟨Q1, u1, u2⟩ := ct_tail (F := F) hF hW d m k 401 Q J K hk hm h hK h7 htk
      refine ⟨Q1, J, K, 401, P, E, u1, ?_, ⟨fun i hi => (hTR i hi).f hi hi u2 (fJ.rf (tm := 401)), hP, fun i hi => ?_, by omega, by omega, Or.inl rfl⟩, ⟨u2.1, u2.2.1, fun o i _ _ hi => by omega⟩, ⟨fun _ _ _ => rfl, fun _ _ => rfl, fun o i _ _ hi => by omega, fun _ _ => rfl, fun i hi => by omega⟩⟩
      · obtain ⟨m2, rfl⟩ : ∃ g, m2 = g + 1 := ⟨m2 - 1, by omega⟩
        simp (disch := omega) only [M_cut_L7, M_cut_B7, h10, e400, iN_lt, if_pos (show 400 < 401 by omega)]
      · rw [u2.2.2 5 i (by omega) (by omega) (by omega)]
        exact hG i (by omega)
    · obtain ⟨m, rfl⟩ : ∃ g, m = g + 1 := ⟨m - 1, by omega⟩
      obtain ⟨m2, rfl⟩ : ∃ g, m2 = g + 1 := ⟨m2 - 1, by omega⟩
      by_cases ck : k < n
      · have hst := tk_step hF h hW hK h7 (by omega) h10 (by omega) ck
        rcases hst with ⟨s1, s2⟩ | ⟨k', g, Q1, J1, K1, a1, a2, a3, a4, a5, a6, a7, a8, a9, a10⟩
        · obtain ⟨Q2, J2, K2, N, P1, E1, u1, u2, u3, u4, u5⟩ := ih (d - 1) (by omega) m m2 (k + 1) t Q J K P E (by omega) (by omega) (by omega) h hK h7 h10 (by omega) ht hTR hP (fun i hi => by have := hPk i hi; omega) hG
          refine ⟨Q2, J2, K2, N, P1, E1, ?_, ?_, u3, u4, u5⟩
          · rw [← u1]; exact s1 _
          · rw [← u2]; exact s2 _
        · have hTR1 : ∀ i, i < t + 1 → TR Q1 J1 K1 i i ((fun i => if i = t then k else P i) i) ((fun i => if i = t then k' else E i) i) := by
            intro i hi
            by_cases ci : i = t
            · subst ci
              simp only [if_true]
              exact a5
            · simp only [if_neg ci]
              exact (hTR i (by omega)).f (by omega) (by omega) a8 a9
          have hP1 : ∀ i j, i < j → j < t + 1 → (fun i => if i = t then k else P i) i < (fun i => if i = t then k else P i) j := by
            intro i j hij hj
            by_cases cj : j = t
            · subst cj
              simp only [if_true, if_neg (show ¬ i = j by omega)]
              exact hPk i (by omega)
            · simp only [if_neg cj, if_neg (show ¬ i = t by omega)]
              exact hP i j hij (by omega)
          have hG1 : ∀ i, i < t → Q1 5 i ≠ iN 4 ∧ Q1 5 i ≠ iN 5 := fun i hi => by
            rw [a8.2.2 5 i (by omega) (by omega) hi]
            exact hG i hi
          rcases a10 with ⟨rfl, b1⟩ | ⟨rfl, b1, b2⟩
          · -- a bad one: the component stops, the model goes on
            obtain ⟨J2, K2, u1, u2⟩ := mt_tail (F := F) hF hW (n - k') m2 k' (t + 1) Q1 J1 K1 (by omega) (by omega) (h.f a8 a9) (fun w L hL => by rw [a9.2.2.2.1 7 (by omega)]; exact hK w L hL) a7 (by omega)
            refine ⟨Q1, J2, K2, t + 1, _, _, ?_, ?_, ⟨fun i hi => (hTR1 i hi).f hi hi (fQ.rf (tc := t + 1)) u2, hP1, fun i hi => hG1 i (by omega), by omega, by omega, Or.inr (Or.inr b1)⟩, ⟨a8.1, a8.2.1, fun o i _ _ hi => by omega⟩, ⟨fun o o1 o2 => by rw [u2.1 o o1 o2, a9.1 o o1 o2], fun i hi => by rw [u2.2.1 i hi, a9.2.1 i hi], fun o i _ _ hi => by omega, fun o ho => by rw [u2.2.2.2.1 o ho, a9.2.2.2.1 o ho], fun i hi => by omega⟩⟩
            · have e0 : T_read_L9 F Xp T (m + 1) (iN k) 1 Q = T_read_L9 F Xp T m (iN k') 0 Q1 := a3 _
              rw [e0]
              obtain ⟨m, rfl⟩ : ∃ g, m = g + 1 := ⟨m - 1, by omega⟩
              by_cases cc : Q1 2 2 ≤ iN k'
              · simp only [T_read_L9, T_read_B9, T_read_B215, if_pos cc, if_true]
              · simp only [T_read_L9, T_read_B9, T_read_B215, if_neg cc, if_true]
            · rw [← u1]; exact a4 _
          · obtain ⟨Q2, J2, K2, N, P1, E1, u1, u2, u3, u4, u5⟩ := ih (n - k') (by omega) m m2 k' (t + 1) Q1 J1 K1 _ _ (by omega) (by omega) (by omega) (h.f a8 a9) (fun w L hL => by rw [a9.2.2.2.1 7 (by omega)]; exact hK w L hL) a6 a7 (by omega) (by omega) hTR1 hP1 (fun i hi => by
              by_cases ci : i = t
              · simp only [if_pos ci]; omega
              · simp only [if_neg ci]
                have := hPk i (by omega)
                omega) (fun i hi => by
              by_cases ci : i = t
              · subst ci; exact ⟨b1, b2⟩
              · exact hG1 i (by omega))
            refine ⟨Q2, J2, K2, N, P1, E1, ?_, ?_, u3, ?_, ?_⟩
            · rw [← u1]; exact a3 _
            · rw [← u2]; exact a4 _
            · exact ⟨fun o o1 o2 => by rw [u4.1 o o1 o2, a8.1 o o1 o2], fun i hi => by rw [u4.2.1 i hi, a8.2.1 i hi], fun o i _ _ hi => by omega⟩
            · exact ⟨fun o o1 o2 => by rw [u5.1 o o1 o2, a9.1 o o1 o2], fun i hi => by rw [u5.2.1 i hi, a9.2.1 i hi], fun o i _ _ hi => by omega, fun o ho => by rw [u5.2.2.2.1 o ho, a9.2.2.2.1 o ho], fun i hi => by omega⟩
      · -- the end
        have hkn : k = n := by omega
        subst hkn
        obtain ⟨Q1, a1, a2, a3, a4, a5, a6, a7, a8, a9⟩ := t_add (s := 4) (p := k) (q := k) (w := 0) h7 (by omega) (by omega) (by omega) (by omega) (by decide)
        obtain ⟨J1, K1, b1, b2, b3, b4, b5, b6, b7, b8, b9, b10, b11⟩ := m_tok (K := K) (kd := 0) (v := 0) (p := iN k) (nm := 0) h10 (show t ≤ 400 by omega)
        have f1 : fQ t Q Q1 := ⟨a7, a8, fun o i o1 o2 hi => a9 o i o1 o2 (by omega)⟩
        have f2 : fJ t J J1 K K1 := ⟨b7, b8, fun o i o1 o2 hi => b9 o i o1 o2 (by omega), b10, fun i hi => b11 i (by omega)⟩
        refine ⟨Q1, J1, K1, t + 1, fun i => if i = t then k else P i, fun i => if i = t then k else E i, ?_, ?_, ⟨fun i hi => ?_, fun i j hij hj => ?_, fun i hi => ?_, by omega, by omega, Or.inr (Or.inl a2)⟩, ⟨a7, a8, fun o i _ _ hi => by omega⟩, ⟨b7, b8, fun o i _ _ hi => by omega, b10, fun i hi => by omega⟩⟩
        · have e4 : (4 : Int32) = iN 4 := rfl
          simp (disch := omega) only [T_read_L9, T_read_B9, T_read_B215, h.2.1, iN_le, if_pos (Nat.le_refl k), if_neg z10, e4, a1, Option.bind_some]
        · have s1 := m_at h (show k ≤ 3000 by omega)
          simp (disch := omega) only [M_cut_L7, M_cut_B7, h10, e400, iN_lt, if_neg (show ¬ 400 < t by omega), s1, Option.bind_some, h.2.2.1, if_neg (show ¬ k < k by omega), b1]
        · by_cases ci : i = t
          · subst ci
            simp only [if_true]
            unfold TR
            rw [a2, a3, a4, b2, b3]
            exact ⟨rfl, rfl, rfl, by omega, by omega, Or.inr (Or.inr (Or.inr (Or.inr (Or.inl ⟨rfl, rfl⟩))))⟩
          · simp only [if_neg ci]
            exact (hTR i (by omega)).f (by omega) (by omega) f1 f2
        · by_cases cj : j = t
          · subst cj
            simp only [if_true, if_neg (show ¬ i = j by omega)]
            exact hPk i (by omega)
          · simp only [if_neg cj, if_neg (show ¬ i = t by omega)]
            exact hP i j hij (by omega)
        · rw [a9 5 i (by omega) (by omega) (by omega)]
          exact hG i (by omega)
/-- both sides cut the tape into the same tokens -/
theorem tk_all (hF : 2100 ≤ F) {Q J : Ji} {K : Jl} (hW : WdT T Xp) (h : TpR n Q J) (hK : KyM K) : ∃ Q1 J1 K1 N P E, T_read F Xp T Q = some Q1 ∧ M_cut F J K = some (J1, K1) ∧ TkS Q1 J1 K1 N P E ∧ fQ 0 Q Q1 ∧ fJ 0 J J1 K K1 := by
  have hn := h.1
  have hQ0 : fQ 0 Q (uJ Q 2 7 (iN 0)) := fQ.d
  have hJ0 : fJ 0 J (uJ J 0 10 (iN 0)) K K := ⟨fun o o1 _ => uJ_o o1, fun i hi => uJ_sn hi, fun o i _ _ _ => by rw [uJ_o (by omega)], fun _ _ => rfl, fun _ _ => rfl⟩
  obtain ⟨Q1, J1, K1, N, P1, E1, u1, u2, u3, u4, u5⟩ := tk_L (F := F) (n := n) hF hW n F F 0 0 (uJ Q 2 7 (iN 0)) (uJ J 0 10 (iN 0)) K (fun _ => 0) (fun _ => 0) (by omega) (by omega) (by omega) (h.f hQ0 hJ0) hK uJ_ss uJ_ss (by omega) (by omega) (fun i hi => by omega) (fun i j _ hj => by omega) (fun i hi => by omega) (fun i hi => by omega)
  exact ⟨Q1, J1, K1, N, P1, E1, u1, u2, u3, hQ0.tr u4 (by omega), hJ0.tr u5 (by omega)⟩
end TA
