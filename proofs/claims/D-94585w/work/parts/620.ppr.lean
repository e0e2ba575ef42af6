/-! PURE LAW 24: the parser's first steps -/
set_option maxRecDepth 100000
/-- the component's sort and what of a token, the model's kind -/
theorem tr_kind {Q J : Ji} {K : Jl} {i j p q : Nat} (h : TR Q J K i j p q) : (Q 5 i = iN 0 ∧ J 3 j = iN 1) ∨ (Q 5 i = iN 1 ∧ J 3 j = iN 2) ∨ (Q 5 i = iN 2 ∧ ((Q 8 i = 59 ∧ J 3 j = iN 4) ∨ (Q 8 i = 61 ∧ J 3 j = iN 5) ∨ (Q 8 i = 40 ∧ J 3 j = iN 6) ∨ (Q 8 i = 41 ∧ J 3 j = iN 7) ∨ (Q 8 i = 43 ∧ J 3 j = iN 8) ∨ (Q 8 i = 45 ∧ J 3 j = iN 9) ∨ (Q 8 i = 42 ∧ J 3 j = iN 10) ∨ (Q 8 i = 47 ∧ J 3 j = iN 15) ∨ (Q 8 i = 60 ∧ J 3 j = iN 13))) ∨ (Q 5 i = iN 3 ∧ ∃ w, w < 21 ∧ Q 8 i = iN w ∧ J 3 j = iN (20 + w)) ∨ (Q 5 i = iN 4 ∧ J 3 j = iN 0) ∨ (Q 5 i = iN 5 ∧ J 3 j = iN 3) := by
  obtain ⟨_, _, _, _, _, h⟩ := h
  rcases h with ⟨a1, a2, _⟩ | ⟨a1, a2, _⟩ | ⟨a1, a2, a3⟩ | ⟨a1, a2⟩ | ⟨a1, a2⟩ | ⟨a1, a2⟩
  · exact Or.inl ⟨a1, a2⟩
  · exact Or.inr (Or.inl ⟨a1, a2⟩)
  · refine Or.inr (Or.inr (Or.inl ⟨a1, ?_⟩))
    unfold isG at a2
    rw [decide_eq_true_eq] at a2
    rcases a2 with c | c | c | c | c | c | c | c | c <;> rw [c] at a3 ⊢
    · exact Or.inl ⟨rfl, a3⟩
    · exact Or.inr (Or.inl ⟨rfl, a3⟩)
    · exact Or.inr (Or.inr (Or.inl ⟨rfl, a3⟩))
    · exact Or.inr (Or.inr (Or.inr (Or.inl ⟨rfl, a3⟩)))
    · exact Or.inr (Or.inr (Or.inr (Or.inr (Or.inl ⟨rfl, a3⟩))))
    · exact Or.inr (Or.inr (Or.inr (Or.inr (Or.inr (Or.inl ⟨rfl, a3⟩)))))
    · exact Or.inr (Or.inr (Or.inr (Or.inr (Or.inr (Or.inr (Or.inl ⟨rfl, a3⟩))))))
    · exact Or.inr (Or.inr (Or.inr (Or.inr (Or.inr (Or.inr (Or.inr (Or.inl ⟨rfl, a3⟩)))))))
    · exact Or.inr (Or.inr (Or.inr (Or.inr (Or.inr (Or.inr (Or.inr (Or.inr ⟨rfl, a3⟩)))))))
  · exact Or.inr (Or.inr (Or.inr (Or.inl ⟨a1, a2⟩)))
  · exact Or.inr (Or.inr (Or.inr (Or.inr (Or.inl ⟨a1, a2⟩))))
  · exact Or.inr (Or.inr (Or.inr (Or.inr (Or.inr ⟨a1, a2⟩))))
/-- the worst that was told, on both sides -/
def WO (N : Nat) (P : Nat → Nat) (Q J : Ji) : Prop := (Q 9 5 = iN 0 ∧ J 0 15 = iN 0) ∨ ∃ w tk, 3 ≤ w ∧ w ≤ 5 ∧ tk < N ∧ Q 9 5 = iN w ∧ J 0 15 = iN w ∧ Q 9 6 = iN tk ∧ J 0 16 = iN (P tk)
/-- both stand before the token a, nothing wrong -/
def PT (N : Nat) (P E : Nat → Nat) (a o : Nat) (Q J : Ji) (K : Jl) : Prop := TkS Q J K N P E ∧ a < N ∧ Q 9 3 = iN a ∧ J 0 11 = iN a ∧ J 0 13 = iN 0 ∧ (o ≤ 6 ∧ Q 9 4 = iN o ∧ J 0 12 = iN o) ∧ WO N P Q J
/-- both have failed, alike -/
def FTx (w p : Nat) (Q J : Ji) : Prop := 1 ≤ w ∧ w ≤ 2 ∧ p ≤ 2000 ∧ Q 1 6 = iN w ∧ Q 1 7 = iN p ∧ J 0 13 = iN w ∧ J 0 14 = iN p
def FT (Q J : Ji) : Prop := ∃ w p, FTx w p Q J
/-- what the parser leaves of the component's: all but its own numbers, the fault -/
def qF (Q Q1 : Ji) : Prop := (∀ o, o ≠ 1 → o ≠ 9 → Q1 o = Q o) ∧ (∀ i, i ≠ 6 → i ≠ 7 → Q1 1 i = Q 1 i) ∧ ∀ i, (i < 3 ∨ 6 < i) → Q1 9 i = Q 9 i
theorem qF.rf {Q : Ji} : qF Q Q := ⟨fun _ _ _ => rfl, fun _ _ _ => rfl, fun _ _ => rfl⟩
theorem qF.tr {Q Q1 Q2 : Ji} (h : qF Q Q1) (h2 : qF Q1 Q2) : qF Q Q2 := ⟨fun o a c => by rw [h2.1 o a c, h.1 o a c], fun i a c => by rw [h2.2.1 i a c, h.2.1 i a c], fun i a => by rw [h2.2.2 i a, h.2.2 i a]⟩
theorem qF.u9 {Q : Ji} {i : Nat} {v : Int32} (h : 3 ≤ i) (h2 : i ≤ 6) : qF Q (uJ Q 9 i v) := ⟨fun o _ o2 => uJ_o o2, fun j _ _ => by rw [uJ_o (by omega)], fun j hj => uJ_sn (by omega)⟩
/-- what the parser's steps leave of the model's numbers -/
def jF (J J1 : Ji) : Prop := (∀ o, o ≠ 0 → J1 o = J o) ∧ ∀ i, (i < 11 ∨ 16 < i) → J1 0 i = J 0 i
theorem jF.rf {J : Ji} : jF J J := ⟨fun _ _ => rfl, fun _ _ => rfl⟩
theorem jF.tr {J J1 J2 : Ji} (h : jF J J1) (h2 : jF J1 J2) : jF J J2 := ⟨fun o a => by rw [h2.1 o a, h.1 o a], fun i a => by rw [h2.2 i a, h.2 i a]⟩
theorem jF.u {J : Ji} {i : Nat} {v : Int32} (h : 11 ≤ i) (h2 : i ≤ 16) : jF J (uJ J 0 i v) := ⟨fun o o2 => uJ_o o2, fun j hj => uJ_sn (by omega)⟩
theorem TkS.fr {Q Q1 J J1 : Ji} {K : Jl} {N : Nat} {P E : Nat → Nat} (h : TkS Q J K N P E) (hQ : ∀ o, 4 ≤ o → o ≤ 8 → Q1 o = Q o) (hJ : ∀ o, 3 ≤ o → o ≤ 5 → J1 o = J o) : TkS Q1 J1 K N P E := by
  obtain ⟨h1, h2, h3, h4, h5, h6⟩ := h
  refine ⟨fun i hi => ?_, h2, fun i hi => by rw [hQ 5 (by omega) (by omega)]; exact h3 i hi, h4, h5, by rw [hQ 5 (by omega) (by omega)]; exact h6⟩
  unfold TR
  rw [hQ 4 (by omega) (by omega), hQ 5 (by omega) (by omega), hQ 6 (by omega) (by omega), hQ 7 (by omega) (by omega), hQ 8 (by omega) (by omega), hJ 3 (by omega) (by omega), hJ 4 (by omega) (by omega), hJ 5 (by omega) (by omega)]
  exact h1 i hi
section PR
variable {T : Th} {F N a o : Nat} {P E : Nat → Nat} {Q J : Ji} {K : Jl} {Xp : Jr}
theorem PT.n (h : PT N P E a o Q J K) : N ≤ 401 := h.1.2.2.2.2.1
theorem PT.tr (h : PT N P E a o Q J K) : TR Q J K a a (P a) (E a) := h.1.1 a h.2.1
theorem PT.pl (h : PT N P E a o Q J K) {i : Nat} (hi : i < N) : Q 6 i = iN (P i) ∧ J 4 i = iN (P i) ∧ P i ≤ 2000 := by
  obtain ⟨a1, a2, a3, a4, a5, _⟩ := h.1.1 i hi
  exact ⟨a1, a3, by omega⟩
/-- a fault at a token -/
theorem p_wrongAt (h : PT N P E a o Q J K) {w i : Nat} (hw : 1 ≤ w) (hw2 : w ≤ 2) (hi : i < N) : ∃ Q1 J1, R_wrongAt T (iN w) (iN i) Q = some Q1 ∧ M_failAt (iN w) (iN i) J = some J1 ∧ FTx w (P i) Q1 J1 ∧ qF Q Q1 ∧ jF J J1 ∧ J1 0 11 = J 0 11 := by
  have hN := h.n
  obtain ⟨p1, p2, p3⟩ := h.pl hi
  obtain ⟨_, _, _, _, f0, _⟩ := h
  refine ⟨uJ (uJ Q 1 6 (iN w)) 1 7 (iN (P i)), uJ (uJ J 0 13 (iN w)) 0 14 (iN (P i)), ?_, ?_, ⟨hw, hw2, p3, by rw [uJ_sn (by omega), uJ_ss], uJ_ss, by rw [uJ_sn (by omega), uJ_ss], uJ_ss⟩, ⟨fun o o1 _ => by rw [uJ_o o1, uJ_o o1], fun j j1 j2 => by rw [uJ_sn j2, uJ_sn j1], fun j _ => by rw [uJ_o (by omega), uJ_o (by omega)]⟩, ⟨fun o o1 => by rw [uJ_o o1, uJ_o o1], fun j hj => by rw [uJ_sn (by omega), uJ_sn (by omega)]⟩, by rw [uJ_sn (by omega), uJ_sn (by omega)]⟩
  · simp (disch := omega) only [R_wrongAt, F_of, ldI_n, p1, lt_e, Option.bind_some]
  · simp (disch := omega) only [M_failAt, f0, i_0, iN_le, if_pos (Nat.le_refl 0), lt_e, ldI_n, uJ_o, p2]
theorem m_failA {w : Int32} {a : Nat} (h : J 0 11 = iN a) : M_fail w J = M_failAt w (iN a) J := by
  unfold M_fail M_failAt
  by_cases c : J 0 13 ≤ 0
  · rw [if_pos c, if_pos c, lt_e, lt_e, uJ_sn (by omega), h]
  · rw [if_neg c, if_neg c]
theorem p_wrong (h : PT N P E a o Q J K) {w : Nat} (hw : 1 ≤ w) (hw2 : w ≤ 2) : ∃ Q1 J1, R_wrong T (iN w) Q = some Q1 ∧ M_fail (iN w) J = some J1 ∧ FTx w (P a) Q1 J1 ∧ qF Q Q1 ∧ jF J J1 ∧ J1 0 11 = J 0 11 := by
  obtain ⟨Q1, J1, a1, a2, a3, a4, a5, a6⟩ := p_wrongAt (T := T) h hw hw2 h.2.1
  refine ⟨Q1, J1, ?_, ?_, a3, a4, a5, a6⟩
  · unfold R_wrong
    rw [h.2.2.1, a1, Option.bind_some]
  · rw [m_failA h.2.2.2.1]
    exact a2
/-- on to the next token -/
theorem p_pass (h : PT N P E a o Q J K) (hk : Q 5 a ≠ iN 4 ∧ Q 5 a ≠ iN 5) : (∃ Q1 J1, R_pass Xp Q T = some (.inr (Q1, T)) ∧ M_goesOn J = some J1 ∧ PT N P E (a + 1) o Q1 J1 K ∧ qF Q Q1 ∧ jF J J1 ∧ Q1 = uJ Q 9 3 (iN (a + 1)) ∧ J1 = uJ J 0 11 (iN (a + 1))) ∨ ∃ Q1 J1, R_pass Xp Q T = some (.inl (Q1, Xp, T)) ∧ M_goesOn J = some J1 ∧ FTx 2 (P a) Q1 J1 ∧ qF Q Q1 ∧ jF J J1 ∧ J1 0 11 = J 0 11 := by
  have hN := h.n
  have h0 := h
  obtain ⟨h1, h2, h3, h4, h5, ⟨h6, h7, h8⟩, h9⟩ := h
  have e400 : (400 : Int32) = iN 400 := rfl
  by_cases c : a < 400
  · left
    have hlt : a + 1 < N := by
      rcases Nat.lt_or_ge (a + 1) N with hh | hh
      · exact hh
      · have hla := h1.2.2.2.2.2
        have : N - 1 = a := by omega
        rw [this] at hla
        rcases hla with hla | hla | hla
        · omega
        · exact absurd hla hk.1
        · exact absurd hla hk.2
    refine ⟨uJ Q 9 3 (iN (a + 1)), uJ J 0 11 (iN (a + 1)), ?_, ?_, ⟨h1.fr (fun o o1 o2 => uJ_o (by omega)) (fun o o1 o2 => uJ_o (by omega)), hlt, uJ_ss, uJ_ss, by rw [uJ_sn (by omega)]; exact h5, ⟨h6, by rw [uJ_sn (by omega)]; exact h7, by rw [uJ_sn (by omega)]; exact h8⟩, ?_⟩, qF.u9 (by omega) (by omega), jF.u (by omega) (by omega), rfl, rfl⟩
    · simp (disch := omega) only [R_pass, h3, e400, iN_lt, if_pos c, lt_e, i_1, iN_add]
    · simp (disch := omega) only [M_goesOn, h4, e400, iN_eq, if_neg (show ¬ a = 400 by omega), lt_e, i_1, iN_add]
    · unfold WO
      rw [uJ_sn (by omega), uJ_sn (by omega), uJ_sn (by omega), uJ_sn (by omega)]
      exact h9
  · right
    obtain ⟨Q1, J1, a1, a2, a3, a4, a5, a6⟩ := p_wrong (T := T) (w := 2) h0 (by omega) (by omega)
    refine ⟨Q1, J1, ?_, ?_, a3, a4, a5, a6⟩
    · simp (disch := omega) only [R_pass, h3, e400, iN_lt, if_neg c, i_2, a1, Option.bind_some]
    · simp (disch := omega) only [M_goesOn, h4, e400, iN_eq, if_pos (show a = 400 by omega), i_2, a2, Option.bind_some]
theorem m_is (h : PT N P E a o Q J K) (k : Int32) : M_is J k = some (if J 3 a = k then 1 else 0) := by
  have hN := h.n
  obtain ⟨h1, h2, h3, h4, h5, _⟩ := h
  simp (disch := omega) only [M_is, h5, i_0, if_true, h4, ldI_n]
  by_cases c : J 3 a = k
  · rw [if_pos c, if_pos c]
  · rw [if_neg c, if_neg c]
theorem r_isSign (h : PT N P E a o Q J K) (c : Int32) : R_isSign Xp c Q T = some (.inr (if Q 5 a = iN 2 ∧ Q 8 a = c then 1 else 0, Q, T)) := by
  have hN := h.n
  obtain ⟨h1, h2, h3, h4, h5, _⟩ := h
  simp (disch := omega) only [R_isSign, h3, ldI_n, i_2]
  by_cases c1 : Q 5 a = iN 2
  · by_cases c2 : Q 8 a = c
    · rw [if_pos c1, if_pos c2, if_pos ⟨c1, c2⟩]
    · rw [if_pos c1, if_neg c2, if_neg (fun hh => c2 hh.2)]
  · rw [if_neg c1, if_neg (fun hh => c1 hh.1)]
theorem r_isWord (h : PT N P E a o Q J K) (c : Int32) : R_isWord Xp c Q T = some (.inr (if Q 5 a = iN 3 ∧ Q 8 a = c then 1 else 0, Q, T)) := by
  have hN := h.n
  obtain ⟨h1, h2, h3, h4, h5, _⟩ := h
  simp (disch := omega) only [R_isWord, h3, ldI_n, i_3]
  by_cases c1 : Q 5 a = iN 3
  · by_cases c2 : Q 8 a = c
    · rw [if_pos c1, if_pos c2, if_pos ⟨c1, c2⟩]
    · rw [if_pos c1, if_neg c2, if_neg (fun hh => c2 hh.2)]
  · rw [if_neg c1, if_neg (fun hh => c1 hh.1)]
/-- signs, and the model's kinds for them -/
def sgP (c : Int32) (k : Nat) : Prop := (c = 59 ∧ k = 4) ∨ (c = 61 ∧ k = 5) ∨ (c = 40 ∧ k = 6) ∨ (c = 41 ∧ k = 7) ∨ (c = 43 ∧ k = 8) ∨ (c = 45 ∧ k = 9) ∨ (c = 42 ∧ k = 10) ∨ (c = 47 ∧ k = 15) ∨ (c = 60 ∧ k = 13)
theorem k_sign (h : PT N P E a o Q J K) {c : Int32} {k : Nat} (hs : sgP c k) : (Q 5 a = iN 2 ∧ Q 8 a = c) ↔ J 3 a = iN k := by
  have hk : k ≤ 15 ∧ 4 ≤ k := by rcases hs with ⟨_, h⟩ | ⟨_, h⟩ | ⟨_, h⟩ | ⟨_, h⟩ | ⟨_, h⟩ | ⟨_, h⟩ | ⟨_, h⟩ | ⟨_, h⟩ | ⟨_, h⟩ <;> omega
  rcases tr_kind h.tr with ⟨a1, a2⟩ | ⟨a1, a2⟩ | ⟨a1, a2⟩ | ⟨a1, w, w1, w2, w3⟩ | ⟨a1, a2⟩ | ⟨a1, a2⟩
  · rw [a1, a2, iN_eq (by omega) (by omega), iN_eq (by omega) (by omega)]
    exact ⟨fun hh => by omega, fun hh => by omega⟩
  · rw [a1, a2, iN_eq (by omega) (by omega), iN_eq (by omega) (by omega)]
    exact ⟨fun hh => by omega, fun hh => by omega⟩
  · rw [a1]
    rcases a2 with ⟨b1, b2⟩ | ⟨b1, b2⟩ | ⟨b1, b2⟩ | ⟨b1, b2⟩ | ⟨b1, b2⟩ | ⟨b1, b2⟩ | ⟨b1, b2⟩ | ⟨b1, b2⟩ | ⟨b1, b2⟩ <;> rw [b1, b2] <;> rcases hs with ⟨rfl, rfl⟩ | ⟨rfl, rfl⟩ | ⟨rfl, rfl⟩ | ⟨rfl, rfl⟩ | ⟨rfl, rfl⟩ | ⟨rfl, rfl⟩ | ⟨rfl, rfl⟩ | ⟨rfl, rfl⟩ | ⟨rfl, rfl⟩ <;> decide
  · rw [a1, w3, iN_eq (by omega) (by omega), iN_eq (by omega) (by omega)]
    exact ⟨fun hh => by omega, fun hh => by omega⟩
  · rw [a1, a2, iN_eq (by omega) (by omega), iN_eq (by omega) (by omega)]
    exact ⟨fun hh => by omega, fun hh => by omega⟩
  · rw [a1, a2, iN_eq (by omega) (by omega), iN_eq (by omega) (by omega)]
    exact ⟨fun hh => by omega, fun hh => by omega⟩
theorem k_word (h : PT N P E a o Q J K) {w : Nat} (hw : w < 21) : (Q 5 a = iN 3 ∧ Q 8 a = iN w) ↔ J 3 a = iN (20 + w) := by
  rcases tr_kind h.tr with ⟨a1, a2⟩ | ⟨a1, a2⟩ | ⟨a1, a2⟩ | ⟨a1, w', w1, w2, w3⟩ | ⟨a1, a2⟩ | ⟨a1, a2⟩
  · rw [a1, a2, iN_eq (by omega) (by omega), iN_eq (by omega) (by omega)]
    exact ⟨fun hh => by omega, fun hh => by omega⟩
  · rw [a1, a2, iN_eq (by omega) (by omega), iN_eq (by omega) (by omega)]
    exact ⟨fun hh => by omega, fun hh => by omega⟩
  · have : ∃ k, k ≤ 15 ∧ J 3 a = iN k := by
      rcases a2 with ⟨_, b2⟩ | ⟨_, b2⟩ | ⟨_, b2⟩ | ⟨_, b2⟩ | ⟨_, b2⟩ | ⟨_, b2⟩ | ⟨_, b2⟩ | ⟨_, b2⟩ | ⟨_, b2⟩ <;> exact ⟨_, by omega, b2⟩
    obtain ⟨k, k1, k2⟩ := this
    rw [a1, k2, iN_eq (by omega) (by omega), iN_eq (by omega) (by omega)]
    exact ⟨fun hh => by omega, fun hh => by omega⟩
  · have e1 : (iN w' = iN w) = (w' = w) := iN_eq (by omega) (by omega)
    have e2 : (iN (20 + w') = iN (20 + w)) = (20 + w' = 20 + w) := iN_eq (by omega) (by omega)
    rw [a1, w2, w3, e1, e2]
    exact ⟨fun hh => by omega, fun hh => ⟨rfl, by omega⟩⟩
  · rw [a1, a2, iN_eq (by omega) (by omega), iN_eq (by omega) (by omega)]
    exact ⟨fun hh => by omega, fun hh => by omega⟩
  · rw [a1, a2, iN_eq (by omega) (by omega), iN_eq (by omega) (by omega)]
    exact ⟨fun hh => by omega, fun hh => by omega⟩
/-- names 0, ints 1, the end 4 -/
theorem k_sort (h : PT N P E a o Q J K) {s k : Nat} (hs : (s = 0 ∧ k = 1) ∨ (s = 1 ∧ k = 2) ∨ (s = 4 ∧ k = 0) ∨ (s = 5 ∧ k = 3)) : Q 5 a = iN s ↔ J 3 a = iN k := by
  rcases tr_kind h.tr with ⟨a1, a2⟩ | ⟨a1, a2⟩ | ⟨a1, a2⟩ | ⟨a1, w', w1, w2, w3⟩ | ⟨a1, a2⟩ | ⟨a1, a2⟩
  · rw [a1, a2, iN_eq (by omega) (by omega), iN_eq (by omega) (by omega)]; omega
  · rw [a1, a2, iN_eq (by omega) (by omega), iN_eq (by omega) (by omega)]; omega
  · have : ∃ k, k ≤ 15 ∧ 4 ≤ k ∧ J 3 a = iN k := by
      rcases a2 with ⟨_, b2⟩ | ⟨_, b2⟩ | ⟨_, b2⟩ | ⟨_, b2⟩ | ⟨_, b2⟩ | ⟨_, b2⟩ | ⟨_, b2⟩ | ⟨_, b2⟩ | ⟨_, b2⟩ <;> exact ⟨_, by omega, by omega, b2⟩
    obtain ⟨k', k1, k1', k2⟩ := this
    rw [a1, k2, iN_eq (by omega) (by omega), iN_eq (by omega) (by omega)]; omega
  · rw [a1, w3, iN_eq (by omega) (by omega), iN_eq (by omega) (by omega)]; omega
  · rw [a1, a2, iN_eq (by omega) (by omega), iN_eq (by omega) (by omega)]; omega
  · rw [a1, a2, iN_eq (by omega) (by omega), iN_eq (by omega) (by omega)]; omega
theorem r_sort (h : PT N P E a o Q J K) : (Q 5 a ≠ iN 5 ∧ R_sort Xp Q T = some (.inr (Q 5 a, Q, T))) ∨ (Q 5 a = iN 5 ∧ ∃ Q1 J1, R_sort Xp Q T = some (.inl (Q1, Xp, T)) ∧ M_fail 1 J = some J1 ∧ FTx 1 (P a) Q1 J1 ∧ qF Q Q1 ∧ jF J J1 ∧ J1 0 11 = J 0 11) := by
  have hN := h.n
  have h3 := h.2.2.1
  have ha := h.2.1
  by_cases c : Q 5 a = iN 5
  · right
    obtain ⟨Q1, J1, a1, a2, a3, a4, a5, a6⟩ := p_wrong (T := T) (w := 1) h (by omega) (by omega)
    refine ⟨c, Q1, J1, ?_, a2, a3, a4, a5, a6⟩
    simp (disch := omega) only [R_sort, h3, ldI_n, i_5, if_pos c, i_1, a1, Option.bind_some]
  · left
    refine ⟨c, ?_⟩
    simp (disch := omega) only [R_sort, h3, ldI_n, i_5, if_neg c]
/-- what must be there, is; or both fail -/
def PO {α : Type} (N : Nat) (P E : Nat → Nat) (a1 o : Nat) (Xp : Jr) (T : Th) (Q J : Ji) (K : Jl) (x : Option ((Ji × Jr × Th) ⊕ (α × Ji × Th))) (y : Option Ji) (R : α → Prop) : Prop := (∃ v Q1 J1, x = some (.inr (v, Q1, T)) ∧ y = some J1 ∧ R v ∧ PT N P E a1 o Q1 J1 K ∧ qF Q Q1 ∧ jF J J1 ∧ Q1 = uJ Q 9 3 (iN a1) ∧ J1 = uJ J 0 11 (iN a1)) ∨ ∃ Q1 J1, x = some (.inl (Q1, Xp, T)) ∧ y = some J1 ∧ FT Q1 J1 ∧ qF Q Q1 ∧ jF J J1 ∧ J1 0 11 = J 0 11
theorem p_take (h : PT N P E a o Q J K) {s k : Nat} (hs : (s = 0 ∧ k = 1) ∨ (s = 1 ∧ k = 2)) : PO N P E (a + 1) o Xp T Q J K (R_take Xp (iN s) Q T) (M_must (iN k) J) (fun v => v = iN a ∧ Q 5 a = iN s) := by
  have hN := h.n
  have hk := k_sort h (s := s) (k := k) (by omega)
  have z10 : ¬ (1 : Int32) = 0 := by decide
  have hmis := m_is h (iN k)
  by_cases c : Q 5 a = iN s
  · have hne : Q 5 a ≠ iN 4 ∧ Q 5 a ≠ iN 5 := by
      rw [c, Ne, Ne, iN_eq (by omega) (by omega), iN_eq (by omega) (by omega)]
      omega
    have hsort : R_sort Xp Q T = some (.inr (Q 5 a, Q, T)) := by
      rcases r_sort (Xp := Xp) (T := T) h with ⟨_, r⟩ | ⟨r, _⟩
      · exact r
      · exact absurd r hne.2
    rw [if_pos (hk.1 c)] at hmis
    rcases p_pass (Xp := Xp) (T := T) h hne with ⟨Q1, J1, a1, a2, a3, a4, a5, a6, a7⟩ | ⟨Q1, J1, a1, a2, a3, a4, a5, a6⟩
    · left
      have e1 : iN (a + 1) - 1 = iN a := by rw [i_1, iN_sub (by omega)]; rfl
      refine ⟨iN a, Q1, J1, ?_, ?_, ⟨rfl, c⟩, a3, a4, a5, a6, a7⟩
      · simp only [R_take, xb, hsort, Option.bind_some, if_pos c, a1, a3.2.2.1, e1]
      · simp only [M_must, hmis, Option.bind_some, if_neg z10, a2]
    · right
      refine ⟨Q1, J1, ?_, ?_, ⟨_, _, a3⟩, a4, a5, a6⟩
      · simp only [R_take, xb, hsort, Option.bind_some, if_pos c, a1]
      · simp only [M_must, hmis, Option.bind_some, if_neg z10, a2]
  · right
    rw [if_neg (fun hh => c (hk.2 hh))] at hmis
    rcases r_sort (Xp := Xp) (T := T) h with ⟨r1, r2⟩ | ⟨r1, Q1, J1, r2, r3, r4, r5, r6, r7⟩
    · obtain ⟨Q1, J1, a1, a2, a3, a4, a5, a6⟩ := p_wrong (T := T) (w := 1) h (by omega) (by omega)
      refine ⟨Q1, J1, ?_, ?_, ⟨_, _, a3⟩, a4, a5, a6⟩
      · simp only [R_take, xb, r2, Option.bind_some, if_neg c, i_1, a1]
      · simp only [M_must, hmis, Option.bind_some, if_true, i_1, a2]
    · refine ⟨Q1, J1, ?_, ?_, ⟨_, _, r4⟩, r5, r6, r7⟩
      · simp only [R_take, xb, r2, Option.bind_some]
      · simp only [M_must, hmis, Option.bind_some, if_true, r3]
end PR
