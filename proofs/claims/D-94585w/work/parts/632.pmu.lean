/-! PURE LAW 30: what must come next; the model once it has failed -/
set_option maxRecDepth 100000
/-- a step without an answer -/
def PU (N : Nat) (P E : Nat → Nat) (a1 o : Nat) (Xp : Jr) (T : Th) (Q J : Ji) (K : Jl) (x : Option ((Ji × Jr × Th) ⊕ (Ji × Th))) (y : Option Ji) : Prop := (∃ Q1 J1, x = some (.inr (Q1, T)) ∧ y = some J1 ∧ PT N P E a1 o Q1 J1 K ∧ qF Q Q1 ∧ jF J J1 ∧ Q1 = uJ Q 9 3 (iN a1) ∧ J1 = uJ J 0 11 (iN a1)) ∨ ∃ Q1 J1, x = some (.inl (Q1, Xp, T)) ∧ y = some J1 ∧ FT Q1 J1 ∧ qF Q Q1 ∧ jF J J1
section MU
variable {T : Th} {F N a o : Nat} {P E : Nat → Nat} {Q J : Ji} {K : Jl} {Xp : Jr}
theorem p_sign (h : PT N P E a o Q J K) {c : Int32} {k : Nat} (hs : sgP c k) : PU N P E (a + 1) o Xp T Q J K (R_sign Xp c Q T) (M_must (iN k) J) := by
  have z10 : ¬ (1 : Int32) = 0 := by decide
  have hmis := m_is h (iN k)
  have hris := r_isSign (Xp := Xp) (T := T) h c
  have hk := k_sign h hs
  by_cases cc : J 3 a = iN k
  · have c2 := hk.2 cc
    have hne : Q 5 a ≠ iN 4 ∧ Q 5 a ≠ iN 5 := by rw [c2.1]; decide
    rw [if_pos cc] at hmis
    rw [if_pos c2] at hris
    rcases p_pass (Xp := Xp) (T := T) h hne with ⟨Q1, J1, a1, a2, a3, a4, a5, a6, a7⟩ | ⟨Q1, J1, a1, a2, a3, a4, a5, a6⟩
    · left
      refine ⟨Q1, J1, ?_, ?_, a3, a4, a5, a6, a7⟩
      · simp only [R_sign, xb, hris, Option.bind_some, if_neg z10, a1]
      · simp only [M_must, hmis, Option.bind_some, if_neg z10, a2]
    · right
      refine ⟨Q1, J1, ?_, ?_, ⟨_, _, a3⟩, a4, a5⟩
      · simp only [R_sign, xb, hris, Option.bind_some, if_neg z10, a1]
      · simp only [M_must, hmis, Option.bind_some, if_neg z10, a2]
  · right
    rw [if_neg cc] at hmis
    rw [if_neg (fun hh => cc (hk.1 hh))] at hris
    obtain ⟨Q1, J1, a1, a2, a3, a4, a5, a6⟩ := p_wrong (T := T) (w := 1) h (by omega) (by omega)
    refine ⟨Q1, J1, ?_, ?_, ⟨_, _, a3⟩, a4, a5⟩
    · simp only [R_sign, xb, hris, Option.bind_some, if_true, i_1, a1]
    · simp only [M_must, hmis, Option.bind_some, if_true, i_1, a2]
theorem p_word (h : PT N P E a o Q J K) {w : Nat} (hw : w < 21) : PU N P E (a + 1) o Xp T Q J K (R_word Xp (iN w) Q T) (M_must (iN (20 + w)) J) := by
  have z10 : ¬ (1 : Int32) = 0 := by decide
  have hmis := m_is h (iN (20 + w))
  have hris := r_isWord (Xp := Xp) (T := T) h (iN w)
  have hk := k_word h hw
  by_cases cc : J 3 a = iN (20 + w)
  · have c2 := hk.2 cc
    have hne : Q 5 a ≠ iN 4 ∧ Q 5 a ≠ iN 5 := by rw [c2.1]; decide
    rw [if_pos cc] at hmis
    rw [if_pos c2] at hris
    rcases p_pass (Xp := Xp) (T := T) h hne with ⟨Q1, J1, a1, a2, a3, a4, a5, a6, a7⟩ | ⟨Q1, J1, a1, a2, a3, a4, a5, a6⟩
    · left
      refine ⟨Q1, J1, ?_, ?_, a3, a4, a5, a6, a7⟩
      · simp only [R_word, xb, hris, Option.bind_some, if_neg z10, a1]
      · simp only [M_must, hmis, Option.bind_some, if_neg z10, a2]
    · right
      refine ⟨Q1, J1, ?_, ?_, ⟨_, _, a3⟩, a4, a5⟩
      · simp only [R_word, xb, hris, Option.bind_some, if_neg z10, a1]
      · simp only [M_must, hmis, Option.bind_some, if_neg z10, a2]
  · right
    rw [if_neg cc] at hmis
    rw [if_neg (fun hh => cc (hk.1 hh))] at hris
    obtain ⟨Q1, J1, a1, a2, a3, a4, a5, a6⟩ := p_wrong (T := T) (w := 1) h (by omega) (by omega)
    refine ⟨Q1, J1, ?_, ?_, ⟨_, _, a3⟩, a4, a5⟩
    · simp only [R_word, xb, hris, Option.bind_some, if_true, i_1, a1]
    · simp only [M_must, hmis, Option.bind_some, if_true, i_1, a2]
theorem FT.n0 {Q J : Ji} (h : FT Q J) : ¬ J 0 13 = 0 ∧ ¬ J 0 13 ≤ 0 ∧ 0 < J 0 13 := by
  obtain ⟨w, p, f1, f2, f3, f4, f5, f6, f7⟩ := h
  rw [f6, i_0, iN_eq (by omega) (by omega), iN_le (by omega) (by omega), iN_lt (by omega) (by omega)]
  omega
/-- a statement begins, where there is room for one more -/
theorem p_begins (h : PT N P E a o Q J K) (hk : Q 5 a = iN 3) {x y : Int32} : PU N P E (a + 1) o Xp T Q J K (R_begins Xp x y Q T) (M_roomFor x y J) := by
  have hne : Q 5 a ≠ iN 4 ∧ Q 5 a ≠ iN 5 := by rw [hk]; decide
  have h5 : J 0 13 = 0 := h.2.2.2.2.1
  by_cases c : x = y
  · right
    obtain ⟨Q1, J1, a1, a2, a3, a4, a5, a6⟩ := p_wrong (T := T) (w := 2) h (by omega) (by omega)
    have a1' : R_wrong T 2 Q = some Q1 := a1
    have a2' : M_fail 2 J = some J1 := a2
    have hft : FT Q1 J1 := ⟨_, _, a3⟩
    refine ⟨Q1, J1, ?_, ?_, hft, a4, a5⟩
    · simp only [R_begins, if_pos c, a1', Option.bind_some]
    · simp only [M_roomFor, M_roomFor_B10, if_pos c, a2', Option.bind_some, if_neg hft.n0.1]
  · rcases p_pass (Xp := Xp) (T := T) h hne with ⟨Q1, J1, a1, a2, a3, a4, a5, a6, a7⟩ | ⟨Q1, J1, a1, a2, a3, a4, a5, a6⟩
    · left
      refine ⟨Q1, J1, ?_, ?_, a3, a4, a5, a6, a7⟩
      · simp only [R_begins, if_neg c, xb, a1, Option.bind_some]
      · simp only [M_roomFor, M_roomFor_B10, if_neg c, if_pos h5, a2, Option.bind_some]
    · right
      refine ⟨Q1, J1, ?_, ?_, ⟨_, _, a3⟩, a4, a5⟩
      · simp only [R_begins, if_neg c, xb, a1, Option.bind_some]
      · simp only [M_roomFor, M_roomFor_B10, if_neg c, if_pos h5, a2, Option.bind_some]
end MU
/-- the model has failed -/
def FM (J : Ji) : Prop := ∃ w, 1 ≤ w ∧ w ≤ 2 ∧ J 0 13 = iN w
theorem FT.fm {Q J : Ji} (h : FT Q J) : FM J := by
  obtain ⟨w, p, f1, f2, f3, f4, f5, f6, f7⟩ := h
  exact ⟨w, f1, f2, f6⟩
section FMs
variable {J : Ji} {K : Jl} {F : Nat}
theorem FM.n0 (h : FM J) : ¬ J 0 13 = 0 ∧ ¬ J 0 13 ≤ 0 ∧ 0 < J 0 13 := by
  obtain ⟨w, f1, f2, f6⟩ := h
  rw [f6, i_0, iN_eq (by omega) (by omega), iN_le (by omega) (by omega), iN_lt (by omega) (by omega)]
  omega
theorem FM.is_ (h : FM J) {k : Int32} : M_is J k = some 0 := by
  simp only [M_is, if_neg h.n0.1]
theorem FM.fail (h : FM J) {w : Int32} : M_fail w J = some J := by
  simp only [M_fail, if_neg h.n0.2.1]
theorem FM.failAt (h : FM J) {w t : Int32} : M_failAt w t J = some J := by
  simp only [M_failAt, if_neg h.n0.2.1]
theorem FM.must (h : FM J) {k : Int32} : M_must k J = some J := by
  simp only [M_must, h.is_, Option.bind_some, if_true, h.fail]
theorem FM.bounded (h : FM J) {x y : Int32} : M_bounded x y J = some (x, J) := by
  simp only [M_bounded, M_bounded_B15, if_pos h.n0.2.2, h.fail, Option.bind_some]
theorem FM.known (h : FM J) {s : Int32} : M_known F K s J = some (-1, J) := by
  simp only [M_known, lt_e, h.must, Option.bind_some, if_neg h.n0.2.1]
theorem FM.wrong (h : FM J) {w : Int32} {t : Nat} (ht : t < 403) : M_wrong w (iN t) J = some J := by
  simp (disch := omega) only [M_wrong, ldI_n, if_pos h.n0.2.2]
theorem FM.named (h : FM J) (hF : 1 ≤ F) : M_named F K J = some (J 0 11, J) := by
  obtain ⟨g, rfl⟩ : ∃ g, F = g + 1 := ⟨F - 1, by omega⟩
  unfold M_named
  rw [lt_e, h.must, Option.bind_some]
  show M_named_B12 (g + 1) (M_named_L12 (g + 1) K g) K (J 0 11) 0 J = _
  unfold M_named_B12
  by_cases c : J 0 20 ≤ 0
  · rw [if_pos c]
  · rw [if_neg c, if_neg h.n0.1]
end FMs
