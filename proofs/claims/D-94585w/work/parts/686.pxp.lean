/-! PURE LAW 57: an expression -/
set_option maxRecDepth 100000
section XP
variable {g nc F N a : Nat} {P E : Nat → Nat} {K : Jl} {J Q : Ji} {T : Th} {Xp : Jr}
theorem FM.exp (hF : 1 ≤ F) (h : FM J) : M_expression F J = some (uJ J 0 60 0) := by
  have hf : FM (uJ J 0 60 0) := by
    obtain ⟨w, h1, h2, h3⟩ := h
    exact ⟨w, h1, h2, by rw [uJ_sn (by omega)]; exact h3⟩
  obtain ⟨f, hf1⟩ : ∃ f, F = f + 1 := ⟨F - 1, by omega⟩
  have e1 : M_expression_L12 F F = M_expression_L12 F (f + 1) := congrArg _ hf1
  unfold M_expression
  rw [lt_e, lt_e, e1]
  show M_expression_B12 F (M_expression_L12 F f) ((uJ J 0 60 0) 0 12) 1 (uJ J 0 60 0) = _
  unfold M_expression_B12
  rw [if_neg (show ¬ (1 : Int32) = 0 by decide), if_neg hf.n0.1]
theorem ex_ok (hF : 2100 ≤ F) (hg : g < 2) (hP : PT N P E a 0 Q J K) (h56 : J 0 56 = iN (420 * g + nc)) (hnc : nc ≤ a) (hH : HpB T a) :
    (∃ x a1 Q1 T1 J1 cx, R_sum_7 F Xp Q T = some (.inr (some x, Q1, T1)) ∧ M_expression F J = some J1 ∧ a < a1 ∧ PT N P E a1 0 Q1 J1 K ∧ ES g nc J J1 cx [] ∧ Nd T1 (a1 - a) x cx ∧ ExT T T1 a a1 ∧ qF Q Q1 ∧ Q1 9 5 = Q 9 5 ∧ nc + cx.length ≤ a1) ∨
    (∃ Q1 T1 J1, R_sum_7 F Xp Q T = some (.inl (Q1, Xp, T1)) ∧ M_expression F J = some J1 ∧ FT Q1 J1 ∧ FrJ g J J1 ∧ J1 0 49 = J 0 49 ∧ qF Q Q1 ∧ ExN T T1) := by
  have hNN := hP.n
  have ha := hP.2.1
  rw [r_s7]
  obtain ⟨J1, hJ1⟩ : ∃ J1, J1 = uJ J 0 60 0 := ⟨_, rfl⟩
  have hfe : FE J J1 := by
    rw [hJ1]
    exact ⟨fun p a1 a2 a3 a4 => uJ_o a1, fun i a1 a2 => uJ_sn a2⟩
  have hE : ES g nc J J1 [] [] := by
    refine ⟨⟨by rw [hJ1, uJ_ss]; rfl, fun i w hi => by cases hi⟩, ⟨by rw [hJ1, uJ_sn (by omega)]; exact h56, fun i e hi => by cases hi⟩, fun p i hp hi => by rw [hJ1, uJ_o (by omega)], fun p a1 a2 a3 a4 => hfe.1 p a1 a2 a3 a4, fun i a1 a2 a3 => hfe.2 i a2 a3, by rw [hJ1]; exact FrJ.u (by simp [wr_]), fun w hw => by cases hw⟩
  have hP1 : PT N P E a 0 Q J1 K := hfe.pt hP
  obtain ⟨f, hf1⟩ : ∃ f, F = f + 1 := ⟨F - 1, by omega⟩
  have e1 : M_expression_L12 F F = M_expression_L12 F (f + 1) := congrArg _ hf1
  have hM : M_expression F J = M_expression_L23 F (M_expression_L12 F f) F (iN 0) J1 := by
    unfold M_expression
    rw [lt_e, lt_e, ← hJ1, e1, hP1.2.2.2.2.2.1.2.2, l12_ok hP1]
  rw [hM]
  rcases s_ok (g := g) (nc := nc) (N := N) (P := P) (E := E) (K := K) (J0 := J) (Xp := Xp) hF hg 8 0 (by omega) (by omega) a Q J1 T [] [] f F hP1 hE (Or.inl rfl) (by simp) (by simp; omega) (by omega) (by omega) hH with ⟨x, a1, Q1, T1, J2, ce, pe, n1, m1, s1, s2, s3, s4, s5, s6, s7, s8, s9, s10, s11, s12, s13⟩ | ⟨Q1, T1, J2, s1, s2, s3, s4, s5, s6⟩
  · left
    have s4N := s4.2.1
    rw [s2]
    rw [List.nil_append] at s5
    rw [List.nil_append, List.nil_append] at s13
    rw [List.nil_append] at s5
    obtain ⟨m, rfl⟩ : ∃ m', m1 = m' + 1 := ⟨m1 - 1, by omega⟩
    obtain ⟨J3, q1, q2, q3⟩ := co_ok (F := F) (s := 0) (W := []) (p := pe) hF hg (Or.inl rfl) (by rw [List.nil_append]; exact s5) (by omega) (by have := s6.1; simp; omega) (fun w hw => ⟨s6.2 w hw, fun hs => by
      rcases hs with hs | hs
      · rcases s6.2 w hw with h | h | h | h <;> omega
      · exact hs.1 rfl⟩)
    have mz : ∀ k, J2 3 a1 ≠ iN k → M_is J2 (iN k) = some 0 := fun k hk => by rw [m_is s4 (iN k), if_neg hk]
    have e8 : M_is J2 8 = some 0 := mz 8 (s7 8 (Or.inl rfl))
    have e9 : M_is J2 9 = some 0 := mz 9 (s7 9 (Or.inr (Or.inl rfl)))
    have e10 : M_is J2 10 = some 0 := mz 10 (s7 10 (Or.inr (Or.inr (Or.inl rfl))))
    have e15 : M_is J2 15 = some 0 := mz 15 (s7 15 (Or.inr (Or.inr (Or.inr rfl))))
    have hop : J2 0 12 ≤ iN 0 := by rw [s4.2.2.2.2.2.1.2.2]; decide
    refine ⟨x, a1, Q1, T1, J3, ce ++ emis pe, s1, ?_, s3, q3.pt s4, q2, s8, s9, s12.1, s12.2, by rw [List.length_append, emis_l]; omega⟩
    have hB : M_expression_B145 F (M_expression_L12 F n1) (iN 0) J2 = some J3 := by
      simp only [M_expression_B145, M_expression_B186, M_expression_B204, e8, e9, e10, e15, Option.bind_some, if_true, if_pos hop, q1]
    show M_expression_B96 F (M_expression_L12 F n1) (M_expression_L96 F (M_expression_L12 F n1) m) (iN 0) J2 = some J3
    unfold M_expression_B96
    rw [m_is s4 7, Option.bind_some, if_pos hop, hB]
    exact ite_self _
  · right
    exact ⟨Q1, T1, J2, s1, s2, s3, s4.1, s4.2, s5, s6⟩
end XP
