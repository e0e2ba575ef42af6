/-! PURE LAW 28: numbers, names, what is known -/
set_option maxRecDepth 100000
theorem uJ_comm {J : Ji} {i j k : Nat} {x v w : Int32} (h1 : i ≠ j) (h2 : i ≠ k) : uJ (uJ (uJ J 0 i x) 0 j v) 0 k w = uJ (uJ (uJ J 0 j v) 0 k w) 0 i x := by
  funext o q
  simp only [uJ_ap]
  by_cases c0 : o = 0
  · subst c0
    by_cases ci : q = i
    · subst ci
      simp [h1, h2]
    · by_cases ck : q = k
      · subst ck
        simp [Ne.symm h2]
      · by_cases cj : q = j
        · subst cj
          simp [ci, ck]
        · simp [ci, ck, cj]
  · simp [c0]
theorem m_wrong_c {J : Ji} {w t x : Int32} : M_wrong w t (uJ J 0 11 x) = (M_wrong w t J).bind fun J2 => some (uJ J2 0 11 x) := by
  unfold M_wrong ldI M_wrong_B46
  cases ix t 403 with
  | none => rfl
  | some q =>
    simp only [Option.bind_some]
    rw [uJ_o (show 4 ≠ 0 by omega), uJ_sn (show 13 ≠ 11 by omega), uJ_sn (show 15 ≠ 11 by omega), uJ_sn (show 16 ≠ 11 by omega)]
    simp only [lt_e, uJ_comm (show 11 ≠ 15 by omega) (show 11 ≠ 16 by omega)]
    by_cases c1 : 0 < J 0 13
    · simp only [if_pos c1, Option.bind_some]
    · by_cases c2 : J 0 15 = 0
      · simp only [if_neg c1, if_pos c2, Option.bind_some]
      · by_cases c3 : J 0 16 < J 4 q
        · simp only [if_neg c1, if_neg c2, if_pos c3, Option.bind_some]
        · by_cases c4 : J 4 q = J 0 16
          · by_cases c5 : w < J 0 15
            · simp only [if_neg c1, if_neg c2, if_neg c3, if_pos c4, if_pos c5, Option.bind_some]
            · simp only [if_neg c1, if_neg c2, if_neg c3, if_pos c4, if_neg c5, Option.bind_some]
          · simp only [if_neg c1, if_neg c2, if_neg c3, if_neg c4, Option.bind_some]
section NK
variable {T : Th} {F N a o : Nat} {P E : Nat → Nat} {Q J : Ji} {K : Jl} {Xp : Jr}
/-- an int is taken -/
theorem p_int (hF : 2100 ≤ F) (h : PT N P E a o Q J K) {lo : Nat} {hi : Int32} (hlo : lo ≤ 1) : (∃ v, v ≤ 9999 ∧ R_take Xp 1 Q T = some (.inr (iN a, uJ Q 9 3 (iN (a + 1)), T)) ∧ T_number F (uJ Q 9 3 (iN (a + 1))) T (iN a) = some (iN v) ∧ PT N P E (a + 1) o (uJ Q 9 3 (iN (a + 1))) (uJ J 0 11 (iN (a + 1))) K ∧ M_bounded (iN lo) hi J = if iN v < iN lo ∨ ¬ iN v ≤ hi then (M_wrong 5 (iN a) (uJ J 0 11 (iN (a + 1)))).bind fun J1 => some (iN v, J1) else some (iN v, uJ J 0 11 (iN (a + 1)))) ∨ ∃ Q1 J1, R_take Xp 1 Q T = some (.inl (Q1, Xp, T)) ∧ (∃ v, M_bounded (iN lo) hi J = some (v, J1)) ∧ FT Q1 J1 ∧ qF Q Q1 ∧ jF J J1 := by
  have hN := h.n
  have h0 := h
  have z10 : ¬ (1 : Int32) = 0 := by decide
  have hmis := m_is h 2
  have n0 : ¬ (0 : Int32) < iN 0 := by decide
  have e400 : (400 : Int32) = iN 400 := rfl
  obtain ⟨h1, h2, h3, h4, h5, ⟨h6, h7, h8⟩, h9⟩ := h
  have hks := k_sort h0 (s := 1) (k := 2) (by omega)
  have e5 : (5 : Int32) = iN 5 := rfl
  by_cases ck : Q 5 a = iN 1
  · have hne : Q 5 a ≠ iN 4 ∧ Q 5 a ≠ iN 5 := by rw [ck]; decide
    obtain ⟨v, v1, v2, v3, v4, v5, v6, v7⟩ := h0.num ck
    have hk2 : J 3 a = 2 := hks.1 ck
    rw [if_pos hk2] at hmis
    have hsort : R_sort Xp Q T = some (.inr (Q 5 a, Q, T)) := by
      rcases r_sort (Xp := Xp) (T := T) h0 with ⟨_, r⟩ | ⟨r, _⟩
      · exact r
      · exact absurd r hne.2
    obtain ⟨Q2, J2, b1, b2, b3, b4, b5, b6, b7⟩ := p_tell (w := 5) (t := a) h0 (by omega) (by omega) h2
    have b2' : M_wrong 5 (iN a) J = some J2 := b2
    have hM : M_bounded (iN lo) hi J = if iN v < iN lo ∨ ¬ iN v ≤ hi then M_bounded_B51 (iN v) J2 else M_bounded_B51 (iN v) J := by
      unfold M_bounded
      rw [h5, if_neg n0, hmis, Option.bind_some, if_neg z10, h4, ldI_n (by omega) (by omega), v2]
      have hB42 : M_bounded_B42 (iN v) J = M_bounded_B51 (iN v) J2 := by
        simp only [M_bounded_B42, h4, b2', Option.bind_some]
      rw [hB42]
      by_cases c1 : iN v < iN lo
      · rw [if_pos c1, if_pos (Or.inl c1)]
      · by_cases c2 : iN v ≤ hi
        · rw [if_neg c1, if_pos c2, if_neg (fun hh => hh.elim c1 (fun h => h c2))]
        · rw [if_neg c1, if_neg c2, if_pos (Or.inr c2)]
    rcases p_pass (Xp := Xp) (T := T) h0 hne with ⟨Q1, J1, a1, a2, a3, a4, a5, a6, a7⟩ | ⟨Q1, J1, a1, a2, a3, a4, a5, a6⟩
    · left
      subst a6
      subst a7
      have e1 : iN (a + 1) - 1 = iN a := by rw [i_1, iN_sub (by omega)]; rfl
      have ha400 : a ≠ 400 := by
        intro hh
        have := a3.2.1
        omega
      have hgo : ∀ J2 : Ji, J2 0 11 = iN a → M_goesOn J2 = some (uJ J2 0 11 (iN (a + 1))) := fun J2 hj => by
        simp (disch := omega) only [M_goesOn, hj, e400, iN_eq, if_neg ha400, lt_e, i_1, iN_add]
      refine ⟨v, v1, ?_, ?_, a3, ?_⟩
      · simp only [R_take, xb, hsort, Option.bind_some, if_pos (show Q 5 a = 1 from ck), a1, a3.2.2.1, e1]
      · have := nu_ok (F := F) (T := T) (Q := uJ Q 9 3 (iN (a + 1))) hF (i := a) (p := P a) (q := E a) (by omega) v6 v7 (by rw [uJ_o (by omega)]; exact v4) (by rw [uJ_o (by omega)]; exact v5)
        rw [uJ_o (show 4 ≠ 9 by omega), v3] at this
        exact this
      · rw [hM, m_wrong_c, b2', Option.bind_some, Option.bind_some]
        simp only [M_bounded_B51, hgo J h4, hgo J2 b3.2.2.2.1, Option.bind_some]
    · right
      have ha400 : a = 400 := by
        rcases Nat.lt_or_ge a 400 with c | c
        · exfalso
          have hg : M_goesOn J = some (uJ J 0 11 (iN (a + 1))) := by
            simp (disch := omega) only [M_goesOn, h4, e400, iN_eq, if_neg (show ¬ a = 400 by omega), lt_e, i_1, iN_add]
          rw [hg] at a2
          have := Option.some.inj a2
          rw [← this, uJ_ss, h4, iN_eq (by omega) (by omega)] at a6
          omega
        · omega
      have hgo : ∀ J2 : Ji, J2 0 11 = iN a → M_goesOn J2 = M_fail (iN 2) J2 := fun J2 hj => by
        have : ∀ x : Option Ji, (x.bind fun r1 => some r1) = x := fun x => by cases x <;> rfl
        simp (disch := omega) only [M_goesOn, hj, e400, iN_eq, if_pos ha400, i_2, this]
      obtain ⟨Q4, J4, c1, c2, c3, c4, c5, c6⟩ := p_wrong (T := T) (w := 2) b3 (by omega) (by omega)
      have hx1 : M_bounded_B51 (iN v) J = some (iN v, J1) := by simp only [M_bounded_B51, a2, Option.bind_some]
      have hx2 : M_bounded_B51 (iN v) J2 = some (iN v, J4) := by simp only [M_bounded_B51, hgo J2 b3.2.2.2.1, c2, Option.bind_some]
      have hR : R_take Xp 1 Q T = some (.inl (Q1, Xp, T)) := by simp only [R_take, xb, hsort, Option.bind_some, if_pos (show Q 5 a = 1 from ck), a1]
      obtain ⟨d1, d2, d3, d4, d5, d6, d7⟩ := a3
      obtain ⟨f1, f2, f3, f4, f5, f6, f7⟩ := c3
      by_cases cc : iN v < iN lo ∨ ¬ iN v ≤ hi
      · exact ⟨Q1, J4, hR, ⟨iN v, by rw [hM, if_pos cc, hx2]⟩, ⟨2, P a, d1, d2, d3, d4, d5, f6, f7⟩, a4, b5.tr c5⟩
      · exact ⟨Q1, J1, hR, ⟨iN v, by rw [hM, if_neg cc, hx1]⟩, ⟨2, P a, d1, d2, d3, d4, d5, d6, d7⟩, a4, a5⟩
  · right
    have hk2 : ¬ J 3 a = 2 := fun hh => ck (hks.2 hh)
    rw [if_neg hk2] at hmis
    rcases p_take (Xp := Xp) (T := T) (s := 1) (k := 2) h0 (Or.inr ⟨rfl, rfl⟩) with ⟨v0, Q1, J1, a1, a2, ⟨a3, a4⟩, _⟩ | ⟨Q1, J1, a1, a2, a3, a4, a5, a6⟩
    · exact absurd a4 ck
    · refine ⟨Q1, J1, a1, ⟨iN lo, ?_⟩, a3, a4, a5⟩
      have a2' : M_must 2 J = some J1 := a2
      have : ∀ x : Option Ji, (x.bind fun r1 => some r1) = x := fun x => by cases x <;> rfl
      have hf : M_fail 1 J = some J1 := by
        simp only [M_must, hmis, Option.bind_some, if_true, this] at a2'
        exact a2'
      unfold M_bounded
      rw [h5, if_neg n0, hmis, Option.bind_some, if_pos rfl]
      simp only [M_bounded_B15, hf, Option.bind_some]
theorem p_number (hF : 2100 ≤ F) (h : PT N P E a o Q J K) {lo hi : Nat} (hlo : lo ≤ 1) (hhi : hi ≤ 9999) : (∃ v Q1 J1, R_number F Xp (iN lo) (iN hi) Q T = some (.inr (iN v, Q1, T)) ∧ M_bounded (iN lo) (iN hi) J = some (iN v, J1) ∧ v ≤ 9999 ∧ PT N P E (a + 1) o Q1 J1 K ∧ qF Q Q1 ∧ jF J J1 ∧ (Q1 9 5 = iN 0 → Q 9 5 = iN 0 ∧ lo ≤ v ∧ v ≤ hi)) ∨ ∃ Q1 J1, R_number F Xp (iN lo) (iN hi) Q T = some (.inl (Q1, Xp, T)) ∧ (∃ v, M_bounded (iN lo) (iN hi) J = some (v, J1)) ∧ FT Q1 J1 ∧ qF Q Q1 ∧ jF J J1 := by
  have hN := h.n
  have ha := h.2.1
  rcases p_int (F := F) (T := T) (Xp := Xp) (lo := lo) (hi := iN hi) hF h hlo with ⟨v, v1, v2, v3, v4, v5⟩ | ⟨Q1, J1, a1, a2, a3, a4, a5⟩
  · left
    have q1 : qF Q (uJ Q 9 3 (iN (a + 1))) := qF.u9 (by omega) (by omega)
    have j1 : jF J (uJ J 0 11 (iN (a + 1))) := jF.u (by omega) (by omega)
    by_cases c : lo ≤ v ∧ v ≤ hi
    · have c1 : ¬ iN v < iN lo := by rw [iN_lt (by omega) (by omega)]; omega
      have c2 : iN v ≤ iN hi := by rw [iN_le (by omega) (by omega)]; omega
      refine ⟨v, _, _, ?_, ?_, v1, v4, q1, j1, fun hh => ⟨by rw [uJ_sn (by omega)] at hh; exact hh, c⟩⟩
      · simp only [R_number, xb, v2, v3, Option.bind_some, if_neg c1, if_pos c2]
      · rw [v5, if_neg (fun hh => hh.elim c1 (fun h => h c2))]
    · obtain ⟨Q2, J2, b1, b2, b3, b4, b5, b6, b7⟩ := p_tell (w := 5) (t := a) v4 (by omega) (by omega) ha
      have b1' : R_tell 5 (iN a) (uJ Q 9 3 (iN (a + 1))) = some Q2 := b1
      have b2' : M_wrong 5 (iN a) (uJ J 0 11 (iN (a + 1))) = some J2 := b2
      have hc : iN v < iN lo ∨ ¬ iN v ≤ iN hi := by
        rw [iN_lt (by omega) (by omega), iN_le (by omega) (by omega)]
        omega
      refine ⟨v, Q2, J2, ?_, ?_, v1, b3, q1.tr b4, j1.tr b5, fun hh => absurd hh b6⟩
      · by_cases c1 : iN v < iN lo
        · simp only [R_number, R_number_B28, xb, v2, v3, Option.bind_some, if_pos c1, b1']
        · simp only [R_number, R_number_B28, xb, v2, v3, Option.bind_some, if_neg c1, if_neg (hc.resolve_left c1), b1']
      · rw [v5, if_pos hc, b2', Option.bind_some]
  · right
    refine ⟨Q1, J1, ?_, a2, a3, a4, a5⟩
    simp only [R_number, xb, a1, Option.bind_some]
theorem PT.nam (h : PT N P E a o Q J K) (hk : Q 5 a = iN 0) : Q 6 a = iN (P a) ∧ Q 7 a = iN (E a) ∧ P a ≤ E a ∧ E a ≤ 2000 ∧ E a - P a ≤ 8 ∧ allL (seg (Q 4) (P a) (E a - P a)) ∧ K 6 a = c27 (seg (Q 4) (P a) (E a - P a)) := by
  obtain ⟨b1, b2, b3, b4, b5, b6⟩ := h.tr
  rcases b6 with ⟨c1, c2, c3, c4, c5, c6⟩ | ⟨c1, _⟩ | ⟨c1, _⟩ | ⟨c1, _⟩ | ⟨c1, _⟩ | ⟨c1, _⟩
  · exact ⟨b1, b2, b4, b5, c4, c5, c6⟩
  · rw [hk] at c1; exact absurd c1 (by decide)
  · rw [hk] at c1; exact absurd c1 (by decide)
  · rw [hk] at c1; exact absurd c1 (by decide)
  · rw [hk] at c1; exact absurd c1 (by decide)
  · rw [hk] at c1; exact absurd c1 (by decide)
theorem seg_all {f : Nat → Int32} {p n : Nat} (h : allL (seg f p n)) : ∀ k, k < n → isL (f (p + k)) = true := fun k hk => h _ (List.mem_iff_getElem?.2 ⟨k, seg_get n k hk⟩)
theorem NtM.fr {J1 : Ji} {Nn : Nat} {sg id_ : Nat → Nat} {nm : Nat → Nat → List Int32} {cn : Nat → Nat} (h : NtM J K Nn sg id_ nm cn) (h9 : J1 9 = J 9) (h10 : J1 10 = J 10) (h20 : J1 0 20 = J 0 20) : NtM J1 K Nn sg id_ nm cn := by
  obtain ⟨a1, a2, a3, a4, a5, a6⟩ := h
  refine ⟨by rw [h20]; exact a1, a2, fun q hq => by rw [h9, h10]; exact a3 q hq, a4, a5, a6⟩
variable {Nn : Nat} {sg id_ : Nat → Nat} {nm : Nat → Nat → List Int32} {cn : Nat → Nat} {txa : Nat} {b : Nat → Nat} {f : Nat → Nat → Nat}
/-- what is known by a name -/
theorem p_known2 (hF : 2100 ≤ F) (h : PT N P E a o Q J K) (hB : HB T) (hS : RwS T txa b f cn nm) (hM : NtM J K Nn sg id_ nm cn) {s : Nat} (hs : s < 4) (h0 : (tL T).2.2.1 ≤ tN T) (hN : tN T + 4 ≤ (tL T).1) (hZ : tZ T + 32 ≤ (tL T).2.1) : (∃ v Q1 T1 J1, R_known F Xp (b (rw_ s)) Q T = some (.inr (v, Q1, T1)) ∧ M_known F K (iN s) J = some (v, J1) ∧ ((∃ i, i < cn s ∧ v = iN i ∧ Q1 9 5 = Q 9 5) ∨ (v = -1 ∧ Q1 9 5 ≠ iN 0)) ∧ PT N P E (a + 1) o Q1 J1 K ∧ qF Q Q1 ∧ jF J J1 ∧ ExN T T1 ∧ tN T1 = tN T + 4 ∧ tZ T1 ≤ tZ T + 32) ∨ ∃ Q1 J1, R_known F Xp (b (rw_ s)) Q T = some (.inl (Q1, Xp, T)) ∧ M_known F K (iN s) J = some (-1, J1) ∧ FT Q1 J1 ∧ qF Q Q1 ∧ jF J J1 := by
  have hNN := h.n
  have ha := h.2.1
  rcases p_take (Xp := Xp) (T := T) (s := 0) (k := 1) h (Or.inl ⟨rfl, rfl⟩) with ⟨v0, Q1, J1, a1, a2, ⟨a3, a4⟩, a5, a6, a7, a8, a9⟩ | ⟨Q1, J1, a1, a2, a3, a4, a5, a6⟩
  · left
    subst a3
    subst a8
    subst a9
    obtain ⟨n1, n2, n3, n4, n5, n6, n7⟩ := h.nam a4
    obtain ⟨t, T1, t1, t2, t3, t4, t5, t6⟩ := tx_ok (F := F) (T := T) (Q := uJ Q 9 3 (iN (a + 1))) (i := a) (p := P a) (q := E a) hF (by omega) n3 n4 n5 (by rw [uJ_o (by omega)]; exact n1) (by rw [uJ_o (by omega)]; exact n2) (fun k hk => by rw [uJ_o (by omega)]; exact seg_all n6 k hk) h0 hN hZ
    rw [uJ_o (show 4 ≠ 9 by omega)] at t3
    have hlen : (seg (Q 4) (P a) (E a - P a)).length ≤ 8 := by rw [seg_len]; exact n5
    obtain ⟨_, r2, r3⟩ := (hS.ex hB t4).2 s hs
    have hat := at_ok hF (by omega) r3 t3 hlen
    have hMf : NtM (uJ J 0 11 (iN (a + 1))) K Nn sg id_ nm cn := hM.fr (uJ_o (by omega)) (uJ_o (by omega)) (uJ_sn (by omega))
    have hkn := kn_L (F := F) (s := s) (t := a) hMf hs (by omega) (by omega) n6 hlen n7 Nn F 0 (by omega) (by have := hM.2.1; omega) (fun r hr => by omega)
    have hf13 : uJ J 0 11 (iN (a + 1)) 0 13 ≤ 0 := by rw [a5.2.2.2.2.1]; decide
    have a2' : M_must 1 J = some (uJ J 0 11 (iN (a + 1))) := a2
    have hMk : M_known F K (iN s) J = M_known_L21 F K F (iN s) (iN a) (iN 0) (uJ J 0 11 (iN (a + 1))) := by
      unfold M_known
      rw [h.2.2.2.1, lt_e, a2', Option.bind_some, if_pos hf13, i_0]
    have a1' : R_take Xp 0 Q T = some (.inr (iN a, uJ Q 9 3 (iN (a + 1)), T)) := a1
    rcases hkn with ⟨i, i1, i2, i3⟩ | ⟨i2, i3⟩
    · refine ⟨iN i, _, T1, _, ?_, by rw [hMk, i3], Or.inl ⟨i, i1, rfl, uJ_sn (by omega)⟩, a5, a6, a7, t4, t5, t6⟩
      simp only [R_known, xb, a1', t1, Option.bind_some, hat, i2, if_pos (show (0 : Int32) ≤ iN i by rw [i_0, iN_le (by omega) (by omega)]; omega)]
    · obtain ⟨Q2, J2, b1, b2, b3, b4, b5, b6, b7⟩ := p_tell (w := 4) (t := a) a5 (by omega) (by omega) ha
      have b1' : R_tell 4 (iN a) (uJ Q 9 3 (iN (a + 1))) = some Q2 := b1
      have b2' : M_wrong 4 (iN a) (uJ J 0 11 (iN (a + 1))) = some J2 := b2
      refine ⟨-1, Q2, T1, J2, ?_, by rw [hMk, i3, b2', Option.bind_some], Or.inr ⟨rfl, b6⟩, b3, a6.tr b4, a7.tr b5, t4, t5, t6⟩
      simp only [R_known, xb, a1', t1, Option.bind_some, hat, i2, if_neg (show ¬ (0 : Int32) ≤ -1 by decide), b1']
  · right
    refine ⟨Q1, J1, ?_, ?_, a3, a4, a5⟩
    · have a1' : R_take Xp 0 Q T = some (.inl (Q1, Xp, T)) := a1
      simp only [R_known, xb, a1', Option.bind_some]
    · have a2' : M_must 1 J = some J1 := a2
      obtain ⟨w, p, f1, f2, f3, f4, f5, f6, f7⟩ := a3
      have hf13 : ¬ J1 0 13 ≤ 0 := by rw [f6, i_0, iN_le (by omega) (by omega)]; omega
      unfold M_known
      rw [lt_e, a2', Option.bind_some, if_neg hf13]
theorem p_known (hF : 2100 ≤ F) (h : PT N P E a o Q J K) (hB : HB T) (hS : RwS T txa b f cn nm) (hM : NtM J K Nn sg id_ nm cn) {s : Nat} (hs : s < 4) (h0 : (tL T).2.2.1 ≤ tN T) (hN : tN T + 4 ≤ (tL T).1) (hZ : tZ T + 32 ≤ (tL T).2.1) : (∃ v Q1 T1 J1, R_known F Xp (b (rw_ s)) Q T = some (.inr (v, Q1, T1)) ∧ M_known F K (iN s) J = some (v, J1) ∧ ((∃ i, i < cn s ∧ v = iN i ∧ Q1 9 5 = Q 9 5) ∨ (v = -1 ∧ Q1 9 5 ≠ iN 0)) ∧ PT N P E (a + 1) o Q1 J1 K ∧ qF Q Q1 ∧ jF J J1 ∧ ExN T T1 ∧ tN T1 = tN T + 4 ∧ tZ T1 ≤ tZ T + 32) ∨ ∃ Q1 J1, R_known F Xp (b (rw_ s)) Q T = some (.inl (Q1, Xp, T)) ∧ (∃ v, M_known F K (iN s) J = some (v, J1)) ∧ FT Q1 J1 ∧ qF Q Q1 ∧ jF J J1 := by
  rcases p_known2 (Xp := Xp) hF h hB hS hM hs h0 hN hZ with h | ⟨Q1, J1, c1, c2, c3⟩
  · exact Or.inl h
  · exact Or.inr ⟨Q1, J1, c1, ⟨_, c2⟩, c3⟩
end NK
