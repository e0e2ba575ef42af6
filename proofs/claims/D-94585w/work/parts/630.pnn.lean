/-! PURE LAW 29: new names -/
set_option maxRecDepth 100000
section NN
variable {T : Th} {F N a o : Nat} {P E : Nat → Nat} {Q J : Ji} {K : Jl} {Xp : Jr} {Nn : Nat} {sg id_ : Nat → Nat} {nm : Nat → Nat → List Int32} {cn : Nat → Nat} {txa : Nat} {b : Nat → Nat} {f : Nat → Nat → Nat}
theorem fnd_0 {g : Nat → List Int32} {L : List Int32} {n : Nat} (hn : n ≤ 100) : (0 ≤ fnd g L n 0 ∧ ∃ i, i < n ∧ g i = L) ∨ (¬ 0 ≤ fnd g L n 0 ∧ fnd g L n 0 < 0 ∧ ∀ i, i < n → g i ≠ L) := by
  rcases fnd_c (nm := g) (L := L) n 0 with ⟨j, b1, b2, b3, _, b5⟩ | ⟨b1, b2⟩
  · left
    rw [b5]
    exact ⟨by rw [i_0, iN_le (by omega) (by omega)]; omega, j, by omega, b3⟩
  · right
    rw [b2]
    exact ⟨by decide, by decide, fun i hi => b1 i (by omega) (by omega)⟩
/-- is a name there already -/
theorem has_ok {s : Nat} {L : List Int32} (hF : 2100 ≤ F) (hS : RwS T txa b f cn nm) (hs : StT T s L) (hL : L.length ≤ 8) : (A_Text_has F T txa s = some 1 ∧ ∃ x i, x < 4 ∧ i < cn x ∧ nm x i = L) ∨ (A_Text_has F T txa s = some 0 ∧ ∀ x i, x < 4 → i < cn x → nm x i ≠ L) := by
  have h1 := hS.1
  obtain ⟨p0, q0, r0⟩ := hS.2 0 (by omega)
  obtain ⟨p1, q1, r1⟩ := hS.2 1 (by omega)
  obtain ⟨p2, q2, r2⟩ := hS.2 2 (by omega)
  obtain ⟨p3, q3, r3⟩ := hS.2 3 (by omega)
  have p0 : T.2.2.1 txa 0 = some (b (rw_ 0)) := p0
  have p1 : T.2.2.1 txa 2 = some (b (rw_ 1)) := p1
  have p2 : T.2.2.1 txa 3 = some (b (rw_ 2)) := p2
  have p3 : T.2.2.1 txa 4 = some (b (rw_ 3)) := p3
  have a0 := at_ok hF (by omega) r0 hs hL
  have a1 := at_ok hF (by omega) r1 hs hL
  have a2 := at_ok hF (by omega) r2 hs hL
  have a3 := at_ok hF (by omega) r3 hs hL
  have hE : A_Text_has F T txa s = if 0 ≤ fnd (nm 0) L (cn 0) 0 then some 1 else if 0 ≤ fnd (nm 1) L (cn 1) 0 then some 1 else if 0 ≤ fnd (nm 2) L (cn 2) 0 then some 1 else if fnd (nm 3) L (cn 3) 0 < 0 then some 0 else some 1 := by
    simp only [A_Text_has, dR_p h1, p0, p1, p2, p3, Option.bind_some, a0, a1, a2, a3]
  rw [hE]
  rcases fnd_0 (g := nm 0) (L := L) (n := cn 0) (by omega) with ⟨b1, i, b2, b3⟩ | ⟨b1, _, b2⟩
  · left; rw [if_pos b1]; exact ⟨rfl, 0, i, by omega, b2, b3⟩
  rw [if_neg b1]
  rcases fnd_0 (g := nm 1) (L := L) (n := cn 1) (by omega) with ⟨c1, i, c2, c3⟩ | ⟨c1, _, c2⟩
  · left; rw [if_pos c1]; exact ⟨rfl, 1, i, by omega, c2, c3⟩
  rw [if_neg c1]
  rcases fnd_0 (g := nm 2) (L := L) (n := cn 2) (by omega) with ⟨d1, i, d2, d3⟩ | ⟨d1, _, d2⟩
  · left; rw [if_pos d1]; exact ⟨rfl, 2, i, by omega, d2, d3⟩
  rw [if_neg d1]
  rcases fnd_0 (g := nm 3) (L := L) (n := cn 3) (by omega) with ⟨e1, i, e2, e3⟩ | ⟨e1, e0, e2⟩
  · left
    rw [if_neg (fun hh => Int32.lt_irrefl (Int32.lt_of_lt_of_le hh e1))]
    exact ⟨rfl, 3, i, by omega, e2, e3⟩
  · right
    rw [if_pos e0]
    refine ⟨rfl, fun x i hx hi => ?_⟩
    have : x = 0 ∨ x = 1 ∨ x = 2 ∨ x = 3 := by omega
    rcases this with rfl | rfl | rfl | rfl
    · exact b2 i hi
    · exact c2 i hi
    · exact d2 i hi
    · exact e2 i hi
theorem nd_told {L : List Int32} {t : Nat} {J2 : Ji} (h : NtM J2 K Nn sg id_ nm cn) (ht : t < 403) (hL : allL L) (l8 : L.length ≤ 8) (hk : K 6 t = c27 L) (hf : J2 0 13 = iN 0) (hw : M_wrong 3 (iN t) J2 = some J2) : ∀ d m q, q + d = Nn → d < m → M_named_L12 F K m (iN t) (iN q) J2 = some (iN t, J2) := by
  obtain ⟨h1, h2, h3, h4, h5, h6⟩ := h
  have hf0 : J2 0 13 = 0 := hf
  intro d
  induction d with
  | zero =>
    intro m q a1 a2
    obtain ⟨m, rfl⟩ : ∃ g, m = g + 1 := ⟨m - 1, by omega⟩
    simp (disch := omega) only [M_named_L12, M_named_B12, h1, iN_le, if_pos (show Nn ≤ q by omega)]
  | succ d ih =>
    intro m q a1 a2
    obtain ⟨m, rfl⟩ : ∃ g, m = g + 1 := ⟨m - 1, by omega⟩
    have := ih m (q + 1) (by omega) (by omega)
    have eq1 : iN q + 1 = iN (q + 1) := by rw [i_1, iN_add]
    by_cases c : lg_cmp (K 8 q) (c27 L) = 0
    · simp (disch := omega) only [M_named_L12, M_named_B12, h1, iN_le, if_neg (show ¬ Nn ≤ q by omega), if_pos hf0, ldL_n, hk, if_pos c, hw, Option.bind_some, lt_e, eq1, this]
    · simp (disch := omega) only [M_named_L12, M_named_B12, h1, iN_le, if_neg (show ¬ Nn ≤ q by omega), if_pos hf0, ldL_n, hk, if_neg c, lt_e, eq1, this]
theorem nd_base {L : List Int32} {t : Nat} {J1 J2 : Ji} (h : NtM J1 K Nn sg id_ nm cn) (ht : t < 403) (hL : allL L) (l8 : L.length ≤ 8) (hk : K 6 t = c27 L) (hf : J1 0 13 = iN 0) (hw1 : M_wrong 3 (iN t) J1 = some J2) (h2 : NtM J2 K Nn sg id_ nm cn) (hf2 : J2 0 13 = iN 0) (hw2 : M_wrong 3 (iN t) J2 = some J2) : ∀ d m q, q + d = Nn → d < m → ((∃ r, q ≤ r ∧ r < Nn ∧ nm (sg r) (id_ r) = L) ∧ M_named_L12 F K m (iN t) (iN q) J1 = some (iN t, J2)) ∨ ((∀ r, q ≤ r → r < Nn → nm (sg r) (id_ r) ≠ L) ∧ M_named_L12 F K m (iN t) (iN q) J1 = some (iN t, J1)) := by
  have h0 := h
  obtain ⟨g1, g2, g3, g4, g5, g6⟩ := h
  have hf0 : J1 0 13 = 0 := hf
  intro d
  induction d with
  | zero =>
    intro m q a1 a2
    obtain ⟨m, rfl⟩ : ∃ g, m = g + 1 := ⟨m - 1, by omega⟩
    right
    refine ⟨fun r b1 b2 => by omega, ?_⟩
    simp (disch := omega) only [M_named_L12, M_named_B12, g1, iN_le, if_pos (show Nn ≤ q by omega)]
  | succ d ih =>
    intro m q a1 a2
    obtain ⟨m, rfl⟩ : ∃ g, m = g + 1 := ⟨m - 1, by omega⟩
    have eq1 : iN q + 1 = iN (q + 1) := by rw [i_1, iN_add]
    obtain ⟨b1, b2, b3, b4, b5⟩ := g3 q (by omega)
    obtain ⟨c1, c2⟩ := g6 (sg q) (id_ q) b4 b5
    have hcmp := cmp_i c1 hL c2 l8
    by_cases cc : nm (sg q) (id_ q) = L
    · left
      have k0 : lg_cmp (K 8 q) (c27 L) = 0 := by rw [b3]; exact hcmp.2 cc
      have := nd_told (F := F) h2 ht hL l8 hk hf2 hw2 d m (q + 1) (by omega) (by omega)
      refine ⟨⟨q, Nat.le_refl _, by omega, cc⟩, ?_⟩
      simp (disch := omega) only [M_named_L12, M_named_B12, g1, iN_le, if_neg (show ¬ Nn ≤ q by omega), if_pos hf0, ldL_n, hk, if_pos k0, hw1, Option.bind_some, lt_e, eq1, this]
    · have k0 : ¬ lg_cmp (K 8 q) (c27 L) = 0 := by rw [b3]; exact fun hh => cc (hcmp.1 hh)
      have he : M_named_L12 F K (m + 1) (iN t) (iN q) J1 = M_named_L12 F K m (iN t) (iN (q + 1)) J1 := by
        simp (disch := omega) only [M_named_L12, M_named_B12, g1, iN_le, if_neg (show ¬ Nn ≤ q by omega), if_pos hf0, ldL_n, hk, if_neg k0, lt_e, eq1]
      rw [he]
      rcases ih m (q + 1) (by omega) (by omega) with ⟨⟨r, d1, d2, d3⟩, d4⟩ | ⟨d1, d2⟩
      · exact Or.inl ⟨⟨r, by omega, d2, d3⟩, d4⟩
      · refine Or.inr ⟨fun r e1 e2 => ?_, d2⟩
        by_cases cr : r = q
        · rw [cr]; exact cc
        · exact d1 r (by omega) e2
/-- a new name -/
theorem p_name (hF : 2100 ≤ F) (h : PT N P E a o Q J K) (hB : HB T) (hX : Xp 9 2 = some txa) (hS : RwS T txa b f cn nm) (hM : NtM J K Nn sg id_ nm cn) (h0 : (tL T).2.2.1 ≤ tN T) (hN : tN T + 4 ≤ (tL T).1) (hZ : tZ T + 32 ≤ (tL T).2.1) : (∃ t Q1 T1 J1 L, R_name F Xp Q T = some (.inr (some t, Q1, T1)) ∧ M_named F K J = some (iN a, J1) ∧ tN T ≤ t ∧ StT T1 t L ∧ allL L ∧ L.length ≤ 8 ∧ K 6 a = c27 L ∧ PT N P E (a + 1) o Q1 J1 K ∧ qF Q Q1 ∧ jF J J1 ∧ ExN T T1 ∧ tN T1 = tN T + 4 ∧ tZ T1 ≤ tZ T + 32 ∧ (Q1 9 5 = iN 0 → Q 9 5 = iN 0)) ∨ ∃ Q1 J1, R_name F Xp Q T = some (.inl (Q1, Xp, T)) ∧ (∃ v, M_named F K J = some (v, J1)) ∧ FT Q1 J1 ∧ qF Q Q1 ∧ jF J J1 := by
  have hNN := h.n
  have ha := h.2.1
  have z10 : ¬ (1 : Int32) = 0 := by decide
  rcases p_take (Xp := Xp) (T := T) (s := 0) (k := 1) h (Or.inl ⟨rfl, rfl⟩) with ⟨v0, Q1, J1, a1, a2, ⟨a3, a4⟩, a5, a6, a7, a8, a9⟩ | ⟨Q1, J1, a1, a2, a3, a4, a5, a6⟩
  · left
    subst a3
    subst a8
    subst a9
    obtain ⟨n1, n2, n3, n4, n5, n6, n7⟩ := h.nam a4
    obtain ⟨t, T1, t1, t2, t3, t4, t5, t6⟩ := tx_ok (F := F) (T := T) (Q := uJ Q 9 3 (iN (a + 1))) (i := a) (p := P a) (q := E a) hF (by omega) n3 n4 n5 (by rw [uJ_o (by omega)]; exact n1) (by rw [uJ_o (by omega)]; exact n2) (fun k hk => by rw [uJ_o (by omega)]; exact seg_all n6 k hk) h0 hN hZ
    rw [uJ_o (show 4 ≠ 9 by omega)] at t3
    have hlen : (seg (Q 4) (P a) (E a - P a)).length ≤ 8 := by rw [seg_len]; exact n5
    have hS1 := hS.ex hB t4
    have hMf : NtM (uJ J 0 11 (iN (a + 1))) K Nn sg id_ nm cn := hM.fr (uJ_o (by omega)) (uJ_o (by omega)) (uJ_sn (by omega))
    obtain ⟨Q2, J2, b1, b2, b3, b4, b5, b6, b7⟩ := p_tell (w := 3) (t := a) a5 (by omega) (by omega) ha
    have b1' : R_tell 3 (iN a) (uJ Q 9 3 (iN (a + 1))) = some Q2 := b1
    have b2' : M_wrong 3 (iN a) (uJ J 0 11 (iN (a + 1))) = some J2 := b2
    have hM2 : NtM J2 K Nn sg id_ nm cn := hMf.fr (b5.1 9 (by omega)) (b5.1 10 (by omega)) (b5.2 20 (by omega))
    obtain ⟨_, pp2, pp3⟩ := b3.pl ha
    have hw2 : M_wrong 3 (iN a) J2 = some J2 := m_wrong2 (w := 3) (t := a) (by omega) pp2 pp3 b3.2.2.2.2.1 (by omega) b7
    have hnb := nd_base (F := F) (t := a) hMf (by omega) n6 hlen n7 a5.2.2.2.2.1 b2' hM2 b3.2.2.2.2.1 hw2 Nn F 0 (by omega) (by have := hM.2.1; omega)
    have a2' : M_must 1 J = some (uJ J 0 11 (iN (a + 1))) := a2
    have hMk : M_named F K J = M_named_L12 F K F (iN a) (iN 0) (uJ J 0 11 (iN (a + 1))) := by
      unfold M_named
      rw [h.2.2.2.1, lt_e, a2', Option.bind_some, i_0]
    have a1' : R_take Xp 0 Q T = some (.inr (iN a, uJ Q 9 3 (iN (a + 1)), T)) := a1
    have hmatch : (∃ r, 0 ≤ r ∧ r < Nn ∧ nm (sg r) (id_ r) = seg (Q 4) (P a) (E a - P a)) ↔ ∃ x i, x < 4 ∧ i < cn x ∧ nm x i = seg (Q 4) (P a) (E a - P a) := by
      constructor
      · rintro ⟨r, _, r2, r3⟩
        obtain ⟨_, _, _, c4, c5⟩ := hM.2.2.1 r r2
        exact ⟨sg r, id_ r, c4, c5, r3⟩
      · rintro ⟨x, i, x1, x2, x3⟩
        obtain ⟨r, r1, r2, r3⟩ := hM.2.2.2.2.1 x i x1 x2
        exact ⟨r, by omega, r1, by rw [r2, r3]; exact x3⟩
    rcases has_ok hF hS1 t3 hlen with ⟨c1, c2⟩ | ⟨c1, c2⟩
    · rcases hnb with ⟨d1, d2⟩ | ⟨d1, d2⟩
      · refine ⟨t, Q2, T1, J2, _, ?_, by rw [hMk, d2], t2, t3, n6, hlen, n7, b3, a6.tr b4, a7.tr b5, t4, t5, t6, fun hh => absurd hh b6⟩
        simp only [R_name, R_name_B32, xb, a1', t1, Option.bind_some, hX, dC_p hS1.1, c1, if_neg z10, b1']
      · obtain ⟨r, r0, r1, r2⟩ := hmatch.2 c2
        exact absurd r2 (d1 r r0 r1)
    · rcases hnb with ⟨d1, d2⟩ | ⟨d1, d2⟩
      · obtain ⟨x, i, x1, x2, x3⟩ := hmatch.1 d1
        exact absurd x3 (c2 x i x1 x2)
      · refine ⟨t, _, T1, _, _, ?_, by rw [hMk, d2], t2, t3, n6, hlen, n7, a5, a6, a7, t4, t5, t6, fun hh => by rw [uJ_sn (by omega)] at hh; exact hh⟩
        simp only [R_name, R_name_B32, xb, a1', t1, Option.bind_some, hX, dC_p hS1.1, c1, if_true]
  · right
    refine ⟨Q1, J1, ?_, ⟨iN a, ?_⟩, a3, a4, a5⟩
    · have a1' : R_take Xp 0 Q T = some (.inl (Q1, Xp, T)) := a1
      simp only [R_name, xb, a1', Option.bind_some]
    · have a2' : M_must 1 J = some J1 := a2
      obtain ⟨w, p, f1, f2, f3, f4, f5, f6, f7⟩ := a3
      have hf13 : ¬ J1 0 13 = 0 := by rw [f6, i_0, iN_eq (by omega) (by omega)]; omega
      have h20 : J1 0 20 = iN Nn := by rw [a5.2 20 (by omega)]; exact hM.1
      obtain ⟨g, hg⟩ : ∃ g, F = g + 1 := ⟨F - 1, by omega⟩
      have hnn := hM.2.1
      unfold M_named
      rw [lt_e, h.2.2.2.1, a2', Option.bind_some, i_0, show M_named_L12 F K F = M_named_L12 F K (g + 1) by rw [← hg]]
      show M_named_B12 F (M_named_L12 F K g) K (iN a) (iN 0) J1 = _
      unfold M_named_B12
      by_cases c : J1 0 20 ≤ iN 0
      · rw [if_pos c]
      · rw [if_neg c, if_neg hf13]
end NN
