/-! PURE LAW 63: statements, one after the other -/
set_option maxRecDepth 100000
section RD1
variable {n0 g txa : Nat} {Xp : Jr} {F N : Nat} {P E : Nat → Nat} {a : Nat} {Q J : Ji} {K : Jl} {T : Th}
theorem r_def {s : Int32} (h : s ≠ 0 ∧ s ≠ 1 ∧ s ≠ 3 ∧ s ≠ 4 ∧ s ≠ 5 ∧ s ≠ 8 ∧ s ≠ 10 ∧ s ≠ 14) : R_told_B24 F Xp s Q T = (R_wrong T 1 Q).bind fun r62 => some (.inl (r62, Xp, T)) := by
  obtain ⟨h1, h2, h3, h4, h5, h6, h7, h8⟩ := h
  unfold R_told_B24
  rw [if_neg h1, if_neg h2, if_neg h3, if_neg h4, if_neg h5, if_neg h6, if_neg h7, if_neg h8]
theorem m_def {x : Int32} (hN : a < 403) (h11 : J 0 11 = iN a) (hx : J 3 a = x) (h : x ≠ 20 ∧ x ≠ 21 ∧ x ≠ 23 ∧ x ≠ 24 ∧ x ≠ 25 ∧ x ≠ 28 ∧ x ≠ 30 ∧ x ≠ 34) : M_tell F J K = (M_fail 1 J).bind fun r26 => some (r26, K) := by
  obtain ⟨h1, h2, h3, h4, h5, h6, h7, h8⟩ := h
  unfold M_tell
  rw [h11, ldI_n (by omega) (by omega), hx, if_neg h1, if_neg h2, if_neg h3, if_neg h4, if_neg h5, if_neg h6, if_neg h7, if_neg h8]
/-- one statement -/
theorem tell_ok (hF : 2100 ≤ F) (h : IVx n0 g txa Xp N P E a Q J K T) : StO n0 g txa Xp N P E a Q J K T (xb (R_told F Xp Q T) fun r => R_sign Xp 59 r.1 r.2) (M_tell F J K) := by
  have hI := h
  obtain ⟨Y, b, ar, e, nl, Nn, sg, id_, nm, nb, nc, h1, _⟩ := hI
  have hNN := h1.n
  have ha := h1.2.1
  have h11 := h1.2.2.2.1
  have h93 := h1.2.2.1
  -- both fail
  have bad : ∀ x : Int32, J 3 a = x → (x ≠ 20 ∧ x ≠ 21 ∧ x ≠ 23 ∧ x ≠ 24 ∧ x ≠ 25 ∧ x ≠ 28 ∧ x ≠ 30 ∧ x ≠ 34) → R_told F Xp Q T = ((R_wrong T 1 Q).bind fun r62 => some (.inl (r62, Xp, T)) : Option ((Ji × Jr × Th) ⊕ (Ji × Th))) → StO n0 g txa Xp N P E a Q J K T (xb (R_told F Xp Q T) fun r => R_sign Xp 59 r.1 r.2) (M_tell F J K) := fun x hx hn hC => by
    obtain ⟨Q2, J2, f1, f2, f3, f4, f5, f6⟩ := p_wrong (T := T) h1 (w := 1) (by omega) (by omega)
    have f1' : R_wrong T 1 Q = some Q2 := f1
    have f2' : M_fail 1 J = some J2 := f2
    right
    refine ⟨Q2, T, J2, K, ?_, ?_, ⟨_, _, f3⟩, f4, f5.w, fun _ _ => rfl, fun c hc => ⟨rfl, rfl, rfl⟩, rfl, Nat.le_refl _⟩
    · rw [hC, f1', Option.bind_some]; rfl
    · rw [m_def (by omega) h11 hx hn, f2', Option.bind_some]
  have nord : ∀ s, R_sort Xp Q T = some (.inr (s, Q, T)) → s ≠ 3 → R_told F Xp Q T = ((R_wrong T 1 Q).bind fun r62 => some (.inl (r62, Xp, T)) : Option ((Ji × Jr × Th) ⊕ (Ji × Th))) := fun s hs hn => by
    simp only [R_told, xb, hs, Option.bind_some, if_neg hn]
    exact r_def (by decide)
  rcases r_sort (Xp := Xp) (T := T) h1 with ⟨q1, q2⟩ | ⟨q1, Q2, J2, f1, f2, f3, f4, f5, f6⟩
  · rcases tr_kind h1.tr with ⟨z1, z2⟩ | ⟨z1, z2⟩ | ⟨z1, z2⟩ | ⟨z1, w, z2, z3, z4⟩ | ⟨z1, z2⟩ | ⟨z1, z2⟩
    · rw [z1] at q2
      exact bad _ z2 (by decide) (nord _ q2 (by decide))
    · rw [z1] at q2
      exact bad _ z2 (by decide) (nord _ q2 (by decide))
    · rw [z1] at q2
      have hkk : ∃ k, J 3 a = iN k ∧ k < 20 := by
        rcases z2 with z | z | z | z | z | z | z | z | z
        · exact ⟨4, z.2, by omega⟩
        · exact ⟨5, z.2, by omega⟩
        · exact ⟨6, z.2, by omega⟩
        · exact ⟨7, z.2, by omega⟩
        · exact ⟨8, z.2, by omega⟩
        · exact ⟨9, z.2, by omega⟩
        · exact ⟨10, z.2, by omega⟩
        · exact ⟨15, z.2, by omega⟩
        · exact ⟨13, z.2, by omega⟩
      obtain ⟨k, k1, k2⟩ := hkk
      have hne : ∀ q, 20 ≤ q → q < 100 → iN k ≠ iN q := fun q _ _ hh => by rw [iN_eq (by omega) (by omega)] at hh; omega
      exact bad _ k1 ⟨hne 20 (by omega) (by omega), hne 21 (by omega) (by omega), hne 23 (by omega) (by omega), hne 24 (by omega) (by omega), hne 25 (by omega) (by omega), hne 28 (by omega) (by omega), hne 30 (by omega) (by omega), hne 34 (by omega) (by omega)⟩ (nord _ q2 (by decide))
    · rw [z1] at q2
      have hC : R_told F Xp Q T = R_told_B24 F Xp (iN w) Q T := by
        simp only [R_told, xb, q2, Option.bind_some, if_pos (show iN 3 = 3 by decide)]
        rw [h93, ldI_n (by omega) (by omega), z3]
      have hM : ∀ X, (∀ x, x = iN (20 + w) → (if x = 20 then ldI J 11 2 (J 0 19) fun x2 => (M_roomFor x2 8 J).bind fun r3 => if (r3 0 13) = 0 then (M_tellRoom F r3 K).bind fun r4 => some (r4.1, r4.2) else some (r3, K) else if x = 21 then ldI J 12 2 (J 0 19) fun x5 => (M_roomFor x5 12 J).bind fun r6 => if (r6 0 13) = 0 then (M_tellDoor F K r6).bind fun r7 => some (r7, K) else some (r6, K) else if x = 23 then ldI J 17 2 (J 0 19) fun x8 => (M_roomFor x8 6 J).bind fun r9 => if (r9 0 13) = 0 then (M_tellTool F r9 K).bind fun r10 => some (r10.1, r10.2) else some (r9, K) else if x = 24 then ldI J 19 2 (J 0 19) fun x11 => (M_roomFor x11 6 J).bind fun r12 => if (r12 0 13) = 0 then (M_tellTask F r12 K).bind fun r13 => some (r13.1, r13.2) else some (r12, K) else if x = 25 then (M_goesOn J).bind fun r14 => (M_tellStep F K ((r14 0 11) - 1) r14).bind fun r15 => some (r15, K) else if x = 28 then ldI J 29 2 (J 0 19) fun x16 => (M_roomFor x16 6 J).bind fun r17 => if (r17 0 13) = 0 then (M_tellMan F r17 K).bind fun r18 => some (r18.1, r18.2) else some (r17, K) else if x = 30 then ldI J 33 2 (J 0 19) fun x19 => (M_roomFor x19 8 J).bind fun r20 => if (r20 0 13) = 0 then (M_tellLaw F K r20).bind fun r21 => some (r21, K) else some (r20, K) else if x = 34 then (M_goesOn J).bind fun r22 => (M_bounded 1 600 r22).bind fun r23 => stI r23.2 41 2 (r22 0 19) r23.1 fun J24 => (M_must 4 J24).bind fun r25 => some (r25, K) else (M_fail 1 J).bind fun r26 => some (r26, K)) = X) → M_tell F J K = X := fun X hX => by
        rw [← hX (iN (20 + w)) rfl]
        unfold M_tell
        rw [h11, ldI_n (by omega) (by omega), z4]
      by_cases c0 : w = 0
      · rw [hC, c0]
        rw [hM _ (fun x hx => by rw [hx, c0, if_pos (by decide)])]
        exact p_room hF h z1
      by_cases c1 : w = 1
      · rw [hC, c1]
        rw [hM _ (fun x hx => by rw [hx, c1, if_neg (by decide), if_pos (by decide)])]
        exact p_door hF h z1
      by_cases c3 : w = 3
      · rw [hC, c3]
        rw [hM _ (fun x hx => by rw [hx, c3, if_neg (by decide), if_neg (by decide), if_pos (by decide)])]
        exact p_tool hF h z1
      by_cases c4 : w = 4
      · rw [hC, c4]
        rw [hM _ (fun x hx => by rw [hx, c4, if_neg (by decide), if_neg (by decide), if_neg (by decide), if_pos (by decide)])]
        exact p_task hF h z1
      by_cases c5 : w = 5
      · rw [hC, c5]
        rw [hM _ (fun x hx => by rw [hx, c5, if_neg (by decide), if_neg (by decide), if_neg (by decide), if_neg (by decide), if_pos (by decide)])]
        exact p_step hF h z1
      by_cases c8 : w = 8
      · rw [hC, c8]
        rw [hM _ (fun x hx => by rw [hx, c8, if_neg (by decide), if_neg (by decide), if_neg (by decide), if_neg (by decide), if_neg (by decide), if_pos (by decide)])]
        exact p_man hF h z1
      by_cases c10 : w = 10
      · rw [hC, c10]
        rw [hM _ (fun x hx => by rw [hx, c10, if_neg (by decide), if_neg (by decide), if_neg (by decide), if_neg (by decide), if_neg (by decide), if_neg (by decide), if_pos (by decide)])]
        exact p_law hF h z1
      by_cases c14 : w = 14
      · rw [hC, c14]
        rw [hM _ (fun x hx => by rw [hx, c14, if_neg (by decide), if_neg (by decide), if_neg (by decide), if_neg (by decide), if_neg (by decide), if_neg (by decide), if_neg (by decide), if_pos (by decide)])]
        exact p_night hF h z1
      have hne : ∀ q, q < 100 → 20 + w ≠ q → iN (20 + w) ≠ iN q := fun q _ hq hh => by rw [iN_eq (by omega) (by omega)] at hh; exact hq hh
      have hnw : ∀ q, q < 100 → w ≠ q → iN w ≠ iN q := fun q _ hq hh => by rw [iN_eq (by omega) (by omega)] at hh; exact hq hh
      refine bad _ z4 ⟨hne 20 (by omega) (by omega), hne 21 (by omega) (by omega), hne 23 (by omega) (by omega), hne 24 (by omega) (by omega), hne 25 (by omega) (by omega), hne 28 (by omega) (by omega), hne 30 (by omega) (by omega), hne 34 (by omega) (by omega)⟩ ?_
      rw [hC]
      exact r_def ⟨hnw 0 (by omega) c0, hnw 1 (by omega) c1, hnw 3 (by omega) c3, hnw 4 (by omega) c4, hnw 5 (by omega) c5, hnw 8 (by omega) c8, hnw 10 (by omega) c10, hnw 14 (by omega) c14⟩
    · rw [z1] at q2
      exact bad _ z2 (by decide) (nord _ q2 (by decide))
    · exact absurd z1 q1
  · right
    have z2 : J 3 a = iN 3 := (k_sort h1 (s := 5) (k := 3) (Or.inr (Or.inr (Or.inr ⟨rfl, rfl⟩)))).1 q1
    refine ⟨Q2, T, J2, K, ?_, ?_, ⟨_, _, f3⟩, f4, f5.w, fun _ _ => rfl, fun c hc => ⟨rfl, rfl, rfl⟩, rfl, Nat.le_refl _⟩
    · simp only [R_told, xb, f1, Option.bind_some]
    · rw [m_def (by omega) h11 z2 (by decide), f2, Option.bind_some]
theorem StF.rf : StF n0 g Q Q J J K K T T := ⟨qF.rf, FrJ.rf, fun _ _ => rfl, fun _ _ => ⟨rfl, rfl, rfl⟩, rfl, Nat.le_refl _⟩
/-- the model's end of a reading that failed -/
theorem rd_f {w p : Nat} (hw : 1 ≤ w) (hw2 : w ≤ 2) (h13 : J 0 13 = iN w) (h14 : J 0 14 = iN p) : M_read_B241 F J K = some (iN w, uJ J 0 17 (iN p), K) := by
  have n1 : ¬ J 0 13 ≤ 0 := by rw [h13, i_0, iN_le (by omega) (by omega)]; omega
  unfold M_read_B241 M_read_B271
  rw [if_neg n1, h14, lt_e, uJ_sn (by omega), if_neg n1, h13]
theorem rd_w {w p : Nat} (hw : 1 ≤ w) (hw2 : w ≤ 5) (h13 : J 0 13 = iN 0) (h15 : J 0 15 = iN w) (h16 : J 0 16 = iN p) : M_read_B241 F J K = some (iN w, uJ J 0 17 (iN p), K) := by
  have n1 : J 0 13 ≤ 0 := by rw [h13]; decide
  have n2 : ¬ J 0 15 ≤ 0 := by rw [h15, i_0, iN_le (by omega) (by omega)]; omega
  unfold M_read_B241 M_read_B271
  rw [if_pos n1, if_neg n2, h16, lt_e, uJ_sn (by omega), if_pos n1, uJ_sn (by omega), if_neg n2, h15]
/-- all statements -/
theorem rd_L (hF : 2100 ≤ F) : ∀ d n m a Q J K T, a + d = 402 → d ≤ n → d ≤ m → IVx n0 g txa Xp N P E a Q J K T →
    (∃ a1 Q1 T1 J1 K1, R_read_L33 F n Q Xp T = some (.inr (some txa, Q1, Xp, T1)) ∧ M_read_L219 F m J K = M_read_B241 F J1 K1 ∧ IVx n0 g txa Xp N P E a1 Q1 J1 K1 T1 ∧ Q1 9 5 = iN 0 ∧ J1 0 13 = iN 0 ∧ J1 0 15 = iN 0 ∧ StF n0 g Q Q1 J J1 K K1 T T1) ∨
    (∃ Q1 T1 J1 K1 w p, R_read_L33 F n Q Xp T = some (.inl (Q1, Xp, T1)) ∧ 1 ≤ w ∧ w ≤ 5 ∧ p ≤ 2000 ∧ Q1 1 6 = iN w ∧ Q1 1 7 = iN p ∧ M_read_L219 F m J K = some (iN w, uJ J1 0 17 (iN p), K1) ∧ StF n0 g Q Q1 J J1 K K1 T T1) := by
  intro d
  induction d using Nat.strongRecOn with
  | ind d ih =>
    intro n m a Q J K T hd hn hm h
    have hI := h
    obtain ⟨Y, b, ar, e, nl, Nn, sg, id_, nm, nb, nc, h1, h2, _⟩ := hI
    have hNN := h1.n
    have ha := h1.2.1
    obtain ⟨n, rfl⟩ : ∃ n', n = n' + 1 := ⟨n - 1, by omega⟩
    obtain ⟨m, rfl⟩ : ∃ m', m = m' + 1 := ⟨m - 1, by omega⟩
    have hR : R_read_L33 F (n + 1) Q Xp T = R_read_B33 F (R_read_L33 F n) Q Xp T := rfl
    have hM : M_read_L219 F (m + 1) J K = (M_is J 0).bind fun r25 => if r25 = 0 then (M_tell F J K).bind fun r26 => M_read_L219 F m r26.1 r26.2 else M_read_B241 F J K := by
      show M_read_B219 F (M_read_L219 F m) J K = _
      unfold M_read_B219
      rw [if_pos (show J 0 13 = 0 from h1.2.2.2.2.1)]
    rw [hR, hM]
    have key := k_sort h1 (s := 4) (k := 0) (Or.inr (Or.inr (Or.inl ⟨rfl, rfl⟩)))
    by_cases cE : Q 5 a = iN 4
    · have hs : R_sort Xp Q T = some (.inr (iN 4, Q, T)) := by
        rcases r_sort (Xp := Xp) (T := T) h1 with ⟨q1, q2⟩ | ⟨q1, _⟩
        · rw [q2, cE]
        · rw [cE] at q1; exact absurd q1 (by decide)
      have hi : M_is J 0 = some 1 := by rw [m_is h1 0, if_pos (show J 3 a = 0 from key.1 cE)]
      rw [hi, Option.bind_some, if_neg (show ¬ (1 : Int32) = 0 by decide)]
      rcases h1.2.2.2.2.2.2 with ⟨w1, w2⟩ | ⟨w, tk, w1, w2, w3, w4, w5, w6, w7⟩
      · left
        refine ⟨a, Q, T, J, K, ?_, rfl, h, w1, h1.2.2.2.2.1, w2, StF.rf⟩
        simp only [R_read_B33, xb, hs, Option.bind_some, if_pos (show iN 4 = 4 by decide), if_pos (show Q 9 5 = 0 from w1), h2]
      · right
        have w4n : ¬ Q 9 5 = 0 := by rw [w4, i_0, iN_eq (by omega) (by omega)]; omega
        obtain ⟨p1, p2, p3⟩ := h1.pl w3
        have hWr : R_wrongAt T (iN w) (iN tk) Q = some (uJ (uJ Q 1 6 (iN w)) 1 7 (iN (P tk))) := by
          unfold R_wrongAt F_of
          rw [ldI_n (by omega) (by omega), p1, lt_e, lt_e, Option.bind_some]
        refine ⟨uJ (uJ Q 1 6 (iN w)) 1 7 (iN (P tk)), T, J, K, w, P tk, ?_, by omega, w2, p3, by rw [uJ_sn (by omega), uJ_ss], uJ_ss, rd_w (by omega) w2 h1.2.2.2.2.1 w5 w7, ⟨⟨fun o o1 o2 => by rw [uJ_o o1, uJ_o o1], fun i i1 i2 => by rw [uJ_sn i2, uJ_sn i1], fun i hi => by rw [uJ_o (by omega), uJ_o (by omega)]⟩, FrJ.rf, fun _ _ => rfl, fun _ _ => ⟨rfl, rfl, rfl⟩, rfl, Nat.le_refl _⟩⟩
        simp only [R_read_B33, xb, hs, Option.bind_some, if_pos (show iN 4 = 4 by decide), if_neg w4n]
        rw [w4, w6, hWr, Option.bind_some]
    · have hi : M_is J 0 = some 0 := by rw [m_is h1 0, if_neg (show ¬ J 3 a = 0 from fun hh => cE (key.2 hh))]
      rw [hi, Option.bind_some, if_pos rfl]
      have ht := tell_ok hF h
      have hC : ∀ s, R_sort Xp Q T = some (.inr (s, Q, T)) → s ≠ 4 → R_read_B33 F (R_read_L33 F n) Q Xp T = xb (xb (R_told F Xp Q T) fun r => R_sign Xp 59 r.1 r.2) fun r11 => R_read_L33 F n r11.1 Xp r11.2 := fun s hs hn => by
        simp only [R_read_B33, xb, hs, Option.bind_some, if_neg hn]
        cases R_told F Xp Q T with
        | none => rfl
        | some x =>
          cases x with
          | inl x => rfl
          | inr x => rfl
      rcases r_sort (Xp := Xp) (T := T) h1 with ⟨q1, q2⟩ | ⟨q1, Q2, J2, f1, f2, f3, f4, f5, f6⟩
      · have hne4 : Q 5 a ≠ 4 := fun hh => cE hh
        rw [hC _ q2 hne4]
        rcases ht with ⟨a1, Q1, T1, J1, K1, t1, t2, t3, t4, t5⟩ | ⟨Q1, T1, J1, K1, t1, t2, t3, t4⟩
        · rw [t1, t2, Option.bind_some]
          show (∃ a2 Q2 T2 J2 K2, R_read_L33 F n Q1 Xp T1 = _ ∧ _) ∨ (∃ Q2 T2 J2 K2 w p, R_read_L33 F n Q1 Xp T1 = _ ∧ _)
          have ha1 : a1 < N := by obtain ⟨_, _, _, _, _, _, _, _, _, _, _, hp, _⟩ := t3; exact hp.2.1
          rcases ih (402 - a1) (by omega) n m a1 Q1 J1 K1 T1 (by omega) (by omega) (by omega) t3 with ⟨a2, Q2, T2, J2, K2, u1, u2, u3, u4, u5, u6, u7⟩ | ⟨Q2, T2, J2, K2, w, p, u1, u2, u3, u4, u5, u6, u7, u8⟩
          · exact Or.inl ⟨a2, Q2, T2, J2, K2, u1, u2, u3, u4, u5, u6, t5.tr u7⟩
          · exact Or.inr ⟨Q2, T2, J2, K2, w, p, u1, u2, u3, u4, u5, u6, u7, t5.tr u8⟩
        · right
          obtain ⟨w, p, f1, f2, f3, f4, f5, f6, f7⟩ := t3
          obtain ⟨m, rfl⟩ : ∃ m', m = m' + 1 := ⟨m - 1, by omega⟩
          refine ⟨Q1, T1, J1, K1, w, p, by rw [t1]; rfl, f1, by omega, f3, f4, f5, ?_, t4⟩
          rw [t2, Option.bind_some]
          show M_read_B219 F (M_read_L219 F m) J1 K1 = _
          unfold M_read_B219
          rw [if_neg (by rw [f6, i_0, iN_eq (by omega) (by omega)]; omega), rd_f f1 f2 f6 f7]
      · right
        have z2 : J 3 a = iN 3 := (k_sort h1 (s := 5) (k := 3) (Or.inr (Or.inr (Or.inr ⟨rfl, rfl⟩)))).1 q1
        obtain ⟨f31, f32, f33, f34, f35, f36, f37⟩ := f3
        obtain ⟨m, rfl⟩ : ∃ m', m = m' + 1 := ⟨m - 1, by omega⟩
        refine ⟨Q2, T, J2, K, 1, P a, ?_, by omega, by omega, f33, f34, f35, ?_, ⟨f4, f5.w, fun _ _ => rfl, fun _ _ => ⟨rfl, rfl, rfl⟩, rfl, Nat.le_refl _⟩⟩
        · simp only [R_read_B33, xb, f1, Option.bind_some]
        · rw [m_def (by omega) h1.2.2.2.1 z2 (by decide), f2, Option.bind_some, Option.bind_some]
          show M_read_B219 F (M_read_L219 F m) J2 K = _
          unfold M_read_B219
          rw [if_neg (by rw [f36]; decide), rd_f (by omega) (by omega) f36 f37]
end RD1
