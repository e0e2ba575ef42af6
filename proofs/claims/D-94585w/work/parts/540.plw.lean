/-! PURE LAW 5: laws -/
set_option maxRecDepth 100000
theorem uJ_id {J : Ji} {a i : Nat} {v : Int32} : uJ (uJ J a i v) a i v = uJ J a i v := by
  funext o j
  rw [uJ_ap]
  by_cases c : o = a ∧ j = i
  · rw [if_pos c, c.1, c.2, uJ_ss]
  · rw [if_neg c]
theorem nd_len {T : Th} : ∀ n a c, Nd T n a c → 1 ≤ c.length := by
  intro n
  cases n with
  | zero => intro a c h; exact absurd h (by simp [Nd])
  | succ n =>
    intro a c h
    rcases h with ⟨_, rfl⟩ | ⟨k, _, _, _, rfl⟩ | ⟨_, a1, a2, c1, c2, op, _, _, _, _, rfl, _⟩
    · simp
    · simp
    · simp only [List.length_append, List.length_cons, List.length_nil]
      omega
theorem nd_num {T : Th} {n a : Nat} {C : Ji} (h : T.1 a = some (.inl 16)) : C_sof T (n + 1) a C = some (T.2.1 a 0, C) := by
  simp [C_sof, h, C_Number_of, dI]
theorem nd_var {T : Th} {n a k : Nat} {C : Ji} (h : T.1 a = some (.inl 17)) (hk : k < 6) (h2 : T.2.1 a 0 = iN k) : C_sof T (n + 1) a C = some (C 32 k, C) := by
  simp [C_sof, h, C_Var_of, dI, h2, ldI_n hk (show 6 ≤ 2147483648 by omega)]
/-- what an operator makes of two numbers; it divides by nought: none -/
def ap2 (op : Nat) (x y : Int32) : Option Int32 := if op = 4 then some (x * y) else if op = 2 then some (x + y) else if op = 3 then some (x - y) else if y = 0 then none else some (x / y)
theorem nd_join {T : Th} {n a a1 a2 op : Nat} {C C1 C2 : Ji} {x y : Int32} (h : T.1 a = some (.inl 18)) (h1 : T.2.2.1 a 1 = some a1) (h2 : T.2.2.1 a 2 = some a2) (ho : opC (T.2.1 a 0) op) (e1 : C_sof T n a1 C = some (x, C1)) (e2 : C_sof T n a2 C1 = some (y, C2)) : C_sof T (n + 1) a C = match ap2 op x y with
    | some r => some (r, C2)
    | none => some (0, uJ C2 31 1 1) := by
  have hc : C_sof T (n + 1) a C = C_Joined_of T (C_sof T n) a C := by simp [C_sof, h]
  rw [hc]
  simp only [C_Joined_of, dR_p h, dI_p h, h1, h2, e1, e2, Option.bind_some, ap2]
  rcases ho with ⟨q, rfl⟩ | ⟨q, rfl⟩ | ⟨q, rfl⟩ | ⟨q, rfl⟩ <;> rw [q]
  · rfl
  · rfl
  · rfl
  · by_cases c : y = 0
    · simp [c, lt_]
    · simp [c]
theorem nd_tot {T : Th} : ∀ n a c, Nd T n a c → ∀ C, ∃ v, C_sof T n a C = some (v, C) ∨ C_sof T n a C = some (v, uJ C 31 1 1) := by
  intro n
  induction n with
  | zero => intro a c h; exact absurd h (by simp [Nd])
  | succ n ih =>
    intro a c h C
    rcases h with ⟨h1, _⟩ | ⟨k, hk, h1, h2, _⟩ | ⟨h0, a1, a2, c1, c2, op, h1, h2, n1, n2, _, ho⟩
    · exact ⟨_, Or.inl (nd_num h1)⟩
    · exact ⟨_, Or.inl (nd_var h1 hk h2)⟩
    · have q1 : ∃ x C1, C_sof T n a1 C = some (x, C1) ∧ (C1 = C ∨ C1 = uJ C 31 1 1) := by
        obtain ⟨x, hx⟩ := ih a1 c1 n1 C
        rcases hx with hx | hx
        · exact ⟨x, _, hx, Or.inl rfl⟩
        · exact ⟨x, _, hx, Or.inr rfl⟩
      obtain ⟨x, C1, e1, d1⟩ := q1
      have q2 : ∃ y C2, C_sof T n a2 C1 = some (y, C2) ∧ (C2 = C ∨ C2 = uJ C 31 1 1) := by
        obtain ⟨y, hy⟩ := ih a2 c2 n2 C1
        rcases hy with hy | hy
        · exact ⟨y, _, hy, d1⟩
        · refine ⟨y, _, hy, Or.inr ?_⟩
          rcases d1 with rfl | rfl
          · rfl
          · exact uJ_id
      obtain ⟨y, C2, e2, d2⟩ := q2
      have hj := nd_join h0 h1 h2 ho e1 e2
      cases hr : ap2 op x y with
      | some r =>
        rw [hr] at hj
        refine ⟨r, ?_⟩
        rcases d2 with rfl | rfl
        · exact Or.inl hj
        · exact Or.inr hj
      | none =>
        rw [hr] at hj
        refine ⟨0, Or.inr ?_⟩
        rcases d2 with rfl | rfl
        · exact hj
        · rw [uJ_id] at hj; exact hj
section LAWS
variable {T : Th} {F : Nat}
/-- one sign of a sum that is no operator -/
theorem tm_leaf {q p τ fuel : Nat} {J : Ji} {v : Int32} (hq : q ≤ 840) (hp : p < q) (hτ : τ < 400) (h : (J 42 p = iN 0 ∧ J 43 p = v) ∨ ∃ k, k < 6 ∧ J 42 p = iN 1 ∧ J 43 p = iN k ∧ J 45 k = v) : M_termOf_L5 F (fuel + 1) (iN q) (iN τ) (iN p) J = M_termOf_L5 F fuel (iN q) (iN (τ + 1)) (iN (p + 1)) (uJ J 46 τ v) := by
  have n1 : ¬ iN q ≤ iN p := by rw [iN_le (by omega) (by omega)]; omega
  have n2 : ¬ (2 : Int32) ≤ iN 0 := by decide
  have n3 : ¬ (2 : Int32) ≤ iN 1 := by decide
  have n4 : ¬ iN 1 = 0 := by decide
  have n5 : iN 0 = 0 := by decide
  have e1 : iN τ + 1 = iN (τ + 1) := by rw [i_1, iN_add]
  have e2 : iN p + 1 = iN (p + 1) := by rw [i_1, iN_add]
  show M_termOf_B5 F (M_termOf_L5 F fuel) (iN q) (iN τ) (iN p) J = _
  generalize M_termOf_L5 F fuel = k5
  unfold M_termOf_B5
  rw [if_neg n1, ldI_n (show p < 840 by omega) (by omega)]
  rcases h with ⟨h1, h2⟩ | ⟨k, hk, h1, h2, h3⟩
  · rw [h1, if_neg n2, if_pos n5, ldI_n (show p < 840 by omega) (by omega), h2]
    unfold M_termOf_B58
    rw [stI_n hτ (by omega), lt_e, lt_e, e1, e2]
  · rw [h1, if_neg n3, if_neg n4, ldI_n (show p < 840 by omega) (by omega), h2, ldI_n hk (by omega), h3]
    unfold M_termOf_B58
    rw [stI_n hτ (by omega), lt_e, lt_e, e1, e2]
/-- an operator -/
theorem tm_op {q p τ fuel op : Nat} {J : Ji} {x y : Int32} (hq : q ≤ 840) (hp : p < q) (hτ : τ + 1 < 400) (ho : op = 2 ∨ op = 3 ∨ op = 4 ∨ op = 5) (h : J 42 p = iN op) (hx : J 46 τ = x) (hy : J 46 (τ + 1) = y) : M_termOf_L5 F (fuel + 1) (iN q) (iN (τ + 2)) (iN p) J = match ap2 op x y with
    | some r => M_termOf_L5 F fuel (iN q) (iN (τ + 1)) (iN (p + 1)) (uJ J 46 τ r)
    | none => some (0, uJ J 0 63 1) := by
  have e1 : iN (τ + 2) + -1 = iN (τ + 1) := by
    rw [i_1, iN_neg, iN_addm (by omega)]
    rfl
  have e2 : iN (τ + 1) - 1 = iN τ := by
    rw [i_1, iN_sub (by omega)]
    rfl
  have e3 : iN p + 1 = iN (p + 1) := by rw [i_1, iN_add]
  unfold ap2
  rcases ho with rfl | rfl | rfl | rfl
  · simp (disch := omega) only [M_termOf_L5, M_termOf_B5, M_termOf_B104, M_termOf_B158, iN_le, if_neg (show ¬ q ≤ p by omega), ldI_n, h, lt_e, e1, e2, e3, hx, hy, stI_n, i_2, i_5, iN_eq, if_pos (show 2 ≤ 2 by omega), if_neg (show ¬ 2 = 5 by omega), if_neg (show ¬ 2 = 4 by omega), if_true]
  · simp (disch := omega) only [M_termOf_L5, M_termOf_B5, M_termOf_B104, M_termOf_B158, iN_le, if_neg (show ¬ q ≤ p by omega), ldI_n, h, lt_e, e1, e2, e3, hx, hy, stI_n, i_2, i_3, i_5, iN_eq, if_pos (show 2 ≤ 3 by omega), if_neg (show ¬ 3 = 5 by omega), if_neg (show ¬ 3 = 4 by omega), if_neg (show ¬ 3 = 2 by omega), if_true]
  · simp (disch := omega) only [M_termOf_L5, M_termOf_B5, M_termOf_B104, M_termOf_B158, iN_le, if_neg (show ¬ q ≤ p by omega), ldI_n, h, lt_e, e1, e2, e3, hx, hy, stI_n, i_2, i_3, i_4, i_5, iN_eq, if_pos (show 2 ≤ 4 by omega), if_neg (show ¬ 4 = 5 by omega), if_neg (show ¬ 4 = 3 by omega), if_neg (show ¬ 4 = 2 by omega), if_true]
  · by_cases c : y = 0
    · simp (disch := omega) only [M_termOf_L5, M_termOf_B5, M_termOf_B104, M_termOf_B158, iN_le, if_neg (show ¬ q ≤ p by omega), ldI_n, h, lt_e, e1, e2, e3, hx, hy, stI_n, i_2, i_5, iN_eq, if_pos (show 2 ≤ 5 by omega), if_true, if_neg (show ¬ 5 = 4 by omega), if_neg (show ¬ 5 = 2 by omega), if_neg (show ¬ 5 = 3 by omega), if_pos c]
    · simp (disch := omega) only [M_termOf_L5, M_termOf_B5, M_termOf_B104, M_termOf_B158, iN_le, if_neg (show ¬ q ≤ p by omega), ldI_n, h, lt_e, e1, e2, e3, hx, hy, stI_n, i_2, i_3, i_4, i_5, iN_eq, if_pos (show 2 ≤ 5 by omega), if_true, if_neg (show ¬ 5 = 4 by omega), if_neg (show ¬ 5 = 2 by omega), if_neg (show ¬ 5 = 3 by omega), if_neg c]
/-- a sum is worth the same on both sides, or both divide by nought -/
theorem nd_run : ∀ n a c, Nd T n a c → ∀ (C J : Ji) (p τ q fuel : Nat), (∀ k, k < 6 → C 32 k = J 45 k) → (∀ i e, c[i]? = some e → J 42 (p + i) = iN e.1 ∧ J 43 (p + i) = e.2) → p + c.length ≤ q → q ≤ 840 → τ + (c.length + 1) / 2 ≤ 400 → ∃ v, (C_sof T n a C = some (v, C) ∧ ∃ J1, M_termOf_L5 F (fuel + c.length) (iN q) (iN τ) (iN p) J = M_termOf_L5 F fuel (iN q) (iN (τ + 1)) (iN (p + c.length)) J1 ∧ J1 46 τ = v ∧ (∀ i, i < τ → J1 46 i = J 46 i) ∧ ∀ o, o ≠ 46 → J1 o = J o) ∨ (C_sof T n a C = some (v, uJ C 31 1 1) ∧ ∃ J1, M_termOf_L5 F (fuel + c.length) (iN q) (iN τ) (iN p) J = some (0, J1) ∧ J1 0 63 = 1 ∧ (∀ i, i ≠ 63 → J1 0 i = J 0 i) ∧ ∀ o, o ≠ 46 → o ≠ 0 → J1 o = J o) := by
  intro n
  induction n with
  | zero => intro a c h; exact absurd h (by simp [Nd])
  | succ n ih =>
    intro a c h C J p τ q fuel hv hc hq hq2 hτ
    rcases h with ⟨h1, rfl⟩ | ⟨k, hk, h1, h2, rfl⟩ | ⟨h0, a1, a2, c1, c2, op, h1, h2, n1, n2, rfl, ho⟩
    · have hh := hc 0 _ rfl
      simp only [List.length_cons, List.length_nil, Nat.zero_add] at hq hτ ⊢
      refine ⟨T.2.1 a 0, Or.inl ⟨nd_num h1, uJ J 46 τ (T.2.1 a 0), tm_leaf hq2 (by omega) (by omega) (Or.inl hh), uJ_ss, fun i hi => uJ_sn (by omega), fun o ho => uJ_o ho⟩⟩
    · have hh := hc 0 _ rfl
      simp only [List.length_cons, List.length_nil, Nat.zero_add] at hq hτ ⊢
      refine ⟨C 32 k, Or.inl ⟨nd_var h1 hk h2, uJ J 46 τ (C 32 k), tm_leaf hq2 (by omega) (by omega) (Or.inr ⟨k, hk, hh.1, hh.2, (hv k hk).symm⟩), uJ_ss, fun i hi => uJ_sn (by omega), fun o ho => uJ_o ho⟩⟩
    · have l1 := nd_len n a1 c1 n1
      have l2 := nd_len n a2 c2 n2
      have hlen : (c1 ++ c2 ++ [(op, (0 : Int32))]).length = c1.length + c2.length + 1 := by
        simp only [List.length_append, List.length_cons, List.length_nil]
      rw [hlen] at hq hτ ⊢
      have ho2 : op = 2 ∨ op = 3 ∨ op = 4 ∨ op = 5 := by
        rcases ho with ⟨_, h⟩ | ⟨_, h⟩ | ⟨_, h⟩ | ⟨_, h⟩ <;> omega
      have k1 : ∀ i e, c1[i]? = some e → J 42 (p + i) = iN e.1 ∧ J 43 (p + i) = e.2 := fun i e he => by
        have hi : i < c1.length := by
          rcases Nat.lt_or_ge i c1.length with h | h
          · exact h
          · rw [List.getElem?_eq_none h] at he; cases he
        exact hc i e (by rw [List.append_assoc, List.getElem?_append_left hi]; exact he)
      have k2 : ∀ i e, c2[i]? = some e → J 42 (p + c1.length + i) = iN e.1 ∧ J 43 (p + c1.length + i) = e.2 := fun i e he => by
        have hi : i < c2.length := by
          rcases Nat.lt_or_ge i c2.length with h | h
          · exact h
          · rw [List.getElem?_eq_none h] at he; cases he
        have := hc (c1.length + i) e (by rw [List.append_assoc, List.getElem?_append_right (by omega), Nat.add_sub_cancel_left, List.getElem?_append_left hi]; exact he)
        rw [← Nat.add_assoc] at this
        exact this
      have k3 : J 42 (p + c1.length + c2.length) = iN op := by
        have := (hc (c1.length + c2.length) (op, 0) (by rw [List.getElem?_append_right (by simp)]; simp)).1
        rw [← Nat.add_assoc] at this
        exact this
      have ef : fuel + (c1.length + c2.length + 1) = (fuel + 1 + c2.length) + c1.length := by omega
      rw [ef]
      obtain ⟨x, r1⟩ := ih a1 c1 n1 C J p τ q (fuel + 1 + c2.length) hv k1 (by omega) hq2 (by omega)
      rcases r1 with ⟨e1, J1, m1, m2, m3, m4⟩ | ⟨e1, J1, m1, m2, m3, m4⟩
      · rw [m1]
        have hv1 : ∀ k, k < 6 → C 32 k = J1 45 k := fun k hk => by rw [m4 45 (by omega)]; exact hv k hk
        have k2' : ∀ i e, c2[i]? = some e → J1 42 (p + c1.length + i) = iN e.1 ∧ J1 43 (p + c1.length + i) = e.2 := fun i e he => by rw [m4 42 (by omega), m4 43 (by omega)]; exact k2 i e he
        obtain ⟨y, r2⟩ := ih a2 c2 n2 C J1 (p + c1.length) (τ + 1) q (fuel + 1) hv1 k2' (by omega) hq2 (by omega)
        rcases r2 with ⟨e2, J2, g1, g2, g3, g4⟩ | ⟨e2, J2, g1, g2, g3, g4⟩
        · have hj := nd_join h0 h1 h2 ho e1 e2
          have ht := tm_op (F := F) (q := q) (p := p + c1.length + c2.length) (τ := τ) (fuel := fuel) (op := op) (J := J2) (x := x) (y := y) hq2 (by omega) (by omega) ho2 (by rw [g4 42 (by omega), m4 42 (by omega)]; exact k3) (by rw [g3 τ (by omega)]; exact m2) g2
          rw [g1]
          cases hr : ap2 op x y with
          | some r =>
            rw [hr] at hj ht
            refine ⟨r, Or.inl ⟨hj, uJ J2 46 τ r, ?_, uJ_ss, fun i hi => ?_, fun o ho => ?_⟩⟩
            · show M_termOf_L5 F (fuel + 1) (iN q) (iN (τ + 2)) (iN (p + c1.length + c2.length)) J2 = _
              rw [ht]
              show M_termOf_L5 F fuel (iN q) (iN (τ + 1)) (iN (p + c1.length + c2.length + 1)) (uJ J2 46 τ r) = _
              rw [show p + c1.length + c2.length + 1 = p + (c1.length + c2.length + 1) by omega]
            · rw [uJ_sn (by omega), g3 i (by omega), m3 i hi]
            · rw [uJ_o ho, g4 o ho, m4 o ho]
          | none =>
            rw [hr] at hj ht
            refine ⟨0, Or.inr ⟨hj, uJ J2 0 63 1, ht, uJ_ss, fun i hi => ?_, fun o ho ho2 => ?_⟩⟩
            · rw [uJ_sn hi, g4 0 (by omega), m4 0 (by omega)]
            · rw [uJ_o ho2, g4 o ho, m4 o ho]
        · have hj := nd_join h0 h1 h2 ho e1 e2
          rw [uJ_id] at hj
          rw [g1]
          have hj2 : ∃ v, C_sof T (n + 1) a C = some (v, uJ C 31 1 1) := by
            cases hr : ap2 op x y with
            | some r => rw [hr] at hj; exact ⟨r, hj⟩
            | none => rw [hr] at hj; exact ⟨0, hj⟩
          obtain ⟨v, hv2⟩ := hj2
          exact ⟨v, Or.inr ⟨hv2, J2, rfl, g2, fun i hi => by rw [g3 i hi, m4 0 (by omega)], fun o ho ho2 => by rw [g4 o ho ho2, m4 o ho]⟩⟩
      · rw [m1]
        have hj2 : ∃ v, C_sof T (n + 1) a C = some (v, uJ C 31 1 1) := by
          obtain ⟨y, hy⟩ := nd_tot n a2 c2 n2 (uJ C 31 1 1)
          rw [uJ_id] at hy
          have hy : C_sof T n a2 (uJ C 31 1 1) = some (y, uJ C 31 1 1) := by rcases hy with h | h <;> exact h
          have hj := nd_join h0 h1 h2 ho e1 hy
          rw [uJ_id] at hj
          cases hr : ap2 op x y with
          | some r => rw [hr] at hj; exact ⟨r, hj⟩
          | none => rw [hr] at hj; exact ⟨0, hj⟩
        obtain ⟨v, hv2⟩ := hj2
        exact ⟨v, Or.inr ⟨hv2, J1, rfl, m2, m3, m4⟩⟩
/-- all of the model but its pile, its broken sign -/
def mP (J J1 : Ji) : Prop := (∀ o, o ≠ 46 → o ≠ 0 → J1 o = J o) ∧ ∀ i, i ≠ 63 → J1 0 i = J 0 i
theorem mP.rf {J : Ji} : mP J J := ⟨fun _ _ _ => rfl, fun _ _ => rfl⟩
theorem mP.tr {J J1 J2 : Ji} (h : mP J J1) (h2 : mP J1 J2) : mP J J2 := ⟨fun o a c => by rw [h2.1 o a c, h.1 o a c], fun i hi => by rw [h2.2 i hi, h.2 i hi]⟩
theorem tm_run {C J : Ji} {l a : Nat} {c : Br} {f t : Int32} (hF : 900 ≤ F) (hl : l < 2) (hN : Nd T dSum a c) (hc : cdJ J l f t c) (hv : ∀ k, k < 6 → C 32 k = J 45 k) : ∃ v, (C_sof T dSum a C = some (v, C) ∧ ∃ J1, M_termOf F f t J = some (v, J1) ∧ J1 0 63 = J 0 63 ∧ mP J J1) ∨ (C_sof T dSum a C = some (v, uJ C 31 1 1) ∧ ∃ J1, M_termOf F f t J = some (0, J1) ∧ J1 0 63 = 1 ∧ mP J J1) := by
  obtain ⟨p, rfl, rfl, h3, h4, h5⟩ := hc
  have hf : F = (F - c.length) + c.length := by omega
  obtain ⟨v, r⟩ := nd_run (F := F) dSum a c hN C J p 0 (p + c.length) (F - c.length) hv h5 (by omega) (by omega) (by omega)
  have hM : M_termOf F (iN p) (iN (p + c.length)) J = M_termOf_L5 F (F - c.length + c.length) (iN (p + c.length)) (iN 0) (iN p) J := by
    rw [← hf]
    rfl
  rw [hM]
  refine ⟨v, ?_⟩
  rcases r with ⟨e1, J1, m1, m2, m3, m4⟩ | ⟨e1, J1, m1, m2, m3, m4⟩
  · refine Or.inl ⟨e1, J1, ?_, by rw [m4 0 (by omega)], fun o ho _ => m4 o ho, fun i _ => by rw [m4 0 (by omega)]⟩
    rw [m1]
    obtain ⟨g, hg⟩ : ∃ g, F - c.length = g + 1 := ⟨F - c.length - 1, by omega⟩
    rw [hg]
    simp (disch := omega) only [M_termOf_L5, M_termOf_B5, iN_le, if_pos (Nat.le_refl _), i_0, ldI_n, m2]
  · exact Or.inr ⟨e1, J1, m1, m2, m4, m3⟩
/-- a law's answer is held within the steps -/
theorem clampL {v : Int32} {n : Nat} (hn : 1 ≤ n) (hn6 : n ≤ 6) : ∃ s, s < n ∧ (if (0 : Int32) < (if v < iN n - 1 then v else iN n - 1) then (if v < iN n - 1 then v else iN n - 1) else 0) = iN s ∧ (if 0 ≤ v then (if v < iN n then v else iN n - 1) else 0) = iN s := by
  have e1 : iN n - 1 = iN (n - 1) := by rw [i_1, iN_sub hn]
  rw [e1]
  by_cases h0 : v < 0
  · have h1 : v < iN (n - 1) := Int32.lt_of_lt_of_le h0 (by rw [i_0, iN_le (by omega) (by omega)]; omega)
    have h2 : ¬ (0 : Int32) < v := fun h => Int32.lt_irrefl (Int32.lt_trans h h0)
    have h3 : ¬ (0 : Int32) ≤ v := fun h => Int32.lt_irrefl (Int32.lt_of_le_of_lt h h0)
    refine ⟨0, by omega, ?_, ?_⟩
    · rw [if_pos h1, if_neg h2]; rfl
    · rw [if_neg h3]; rfl
  · obtain ⟨w, hw, rfl⟩ := nn_iN h0
    by_cases c : w < n
    · refine ⟨w, c, ?_, ?_⟩
      · simp (disch := omega) only [i_0, iN_lt]
        by_cases c2 : w < n - 1
        · simp (disch := omega) only [if_pos c2, iN_lt]
          by_cases c3 : 0 < w
          · rw [if_pos c3]
          · rw [if_neg c3, show w = 0 by omega]
        · simp (disch := omega) only [if_neg c2, iN_lt]
          by_cases c3 : 0 < n - 1
          · rw [if_pos c3, show w = n - 1 by omega]
          · rw [if_neg c3, show w = 0 by omega]
      · simp (disch := omega) only [i_0, iN_lt, iN_le, if_pos c, if_pos (Nat.zero_le w)]
    · refine ⟨n - 1, by omega, ?_, ?_⟩
      · simp (disch := omega) only [i_0, iN_lt, if_neg (show ¬ w < n - 1 by omega)]
        by_cases c3 : 0 < n - 1
        · rw [if_pos c3]
        · rw [if_neg c3, show n - 1 = 0 by omega]
      · simp (disch := omega) only [i_0, iN_lt, iN_le, if_neg c, if_pos (Nat.zero_le w)]
theorem clampS {s n : Nat} (hs : s < n) (hn6 : n ≤ 6) : (if (0 : Int32) < (if iN s < iN n - 1 then iN s else iN n - 1) then (if iN s < iN n - 1 then iN s else iN n - 1) else 0) = iN s := by
  rw [i_1, iN_sub (by omega), i_0]
  simp (disch := omega) only [iN_lt]
  by_cases c2 : s < n - 1
  · simp (disch := omega) only [if_pos c2, iN_lt]
    by_cases c3 : 0 < s
    · rw [if_pos c3]
    · rw [if_neg c3, show s = 0 by omega]
  · simp (disch := omega) only [if_neg c2, iN_lt]
    by_cases c3 : 0 < n - 1
    · rw [if_pos c3, show s = n - 1 by omega]
    · rw [if_neg c3, show s = 0 by omega]
/-- the law's own cells, in the component -/
def cA (C C1 : Ji) : Prop := ∀ o, o ≠ 31 → C1 o = C o
theorem cA.u {C : Ji} {v : Int32} {i : Nat} : cA C (uJ C 31 i v) := fun o ho => uJ_o ho
/-- a law that has divided by nought -/
theorem lw_broken {a p0 p1 p2 s n : Nat} {L : Lw} (hs : s < n) (hn6 : n ≤ 6) (ha : T.1 a = some (.inl 15)) (h3 : T.2.1 a 3 = iN L.1.length) (h4 : L.1.length ≤ 4) (g0 : T.2.2.1 a 0 = some p0) (g1 : T.2.2.1 a 1 = some p1) (g2 : T.2.2.1 a 2 = some p2) (t0 : T.1 p0 = some (.inr (.object "SleepWork$Sum", 4))) (t1 : T.1 p1 = some (.inr (.object "SleepWork$Sum", 4))) (t2 : T.1 p2 = some (.inr (.object "SleepWork$Sum", 5))) (hb : ∀ i e, L.1[i]? = some e → ∃ n0 n1 n2, T.2.2.1 p0 i = some n0 ∧ T.2.2.1 p1 i = some n1 ∧ T.2.2.1 p2 i = some n2 ∧ Nd T dSum n0 e.1 ∧ Nd T dSum n1 e.2.1 ∧ Nd T dSum n2 e.2.2) (he : ∃ n, T.2.2.1 p2 L.1.length = some n ∧ Nd T dSum n L.2) : (∀ i (C : Ji), i ≤ L.1.length → C 31 1 = 1 → C 32 2 = iN n → C 32 0 = iN s → ∃ C1, C_Law_of_B44 F T a (iN i) C = some (iN s, C1) ∧ cA C C1) ∧ ∀ m i (C : Ji), L.1.length < m + i → i ≤ L.1.length → C 31 1 = 1 → C 32 2 = iN n → C 32 0 = iN s → ∃ C1, C_Law_of_L7 F T m a (iN i) C = some (iN s, C1) ∧ cA C C1 := by
  have ev : ∀ nd c, Nd T dSum nd c → ∀ C : Ji, C 31 1 = 1 → ∃ v C1, C_sof T dSum nd C = some (v, C1) ∧ C1 31 1 = 1 ∧ cA C C1 := by
    intro nd c hN C hC
    obtain ⟨v, hv⟩ := nd_tot dSum nd c hN C
    rcases hv with hv | hv
    · exact ⟨v, C, hv, hC, fun _ _ => rfl⟩
    · exact ⟨v, _, hv, uJ_ss, cA.u⟩
  have hB : ∀ i (C : Ji), i ≤ L.1.length → C 31 1 = 1 → C 32 2 = iN n → C 32 0 = iN s → ∃ C1, C_Law_of_B44 F T a (iN i) C = some (iN s, C1) ∧ cA C C1 := by
    intro i C hi hC hn hsC
    obtain ⟨nd, c, q1, q2⟩ : ∃ nd c, T.2.2.1 p2 i = some nd ∧ Nd T dSum nd c := by
      by_cases c : i < L.1.length
      · obtain ⟨n0, n1, n2, _, _, r3, _, _, r6⟩ := hb i _ (List.getElem?_eq_getElem c)
        exact ⟨n2, _, r3, r6⟩
      · have : i = L.1.length := by omega
        subst this
        obtain ⟨nd, r1, r2⟩ := he
        exact ⟨nd, _, r1, r2⟩
    obtain ⟨v, C1, e1, e2, e3⟩ := ev nd c q2 C hC
    refine ⟨C1, ?_, e3⟩
    have f2 : C1 32 2 = iN n := by rw [e3 32 (by omega)]; exact hn
    have f0 : C1 32 0 = iN s := by rw [e3 32 (by omega)]; exact hsC
    have l2 : ∀ f : Int32 → Option (Int32 × Ji), ldI C1 32 6 2 f = f (iN n) := fun f => by rw [i_2, ldI_n (by omega) (by omega), f2]
    have l0 : ∀ f : Int32 → Option (Int32 × Ji), ldI C1 32 6 0 f = f (iN s) := fun f => by rw [i_0, ldI_n (by omega) (by omega), f0]
    simp only [C_Law_of_B44, dR_p ha, g2, Option.bind_some, dA_p t2 (show i < 5 by omega) (by omega), q1, e1, l2, l0, e2, if_neg (show ¬ (1 : Int32) = 0 by decide), C_Law_of_B81, clampS hs hn6]
  refine ⟨hB, ?_⟩
  intro m
  induction m with
  | zero => intro i C h1 h2; omega
  | succ m ih =>
    intro i C h1 h2 hC hn hsC
    simp (disch := omega) only [C_Law_of_L7, C_Law_of_B7, dI_p ha, h3, iN_le]
    by_cases c : i < L.1.length
    · rw [if_neg (by omega)]
      obtain ⟨n0, n1, n2, r1, r2, r3, r4, r5, r6⟩ := hb i _ (List.getElem?_eq_getElem c)
      obtain ⟨v, C1, e1, e2, e3⟩ := ev n0 _ r4 C hC
      obtain ⟨v2, C2, f1, f2, f3⟩ := ev n1 _ r5 C1 e2
      have z2 : C2 32 2 = iN n := by rw [f3 32 (by omega), e3 32 (by omega)]; exact hn
      have z0 : C2 32 0 = iN s := by rw [f3 32 (by omega), e3 32 (by omega)]; exact hsC
      simp only [dR_p ha, g0, g1, Option.bind_some, dA_p t0 (show i < 4 by omega) (by omega), dA_p t1 (show i < 4 by omega) (by omega), r1, e1, r2, f1]
      by_cases cc : v < v2
      · rw [if_pos cc]
        obtain ⟨C3, k1, k2⟩ := hB i C2 (by omega) f2 z2 z0
        exact ⟨C3, k1, fun o ho => by rw [k2 o ho, f3 o ho, e3 o ho]⟩
      · rw [if_neg cc]
        obtain ⟨C3, k1, k2⟩ := ih (i + 1) C2 (by omega) (by omega) f2 z2 z0
        refine ⟨C3, ?_, fun o ho => by rw [k2 o ho, f3 o ho, e3 o ho]⟩
        rw [← k1, lt_e, i_1, iN_add]
    · rw [if_pos (by omega)]
      exact hB i C (by omega) hC hn hsC
end LAWS
