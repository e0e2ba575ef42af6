/-! PURE LAW 2: the text, as both sides hold it -/
set_option maxRecDepth 100000
/-- a sum as a row of signs, the operators behind what they join: 0 an int, 1 a variable, 2 plus, 3 minus, 4 times, 5 over -/
abbrev Br : Type := List (Nat × Int32)
/-- a law: (less, than, then) .., else -/
abbrev Lw : Type := List (Br × Br × Br) × Br
/-- a text: how many (0 rooms, 1 doors, 2 tools, 3 tasks, 4 men, 5 minutes of a night, 10 + k steps of a task); its tables, by the model's numbers (none: 0, some: + 1 where that may be); laws by men -/
abbrev Xt : Type := (Nat → Nat) × (Nat → Nat → Nat) × (Nat → Option Lw)
abbrev xr (X : Xt) : Nat := X.1 0
abbrev xd (X : Xt) : Nat := X.1 1
abbrev xt (X : Xt) : Nat := X.1 2
abbrev xk (X : Xt) : Nat := X.1 3
abbrev xm (X : Xt) : Nat := X.1 4
abbrev xn (X : Xt) : Nat := X.1 5
abbrev xs (X : Xt) (k : Nat) : Nat := X.1 (10 + k)
abbrev tb (X : Xt) (c i : Nat) : Nat := X.2.1 c i
def oM (x : Nat) : Int32 := if x = 0 then iM 1 else iN (x - 1)
def oC (x : Nat) : Int32 := if x = 0 then iM 2 else iN (x - 1)
/-- what is told is of this kind -/
def TxV (X : Xt) : Prop := (xr X ≤ 8 ∧ xd X ≤ 12 ∧ xt X ≤ 6 ∧ xk X ≤ 6 ∧ xm X ≤ 6 ∧ 1 ≤ xn X ∧ xn X ≤ 600) ∧ (∀ d, d < xd X → tb X 13 d < xr X ∧ tb X 14 d < xr X ∧ tb X 15 d ≤ 60 ∧ tb X 16 d ≤ 1 ∧ tb X 13 d ≠ tb X 14 d) ∧ (∀ t, t < xt X → tb X 18 t < xr X) ∧ (∀ k, k < xk X → tb X 20 k < xr X ∧ tb X 21 k ≤ 999 ∧ xs X k ≤ 6) ∧ (∀ k s, k < xk X → s < xs X k → tb X 23 (6 * k + s) ≤ 120 ∧ 1 ≤ tb X 23 (6 * k + s) ∧ tb X 24 (6 * k + s) ≤ 99 ∧ tb X 25 (6 * k + s) ≤ 99 ∧ tb X 26 (6 * k + s) ≤ 99 ∧ tb X 27 (6 * k + s) ≤ xt X ∧ tb X 28 (6 * k + s) ≤ xs X k) ∧ (∀ m, m < xm X → tb X 30 m < xr X ∧ (tb X 31 m = 0 ∧ tb X 32 m = 0 ∨ ∃ k s, tb X 31 m = k + 1 ∧ tb X 32 m = s + 1 ∧ k < xk X ∧ s < xs X k))
/-! the model's side -/
/-- what of the model belongs to the side l, or to no side but the live text's -/
def lv_ (l o i : Nat) : Bool := match o with
  | 0 => i == 18
  | 11 => i == l
  | 12 => i == l
  | 17 => i == l
  | 19 => i == l
  | 29 => i == l
  | 41 => i == l
  | 13 => decide (12 * l ≤ i ∧ i < 12 * l + 12)
  | 14 => decide (12 * l ≤ i ∧ i < 12 * l + 12)
  | 15 => decide (12 * l ≤ i ∧ i < 12 * l + 12)
  | 16 => decide (12 * l ≤ i ∧ i < 12 * l + 12)
  | 18 => decide (6 * l ≤ i ∧ i < 6 * l + 6)
  | 20 => decide (6 * l ≤ i ∧ i < 6 * l + 6)
  | 21 => decide (6 * l ≤ i ∧ i < 6 * l + 6)
  | 22 => decide (6 * l ≤ i ∧ i < 6 * l + 6)
  | 30 => decide (6 * l ≤ i ∧ i < 6 * l + 6)
  | 31 => decide (6 * l ≤ i ∧ i < 6 * l + 6)
  | 32 => decide (6 * l ≤ i ∧ i < 6 * l + 6)
  | 34 => decide (6 * l ≤ i ∧ i < 6 * l + 6)
  | 35 => decide (6 * l ≤ i ∧ i < 6 * l + 6)
  | 23 => decide (36 * l ≤ i ∧ i < 36 * l + 36)
  | 24 => decide (36 * l ≤ i ∧ i < 36 * l + 36)
  | 25 => decide (36 * l ≤ i ∧ i < 36 * l + 36)
  | 26 => decide (36 * l ≤ i ∧ i < 36 * l + 36)
  | 27 => decide (36 * l ≤ i ∧ i < 36 * l + 36)
  | 28 => decide (36 * l ≤ i ∧ i < 36 * l + 36)
  | 36 => decide (50 * l ≤ i ∧ i < 50 * l + 50)
  | 37 => decide (50 * l ≤ i ∧ i < 50 * l + 50)
  | 38 => decide (50 * l ≤ i ∧ i < 50 * l + 50)
  | 39 => decide (50 * l ≤ i ∧ i < 50 * l + 50)
  | 40 => decide (50 * l ≤ i ∧ i < 50 * l + 50)
  | 42 => decide (420 * l ≤ i ∧ i < 420 * l + 420)
  | 43 => decide (420 * l ≤ i ∧ i < 420 * l + 420)
  | _ => false
/-- the codes from .. to are c -/
def cdJ (J : Ji) (l : Nat) (f t : Int32) (c : Br) : Prop := ∃ p, f = iN p ∧ t = iN (p + c.length) ∧ 420 * l ≤ p ∧ p + c.length ≤ 420 * l + 420 ∧ ∀ i e, c[i]? = some e → J 42 (p + i) = iN e.1 ∧ J 43 (p + i) = e.2
def lwJ (J : Ji) (l : Nat) (a b : Int32) (o : Option Lw) : Prop := match o with
  | none => a = b
  | some L => ∃ q, a = iN q ∧ b = iN (q + L.1.length + 1) ∧ 50 * l ≤ q ∧ q + L.1.length + 1 ≤ 50 * l + 50 ∧ (∀ i e, L.1[i]? = some e → J 36 (q + i) = iN 1 ∧ cdJ J l (J 37 (q + i)) (J 38 (q + i)) e.1 ∧ cdJ J l (J 38 (q + i)) (J 39 (q + i)) e.2.1 ∧ cdJ J l (J 39 (q + i)) (J 40 (q + i)) e.2.2) ∧ J 36 (q + L.1.length) = iN 0 ∧ cdJ J l (J 39 (q + L.1.length)) (J 40 (q + L.1.length)) L.2
def TxJ (J : Ji) (l : Nat) (X : Xt) : Prop := (l < 2 ∧ J 0 18 = iN l ∧ J 11 l = iN (xr X) ∧ J 12 l = iN (xd X) ∧ J 17 l = iN (xt X) ∧ J 19 l = iN (xk X) ∧ J 29 l = iN (xm X) ∧ J 41 l = iN (xn X)) ∧ (∀ d, d < xd X → J 13 (12 * l + d) = iN (tb X 13 d) ∧ J 14 (12 * l + d) = iN (tb X 14 d) ∧ J 15 (12 * l + d) = iN (tb X 15 d) ∧ J 16 (12 * l + d) = iN (tb X 16 d)) ∧ (∀ t, t < xt X → J 18 (6 * l + t) = iN (tb X 18 t)) ∧ (∀ k, k < xk X → J 20 (6 * l + k) = iN (tb X 20 k) ∧ J 21 (6 * l + k) = iN (tb X 21 k) ∧ J 22 (6 * l + k) = iN (xs X k)) ∧ (∀ k s, k < xk X → s < xs X k → J 23 (6 * (6 * l + k) + s) = iN (tb X 23 (6 * k + s)) ∧ J 24 (6 * (6 * l + k) + s) = iN (tb X 24 (6 * k + s)) ∧ J 25 (6 * (6 * l + k) + s) = iN (tb X 25 (6 * k + s)) ∧ J 26 (6 * (6 * l + k) + s) = iN (tb X 26 (6 * k + s)) ∧ J 27 (6 * (6 * l + k) + s) = oM (tb X 27 (6 * k + s)) ∧ J 28 (6 * (6 * l + k) + s) = oM (tb X 28 (6 * k + s))) ∧ (∀ m, m < xm X → J 30 (6 * l + m) = iN (tb X 30 m) ∧ J 31 (6 * l + m) = oM (tb X 31 m) ∧ J 32 (6 * l + m) = oM (tb X 32 m) ∧ lwJ J l (J 34 (6 * l + m)) (J 35 (6 * l + m)) (X.2.2 m))
theorem cdJ.fr {J J1 : Ji} {l : Nat} {f t : Int32} {c : Br} (h : cdJ J l f t c) (hq : ∀ o i, lv_ l o i = true → J1 o i = J o i) : cdJ J1 l f t c := by
  obtain ⟨p, h1, h2, h3, h4, h5⟩ := h
  refine ⟨p, h1, h2, h3, h4, fun i e he => ?_⟩
  have hi : i < c.length := by
    rcases Nat.lt_or_ge i c.length with h | h
    · exact h
    · rw [List.getElem?_eq_none h] at he; cases he
  rw [hq 42 (p + i) (by simp [lv_]; omega), hq 43 (p + i) (by simp [lv_]; omega)]
  exact h5 i e he
theorem lwJ.fr {J J1 : Ji} {l : Nat} {a b : Int32} {o : Option Lw} (h : lwJ J l a b o) (hq : ∀ o i, lv_ l o i = true → J1 o i = J o i) : lwJ J1 l a b o := by
  rcases o with _ | L
  · exact h
  · obtain ⟨q, h1, h2, h3, h4, h5, h6, h7⟩ := h
    refine ⟨q, h1, h2, h3, h4, fun i e he => ?_, ?_, ?_⟩
    · have hi : i < L.1.length := by
        rcases Nat.lt_or_ge i L.1.length with h | h
        · exact h
        · rw [List.getElem?_eq_none h] at he; cases he
      obtain ⟨a1, a2, a3, a4⟩ := h5 i e he
      rw [hq 36 (q + i) (by simp [lv_]; omega), hq 37 (q + i) (by simp [lv_]; omega), hq 38 (q + i) (by simp [lv_]; omega), hq 39 (q + i) (by simp [lv_]; omega), hq 40 (q + i) (by simp [lv_]; omega)]
      exact ⟨a1, a2.fr hq, a3.fr hq, a4.fr hq⟩
    · rw [hq 36 (q + L.1.length) (by simp [lv_]; omega)]
      exact h6
    · rw [hq 39 (q + L.1.length) (by simp [lv_]; omega), hq 40 (q + L.1.length) (by simp [lv_]; omega)]
      exact h7.fr hq
theorem TxJ.fr {J J1 : Ji} {l : Nat} {X : Xt} (h : TxJ J l X) (hV : TxV X) (hq : ∀ o i, lv_ l o i = true → J1 o i = J o i) : TxJ J1 l X := by
  obtain ⟨⟨h0, h1, h2, h3, h4, h5, h6, h7⟩, hd, ht, hk, hs, hm⟩ := h
  obtain ⟨⟨v0, v1, v2, v3, v4, v5, v6⟩, vd, vt, vk, vs, vm⟩ := hV
  refine ⟨⟨h0, ?_, ?_, ?_, ?_, ?_, ?_, ?_⟩, fun d hd1 => ?_, fun t ht1 => ?_, fun k hk1 => ?_, fun k s hk1 hs1 => ?_, fun m hm1 => ?_⟩
  · rw [hq 0 18 (by simp [lv_])]; exact h1
  · rw [hq 11 l (by simp [lv_])]; exact h2
  · rw [hq 12 l (by simp [lv_])]; exact h3
  · rw [hq 17 l (by simp [lv_])]; exact h4
  · rw [hq 19 l (by simp [lv_])]; exact h5
  · rw [hq 29 l (by simp [lv_])]; exact h6
  · rw [hq 41 l (by simp [lv_])]; exact h7
  · rw [hq 13 (12 * l + d) (by simp [lv_]; omega), hq 14 (12 * l + d) (by simp [lv_]; omega), hq 15 (12 * l + d) (by simp [lv_]; omega), hq 16 (12 * l + d) (by simp [lv_]; omega)]
    exact hd d hd1
  · rw [hq 18 (6 * l + t) (by simp [lv_]; omega)]
    exact ht t ht1
  · rw [hq 20 (6 * l + k) (by simp [lv_]; omega), hq 21 (6 * l + k) (by simp [lv_]; omega), hq 22 (6 * l + k) (by simp [lv_]; omega)]
    exact hk k hk1
  · have := (vk k hk1).2.2
    rw [hq 23 (6 * (6 * l + k) + s) (by simp [lv_]; omega), hq 24 (6 * (6 * l + k) + s) (by simp [lv_]; omega), hq 25 (6 * (6 * l + k) + s) (by simp [lv_]; omega), hq 26 (6 * (6 * l + k) + s) (by simp [lv_]; omega), hq 27 (6 * (6 * l + k) + s) (by simp [lv_]; omega), hq 28 (6 * (6 * l + k) + s) (by simp [lv_]; omega)]
    exact hs k s hk1 hs1
  · rw [hq 30 (6 * l + m) (by simp [lv_]; omega), hq 31 (6 * l + m) (by simp [lv_]; omega), hq 32 (6 * l + m) (by simp [lv_]; omega), hq 34 (6 * l + m) (by simp [lv_]; omega), hq 35 (6 * l + m) (by simp [lv_]; omega)]
    exact ⟨(hm m hm1).1, (hm m hm1).2.1, (hm m hm1).2.2.1, (hm m hm1).2.2.2.fr hq⟩
/-! the component's side -/
theorem dR_p {α : Type} {T : Th} {a ci k : Nat} {f : Option Nat → Option α} (h : T.1 a = some (.inl ci)) : dR T a ci k f = f (T.2.2.1 a k) := if_pos h
theorem dI_p {α : Type} {T : Th} {a ci k : Nat} {f : Int32 → Option α} (h : T.1 a = some (.inl ci)) : dI T a ci k f = f (T.2.1 a k) := if_pos h
theorem dC_p {α : Type} {T : Th} {a ci : Nat} {f : Option α} (h : T.1 a = some (.inl ci)) : dC T a ci f = f := if_pos h
theorem dA_p {α : Type} {T : Th} {a n i : Nat} {ty : FieldType} {f : Option Nat → Option α} (h : T.1 a = some (.inr (ty, n))) (hi : i < n) (hn : n ≤ 2147483648) : dA T a ty (iN i) f = f (T.2.2.1 a i) := by
  unfold dA
  rw [h]
  simp only [if_true, ix_n hi hn, Option.bind_some]
theorem dB_p {α : Type} {T : Th} {a n i : Nat} {ty : FieldType} {f : Int32 → Option α} (h : T.1 a = some (.inr (ty, n))) (hi : i < n) (hn : n ≤ 2147483648) : dB T a ty (iN i) f = f (T.2.1 a i) := by
  unfold dB
  rw [h]
  simp only [if_true, ix_n hi hn, Option.bind_some]
theorem dL_p {α : Type} {T : Th} {a n : Nat} {ty : FieldType} {f : Int32 → Option α} (h : T.1 a = some (.inr (ty, n))) : dL T a ty f = f (iN n) := by
  unfold dL
  rw [h]
  simp only [if_true, iN]
/-- a row at b of n things: the k-th lies at f k -/
def LsT (T : Th) (b n : Nat) (f : Nat → Nat) : Prop := T.1 b = some (.inl 19) ∧ T.2.1 b 2 = iN n ∧ ∃ ar ln, T.2.2.1 b 1 = some ar ∧ T.1 ar = some (.inr (.object "java/lang/Object", ln)) ∧ n ≤ ln ∧ ln ≤ 65536 ∧ ∀ k, k < n → T.2.2.1 ar k = some (f k)
theorem LsT.size {T : Th} {b n : Nat} {f : Nat → Nat} (h : LsT T b n f) : L_size T b = some (iN n) := by
  unfold L_size dI
  rw [if_pos h.1, h.2.1]
theorem LsT.get {T : Th} {b n k : Nat} {f : Nat → Nat} (h : LsT T b n f) (hk : k < n) : L_get T b (iN k) = some (some (f k)) := by
  obtain ⟨h1, h2, ar, ln, h3, h4, h5, h6, h7⟩ := h
  have g1 : J_oci (iN k) (iN n) = some (iN k) := by
    simp (disch := omega) only [J_oci, J_pci, i_0, iN_lt, show ¬ k < 0 by omega, hk, if_true, if_false, Option.bind_some]
  unfold L_get L_elem dI dR dC dA
  simp [h1, h2, g1, h3, h4, ix_n (show k < ln by omega) (by omega), h7 k hk]
theorem LsT.sz {α : Type} {T : Th} {b n : Nat} {f : Nat → Nat} (h : LsT T b n f) (g : Int32 → Option α) : (dC T b 19 <| (L_size T b).bind g) = g (iN n) := by
  unfold dC
  rw [if_pos h.1, h.size]
  rfl
theorem LsT.gt {α : Type} {T : Th} {b n k : Nat} {f : Nat → Nat} (h : LsT T b n f) (hk : k < n) (g : Option Nat → Option α) : (dC T b 19 <| (L_get T b (iN k)).bind g) = g (some (f k)) := by
  unfold dC
  rw [if_pos h.1, h.get hk]
  rfl
def opC (x : Int32) (op : Nat) : Prop := x = 43 ∧ op = 2 ∨ x = 45 ∧ op = 3 ∨ x = 42 ∧ op = 4 ∨ x = 47 ∧ op = 5
/-- the node at a, at most n deep, is the sum c -/
def Nd (T : Th) : Nat → Nat → Br → Prop
  | 0, _, _ => False
  | n + 1, a, c => (T.1 a = some (.inl 16) ∧ c = [(0, T.2.1 a 0)]) ∨ (∃ k, k < 6 ∧ T.1 a = some (.inl 17) ∧ T.2.1 a 0 = iN k ∧ c = [(1, iN k)]) ∨ (T.1 a = some (.inl 18) ∧ ∃ a1 a2 c1 c2 op, T.2.2.1 a 1 = some a1 ∧ T.2.2.1 a 2 = some a2 ∧ Nd T n a1 c1 ∧ Nd T n a2 c2 ∧ c = c1 ++ c2 ++ [(op, 0)] ∧ opC (T.2.1 a 0) op)
def lwT (T : Th) (r : Option Nat) (o : Option Lw) : Prop := match o with
  | none => r = none
  | some L => ∃ a p0 p1 p2, r = some a ∧ T.1 a = some (.inl 15) ∧ T.2.1 a 3 = iN L.1.length ∧ L.1.length ≤ 4 ∧ T.2.2.1 a 0 = some p0 ∧ T.2.2.1 a 1 = some p1 ∧ T.2.2.1 a 2 = some p2 ∧ T.1 p0 = some (.inr (.object "SleepWork$Sum", 4)) ∧ T.1 p1 = some (.inr (.object "SleepWork$Sum", 4)) ∧ T.1 p2 = some (.inr (.object "SleepWork$Sum", 5)) ∧ (∀ i e, L.1[i]? = some e → ∃ n0 n1 n2, T.2.2.1 p0 i = some n0 ∧ T.2.2.1 p1 i = some n1 ∧ T.2.2.1 p2 i = some n2 ∧ Nd T dSum n0 e.1 ∧ Nd T dSum n1 e.2.1 ∧ Nd T dSum n2 e.2.2) ∧ ∃ n, T.2.2.1 p2 L.1.length = some n ∧ Nd T dSum n L.2
/-- the text at tx is X; b: where its rows lie (10 + k: the steps of a task), e: where what is in them lies -/
def TxT (T : Th) (tx : Nat) (X : Xt) (b : Nat → Nat) (e : Nat → Nat → Nat) : Prop := (T.1 tx = some (.inl 4) ∧ T.2.1 tx 5 = iN (xn X) ∧ ∀ j, j < 5 → T.2.2.1 tx j = some (b j) ∧ LsT T (b j) (X.1 j) (e j)) ∧ (∀ d, d < xd X → T.1 (e 1 d) = some (.inl 10) ∧ T.2.1 (e 1 d) 0 = iN (tb X 13 d) ∧ T.2.1 (e 1 d) 1 = iN (tb X 14 d) ∧ T.2.1 (e 1 d) 2 = iN (tb X 15 d) ∧ T.2.1 (e 1 d) 3 = iN (tb X 16 d)) ∧ (∀ t, t < xt X → T.1 (e 2 t) = some (.inl 11) ∧ T.2.1 (e 2 t) 1 = iN (tb X 18 t)) ∧ (∀ k, k < xk X → T.1 (e 3 k) = some (.inl 12) ∧ T.2.1 (e 3 k) 1 = iN (tb X 20 k) ∧ T.2.1 (e 3 k) 2 = iN (tb X 21 k) ∧ T.2.2.1 (e 3 k) 3 = some (b (10 + k)) ∧ LsT T (b (10 + k)) (xs X k) (e (10 + k))) ∧ (∀ k s, k < xk X → s < xs X k → T.1 (e (10 + k) s) = some (.inl 13) ∧ T.2.1 (e (10 + k) s) 0 = iN (tb X 23 (6 * k + s)) ∧ T.2.1 (e (10 + k) s) 1 = iN (tb X 24 (6 * k + s)) ∧ T.2.1 (e (10 + k) s) 2 = iN (tb X 25 (6 * k + s)) ∧ T.2.1 (e (10 + k) s) 3 = iN (tb X 26 (6 * k + s)) ∧ T.2.1 (e (10 + k) s) 4 = oC (tb X 27 (6 * k + s)) ∧ T.2.1 (e (10 + k) s) 5 = oC (tb X 28 (6 * k + s))) ∧ (∀ m, m < xm X → T.1 (e 4 m) = some (.inl 14) ∧ T.2.1 (e 4 m) 1 = iN (tb X 30 m) ∧ T.2.1 (e 4 m) 2 = oC (tb X 31 m) ∧ T.2.1 (e 4 m) 3 = oC (tb X 32 m) ∧ lwT T (T.2.2.1 (e 4 m) 4) (X.2.2 m))
section TXT
variable {T : Th} {tx : Nat} {X : Xt} {b : Nat → Nat} {e : Nat → Nat → Nat} {α : Type}
theorem TxT.r (h : TxT T tx X b e) {j : Nat} (hj : j < 5) (f : Option Nat → Option α) : dR T tx 4 j f = f (some (b j)) := by
  unfold dR
  rw [if_pos h.1.1, (h.1.2.2 j hj).1]
theorem TxT.n (h : TxT T tx X b e) (f : Int32 → Option α) : dI T tx 4 5 f = f (iN (xn X)) := by
  unfold dI
  rw [if_pos h.1.1, h.1.2.1]
theorem TxT.sz (h : TxT T tx X b e) {j : Nat} (hj : j < 5) (g : Int32 → Option α) : (dC T (b j) 19 <| (L_size T (b j)).bind g) = g (iN (X.1 j)) := (h.1.2.2 j hj).2.sz g
theorem TxT.gt (h : TxT T tx X b e) {j k : Nat} (hj : j < 5) (hk : k < X.1 j) (g : Option Nat → Option α) : (dC T (b j) 19 <| (L_get T (b j) (iN k)).bind g) = g (some (e j k)) := (h.1.2.2 j hj).2.gt hk g
theorem TxT.z0 (h : TxT T tx X b e) (g : Int32 → Option α) : (dC T (b 0) 19 <| (L_size T (b 0)).bind g) = g (iN (xr X)) := h.sz (by omega) g
theorem TxT.g0 (h : TxT T tx X b e) {k : Nat} (hk : k < xr X) (g : Option Nat → Option α) : (dC T (b 0) 19 <| (L_get T (b 0) (iN k)).bind g) = g (some (e 0 k)) := h.gt (by omega) hk g
theorem TxT.r0 (h : TxT T tx X b e) (f : Option Nat → Option α) : dR T tx 4 0 f = f (some (b 0)) := h.r (by omega) f
theorem TxT.z1 (h : TxT T tx X b e) (g : Int32 → Option α) : (dC T (b 1) 19 <| (L_size T (b 1)).bind g) = g (iN (xd X)) := h.sz (by omega) g
theorem TxT.g1 (h : TxT T tx X b e) {k : Nat} (hk : k < xd X) (g : Option Nat → Option α) : (dC T (b 1) 19 <| (L_get T (b 1) (iN k)).bind g) = g (some (e 1 k)) := h.gt (by omega) hk g
theorem TxT.r1 (h : TxT T tx X b e) (f : Option Nat → Option α) : dR T tx 4 1 f = f (some (b 1)) := h.r (by omega) f
theorem TxT.z2 (h : TxT T tx X b e) (g : Int32 → Option α) : (dC T (b 2) 19 <| (L_size T (b 2)).bind g) = g (iN (xt X)) := h.sz (by omega) g
theorem TxT.g2 (h : TxT T tx X b e) {k : Nat} (hk : k < xt X) (g : Option Nat → Option α) : (dC T (b 2) 19 <| (L_get T (b 2) (iN k)).bind g) = g (some (e 2 k)) := h.gt (by omega) hk g
theorem TxT.r2 (h : TxT T tx X b e) (f : Option Nat → Option α) : dR T tx 4 2 f = f (some (b 2)) := h.r (by omega) f
theorem TxT.z3 (h : TxT T tx X b e) (g : Int32 → Option α) : (dC T (b 3) 19 <| (L_size T (b 3)).bind g) = g (iN (xk X)) := h.sz (by omega) g
theorem TxT.g3 (h : TxT T tx X b e) {k : Nat} (hk : k < xk X) (g : Option Nat → Option α) : (dC T (b 3) 19 <| (L_get T (b 3) (iN k)).bind g) = g (some (e 3 k)) := h.gt (by omega) hk g
theorem TxT.r3 (h : TxT T tx X b e) (f : Option Nat → Option α) : dR T tx 4 3 f = f (some (b 3)) := h.r (by omega) f
theorem TxT.z4 (h : TxT T tx X b e) (g : Int32 → Option α) : (dC T (b 4) 19 <| (L_size T (b 4)).bind g) = g (iN (xm X)) := h.sz (by omega) g
theorem TxT.g4 (h : TxT T tx X b e) {k : Nat} (hk : k < xm X) (g : Option Nat → Option α) : (dC T (b 4) 19 <| (L_get T (b 4) (iN k)).bind g) = g (some (e 4 k)) := h.gt (by omega) hk g
theorem TxT.r4 (h : TxT T tx X b e) (f : Option Nat → Option α) : dR T tx 4 4 f = f (some (b 4)) := h.r (by omega) f
theorem TxT.cd (h : TxT T tx X b e) {d : Nat} (hd : d < xd X) (f : Option α) : dC T (e 1 d) 10 f = f := if_pos (h.2.1 d hd).1
theorem TxT.d0 (h : TxT T tx X b e) {d : Nat} (hd : d < xd X) (f : Int32 → Option α) : dI T (e 1 d) 10 0 f = f (iN (tb X 13 d)) := by
  unfold dI
  rw [if_pos (h.2.1 d hd).1, (h.2.1 d hd).2.1]
theorem TxT.d1 (h : TxT T tx X b e) {d : Nat} (hd : d < xd X) (f : Int32 → Option α) : dI T (e 1 d) 10 1 f = f (iN (tb X 14 d)) := by
  unfold dI
  rw [if_pos (h.2.1 d hd).1, (h.2.1 d hd).2.2.1]
theorem TxT.d2 (h : TxT T tx X b e) {d : Nat} (hd : d < xd X) (f : Int32 → Option α) : dI T (e 1 d) 10 2 f = f (iN (tb X 15 d)) := by
  unfold dI
  rw [if_pos (h.2.1 d hd).1, (h.2.1 d hd).2.2.2.1]
theorem TxT.d3 (h : TxT T tx X b e) {d : Nat} (hd : d < xd X) (f : Int32 → Option α) : dI T (e 1 d) 10 3 f = f (iN (tb X 16 d)) := by
  unfold dI
  rw [if_pos (h.2.1 d hd).1, (h.2.1 d hd).2.2.2.2]
theorem TxT.ct (h : TxT T tx X b e) {t : Nat} (ht : t < xt X) (f : Option α) : dC T (e 2 t) 11 f = f := if_pos (h.2.2.1 t ht).1
theorem TxT.t1 (h : TxT T tx X b e) {t : Nat} (ht : t < xt X) (f : Int32 → Option α) : dI T (e 2 t) 11 1 f = f (iN (tb X 18 t)) := by
  unfold dI
  rw [if_pos (h.2.2.1 t ht).1, (h.2.2.1 t ht).2]
theorem TxT.ck (h : TxT T tx X b e) {k : Nat} (hk : k < xk X) (f : Option α) : dC T (e 3 k) 12 f = f := if_pos (h.2.2.2.1 k hk).1
theorem TxT.k1 (h : TxT T tx X b e) {k : Nat} (hk : k < xk X) (f : Int32 → Option α) : dI T (e 3 k) 12 1 f = f (iN (tb X 20 k)) := by
  unfold dI
  rw [if_pos (h.2.2.2.1 k hk).1, (h.2.2.2.1 k hk).2.1]
theorem TxT.k2 (h : TxT T tx X b e) {k : Nat} (hk : k < xk X) (f : Int32 → Option α) : dI T (e 3 k) 12 2 f = f (iN (tb X 21 k)) := by
  unfold dI
  rw [if_pos (h.2.2.2.1 k hk).1, (h.2.2.2.1 k hk).2.2.1]
theorem TxT.k3 (h : TxT T tx X b e) {k : Nat} (hk : k < xk X) (f : Option Nat → Option α) : dR T (e 3 k) 12 3 f = f (some (b (10 + k))) := by
  unfold dR
  rw [if_pos (h.2.2.2.1 k hk).1, (h.2.2.2.1 k hk).2.2.2.1]
theorem TxT.ksz (h : TxT T tx X b e) {k : Nat} (hk : k < xk X) (g : Int32 → Option α) : (dC T (b (10 + k)) 19 <| (L_size T (b (10 + k))).bind g) = g (iN (xs X k)) := (h.2.2.2.1 k hk).2.2.2.2.sz g
theorem TxT.kgt (h : TxT T tx X b e) {k s : Nat} (hk : k < xk X) (hs : s < xs X k) (g : Option Nat → Option α) : (dC T (b (10 + k)) 19 <| (L_get T (b (10 + k)) (iN s)).bind g) = g (some (e (10 + k) s)) := (h.2.2.2.1 k hk).2.2.2.2.gt hs g
theorem TxT.cs (h : TxT T tx X b e) {k s : Nat} (hk : k < xk X) (hs : s < xs X k) (f : Option α) : dC T (e (10 + k) s) 13 f = f := if_pos (h.2.2.2.2.1 k s hk hs).1
theorem TxT.s0 (h : TxT T tx X b e) {k s : Nat} (hk : k < xk X) (hs : s < xs X k) (f : Int32 → Option α) : dI T (e (10 + k) s) 13 0 f = f (iN (tb X 23 (6 * k + s))) := by
  unfold dI
  rw [if_pos (h.2.2.2.2.1 k s hk hs).1, (h.2.2.2.2.1 k s hk hs).2.1]
theorem TxT.s1 (h : TxT T tx X b e) {k s : Nat} (hk : k < xk X) (hs : s < xs X k) (f : Int32 → Option α) : dI T (e (10 + k) s) 13 1 f = f (iN (tb X 24 (6 * k + s))) := by
  unfold dI
  rw [if_pos (h.2.2.2.2.1 k s hk hs).1, (h.2.2.2.2.1 k s hk hs).2.2.1]
theorem TxT.s2 (h : TxT T tx X b e) {k s : Nat} (hk : k < xk X) (hs : s < xs X k) (f : Int32 → Option α) : dI T (e (10 + k) s) 13 2 f = f (iN (tb X 25 (6 * k + s))) := by
  unfold dI
  rw [if_pos (h.2.2.2.2.1 k s hk hs).1, (h.2.2.2.2.1 k s hk hs).2.2.2.1]
theorem TxT.s3 (h : TxT T tx X b e) {k s : Nat} (hk : k < xk X) (hs : s < xs X k) (f : Int32 → Option α) : dI T (e (10 + k) s) 13 3 f = f (iN (tb X 26 (6 * k + s))) := by
  unfold dI
  rw [if_pos (h.2.2.2.2.1 k s hk hs).1, (h.2.2.2.2.1 k s hk hs).2.2.2.2.1]
theorem TxT.s4 (h : TxT T tx X b e) {k s : Nat} (hk : k < xk X) (hs : s < xs X k) (f : Int32 → Option α) : dI T (e (10 + k) s) 13 4 f = f (oC (tb X 27 (6 * k + s))) := by
  unfold dI
  rw [if_pos (h.2.2.2.2.1 k s hk hs).1, (h.2.2.2.2.1 k s hk hs).2.2.2.2.2.1]
theorem TxT.s5 (h : TxT T tx X b e) {k s : Nat} (hk : k < xk X) (hs : s < xs X k) (f : Int32 → Option α) : dI T (e (10 + k) s) 13 5 f = f (oC (tb X 28 (6 * k + s))) := by
  unfold dI
  rw [if_pos (h.2.2.2.2.1 k s hk hs).1, (h.2.2.2.2.1 k s hk hs).2.2.2.2.2.2]
theorem TxT.cm (h : TxT T tx X b e) {m : Nat} (hm : m < xm X) (f : Option α) : dC T (e 4 m) 14 f = f := if_pos (h.2.2.2.2.2 m hm).1
theorem TxT.m1 (h : TxT T tx X b e) {m : Nat} (hm : m < xm X) (f : Int32 → Option α) : dI T (e 4 m) 14 1 f = f (iN (tb X 30 m)) := by
  unfold dI
  rw [if_pos (h.2.2.2.2.2 m hm).1, (h.2.2.2.2.2 m hm).2.1]
theorem TxT.m2 (h : TxT T tx X b e) {m : Nat} (hm : m < xm X) (f : Int32 → Option α) : dI T (e 4 m) 14 2 f = f (oC (tb X 31 m)) := by
  unfold dI
  rw [if_pos (h.2.2.2.2.2 m hm).1, (h.2.2.2.2.2 m hm).2.2.1]
theorem TxT.m3 (h : TxT T tx X b e) {m : Nat} (hm : m < xm X) (f : Int32 → Option α) : dI T (e 4 m) 14 3 f = f (oC (tb X 32 m)) := by
  unfold dI
  rw [if_pos (h.2.2.2.2.2 m hm).1, (h.2.2.2.2.2 m hm).2.2.2.1]
theorem TxT.m4 (h : TxT T tx X b e) {m : Nat} (hm : m < xm X) (f : Option Nat → Option α) : dR T (e 4 m) 14 4 f = f (T.2.2.1 (e 4 m) 4) := by
  unfold dR
  rw [if_pos (h.2.2.2.2.2 m hm).1]
end TXT
section TXJ
variable {J : Ji} {l : Nat} {X : Xt} {α : Type}
theorem TxJ.lv (h : TxJ J l X) : J 0 18 = iN l := h.1.2.1
theorem TxJ.l2 (h : TxJ J l X) : l < 2 := h.1.1
theorem TxJ.r (h : TxJ J l X) : J 11 l = iN (xr X) := h.1.2.2.1
theorem TxJ.d (h : TxJ J l X) : J 12 l = iN (xd X) := h.1.2.2.2.1
theorem TxJ.t (h : TxJ J l X) : J 17 l = iN (xt X) := h.1.2.2.2.2.1
theorem TxJ.k (h : TxJ J l X) : J 19 l = iN (xk X) := h.1.2.2.2.2.2.1
theorem TxJ.m (h : TxJ J l X) : J 29 l = iN (xm X) := h.1.2.2.2.2.2.2.1
theorem TxJ.n (h : TxJ J l X) : J 41 l = iN (xn X) := h.1.2.2.2.2.2.2.2
theorem TxJ.tasks (h : TxJ J l X) : M_tasksNow J = some (iN (xk X)) := by
  unfold M_tasksNow
  rw [h.lv, ldI_n h.l2 (by omega), h.k]
theorem TxJ.men (h : TxJ J l X) : M_menNow J = some (iN (xm X)) := by
  unfold M_menNow
  rw [h.lv, ldI_n h.l2 (by omega), h.m]
theorem TxJ.steps (h : TxJ J l X) (hV : TxV X) {k : Nat} (hk : k < xk X) : M_stepsOf J (iN k) = some (iN (xs X k)) := by
  have := hV.1.2.2.2.1
  have := h.l2
  unfold M_stepsOf
  rw [h.lv, i_6, iN_mul, iN_add, ldI_n (by omega) (by omega), (h.2.2.2.1 k hk).2.2]
theorem TxJ.at_ (h : TxJ J l X) {k s : Nat} : M_stepAt J (iN k) (iN s) = some (iN (6 * (6 * l + k) + s)) := by
  unfold M_stepAt
  rw [h.lv, i_6, iN_mul, iN_add, iN_mul, iN_add]
end TXJ
theorem oM_0 : oM 0 = iM 1 := rfl
theorem oC_0 : oC 0 = iM 2 := rfl
theorem oM_s {x : Nat} : oM (x + 1) = iN x := rfl
theorem oC_s {x : Nat} : oC (x + 1) = iN x := rfl
/-- the component's sign for what the model has there -/
def onC (v : Int32) : Int32 := if 0 ≤ v then v else -2
theorem onC_n {k : Nat} (h : k < 2147483648) : onC (iN k) = iN k := by
  simp (disch := omega) only [onC, i_0, iN_le, Nat.zero_le, if_true]
theorem onC_m : onC (iM 1) = iM 2 := rfl
theorem oM_on {x : Nat} (h : x < 2147483648) : onC (oM x) = oC x := by
  cases x with
  | zero => rfl
  | succ n => rw [oM_s, oC_s, onC_n (by omega)]
