/-! PURE LAW 1: small numbers, tables, two runs side by side -/
set_option maxRecDepth 100000
def iN (n : Nat) : Int32 := Int32.ofNat n
def iM (n : Nat) : Int32 := -(Int32.ofNat n)
theorem iN_tI {n : Nat} (h : n < 2147483648) : (iN n).toInt = n := Int32.toInt_ofNat_of_lt (show n < 2 ^ 31 from h)
theorem iM_tI {n : Nat} (h : n ≤ 2147483648) : (iM n).toInt = -(n : Int) := by
  unfold iM
  rw [Int32.neg_ofNat]
  exact Int32.toInt_ofInt_of_le (by omega) (by omega)
theorem iN_tN {n : Nat} (h : n < 2147483648) : (iN n).toNatClampNeg = n := Int32.toNatClampNeg_ofNat_of_lt (show n < 2 ^ 31 from h)
theorem iN_lt {a b : Nat} (ha : a < 2147483648) (hb : b < 2147483648) : (iN a < iN b) = (a < b) := propext (by rw [Int32.lt_iff_toInt_lt, iN_tI ha, iN_tI hb]; omega)
theorem iN_le {a b : Nat} (ha : a < 2147483648) (hb : b < 2147483648) : (iN a ≤ iN b) = (a ≤ b) := propext (by rw [Int32.le_iff_toInt_le, iN_tI ha, iN_tI hb]; omega)
theorem iN_eq {a b : Nat} (ha : a < 2147483648) (hb : b < 2147483648) : (iN a = iN b) = (a = b) := propext (by rw [← Int32.toInt_inj, iN_tI ha, iN_tI hb]; omega)
theorem iN_em {a b : Nat} (ha : a < 2147483648) (hb : 0 < b) (hb' : b ≤ 2147483648) : (iN a = iM b) = False := eq_false (by rw [← Int32.toInt_inj, iN_tI ha, iM_tI hb']; omega)
theorem iM_en {a b : Nat} (ha : a < 2147483648) (hb : 0 < b) (hb' : b ≤ 2147483648) : (iM b = iN a) = False := eq_false (by rw [← Int32.toInt_inj, iN_tI ha, iM_tI hb']; omega)
theorem iM_eq {a b : Nat} (ha : a ≤ 2147483648) (hb : b ≤ 2147483648) : (iM a = iM b) = (a = b) := propext (by rw [← Int32.toInt_inj, iM_tI ha, iM_tI hb]; omega)
theorem iN_ltm {a b : Nat} (ha : a < 2147483648) (hb' : b ≤ 2147483648) : (iN a < iM b) = False := eq_false (by rw [Int32.lt_iff_toInt_lt, iN_tI ha, iM_tI hb']; omega)
theorem iM_ltn {a b : Nat} (ha : a < 2147483648) (hb : 0 < b) (hb' : b ≤ 2147483648) : (iM b < iN a) = True := eq_true (by rw [Int32.lt_iff_toInt_lt, iN_tI ha, iM_tI hb']; omega)
theorem iN_lem {a b : Nat} (ha : a < 2147483648) (hb : 0 < b) (hb' : b ≤ 2147483648) : (iN a ≤ iM b) = False := eq_false (by rw [Int32.le_iff_toInt_le, iN_tI ha, iM_tI hb']; omega)
theorem iM_len {a b : Nat} (ha : a < 2147483648) (hb' : b ≤ 2147483648) : (iM b ≤ iN a) = True := eq_true (by rw [Int32.le_iff_toInt_le, iN_tI ha, iM_tI hb']; omega)
theorem iN_add {a b : Nat} : iN a + iN b = iN (a + b) := (Int32.ofNat_add a b).symm
theorem iN_mul {a b : Nat} : iN a * iN b = iN (a * b) := (Int32.ofNat_mul a b).symm
theorem iN_sub {a b : Nat} (h : b ≤ a) : iN a - iN b = iN (a - b) := (Int32.ofNat_sub a b h).symm
theorem iN_addm {a b : Nat} (h : b ≤ a) : iN a + iM b = iN (a - b) := by
  rw [← iN_sub h, Int32.sub_eq_add_neg]
  rfl
theorem iN_subm {a b : Nat} (h : a < b) : iN a - iN b = iM (b - a) := by
  have h1 : iN b - iN a = iN (b - a) := iN_sub (by omega)
  have h2 : iN a - iN b = -(iN b - iN a) := Int32.neg_sub.symm
  rw [h2, h1]
  rfl
theorem iN_neg {n : Nat} : -iN n = iM n := rfl
theorem lt_e {α β : Type} (a : α) (f : α → β) : lt_ a f = f a := rfl
theorem i_0 : (0 : Int32) = iN 0 := rfl
theorem i_1 : (1 : Int32) = iN 1 := rfl
theorem i_2 : (2 : Int32) = iN 2 := rfl
theorem i_3 : (3 : Int32) = iN 3 := rfl
theorem i_4 : (4 : Int32) = iN 4 := rfl
theorem i_5 : (5 : Int32) = iN 5 := rfl
theorem i_6 : (6 : Int32) = iN 6 := rfl
theorem i_8 : (8 : Int32) = iN 8 := rfl
theorem i_10 : (10 : Int32) = iN 10 := rfl
theorem i_12 : (12 : Int32) = iN 12 := rfl
theorem i_20 : (20 : Int32) = iN 20 := rfl
theorem i_30 : (30 : Int32) = iN 30 := rfl
theorem i_42 : (42 : Int32) = iN 42 := rfl
theorem i_48 : (48 : Int32) = iN 48 := rfl
theorem i_54 : (54 : Int32) = iN 54 := rfl
theorem i_60 : (60 : Int32) = iN 60 := rfl
theorem i_64 : (64 : Int32) = iN 64 := rfl
theorem i_66 : (66 : Int32) = iN 66 := rfl
theorem i_72 : (72 : Int32) = iN 72 := rfl
theorem i_78 : (78 : Int32) = iN 78 := rfl
theorem i_79 : (79 : Int32) = iN 79 := rfl
theorem i_100 : (100 : Int32) = iN 100 := rfl
theorem i_1900 : (1900 : Int32) = iN 1900 := rfl
theorem i_far : (1000000 : Int32) = iN 1000000 := rfl
theorem ix_n {a n : Nat} (h : a < n) (hn : n ≤ 2147483648) : ix (iN a) n = some a := by
  have h1 : ¬ (iN a < 0 ∨ n ≤ (iN a).toNatClampNeg) := by
    rw [iN_tN (by omega), i_0, iN_lt (by omega) (by omega)]
    omega
  unfold ix
  rw [if_neg h1, iN_tN (by omega)]
theorem ldI_n {α : Type} {J : Ji} {off n a : Nat} {f : Int32 → Option α} (h : a < n) (hn : n ≤ 2147483648) : ldI J off n (iN a) f = f (J off a) := by
  unfold ldI
  rw [ix_n h hn]
  rfl
theorem stI_n {α : Type} {J : Ji} {off n a : Nat} {x : Int32} {f : Ji → Option α} (h : a < n) (hn : n ≤ 2147483648) : stI J off n (iN a) x f = f (uJ J off a x) := by
  unfold stI
  rw [ix_n h hn]
  rfl
theorem ldL_n {α : Type} {K : Jl} {off n a : Nat} {f : Int64 → Option α} (h : a < n) (hn : n ≤ 2147483648) : ldL K off n (iN a) f = f (K off a) := by
  unfold ldL
  rw [ix_n h hn]
  rfl
theorem stL_n {α : Type} {K : Jl} {off n a : Nat} {x : Int64} {f : Jl → Option α} (h : a < n) (hn : n ≤ 2147483648) : stL K off n (iN a) x f = f (uL K off a x) := by
  unfold stL
  rw [ix_n h hn]
  rfl
theorem stV_n {α : Type} {V : Nat → Ji} {k off n a : Nat} {x : Int32} {f : (Nat → Ji) → Option α} (h : a < n) (hn : n ≤ 2147483648) : stV V k off n (iN a) x f = f (vf_upd V k (uJ (V k) off a x)) := by
  unfold stV
  rw [stI_n h hn]
theorem uJ_o {J : Ji} {a i b : Nat} {v : Int32} (h : b ≠ a) : uJ J a i v b = J b := vf_ne _ _ h
theorem uJ_s {J : Ji} {a i j : Nat} {v : Int32} : uJ J a i v a j = if j = i then v else J a j := by
  unfold uJ
  rw [vf_self]
  rfl
theorem uJ_ss {J : Ji} {a i : Nat} {v : Int32} : uJ J a i v a i = v := by rw [uJ_s, if_pos rfl]
theorem uJ_sn {J : Ji} {a i j : Nat} {v : Int32} (h : j ≠ i) : uJ J a i v a j = J a j := by rw [uJ_s, if_neg h]
theorem uJ_ap {J : Ji} {a i b j : Nat} {v : Int32} : uJ J a i v b j = if b = a ∧ j = i then v else J b j := by
  by_cases h : b = a
  · subst h
    rw [uJ_s]
    by_cases h2 : j = i <;> simp [h2]
  · rw [uJ_o h, if_neg (fun h2 => h h2.1)]
/-- two runs, both whole -/
def Bo {α β : Type} (x : Option α) (y : Option β) (R : α → β → Prop) : Prop := ∃ a b, x = some a ∧ y = some b ∧ R a b
def Ok {α : Type} (x : Option α) (P : α → Prop) : Prop := ∃ a, x = some a ∧ P a
theorem Ok.mk {α : Type} {a : α} {P : α → Prop} (h : P a) : Ok (some a) P := ⟨a, rfl, h⟩
theorem Bo.mk {α β : Type} {a : α} {b : β} {R : α → β → Prop} (h : R a b) : Bo (some a) (some b) R := ⟨a, b, rfl, rfl, h⟩
theorem Ok.bd {α β : Type} {x : Option α} {f : α → Option β} {P : α → Prop} {Q : β → Prop} (h : Ok x P) (k : ∀ a, P a → Ok (f a) Q) : Ok (x.bind f) Q := by
  obtain ⟨a, rfl, h1⟩ := h
  exact k a h1
theorem Bo.bd {α β γ δ : Type} {x : Option α} {y : Option β} {f : α → Option γ} {g : β → Option δ} {R : α → β → Prop} {R' : γ → δ → Prop} (h : Bo x y R) (k : ∀ a b, R a b → Bo (f a) (g b) R') : Bo (x.bind f) (y.bind g) R' := by
  obtain ⟨a, b, rfl, rfl, h1⟩ := h
  exact k a b h1
theorem Bo.bl {α γ δ : Type} {x : Option α} {y : Option δ} {f : α → Option γ} {P : α → Prop} {R' : γ → δ → Prop} (h : Ok x P) (k : ∀ a, P a → Bo (f a) y R') : Bo (x.bind f) y R' := by
  obtain ⟨a, rfl, h1⟩ := h
  exact k a h1
theorem Bo.br {α γ δ : Type} {x : Option α} {y : Option δ} {f : α → Option γ} {P : α → Prop} {R' : δ → γ → Prop} (h : Ok x P) (k : ∀ a, P a → Bo y (f a) R') : Bo y (x.bind f) R' := by
  obtain ⟨a, rfl, h1⟩ := h
  exact k a h1
theorem Bo.im {α β : Type} {x : Option α} {y : Option β} {R R' : α → β → Prop} (h : Bo x y R) (k : ∀ a b, R a b → R' a b) : Bo x y R' := by
  obtain ⟨a, b, h1, h2, h3⟩ := h
  exact ⟨a, b, h1, h2, k a b h3⟩
theorem Ok.im {α : Type} {x : Option α} {P P' : α → Prop} (h : Ok x P) (k : ∀ a, P a → P' a) : Ok x P' := by
  obtain ⟨a, h1, h3⟩ := h
  exact ⟨a, h1, k a h3⟩
/-- a number out of 0 .. n - 1 -/
def idx (a : Int32) (n : Nat) : Prop := ∃ k, k < n ∧ a = iN k
theorem in_idx {a : Int32} {n : Nat} (hn : n < 2147483648) (h : idx a n) : ¬ a < 0 ∧ ¬ iN n - 1 < a := by
  obtain ⟨k, hk, rfl⟩ := h
  have h1 : iN n - 1 = iN (n - 1) := by rw [i_1, iN_sub (by omega)]
  rw [h1, i_0, iN_lt (by omega) (by omega), iN_lt (by omega) (by omega)]
  omega
theorem in_not {a : Int32} {n : Nat} (hn : n < 2147483648) (h : ¬ idx a n) : a < 0 ∨ iN n - 1 < a := by
  by_cases h0 : a < 0
  · exact Or.inl h0
  right
  have h1 : 0 ≤ a := Int32.not_lt.1 h0
  have e : a = iN a.toNatClampNeg := (Int32.ofNat_toNatClampNeg a h1).symm
  have hb : a.toNatClampNeg < 2147483648 := Int32.toNatClampNeg_lt a
  have hk : ¬ a.toNatClampNeg < n := fun hk => h ⟨_, hk, e⟩
  rw [e]
  by_cases hz : n = 0
  · subst hz
    rw [i_1, iN_subm (by omega), iM_ltn hb (by omega) (by omega)]
    trivial
  · rw [i_1, iN_sub (by omega), iN_lt (by omega) hb]
    omega
/-- any number that is not negative -/
theorem nn_iN {a : Int32} (h : ¬ a < 0) : ∃ k, k < 2147483648 ∧ a = iN k := ⟨a.toNatClampNeg, Int32.toNatClampNeg_lt a, (Int32.ofNat_toNatClampNeg a (Int32.not_lt.1 h)).symm⟩
