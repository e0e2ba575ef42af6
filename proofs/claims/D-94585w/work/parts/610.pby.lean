/-! PURE LAW 19: bytes, names as numbers -/
set_option maxRecDepth 100000
def byt (c : Int32) : Prop := c.toInt8.toInt32 = c
def byF (x : Fin 256) : Int32 := (Int8.ofNat x.1).toInt32
theorem by_fin {c : Int32} (h : byt c) : ∃ x, c = byF x := by
  refine ⟨⟨c.toInt8.toBitVec.toNat, c.toInt8.toBitVec.isLt⟩, ?_⟩
  unfold byF
  have : Int8.ofNat c.toInt8.toBitVec.toNat = c.toInt8 := by
    rw [← Int8.toBitVec_inj]
    show BitVec.ofNat 8 c.toInt8.toBitVec.toNat = c.toInt8.toBitVec
    rw [BitVec.ofNat_toNat]
    simp
  show c = (Int8.ofNat c.toInt8.toBitVec.toNat).toInt32
  rw [this]
  exact h.symm
theorem by_all {P : Int32 → Bool} (hP : ∀ x, P (byF x) = true) {c : Int32} (h : byt c) : P c = true := by
  obtain ⟨x, rfl⟩ := by_fin h
  exact hP x
def isL (c : Int32) : Bool := decide (¬ c < 97 ∧ ¬ 122 < c)
def isD (c : Int32) : Bool := decide (¬ c < 48 ∧ ¬ 57 < c)
def isB (c : Int32) : Bool := decide (c = 32 ∨ c = 9 ∨ c = 10 ∨ c = 13)
/-- the model's sign for a byte -/
def sgM (c : Int32) : Int32 := if c = 59 then 4 else if c = 61 then 5 else if c = 40 then 6 else if c = 41 then 7 else if c = 43 then 8 else if c = 45 then 9 else if c = 42 then 10 else if c = 47 then 15 else if c = 60 then 13 else 3
def isG (c : Int32) : Bool := decide (c = 59 ∨ c = 61 ∨ c = 40 ∨ c = 41 ∨ c = 43 ∨ c = 45 ∨ c = 42 ∨ c = 47 ∨ c = 60)
theorem by_m : ∀ x, (decide (isL (byF x &&& 255) = isL (byF x)) && decide (isD (byF x &&& 255) = isD (byF x)) && decide (isB (byF x &&& 255) = isB (byF x)) && decide (sgM (byF x &&& 255) = sgM (byF x)) && (!(isL (byF x)) || decide (byF x &&& 255 = byF x)) && (!(isD (byF x)) || decide (byF x &&& 255 = byF x)) && (decide ((byF x = 9) = (byF x &&& 255 = 9))) && (decide ((byF x = 10) = (byF x &&& 255 = 10))) && (decide ((byF x = 13) = (byF x &&& 255 = 13))) && (decide ((byF x = 32) = (byF x &&& 255 = 32)))) = true := by decide +kernel
theorem by_255 {c : Int32} (h : byt c) : isL (c &&& 255) = isL c ∧ isD (c &&& 255) = isD c ∧ isB (c &&& 255) = isB c ∧ sgM (c &&& 255) = sgM c ∧ (isL c = true → c &&& 255 = c) ∧ (isD c = true → c &&& 255 = c) := by
  have h1 := by_all (P := fun c => decide (isL (c &&& 255) = isL c) && decide (isD (c &&& 255) = isD c) && decide (isB (c &&& 255) = isB c) && decide (sgM (c &&& 255) = sgM c) && (!(isL c) || decide (c &&& 255 = c)) && (!(isD c) || decide (c &&& 255 = c)) && (decide ((c = 9) = (c &&& 255 = 9))) && (decide ((c = 10) = (c &&& 255 = 10))) && (decide ((c = 13) = (c &&& 255 = 13))) && (decide ((c = 32) = (c &&& 255 = 32)))) by_m h
  simp only [Bool.and_eq_true, decide_eq_true_eq, Bool.or_eq_true, Bool.not_eq_true'] at h1
  obtain ⟨⟨⟨⟨⟨⟨⟨⟨⟨a1, a2⟩, a3⟩, a4⟩, a5⟩, a6⟩, _⟩, _⟩, _⟩, _⟩ := h1
  exact ⟨a1, a2, a3, a4, fun hl => a5.resolve_left (by rw [hl]; simp), fun hl => a6.resolve_left (by rw [hl]; simp)⟩
theorem by_ws {c : Int32} (h : byt c) : (c = 9) = (c &&& 255 = 9) ∧ (c = 10) = (c &&& 255 = 10) ∧ (c = 13) = (c &&& 255 = 13) ∧ (c = 32) = (c &&& 255 = 32) := by
  have h1 := by_all (P := fun c => decide (isL (c &&& 255) = isL c) && decide (isD (c &&& 255) = isD c) && decide (isB (c &&& 255) = isB c) && decide (sgM (c &&& 255) = sgM c) && (!(isL c) || decide (c &&& 255 = c)) && (!(isD c) || decide (c &&& 255 = c)) && (decide ((c = 9) = (c &&& 255 = 9))) && (decide ((c = 10) = (c &&& 255 = 10))) && (decide ((c = 13) = (c &&& 255 = 13))) && (decide ((c = 32) = (c &&& 255 = 32)))) by_m h
  simp only [Bool.and_eq_true, decide_eq_true_eq] at h1
  exact ⟨h1.1.1.1.2, h1.1.1.2, h1.1.2, h1.2⟩
/-- a letter is one of 26 -/
theorem isL_n {c : Int32} (h : isL c = true) : ∃ d, d < 26 ∧ c = iN (97 + d) := by
  unfold isL at h
  rw [decide_eq_true_eq] at h
  obtain ⟨h1, h2⟩ := h
  have h0 : ¬ c < 0 := fun hh => h1 (Int32.lt_trans hh (by decide))
  obtain ⟨k, hk, rfl⟩ := nn_iN h0
  rw [show (97 : Int32) = iN 97 from rfl, iN_lt hk (by omega)] at h1
  rw [show (122 : Int32) = iN 122 from rfl, iN_lt (by omega) hk] at h2
  exact ⟨k - 97, by omega, by congr 1; omega⟩
theorem isD_n {c : Int32} (h : isD c = true) : ∃ d, d < 10 ∧ c = iN (48 + d) := by
  unfold isD at h
  rw [decide_eq_true_eq] at h
  obtain ⟨h1, h2⟩ := h
  have h0 : ¬ c < 0 := fun hh => h1 (Int32.lt_trans hh (by decide))
  obtain ⟨k, hk, rfl⟩ := nn_iN h0
  rw [show (48 : Int32) = iN 48 from rfl, iN_lt hk (by omega)] at h1
  rw [show (57 : Int32) = iN 57 from rfl, iN_lt (by omega) hk] at h2
  exact ⟨k - 48, by omega, by congr 1; omega⟩
/-! segments of the tape -/
def seg (f : Nat → Int32) (p : Nat) : Nat → List Int32
  | 0 => []
  | k + 1 => seg f p k ++ [f (p + k)]
theorem seg_len {f : Nat → Int32} {p : Nat} : ∀ k, (seg f p k).length = k := by
  intro k
  induction k with
  | zero => rfl
  | succ k ih => simp [seg, ih]
theorem seg_get {f : Nat → Int32} {p : Nat} : ∀ k i, i < k → (seg f p k)[i]? = some (f (p + i)) := by
  intro k
  induction k with
  | zero => intro i h; omega
  | succ k ih =>
    intro i h
    unfold seg
    by_cases c : i < k
    · rw [List.getElem?_append_left (by rw [seg_len]; exact c)]
      exact ih i c
    · have : i = k := by omega
      subst this
      rw [List.getElem?_append_right (by rw [seg_len]; exact Nat.le_refl _), seg_len, Nat.sub_self]
      rfl
/-- a name as a number -/
def c27 (L : List Int32) : Int64 := L.foldl (fun a c => 27 * a + ((c - 97) + 1).toInt64) 0
def n27 (L : List Int32) : Nat := L.foldl (fun a c => 27 * a + (c.toNatClampNeg - 96)) 0
theorem c27_s {L : List Int32} {c : Int32} : c27 (L ++ [c]) = 27 * c27 L + ((c - 97) + 1).toInt64 := by
  unfold c27
  rw [List.foldl_append]
  rfl
theorem n27_s {L : List Int32} {c : Int32} : n27 (L ++ [c]) = 27 * n27 L + (c.toNatClampNeg - 96) := by
  unfold n27
  rw [List.foldl_append]
  rfl
def allL (L : List Int32) : Prop := ∀ c ∈ L, isL c = true
theorem lrev {P : List Int32 → Prop} (h0 : P []) (h1 : ∀ L c, P L → P (L ++ [c])) : ∀ L, P L := by
  intro L
  have : ∀ M : List Int32, P M.reverse := by
    intro M
    induction M with
    | nil => exact h0
    | cons a M ih =>
      rw [List.reverse_cons]
      exact h1 _ _ ih
  have := this L.reverse
  rwa [List.reverse_reverse] at this
theorem n27_b : ∀ L, allL L → n27 L < 27 ^ L.length ∧ (L ≠ [] → 1 ≤ n27 L) := by
  apply lrev
  · intro _
    exact ⟨by decide, fun h => absurd rfl h⟩
  · intro L c ih hL
    obtain ⟨a1, a2⟩ := ih (fun x hx => hL x (List.mem_append_left _ hx))
    obtain ⟨d, hd, rfl⟩ := isL_n (hL c (by simp))
    rw [n27_s, iN_tN (by omega), List.length_append, Nat.pow_add]
    simp only [List.length_cons, List.length_nil, Nat.zero_add, Nat.pow_one]
    refine ⟨?_, fun _ => by omega⟩
    omega
theorem c27_n : ∀ L, allL L → c27 L = Int64.ofNat (n27 L) := by
  apply lrev
  · intro _; rfl
  · intro L c ih hL
    rw [c27_s, ih (fun x hx => hL x (List.mem_append_left _ hx)), n27_s]
    obtain ⟨d, hd, rfl⟩ := isL_n (hL c (by simp))
    have e1 : (iN (97 + d) - 97 + 1).toInt64 = Int64.ofNat (d + 1) := by
      rw [show (97 : Int32) = iN 97 from rfl, iN_sub (by omega), i_1, iN_add, show 97 + d - 97 + 1 = d + 1 by omega]
      unfold iN
      exact Int32.toInt64_ofNat' (by
        show ((d + 1 : Nat) : Int) ≤ 2147483647
        omega)
    rw [e1, iN_tN (by omega), show 97 + d - 96 = d + 1 by omega, Int64.ofNat_add (27 * n27 L) (d + 1), Int64.ofNat_mul]
    rfl
theorem n27_i : ∀ L, allL L → ∀ M, allL M → n27 L = n27 M → L = M := by
  apply lrev
  · intro _ M hM h
    rcases List.eq_nil_or_concat M with rfl | ⟨N, c, rfl⟩
    · rfl
    · have := (n27_b _ hM).2 (by simp)
      have h0 : n27 [] = 0 := rfl
      omega
  · intro L c ih hL M hM h
    rcases List.eq_nil_or_concat M with rfl | ⟨N, c', rfl⟩
    · have := (n27_b _ hL).2 (by simp)
      have h0 : n27 [] = 0 := rfl
      omega
    · rw [List.concat_eq_append] at *
      obtain ⟨d, hd, rfl⟩ := isL_n (hL c (by simp))
      obtain ⟨d', hd', rfl⟩ := isL_n (hM c' (by simp))
      rw [n27_s, n27_s, iN_tN (by omega), iN_tN (by omega)] at h
      have e1 : d = d' := by omega
      subst e1
      rw [ih (fun x hx => hL x (List.mem_append_left _ hx)) N (fun x hx => hM x (List.mem_append_left _ hx)) (by omega)]
theorem c27_i {L M : List Int32} (hL : allL L) (hM : allL M) (l8 : L.length ≤ 8) (m8 : M.length ≤ 8) : c27 L = c27 M ↔ L = M := by
  constructor
  · intro h
    rw [c27_n L hL, c27_n M hM] at h
    have b1 := (n27_b L hL).1
    have b2 := (n27_b M hM).1
    have p1 : 27 ^ L.length ≤ 27 ^ 8 := Nat.pow_le_pow_right (by omega) l8
    have p2 : 27 ^ M.length ≤ 27 ^ 8 := Nat.pow_le_pow_right (by omega) m8
    have : n27 L = n27 M := by
      have h2 := congrArg Int64.toInt h
      rw [Int64.toInt_ofNat_of_lt (by omega), Int64.toInt_ofNat_of_lt (by omega)] at h2
      omega
    exact n27_i L hL M hM this
  · intro h
    rw [h]
/-- a number's digits -/
def nv (f : Nat → Int32) (p : Nat) : Nat → Int32
  | 0 => 0
  | k + 1 => ((10 * nv f p k) + f (p + k)) - 48
theorem nv_b {f : Nat → Int32} {p : Nat} : ∀ k, k ≤ 4 → (∀ i, i < k → isD (f (p + i)) = true) → ∃ v, v < 10 ^ k ∧ nv f p k = iN v := by
  intro k
  induction k with
  | zero => intro _ _; exact ⟨0, by decide, rfl⟩
  | succ k ih =>
    intro hk hd
    obtain ⟨v, v1, v2⟩ := ih (by omega) (fun i hi => hd i (by omega))
    obtain ⟨d, hd1, hd2⟩ := isD_n (hd k (by omega))
    refine ⟨10 * v + d, by rw [Nat.pow_succ]; omega, ?_⟩
    show ((10 * nv f p k) + f (p + k)) - 48 = _
    have p1 : 10 ^ k ≤ 10 ^ 4 := Nat.pow_le_pow_right (by omega) (by omega)
    rw [v2, hd2, i_10, iN_mul, iN_add, i_48, iN_sub (by omega)]
    congr 1
    omega
