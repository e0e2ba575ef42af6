/-! PURE LAW 15: bars, suspicions -/
set_option maxRecDepth 100000
def bsf (x : Int32) : Nat → Nat → Int32 → Int32
  | _, 0, acc => acc
  | k, d + 1, acc => bsf x (k + 1) d (acc + ((x >>> (iN k &&& 31)) &&& 1))
theorem bc_all : ∀ s : Fin 4096, J_bitCount (iN s.1) = some (bsf (iN s.1) 0 12 0) := by decide +kernel
theorem bc_ok {s : Nat} (h : s < 4096) : J_bitCount (iN s) = some (bsf (iN s) 0 12 0) := bc_all ⟨s, h⟩
theorem bm_L {F : Nat} {x : Int32} : ∀ n k d acc, k + d = 12 → d < n → M_bits_L4 F n x acc (iN k) = some (bsf x k d acc) := by
  intro n
  induction n with
  | zero => intro k d acc h1 h2; omega
  | succ n ih =>
    intro k d acc h1 h2
    cases d with
    | zero =>
      have : k = 12 := by omega
      subst this
      simp (disch := omega) only [M_bits_L4, M_bits_B4, i_12, iN_le, if_pos (Nat.le_refl _)]
      rfl
    | succ d =>
      have := ih (k + 1) d (acc + ((x >>> (iN k &&& 31)) &&& 1)) (by omega) (by omega)
      simp (disch := omega) only [M_bits_L4, M_bits_B4, i_12, iN_le, if_neg (show ¬ 12 ≤ k by omega), lt_e, show iN k + 1 = iN (k + 1) by rw [i_1, iN_add]]
      exact this
theorem bm_ok {F : Nat} {s : Nat} (hF : 20 ≤ F) (h : s < 4096) : M_bits F (iN s) = J_bitCount (iN s) := by
  rw [bc_ok h]
  exact bm_L F 0 12 0 rfl (by omega)
theorem sh_n {d : Nat} (h : d ≤ 12) : (1 : Int32) <<< (iN d &&& 31) = iN (2 ^ d) := by
  have : d = 0 ∨ d = 1 ∨ d = 2 ∨ d = 3 ∨ d = 4 ∨ d = 5 ∨ d = 6 ∨ d = 7 ∨ d = 8 ∨ d = 9 ∨ d = 10 ∨ d = 11 ∨ d = 12 := by omega
  rcases this with rfl | rfl | rfl | rfl | rfl | rfl | rfl | rfl | rfl | rfl | rfl | rfl | rfl <;> decide
theorem p2_le {d : Nat} (h : d ≤ 12) : 2 ^ d ≤ 4096 := by
  have : 2 ^ d ≤ 2 ^ 12 := Nat.pow_le_pow_right (by omega) h
  omega
