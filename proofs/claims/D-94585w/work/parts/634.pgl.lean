/-! PURE LAW 31: rows that grow -/
set_option maxRecDepth 100000
/-- a row at b of n things, in the array at ar; the first array is the one that all empty rows share -/
def GL (T : Th) (b n : Nat) (f : Nat → Nat) (ar : Nat) : Prop := T.1 b = some (.inl 19) ∧ (tL T).2.2.1 ≤ b ∧ T.2.1 b 2 = iN n ∧ T.2.2.1 b 1 = some ar ∧ ((ar = tE T ∧ n = 0 ∧ T.1 ar = some (.inr (.object "java/lang/Object", 0))) ∨ ((tL T).2.2.1 ≤ ar ∧ ∃ ln, (ln = 10 ∨ ln = 15) ∧ n ≤ ln ∧ T.1 ar = some (.inr (.object "java/lang/Object", ln)))) ∧ ∀ k, k < n → T.2.2.1 ar k = some (f k)
theorem GL.ls {T : Th} {b n ar : Nat} {f : Nat → Nat} (h : GL T b n f ar) : LsT T b n f := by
  obtain ⟨h1, h2, h3, h4, h5, h6⟩ := h
  rcases h5 with ⟨_, c2, c3⟩ | ⟨_, ln, c1, c2, c3⟩
  · exact ⟨h1, h3, ar, 0, h4, c3, by omega, by omega, h6⟩
  · exact ⟨h1, h3, ar, ln, h4, c3, c2, by omega, h6⟩
theorem GL.fr {T T1 : Th} {b n ar : Nat} {f : Nat → Nat} (h : GL T b n f ar) (hl : tL T1 = tL T) (hb : T1.1 b = T.1 b ∧ T1.2.1 b = T.2.1 b ∧ T1.2.2.1 b = T.2.2.1 b) (ha : T1.1 ar = T.1 ar ∧ T1.2.2.1 ar = T.2.2.1 ar) : GL T1 b n f ar := by
  unfold GL
  rw [hl, hb.1, hb.2.1, hb.2.2, ha.1, ha.2, show tE T1 = tE T by unfold tE; rw [hl]]
  exact h
section GLs
variable {α : Type} {T : Th} {b n ar x : Nat} {f : Nat → Nat}
theorem sA_p {a i c ci m : Nat} {ty : FieldType} {g : Th → Option α} (h1 : T.1 a = some (.inr (ty, m))) (h2 : T.1 c = some (.inl ci)) (h3 : ci ∈ elk ty) (h4 : (tL T).2.2.1 ≤ a) (hi : i < m) (hm : m ≤ 65536) : sA T a ty (iN i) c g = g (tR T a i (some c)) := by
  unfold sA
  rw [h1, h2]
  simp only [h3, h4, and_self, if_true, ix_n hi (show m ≤ 2147483648 by omega), Option.bind_some]
theorem add_0 (h1 : T.1 b = some (.inl 19)) (h2 : (tL T).2.2.1 ≤ b) (h3 : T.2.1 b 2 = iN n) (h4 : T.2.2.1 b 1 = some ar) : A_L_add b x T = (A_L_add_2 b x ar (iN n) (tI T b 0 (T.2.1 b 0 + 1))).bind fun r6 => some (1, r6) := by
  have k0 : (tI T b 0 (T.2.1 b 0 + 1)).1 b = some (.inl 19) := h1
  have k1 : (tI T b 0 (T.2.1 b 0 + 1)).2.1 b 2 = iN n := by
    rw [tI_2, if_neg (by omega)]; exact h3
  have k2 : (tI T b 0 (T.2.1 b 0 + 1)).2.2.1 b 1 = some ar := h4
  unfold A_L_add
  rw [dI_p h1, pI_p h1 h2, dR_p k0, k2, dI_p k0, k1, Option.bind_some, dC_p k0]
/-- what adding to the row at b leaves -/
def GF (T T1 : Th) (b ar ar1 : Nat) : Prop := tL T1 = tL T ∧ (tN T ≤ tN T1 ∧ tN T1 ≤ tN T + 1) ∧ tZ T1 ≤ tZ T + 15 ∧ (∀ a, a < tN T → T1.1 a = T.1 a) ∧ (∀ a, a < tN T → a ≠ b → a ≠ ar1 → T1.2.1 a = T.2.1 a ∧ T1.2.2.1 a = T.2.2.1 a) ∧ (∀ a, a ≠ b → a < tN T → T1.2.1 a = T.2.1 a) ∧ ((ar1 = ar ∧ ar ≠ tE T) ∨ ar1 = tN T) ∧ ar1 < tN T1 ∧ (HB T → HB T1)
/-- one more in a row -/
theorem gl_add (h : GL T b n f ar) (hB : HB T) {ci : Nat} (hx : T.1 x = some (.inl ci)) (hci : ci ∈ elk (.object "java/lang/Object")) (hn : n < 15) (hk : ∀ k, k < n → ∃ cj, T.1 (f k) = some (.inl cj) ∧ cj ∈ elk (.object "java/lang/Object")) (h0 : (tL T).2.2.1 ≤ tN T) (hE : ∀ ln, T.1 (tE T) = some (.inr (.object "java/lang/Object", ln)) → ln = 0) (hN : tN T + 1 ≤ (tL T).1) (hZ : tZ T + 15 ≤ (tL T).2.1) : ∃ T1 ar1, A_L_add b x T = some (1, T1) ∧ GL T1 b (n + 1) (fun k => if k = n then x else f k) ar1 ∧ GF T T1 b ar ar1 := by
  obtain ⟨h1, h2, h3, h4, h5, h6⟩ := h
  have hbN : b < tN T := hB b (by rw [h1]; exact fun hh => by cases hh)
  have hxN : x < tN T := hB x (by rw [hx]; exact fun hh => by cases hh)
  have e1 : iN n + 1 = iN (n + 1) := by rw [i_1, iN_add]
  rcases h5 with ⟨c1, c2, c3⟩ | ⟨c0, ln, c1, c2, c3⟩
  · subst c2
    have harb : ar ≠ b := fun hh => by rw [hh, h1] at c3; cases c3
    have harN : ar < tN T := hB ar (by rw [c3]; exact fun hh => by cases hh)
    -- the row's first array
    let A0 := tI T b 0 (T.2.1 b 0 + 1)
    have eN : tN A0 = tN T := rfl
    let A1 := tNew A0 (.inr (.object "java/lang/Object", 10)) 10
    let A2 := tR A1 b 1 (some (tN T))
    let A3 := tR A2 (tN T) 0 (some x)
    let A4 := tI A3 b 2 (iN 1)
    have k0 : A0.1 b = some (.inl 19) := h1
    have k1 : A0.2.1 b 2 = iN 0 := by
      show (tI T b 0 (T.2.1 b 0 + 1)).2.1 b 2 = _
      rw [tI_2, if_neg (by omega)]; exact h3
    have k2 : A1.1 b = some (.inl 19) := by
      show (tNew A0 _ 10).1 b = _
      rw [tNew_1, eN, if_neg (show ¬ b = tN T by omega)]; exact h1
    have k3 : A2.1 (tN T) = some (.inr (.object "java/lang/Object", 10)) := by
      show (tNew A0 _ 10).1 (tN T) = _
      rw [tNew_1, if_pos (show tN T = tN A0 from rfl)]
    have k4 : A2.1 x = some (.inl ci) := by
      show (tNew A0 _ 10).1 x = _
      rw [tNew_1, eN, if_neg (show ¬ x = tN T by omega)]; exact hx
    have hg : A_L_grow b A0 = some (some (tN T), A2) := by
      have n0 : ¬ (0 : Int32) < iN 0 := by decide
      have n1 : ¬ iN 10 < iN 1 := by decide
      have e0 : iN 0 + 1 = iN 1 := by decide
      have a1 : A0.2.2.1 b 1 = some ar := h4
      have a2 : A0.1 ar = some (.inr (.object "java/lang/Object", 0)) := c3
      have a3 : ar = tE A0 := c1
      have a4 : ∀ g : Th → Option (Option Nat × Th), nA A0 (.object "java/lang/Object") (iN 10) g = g A1 := fun g => nA_p (by omega) hN (show tZ T + 10 ≤ (tL T).2.1 by omega)
      have a5 : ∀ g : Th → Option (Option Nat × Th), pR A1 b 19 1 (some (tN A0)) g = g A2 := fun g => pR_p k2 h2
      simp only [A_L_grow, dI_p k0, k1, dC_p k0, A_L_grow_2, e0, dR_p k0, a1, Option.bind_some, dL_p a2, if_neg n0, if_pos a3, i_10, if_neg n1, a4, a5]
      rfl
    refine ⟨A4, tN T, ?_, ⟨k2, h2, by show (tI A3 b 2 (iN 1)).2.1 b 2 = _; rw [tI_2, if_pos ⟨rfl, rfl⟩], ?_, Or.inr ⟨h0, 10, Or.inl rfl, by omega, k3⟩, fun k hk => ?_⟩, rfl, ⟨by show tN T ≤ tN T + 1; omega, by show tN T + 1 ≤ tN T + 1; omega⟩, by show tZ T + 10 ≤ tZ T + 15; omega, fun a ha => ?_, fun a ha hab hat => ⟨?_, ?_⟩, fun a hab ha => ?_, Or.inr rfl, by show tN T < tN T + 1; omega, fun hB => ?_⟩
    · have a1 : A0.2.2.1 b 1 = some ar := h4
      have a2 : A0.1 ar = some (.inr (.object "java/lang/Object", 0)) := c3
      have a3 : ∀ g : Th → Option Th, sA A2 (tN T) (.object "java/lang/Object") (iN 0) x g = g A3 := fun g => sA_p k3 k4 hci h0 (by omega) (by omega)
      have a4 : ∀ g : Th → Option Th, pI A3 b 19 2 (iN (0 + 1)) g = g A4 := fun g => pI_p k2 h2
      rw [add_0 h1 h2 h3 h4]
      show (A_L_add_2 b x ar (iN 0) A0).bind (fun r6 => some (1, r6)) = _
      simp only [Option.bind_some, dC_p k0, A_L_add_2, dL_p a2, if_true, hg, A_L_add_2_B11, a3, e1, a4]
    · show (tR (tR A1 b 1 (some (tN T))) (tN T) 0 (some x)).2.2.1 b 1 = _
      rw [tR_3, if_neg (by omega), tR_3, if_pos ⟨rfl, rfl⟩]
    · have : k = 0 := by omega
      subst this
      show (tR A2 (tN T) 0 (some x)).2.2.1 (tN T) 0 = some (if 0 = 0 then x else f 0)
      rw [tR_3, if_pos ⟨rfl, rfl⟩, if_pos rfl]
    · show (tNew A0 _ 10).1 a = _
      rw [tNew_1, eN, if_neg (show ¬ a = tN T by omega)]; rfl
    · funext j
      show (tI A3 b 2 (iN 1)).2.1 a j = _
      rw [tI_2, if_neg (by omega)]
      show (tNew A0 (.inr (.object "java/lang/Object", 10)) 10).2.1 a j = _
      rw [tNew_2, eN, if_neg (show ¬ a = tN T by omega)]
      show (tI T b 0 (T.2.1 b 0 + 1)).2.1 a j = _
      rw [tI_2, if_neg (by omega)]
    · funext j
      show (tR (tR (tNew A0 _ 10) b 1 _) (tN T) 0 _).2.2.1 a j = _
      rw [tR_3, if_neg (by omega), tR_3, if_neg (by omega), tNew_3, eN, if_neg (show ¬ a = tN T by omega)]
      rfl
    · funext j
      show (tI A3 b 2 (iN 1)).2.1 a j = _
      rw [tI_2, if_neg (by omega)]
      show (tNew A0 (.inr (.object "java/lang/Object", 10)) 10).2.1 a j = _
      rw [tNew_2, eN, if_neg (show ¬ a = tN T by omega)]
      show (tI T b 0 (T.2.1 b 0 + 1)).2.1 a j = _
      rw [tI_2, if_neg (by omega)]
    · have hb1 : HB A0 := hB
      exact hb1.new
  · have harb : ar ≠ b := fun hh => by rw [hh, h1] at c3; cases c3
    have harN : ar < tN T := hB ar (by rw [c3]; exact fun hh => by cases hh)
    have harE : ar ≠ tE T := fun hh => by
      have := hE ln (by rw [← hh]; exact c3)
      omega
    let A0 := tI T b 0 (T.2.1 b 0 + 1)
    have k0 : A0.1 b = some (.inl 19) := h1
    have k1 : A0.2.1 b 2 = iN n := by
      show (tI T b 0 (T.2.1 b 0 + 1)).2.1 b 2 = _
      rw [tI_2, if_neg (by omega)]; exact h3
    have k2 : A0.2.2.1 b 1 = some ar := h4
    have k3 : A0.1 ar = some (.inr (.object "java/lang/Object", ln)) := c3
    by_cases cn : n = ln
    · have hln : ln = 10 := by omega
      subst hln
      subst cn
      have eN : tN A0 = tN T := rfl
      let A1 := tNew A0 (.inr (.object "java/lang/Object", 15)) 15
      let A2 := tCR A1 (tN T) (va_cpy (A1.2.2.1 ar) (A1.2.2.1 (tN T)) 0 0 10)
      let A2b := tR A2 b 1 (some (tN T))
      let A3 := tR A2b (tN T) 10 (some x)
      let A4 := tI A3 b 2 (iN 11)
      have q1 : ∀ a, a < tN T → A1.1 a = T.1 a := fun a ha => by
        show (tNew A0 _ 15).1 a = _
        rw [tNew_1, eN, if_neg (show ¬ a = tN T by omega)]; rfl
      have q2 : A1.1 (tN T) = some (.inr (.object "java/lang/Object", 15)) := by
        show (tNew A0 _ 15).1 (tN T) = _
        rw [tNew_1, if_pos (show tN T = tN A0 from rfl)]
      have q3 : A1.1 b = some (.inl 19) := (q1 b hbN).trans h1
      have q4 : A1.1 ar = some (.inr (.object "java/lang/Object", 10)) := (q1 ar harN).trans c3
      have q5 : A1.2.2.1 ar = T.2.2.1 ar := by
        show (tNew A0 _ 15).2.2.1 ar = _
        rw [tNew_3, eN, if_neg (show ¬ ar = tN T by omega)]; rfl
      have hcr : ∀ g : Th → Option (Option Nat × Th), cR A1 ar 0 (tN T) 0 (iN 10) g = g A2 := fun g => by
        unfold cR
        rw [q4, q2]
        have z0 : (0 : Int32).toNatClampNeg = 0 := by decide
        have z1 : (iN 10).toNatClampNeg = 10 := by decide
        have z2 : ¬ (0 : Int32) < 0 := by decide
        have z3 : ¬ iN 10 < 0 := by decide
        simp only [z0, z1]
        rw [if_pos]
        refine ⟨trivial, trivial, h0, z2, z2, z3, by omega, by omega, fun i hi => ?_⟩
        rw [q5, Nat.zero_add, h6 i hi]
        obtain ⟨cj, j1, j2⟩ := hk i hi
        have hfN : f i < tN T := hB (f i) (by rw [j1]; exact fun hh => by cases hh)
        unfold okE
        simp only [q1 (f i) hfN, j1, decide_eq_true_eq]
        exact j2
      have hg : A_L_grow b A0 = some (some (tN T), A2b) := by
        have n0 : (0 : Int32) < iN 10 := by decide
        have n1 : A_newLength A0 (iN 10) (iN (10 + 1) - iN 10) (iN 10 >>> (1 &&& 31)) = some (iN 15) := by
          unfold A_newLength
          rw [lt_e, show iN 10 + (if iN (10 + 1) - iN 10 < iN 10 >>> (1 &&& 31) then iN 10 >>> (1 &&& 31) else iN (10 + 1) - iN 10) = iN 15 by decide, if_neg (by decide), if_neg (by decide)]
        have a4 : ∀ g : Th → Option (Option Nat × Th), nA A0 (.object "java/lang/Object") (iN 15) g = g A1 := fun g => nA_p (by omega) hN (show tZ T + 15 ≤ (tL T).2.1 by omega)
        have a5 : ∀ g : Th → Option (Option Nat × Th), pR A2 b 19 1 (some (tN T)) g = g A2b := fun g => pR_p q3 h2
        have a6 : (if iN 15 < iN 10 then iN 15 else iN 10) = iN 10 := by decide
        have a7 : dOA A0 ar ((A_copyOfOC ar (iN 15) A0).bind fun r1 => some (r1.1, r1.2)) = some (some (tN T), A2) := by
          unfold dOA
          rw [k3]
          simp only [if_true, A_copyOfOC, a4, A_copyOfOC_B24, dL_p q4, a6]
          rw [show tN A0 = tN T from rfl, hcr, Option.bind_some]
        simp only [A_L_grow, dI_p k0, k1, dC_p k0, A_L_grow_2, e1, dR_p k0, k2, Option.bind_some, dL_p k3, if_pos n0, A_L_grow_2_B20, n1, A_copyOfO, a7, a5]
      have q6 : A2b.1 (tN T) = some (.inr (.object "java/lang/Object", 15)) := q2
      have q7 : A2b.1 x = some (.inl ci) := (q1 x hxN).trans hx
      have q8 : ∀ a j, a < tN T → a ≠ b → A3.2.2.1 a j = T.2.2.1 a j := fun a j ha hab => by
        show (tR (tR A2 b 1 (some (tN T))) (tN T) 10 (some x)).2.2.1 a j = _
        rw [tR_3, if_neg (by omega), tR_3, if_neg (by omega)]
        show (vf_upd A1.2.2.1 (tN T) _) a j = _
        unfold vf_upd
        rw [if_neg (by omega)]
        show (tNew A0 _ 15).2.2.1 a j = _
        rw [tNew_3, eN, if_neg (show ¬ a = tN T by omega)]; rfl
      have q9 : ∀ a j, a < tN T → a ≠ b → A4.2.1 a j = T.2.1 a j := fun a j ha hab => by
        show (tI A3 b 2 (iN 11)).2.1 a j = _
        rw [tI_2, if_neg (by omega)]
        show (tNew A0 (.inr (.object "java/lang/Object", 15)) 15).2.1 a j = _
        rw [tNew_2, eN, if_neg (show ¬ a = tN T by omega)]
        show (tI T b 0 (T.2.1 b 0 + 1)).2.1 a j = _
        rw [tI_2, if_neg (by omega)]
      refine ⟨A4, tN T, ?_, ⟨q3, h2, by show (tI A3 b 2 (iN 11)).2.1 b 2 = _; rw [tI_2, if_pos ⟨rfl, rfl⟩], ?_, Or.inr ⟨h0, 15, Or.inr rfl, by omega, q2⟩, fun k hk => ?_⟩, rfl, ⟨by show tN T ≤ tN T + 1; omega, by show tN T + 1 ≤ tN T + 1; omega⟩, by show tZ T + 15 ≤ tZ T + 15; omega, fun a ha => q1 a ha, fun a ha hab hat => ⟨funext fun j => q9 a j ha hab, funext fun j => q8 a j ha hab⟩, fun a hab ha => funext fun j => q9 a j ha hab, Or.inr rfl, by show tN T < tN T + 1; omega, fun hB => ?_⟩
      · have a3 : ∀ g : Th → Option Th, sA A2b (tN T) (.object "java/lang/Object") (iN 10) x g = g A3 := fun g => sA_p q6 q7 hci h0 (by omega) (by omega)
        have a4 : ∀ g : Th → Option Th, pI A3 b 19 2 (iN (10 + 1)) g = g A4 := fun g => pI_p q3 h2
        rw [add_0 h1 h2 h3 h4]
        show (A_L_add_2 b x ar (iN 10) A0).bind (fun r6 => some (1, r6)) = _
        simp only [Option.bind_some, dC_p k0, A_L_add_2, dL_p k3, if_true, hg, A_L_add_2_B11, a3, e1, a4]
      · show (tR (tR A2 b 1 (some (tN T))) (tN T) 10 (some x)).2.2.1 b 1 = _
        rw [tR_3, if_neg (by omega), tR_3, if_pos ⟨rfl, rfl⟩]
      · show (tR (tR A2 b 1 (some (tN T))) (tN T) 10 (some x)).2.2.1 (tN T) k = some (if k = 10 then x else f k)
        rw [tR_3]
        by_cases c : k = 10
        · rw [if_pos ⟨rfl, c⟩, if_pos c]
        · rw [if_neg (by omega), if_neg c, tR_3, if_neg (by omega)]
          show (vf_upd A1.2.2.1 (tN T) _) (tN T) k = _
          unfold vf_upd
          rw [if_pos rfl]
          unfold va_cpy
          rw [if_pos (by omega), q5, Nat.zero_add, Nat.sub_zero]
          exact h6 k (by omega)
      · have hb1 : HB A0 := hB
        exact hb1.new
    · have hlt : n < ln := by omega
      let A3 := tR A0 ar n (some x)
      let A4 := tI A3 b 2 (iN (n + 1))
      refine ⟨A4, ar, ?_, ⟨h1, h2, by show (tI A3 b 2 (iN (n + 1))).2.1 b 2 = _; rw [tI_2, if_pos ⟨rfl, rfl⟩], ?_, Or.inr ⟨c0, ln, c1, by omega, c3⟩, fun k hk => ?_⟩, rfl, ⟨Nat.le_refl _, by show tN T ≤ tN T + 1; omega⟩, by show tZ T ≤ tZ T + 15; omega, fun a ha => rfl, fun a ha hab hat => ⟨?_, ?_⟩, fun a hab ha => ?_, Or.inl ⟨rfl, harE⟩, harN, fun hB => hB⟩
      · have a3 : ∀ g : Th → Option Th, sA A0 ar (.object "java/lang/Object") (iN n) x g = g A3 := fun g => sA_p k3 hx hci c0 hlt (by omega)
        have a4 : ∀ g : Th → Option Th, pI A3 b 19 2 (iN (n + 1)) g = g A4 := fun g => pI_p h1 h2
        have a5 : ¬ iN n = iN ln := by rw [iN_eq (by omega) (by omega)]; omega
        rw [add_0 h1 h2 h3 h4]
        show (A_L_add_2 b x ar (iN n) A0).bind (fun r6 => some (1, r6)) = _
        simp only [Option.bind_some, dC_p k0, A_L_add_2, dL_p k3, if_neg a5, A_L_add_2_B11, a3, e1, a4]
      · show (tR A0 ar n (some x)).2.2.1 b 1 = _
        rw [tR_3, if_neg (by omega)]; exact h4
      · show (tR A0 ar n (some x)).2.2.1 ar k = some (if k = n then x else f k)
        rw [tR_3]
        by_cases c : k = n
        · rw [if_pos ⟨rfl, c⟩, if_pos c]
        · rw [if_neg (by omega), if_neg c]; exact h6 k (by omega)
      · funext j
        show (tI (tR (tI T b 0 _) ar n _) b 2 _).2.1 a j = _
        rw [tI_2, if_neg (by omega)]
        show (tI T b 0 (T.2.1 b 0 + 1)).2.1 a j = _
        rw [tI_2, if_neg (by omega)]
      · funext j
        show (tR A0 ar n (some x)).2.2.1 a j = _
        rw [tR_3, if_neg (by omega)]
        rfl
      · funext j
        show (tI (tR (tI T b 0 _) ar n _) b 2 _).2.1 a j = _
        rw [tI_2, if_neg (by omega)]
        show (tI T b 0 (T.2.1 b 0 + 1)).2.1 a j = _
        rw [tI_2, if_neg (by omega)]
end GLs
