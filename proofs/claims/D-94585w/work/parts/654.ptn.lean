/-! PURE LAW 41: a task's cell is made -/
set_option maxRecDepth 100000
section TN
variable {n0 : Nat} {T T3 : Th} {x t : Nat} {L : List Int32}
theorem tk_new (h3 : ExN T T3) (hl : LmT n0 T) (hx : tN T ≤ x) (hx3 : x < tN T3) (hk : T3.1 x = some (.inl 12)) (hs : StT T3 t L) (hN : tN T3 + 1 ≤ (tL T3).1) (hZ : tZ T3 + 3 ≤ (tL T3).2.1) : ∃ T4, A_Task x t T3 = some T4 ∧ ExN T T4 ∧ T4.1 x = some (.inl 12) ∧ T4.2.2.1 x 0 = some t ∧ T4.2.2.1 x 3 = some (tN T3) ∧ (∀ f, GL T4 (tN T3) 0 f (tE T4)) ∧ tN T4 = tN T3 + 1 ∧ tZ T4 = tZ T3 + 3 ∧ StT T4 t L := by
  obtain ⟨l1, l2, l3, l4, l5⟩ := hl
  have hl3 : tL T3 = tL T := h3.2.1
  let A1 := tR T3 x 0 (some t)
  let A2 := tNew A1 (.inl 19) 3
  let A3 := tI A2 (tN T3) 0 0
  let A4 := tR A3 (tN T3) 1 (some (tE T3))
  let A5 := tR A4 x 3 (some (tN T3))
  have eN : tN A1 = tN T3 := rfl
  have k2 : A2.1 (tN T3) = some (.inl 19) := by
    show (tNew A1 (.inl 19) 3).1 (tN T3) = _
    rw [tNew_1, eN, if_pos rfl]
  have k3 : A2.1 x = some (.inl 12) := by
    show (tNew A1 (.inl 19) 3).1 x = _
    rw [tNew_1, eN, if_neg (by omega)]; exact hk
  have kb : (tL T3).2.2.1 ≤ x := by rw [hl3]; omega
  have kc : (tL T3).2.2.1 ≤ tN T3 := by rw [hl3]; have := h3.1; omega
  have x5 : ExN T A5 := ((((h3.wR hx).tr ExN.new).wI (by have := h3.1; omega)).wR (by have := h3.1; omega)).wR hx
  have hE : A5.1 (tE T3) = some (.inr (.object "java/lang/Object", 0)) := by
    have e1 : tE T3 = tE T := by unfold tE; rw [hl3]
    rw [e1, (x5.2.2.1 (tE T) (by omega)).1]
    exact l5
  refine ⟨A5, ?_, x5, k3, ?_, ?_, fun f => ⟨k2, kc, ?_, ?_, Or.inl ⟨rfl, rfl, hE⟩, fun k hk => by omega⟩, rfl, rfl, ?_⟩
  · have a1 : ∀ g : Th → Option Th, pR T3 x 12 0 (some t) g = g A1 := fun g => pR_p hk kb
    have a2 : ∀ g : Th → Option Th, nO A1 19 3 g = g A2 := fun g => nO_p hN hZ
    have a3 : ∀ g : Th → Option Th, pI A2 (tN T3) 19 0 0 g = g A3 := fun g => pI_p k2 kc
    have a4 : ∀ g : Th → Option Th, pR A3 (tN T3) 19 1 (some (tE A3)) g = g A4 := fun g => pR_p k2 kc
    have a5 : ∀ g : Th → Option Th, pR A4 x 12 3 (some (tN A1)) g = g A5 := fun g => pR_p k3 kb
    simp only [A_Task, A_Named_X13, a1, Option.bind_some, a2, A_J5_init, A_J4_init, A_J3_init, eN, a3, a4]
    exact a5 some
  · show (tR (tR A3 (tN T3) 1 (some (tE T3))) x 3 (some (tN T3))).2.2.1 x 0 = _
    rw [tR_3, if_neg (by omega), tR_3, if_neg (by omega)]
    show (tNew A1 (.inl 19) 3).2.2.1 x 0 = _
    rw [tNew_3, eN, if_neg (by omega)]
    show (tR T3 x 0 (some t)).2.2.1 x 0 = _
    rw [tR_3, if_pos ⟨rfl, rfl⟩]
  · show (tR A4 x 3 (some (tN T3))).2.2.1 x 3 = _
    rw [tR_3, if_pos ⟨rfl, rfl⟩]
  · show (tI A2 (tN T3) 0 0).2.1 (tN T3) 2 = _
    rw [tI_2, if_neg (by omega)]
    show (tNew A1 (.inl 19) 3).2.1 (tN T3) 2 = _
    rw [tNew_2, eN, if_pos rfl]
    rfl
  · show (tR (tR A3 (tN T3) 1 (some (tE T3))) x 3 (some (tN T3))).2.2.1 (tN T3) 1 = _
    rw [tR_3, if_neg (by omega), tR_3, if_pos ⟨rfl, rfl⟩]
    rfl
  · have hB3 : HB T3 := h3.2.2.2 l1
    obtain ⟨u1, u2, aa, u3, u4, u5⟩ := hs
    have ht : t < tN T3 := hB3 t (by rw [u1]; exact fun hh => by cases hh)
    have hta : aa < tN T3 := hB3 aa (by rw [u4]; exact fun hh => by cases hh)
    have htx : t ≠ x := fun hh => by rw [hh, hk] at u1; exact absurd u1 (by decide)
    have q1 : ∀ c, c < tN T3 → A5.1 c = T3.1 c := fun c hc => by
      show (tNew A1 (.inl 19) 3).1 c = _
      rw [tNew_1, eN, if_neg (by omega)]; rfl
    have q2 : ∀ c j, c < tN T3 → A5.2.1 c j = T3.2.1 c j := fun c j hc => by
      show (tI A2 (tN T3) 0 0).2.1 c j = _
      rw [tI_2, if_neg (by omega)]
      show (tNew A1 (.inl 19) 3).2.1 c j = _
      rw [tNew_2, eN, if_neg (by omega)]; rfl
    refine ⟨(q1 t ht).trans u1, by rw [q2 t 1 ht]; exact u2, aa, ?_, (q1 aa hta).trans u4, fun i c hc => by rw [q2 aa i hta]; exact u5 i c hc⟩
    show (tR (tR A3 (tN T3) 1 (some (tE T3))) x 3 (some (tN T3))).2.2.1 t 0 = _
    rw [tR_3, if_neg (by omega), tR_3, if_neg (by omega)]
    show (tNew A1 (.inl 19) 3).2.2.1 t 0 = _
    rw [tNew_3, eN, if_neg (by omega)]
    show (tR T3 x 0 (some t)).2.2.1 t 0 = _
    rw [tR_3, if_neg (by omega)]
    exact u3
end TN
