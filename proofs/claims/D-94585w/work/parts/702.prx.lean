/-! PURE LAW 65: a new text -/
set_option maxRecDepth 100000
section NX
variable {T0 T : Th}
/-- a text's cell with n of its rows -/
def TxS (T0 T : Th) (n : Nat) : Prop := ExN T0 T ∧ T.1 (tN T0) = some (.inl 4) ∧ (∀ j, j < n → T.2.2.1 (tN T0) j = some (tN T0 + 1 + j) ∧ ∀ f, GL T (tN T0 + 1 + j) 0 f (tE T)) ∧ T.2.1 (tN T0) = (fun _ => 0) ∧ tN T = tN T0 + 1 + n ∧ tZ T = tZ T0 + 7 + 3 * n
theorem TxS.z (hb : tN T0 + 1 ≤ (tL T0).1) : TxS T0 (tNew T0 (.inl 4) 7) 0 := ⟨ExN.new, by rw [tNew_1, if_pos rfl], fun j hj => by omega, by rw [tNew_2, if_pos rfl], rfl, rfl⟩
theorem TxS.s {n : Nat} (h : TxS T0 T n) (hB : (tL T0).2.2.1 ≤ tN T0) (hE : tE T0 < tN T0) (hE2 : T0.1 (tE T0) = some (.inr (.object "java/lang/Object", 0))) (hN : tN T + 1 ≤ (tL T0).1) (hZ : tZ T + 3 ≤ (tL T0).2.1) : ∃ T', (∀ g : Th → Option Th, (nO T 19 3 fun T1 => (A_J5_init (tN T) T1).bind fun r2 => pR r2 (tN T0) 4 n (some (tN T)) g) = g T') ∧ TxS T0 T' (n + 1) := by
  obtain ⟨h1, h2, h3, h4, h5, h6⟩ := h
  have hl : tL T = tL T0 := h1.2.1
  let A2 := tNew T (.inl 19) 3
  let A3 := tI A2 (tN T) 0 0
  let A4 := tR A3 (tN T) 1 (some (tE T))
  let A5 := tR A4 (tN T0) n (some (tN T))
  have k2 : A2.1 (tN T) = some (.inl 19) := by show (tNew T (.inl 19) 3).1 (tN T) = _; rw [tNew_1, if_pos rfl]
  have k3 : A2.1 (tN T0) = some (.inl 4) := by show (tNew T (.inl 19) 3).1 (tN T0) = _; rw [tNew_1, if_neg (by omega)]; exact h2
  have kc : (tL T).2.2.1 ≤ tN T := by rw [hl]; omega
  have kb : (tL T).2.2.1 ≤ tN T0 := by rw [hl]; exact hB
  have x5 : ExN T0 A5 := (((h1.tr ExN.new).wI (by omega)).wR (by omega)).wR (Nat.le_refl _)
  have eE : tE A5 = tE T0 := by show (tL T).2.2.2 = _; rw [hl]
  have q1 : ∀ c, c < tN T → A5.1 c = T.1 c := fun c hc => by
    show (tNew T (.inl 19) 3).1 c = _
    rw [tNew_1, if_neg (by omega)]
  have q2 : ∀ c, c < tN T → A5.2.1 c = T.2.1 c := fun c hc => by
    funext i
    show (tI A2 (tN T) 0 0).2.1 c i = _
    rw [tI_2, if_neg (by omega)]
    show (tNew T (.inl 19) 3).2.1 c i = _
    rw [tNew_2, if_neg (by omega)]
  have q3 : ∀ c i, c < tN T → ¬ (c = tN T0 ∧ i = n) → A5.2.2.1 c i = T.2.2.1 c i := fun c i hc hne => by
    show (tR (tR A3 (tN T) 1 (some (tE T))) (tN T0) n (some (tN T))).2.2.1 c i = _
    rw [tR_3, if_neg hne, tR_3, if_neg (by omega)]
    show (tNew T (.inl 19) 3).2.2.1 c i = _
    rw [tNew_3, if_neg (by omega)]
  refine ⟨A5, fun g => ?_, x5, ?_, fun j hj => ?_, ?_, by show tN T + 1 = _; omega, by show tZ T + 3 = _; omega⟩
  · have a2 : ∀ g : Th → Option Th, nO T 19 3 g = g A2 := fun g => nO_p (by rw [hl]; exact hN) (by rw [hl]; exact hZ)
    have a3 : ∀ g : Th → Option Th, pI A2 (tN T) 19 0 0 g = g A3 := fun g => pI_p k2 kc
    have a4 : ∀ g : Th → Option Th, pR A3 (tN T) 19 1 (some (tE A3)) g = g A4 := fun g => pR_p k2 kc
    have a5 : ∀ g : Th → Option Th, pR A4 (tN T0) 4 n (some (tN T)) g = g A5 := fun g => pR_p k3 kb
    simp only [a2, Option.bind_some, A_J5_init, A_J4_init, A_J3_init, a3, a4, a5]
  · rw [q1 _ (by omega)]; exact h2
  · by_cases c : j = n
    · subst c
      refine ⟨?_, fun f => ⟨?_, ?_, ?_, ?_, Or.inl ⟨?_, rfl, ?_⟩, fun k hk => by omega⟩⟩
      · show (tR A4 (tN T0) j (some (tN T))).2.2.1 (tN T0) j = _
        rw [tR_3, if_pos ⟨rfl, rfl⟩, h5]
      · rw [← h5]; exact k2
      · show (tL T).2.2.1 ≤ _
        rw [← h5]; exact kc
      · rw [← h5]
        show (tI A2 (tN T) 0 0).2.1 (tN T) 2 = _
        rw [tI_2, if_neg (by omega)]
        show (tNew T (.inl 19) 3).2.1 (tN T) 2 = _
        rw [tNew_2, if_pos rfl]; rfl
      · rw [← h5]
        show (tR (tR A3 (tN T) 1 (some (tE T))) (tN T0) j (some (tN T))).2.2.1 (tN T) 1 = _
        rw [tR_3, if_neg (by omega), tR_3, if_pos ⟨rfl, rfl⟩]
        rfl
      · rfl
      · rw [eE, (x5.2.2.1 (tE T0) hE).1]; exact hE2
    · obtain ⟨g1, g2⟩ := h3 j (by omega)
      refine ⟨by rw [q3 _ _ (by omega) (by omega)]; exact g1, fun f => ?_⟩
      have hlE : tE A5 = tE T := by show (tL T).2.2.2 = _; rfl
      rw [hlE]
      refine (g2 f).fr rfl ⟨q1 _ (by omega), q2 _ (by omega), ?_⟩ ⟨?_, ?_⟩
      · funext i; exact q3 _ i (by omega) (by omega)
      · have : tE T = tE T0 := by show (tL T).2.2.2 = _; rw [hl]
        exact q1 _ (by omega)
      · have : tE T = tE T0 := by show (tL T).2.2.2 = _; rw [hl]
        funext i; exact q3 _ i (by omega) (by omega)
  · rw [q2 _ (by omega)]; exact h4
/-- nothing is told yet -/
def Y0 : Xt := (fun q => if q = 5 then 480 else 0, fun _ _ => 0, fun _ => none)
theorem tx_new (hH : HB T0) (hB : (tL T0).2.2.1 ≤ tN T0) (hE : tE T0 < tN T0) (hE2 : T0.1 (tE T0) = some (.inr (.object "java/lang/Object", 0))) (hN : tN T0 + 6 ≤ (tL T0).1) (hZ : tZ T0 + 22 ≤ (tL T0).2.1) : ∃ T, A_Text (tN T0) (tNew T0 (.inl 4) 7) = some T ∧ ExN T0 T ∧ BdH (tN T0) T (tN T0) 0 Y0 (fun j => tN T0 + 1 + j) (fun _ => tE T) (fun _ _ => 0) 0 ∧ T.2.1 (tN T0) 5 = iN 480 ∧ tN T = tN T0 + 6 ∧ tZ T = tZ T0 + 22 := by
  obtain ⟨T1, a1, b1⟩ := (TxS.z (T0 := T0) (by omega)).s hB hE hE2 (show tN T0 + 1 + 1 ≤ _ by omega) (show tZ T0 + 7 + 3 ≤ _ by omega)
  obtain ⟨T2, a2, b2⟩ := b1.s hB hE hE2 (by rw [b1.2.2.2.2.1]; omega) (by rw [b1.2.2.2.2.2]; omega)
  obtain ⟨T3, a3, b3⟩ := b2.s hB hE hE2 (by rw [b2.2.2.2.2.1]; omega) (by rw [b2.2.2.2.2.2]; omega)
  obtain ⟨T4, a4, b4⟩ := b3.s hB hE hE2 (by rw [b3.2.2.2.2.1]; omega) (by rw [b3.2.2.2.2.2]; omega)
  obtain ⟨T5, a5, b5⟩ := b4.s hB hE hE2 (by rw [b4.2.2.2.2.1]; omega) (by rw [b4.2.2.2.2.2]; omega)
  obtain ⟨h1, h2, h3, h4, h5, h6⟩ := b5
  have hl : tL T5 = tL T0 := h1.2.1
  have hpI : ∀ g : Th → Option Th, pI T5 (tN T0) 4 5 480 g = g (tI T5 (tN T0) 5 480) := fun g => pI_p h2 (by rw [hl]; exact hB)
  have hg : ∀ j, j < 5 → GL (tI T5 (tN T0) 5 480) (tN T0 + 1 + j) 0 (fun _ => 0) (tE T5) := fun j hj => by
    refine ((h3 j hj).2 _).fr rfl ⟨rfl, ?_, rfl⟩ ⟨rfl, rfl⟩
    funext i
    rw [tI_2, if_neg (by omega)]
  have eE : tE T5 = tE T0 := by show (tL T5).2.2.2 = _; rw [hl]
  refine ⟨tI T5 (tN T0) 5 480, ?_, h1.wI (Nat.le_refl _), ⟨⟨h2, Nat.le_refl _, fun j hj => (h3 j hj).1, ?_⟩, fun j hj => ?_, fun j i hj hi => ?_, (fun k hk => absurd hk (Nat.not_lt_zero k)), (fun i j hi hj hij => ⟨fun hh => hij (by have hh : tN T0 + 1 + i = tN T0 + 1 + j := hh; omega), fun hh => absurd rfl hh⟩), ⟨by decide, by decide, by decide, by decide, by decide, by omega, fun k hk => by omega, by decide⟩⟩, ?_, by show tN T5 = _; omega, by show tZ T5 = _; omega⟩
  · simp only [A_Text]
    rw [a1, a2, a3, a4, a5, hpI]
  · rw [tI_2, if_neg (by omega), h4]; rfl
  · have hj5 : j < 5 := by unfold dm_ at hj; omega
    have hY : Y0.1 j = 0 := by show (if j = 5 then 480 else 0) = 0; rw [if_neg (by omega)]
    rw [hY]
    exact ⟨hg j hj5, by show tN T0 ≤ tN T0 + 1 + j; omega, Or.inl rfl⟩
  · have hj5 : j < 5 := by unfold dm_ at hj; omega
    have hY : Y0.1 j = 0 := by show (if j = 5 then 480 else 0) = 0; rw [if_neg (by omega)]
    rw [hY] at hi; omega
  · rw [tI_2, if_pos ⟨rfl, rfl⟩]; rfl
end NX
