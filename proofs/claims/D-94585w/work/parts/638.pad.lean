/-! PURE LAW 33: one more in a text's row -/
set_option maxRecDepth 100000
section AD
variable {n0 : Nat} {T T1 : Th} {txa nl nk : Nat} {Y Y1 : Xt} {b ar : Nat → Nat} {e : Nat → Nat → Nat} {j x : Nat}
theorem GL.ark {bb n ar0 : Nat} {f : Nat → Nat} (h : GL T bb n f ar0) : ∃ ln, T.1 ar0 = some (.inr (.object "java/lang/Object", ln)) := by
  rcases h.2.2.2.2.1 with ⟨_, _, c⟩ | ⟨_, ln, _, _, c⟩
  · exact ⟨_, c⟩
  · exact ⟨_, c⟩
theorem GF.sm {bb n ar0 ar1 : Nat} {f : Nat → Nat} (hB : HB T) (h : GL T bb n f ar0) (hg : GF T T1 bb ar0 ar1) : SmK kA T T1 := fun a dk ha hk => by
  obtain ⟨g1, g2, g3, g4, g5, g6, g7, g8, g9⟩ := hg
  have haN : a < tN T := hB a (by rw [ha]; exact fun hh => by cases hh)
  have hab : a ≠ bb := fun hh => hk.1 (by rw [hh, h.1] at ha; exact (Option.some.inj ha).symm)
  have haa : a ≠ ar1 := fun hh => by
    rcases g7 with ⟨c, _⟩ | c
    · obtain ⟨ln, hl⟩ := h.ark
      rw [hh, c, hl] at ha
      exact hk.2 ln (Option.some.inj ha).symm
    · omega
  exact ⟨g4 a haN, (g5 a haN hab haa).1, (g5 a haN hab haa).2⟩
/-- x goes into the row j -/
theorem BdH.add (h : BdH n0 T txa nk Y b ar e nl) (hl : LmT n0 T) (hj : dm_ nk j) (hx : T.1 x = some (.inl (kd_ j))) (hxn : n0 ≤ x) (hY : ∀ q, Y1.1 q = if q = j then Y.1 j + 1 else Y.1 q) (hm : xr Y1 ≤ 8 ∧ xd Y1 ≤ 12 ∧ xt Y1 ≤ 6 ∧ xk Y1 ≤ 6 ∧ xm Y1 ≤ 6 ∧ (∀ k, k < nk → xs Y1 k ≤ 6) ∧ xk Y1 ≤ nk) (hk : j = 3 → T.2.2.1 x 3 = some (b (10 + xk Y))) (hN : tN T + 1 ≤ (tL T).1) (hZ : tZ T + 15 ≤ (tL T).2.1) : ∃ T1 ar1, A_L_add (b j) x T = some (1, T1) ∧ BdH n0 T1 txa nk Y1 b ar1 (fun q i => if q = j ∧ i = Y.1 j then x else e q i) nl ∧ SmK kA T T1 ∧ LmT n0 T1 ∧ tL T1 = tL T ∧ tN T1 ≤ tN T + 1 ∧ tN T ≤ tN T1 ∧ tZ T1 ≤ tZ T + 15 ∧ ∀ c, c < n0 → At_ T T1 c := by
  obtain ⟨⟨h1, h2, h3, h4⟩, h5, h6, h7, h8, h9⟩ := h
  obtain ⟨l1, l2, l3, l4, l5⟩ := hl
  obtain ⟨gj, gj2, gj3⟩ := h5 j hj
  have hn : Y.1 j < 15 := by
    have hyj : Y1.1 j = Y.1 j + 1 := by rw [hY, if_pos rfl]
    obtain ⟨m1, m2, m3, m4, m5, m6, m7⟩ := hm
    rcases hj with c | ⟨c1, c2⟩
    · have : j = 0 ∨ j = 1 ∨ j = 2 ∨ j = 3 ∨ j = 4 := by omega
      have m1 : Y1.1 0 ≤ 8 := m1
      have m2 : Y1.1 1 ≤ 12 := m2
      have m3 : Y1.1 2 ≤ 6 := m3
      have m4 : Y1.1 3 ≤ 6 := m4
      have m5 : Y1.1 4 ≤ 6 := m5
      rcases this with rfl | rfl | rfl | rfl | rfl <;> omega
    · have := m6 (j - 10) (by omega)
      unfold xs at this
      rw [show 10 + (j - 10) = j by omega] at this
      omega
  obtain ⟨T1, ar1, a1, a2, a3⟩ := gl_add gj l1 hx (kd_elk j) hn (fun k hk => ⟨_, (h6 j k hj hk).1, kd_elk j⟩) (by omega) (fun ln hh => by rw [l5] at hh; exact (Prod.mk.inj (Sum.inr.inj (Option.some.inj hh))).2.symm) hN hZ
  have hsm := GF.sm l1 gj a3
  have hbk : T.1 (b j) = some (.inl 19) := gj.1
  have hbN : ∀ i, dm_ nk i → b i < tN T := fun i hi => l1 _ (by rw [(h5 i hi).1.1]; exact fun hh => by cases hh)
  have haN : ∀ i, dm_ nk i → ar i < tN T := fun i hi => by
    obtain ⟨ln, hh⟩ := (h5 i hi).1.ark
    exact l1 _ (by rw [hh]; exact fun hh => by cases hh)
  have hba : ∀ i q, dm_ nk i → dm_ nk q → b i ≠ ar q := fun i q hi hq hh => by
    obtain ⟨ln, h'⟩ := (h5 q hq).1.ark
    rw [← hh, (h5 i hi).1.1] at h'
    cases h'
  obtain ⟨g1, g2, g3, g4, g5, g6, g7, g8, g9⟩ := a3
  have eE : tE T1 = tE T := by unfold tE; rw [g1]
  have hxa : At_ T T1 x := hsm _ _ hx (kd_E j).a
  have hxt : At_ T T1 txa := hsm _ _ h1 ⟨by decide, fun n hh => by cases hh⟩
  have hel : ∀ q i, dm_ nk q → i < Y.1 q → At_ T T1 (e q i) := fun q i hq hi => hsm _ _ (h6 q i hq hi).1 (kd_E q).a
  have har : ∀ i, dm_ nk i → i ≠ j → ar i ≠ ar1 := fun i hi hij hh => by
    rcases g7 with ⟨c1, c2⟩ | c
    · exact (h8 j i hj hi (Ne.symm hij)).2 c2 (by rw [hh, c1])
    · have := haN i hi; omega
  have har1 : n0 ≤ ar1 := by
    rcases g7 with ⟨c1, c2⟩ | c
    · rcases gj3 with c3 | c3
      · exact absurd c3 c2
      · omega
    · omega
  refine ⟨T1, fun q => if q = j then ar1 else ar q, a1, ⟨⟨hxt.1.trans h1, h2, fun i hi => by rw [hxt.2.2]; exact h3 i hi, by rw [hxt.2.1]; exact h4⟩, fun i hi => ?_, fun i q hi hq => ?_, fun k hk1 => ?_, fun i q hi hq hiq => ⟨(h8 i q hi hq hiq).1, ?_⟩, ⟨hm.1, hm.2.1, hm.2.2.1, hm.2.2.2.1, hm.2.2.2.2.1, h9.2.2.2.2.2.1, hm.2.2.2.2.2.1, hm.2.2.2.2.2.2⟩⟩, hsm, ⟨g9 l1, by rw [g1]; exact l2, by omega, by rw [eE]; exact l4, by rw [eE, g4 _ (by omega)]; exact l5⟩, g1, g2.2, g2.1, g3, fun c hc => ⟨g4 c (by omega), g5 c (by omega) (by omega) (by omega)⟩⟩
  · by_cases c : i = j
    · subst c
      rw [hY, if_pos rfl]
      simp only [if_true, true_and]
      exact ⟨a2, gj2, Or.inr har1⟩
    · obtain ⟨k1, k2, k3⟩ := h5 i hi
      rw [hY, if_neg c, eE]
      have hf : (fun q => if i = j ∧ q = Y.1 j then x else e i q) = e i := funext fun q => if_neg (fun hh => c hh.1)
      show GL T1 (b i) (Y.1 i) (fun q => if i = j ∧ q = Y.1 j then x else e i q) (if i = j then ar1 else ar i) ∧ n0 ≤ b i ∧ ((if i = j then ar1 else ar i) = tE T ∨ n0 ≤ (if i = j then ar1 else ar i))
      rw [hf, if_neg c]
      refine ⟨k1.fr g1 ⟨g4 _ (hbN i hi), ?_⟩ ⟨g4 _ (haN i hi), ?_⟩, k2, k3⟩
      · have hne : b i ≠ ar1 := fun hh => by
          rcases g7 with ⟨c1, _⟩ | c1
          · exact hba i j hi hj (by rw [hh, c1])
          · have := hbN i hi; omega
        exact g5 _ (hbN i hi) (h8 i j hi hj c).1 hne
      · exact (g5 _ (haN i hi) (fun hh => hba j i hj hi hh.symm) (har i hi c)).2
  · show T1.1 (if i = j ∧ q = Y.1 j then x else e i q) = _ ∧ n0 ≤ (if i = j ∧ q = Y.1 j then x else e i q)
    by_cases c : i = j ∧ q = Y.1 j
    · rw [if_pos c, c.1]
      exact ⟨hxa.1.trans hx, hxn⟩
    · have hq' : q < Y.1 i := by
        rw [hY] at hq
        by_cases c2 : i = j
        · rw [if_pos c2] at hq
          subst c2
          have : q ≠ Y.1 i := fun hh => c ⟨rfl, hh⟩
          omega
        · rw [if_neg c2] at hq
          exact hq
      rw [if_neg c]
      exact ⟨(hel i q hi hq').1.trans (h6 i q hi hq').1, (h6 i q hi hq').2⟩
  · show T1.2.2.1 (if 3 = j ∧ k = Y.1 j then x else e 3 k) 3 = _
    by_cases c : 3 = j ∧ k = Y.1 j
    · rw [if_pos c, hxa.2.2, hk c.1.symm, c.2, ← c.1]
    · have hk' : k < xk Y := by
        have hk2 : k < Y1.1 3 := hk1
        rw [hY] at hk2
        by_cases c2 : 3 = j
        · rw [if_pos c2] at hk2
          have : k ≠ Y.1 j := fun hh => c ⟨c2, hh⟩
          show k < Y.1 3
          rw [c2]
          omega
        · rw [if_neg c2] at hk2
          exact hk2
      rw [if_neg c, (hel 3 k (Or.inl (by omega)) hk').2.2]
      exact h7 k hk'
  · show (if i = j then ar1 else ar i) ≠ tE T1 → (if i = j then ar1 else ar i) ≠ (if q = j then ar1 else ar q)
    rw [eE]
    intro hne
    by_cases c : i = j
    · rw [if_pos c] at hne ⊢
      have cq : ¬ q = j := fun hh => hiq (c.trans hh.symm)
      rw [if_neg cq]
      exact Ne.symm (har q hq cq)
    · rw [if_neg c] at hne ⊢
      by_cases cq : q = j
      · rw [if_pos cq]
        exact har i hi c
      · rw [if_neg cq]
        exact (h8 i q hi hq hiq).2 hne
end AD
