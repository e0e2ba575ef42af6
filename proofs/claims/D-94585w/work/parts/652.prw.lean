/-! PURE LAW 40: a new row of steps -/
set_option maxRecDepth 100000
theorem BdH.row {n0 : Nat} {T : Th} {txa nl nk lb : Nat} {Y Y1 : Xt} {b ar : Nat → Nat} {e : Nat → Nat → Nat} (h : BdH n0 T txa nk Y b ar e nl) (hg : GL T lb 0 (e (10 + nk)) (tE T)) (hn : n0 ≤ lb) (hd : ∀ i, dm_ nk i → b i ≠ lb) (hk : xk Y = nk) (hY : ∀ q, Y1.1 q = if q = 10 + nk then 0 else Y.1 q) : BdH n0 T txa (nk + 1) Y1 (fun q => if q = 10 + nk then lb else b q) (fun q => if q = 10 + nk then tE T else ar q) e nl := by
  obtain ⟨⟨h1, h2, h3, h4⟩, h5, h6, h7, h8, h9⟩ := h
  have hdm : ∀ i, dm_ (nk + 1) i → i = 10 + nk ∨ (i ≠ 10 + nk ∧ dm_ nk i) := fun i hi => by unfold dm_ at hi ⊢; omega
  have y0 : Y1.1 0 = Y.1 0 := by rw [hY, if_neg (by omega)]
  have y1 : Y1.1 1 = Y.1 1 := by rw [hY, if_neg (by omega)]
  have y2 : Y1.1 2 = Y.1 2 := by rw [hY, if_neg (by omega)]
  have y3 : Y1.1 3 = Y.1 3 := by rw [hY, if_neg (by omega)]
  have y4 : Y1.1 4 = Y.1 4 := by rw [hY, if_neg (by omega)]
  have hk3 : Y.1 3 = nk := hk
  refine ⟨⟨h1, h2, fun j hj => by show _ = some (if j = 10 + nk then lb else b j); rw [if_neg (by omega)]; exact h3 j hj, h4⟩, fun j hj => ?_, fun j i hj hi => ?_, fun k hk1 => ?_, fun i j hi hj hij => ?_, ?_⟩
  · show GL T (if j = 10 + nk then lb else b j) (Y1.1 j) (e j) (if j = 10 + nk then tE T else ar j) ∧ n0 ≤ (if j = 10 + nk then lb else b j) ∧ ((if j = 10 + nk then tE T else ar j) = tE T ∨ n0 ≤ (if j = 10 + nk then tE T else ar j))
    rcases hdm j hj with c | ⟨c, c2⟩
    · subst c
      rw [hY, if_pos rfl, if_pos rfl, if_pos rfl]
      exact ⟨hg, hn, Or.inl rfl⟩
    · rw [hY, if_neg c, if_neg c, if_neg c]
      exact h5 j c2
  · rcases hdm j hj with c | ⟨c, c2⟩
    · rw [hY, if_pos c] at hi; omega
    · rw [hY, if_neg c] at hi
      exact h6 j i c2 hi
  · have hk2 : k < Y.1 3 := by rw [← y3]; exact hk1
    show _ = some (if 10 + k = 10 + nk then lb else b (10 + k))
    rw [if_neg (by omega)]
    exact h7 k hk2
  · show (if i = 10 + nk then lb else b i) ≠ (if j = 10 + nk then lb else b j) ∧ ((if i = 10 + nk then tE T else ar i) ≠ tE T → (if i = 10 + nk then tE T else ar i) ≠ (if j = 10 + nk then tE T else ar j))
    rcases hdm i hi with c | ⟨c, c2⟩
    · rcases hdm j hj with d | ⟨d, d2⟩
      · omega
      · rw [if_pos c, if_pos c, if_neg d]
        exact ⟨Ne.symm (hd j d2), fun hh => absurd rfl hh⟩
    · rcases hdm j hj with d | ⟨d, d2⟩
      · rw [if_neg c, if_neg c, if_pos d, if_pos d]
        exact ⟨hd i c2, fun hh => hh⟩
      · rw [if_neg c, if_neg c, if_neg d, if_neg d]
        exact h8 i j c2 d2 hij
  · obtain ⟨m1, m2, m3, m4, m5, m6, m7, m8⟩ := h9
    refine ⟨by show Y1.1 0 ≤ 8; rw [y0]; exact m1, by show Y1.1 1 ≤ 12; rw [y1]; exact m2, by show Y1.1 2 ≤ 6; rw [y2]; exact m3, by show Y1.1 3 ≤ 6; rw [y3]; exact m4, by show Y1.1 4 ≤ 6; rw [y4]; exact m5, m6, fun k hk => ?_, by show Y1.1 3 ≤ nk + 1; rw [y3]; omega⟩
    show Y1.1 (10 + k) ≤ 6
    rw [hY]
    by_cases c : 10 + k = 10 + nk
    · rw [if_pos c]; omega
    · rw [if_neg c]; exact m7 k (by omega)
