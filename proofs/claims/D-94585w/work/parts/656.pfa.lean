/-! PURE LAW 42: one more of something: values; the end of a statement -/
set_option maxRecDepth 100000
section AV
variable {T T1 : Th} {J J1 : Ji} {Y Y1 : Xt} {e : Nat → Nat → Nat} {j x g nb nc : Nat}
theorem inc_lt (hY : Y1.1 = inc_ Y j) {r d : Nat} (h : d < Y1.1 r) : (r = j ∧ d = Y.1 j) ∨ (¬ (r = j ∧ d = Y.1 j) ∧ d < Y.1 r) := by
  rw [hY] at h
  unfold inc_ at h
  by_cases c : r = j
  · subst c
    rw [if_pos rfl] at h
    by_cases c2 : d = Y.1 r
    · exact Or.inl ⟨rfl, c2⟩
    · exact Or.inr ⟨fun hh => c2 hh.2, by omega⟩
  · rw [if_neg c] at h
    exact Or.inr ⟨fun hh => c hh.1, h⟩
theorem inc_ge (hY : Y1.1 = inc_ Y j) (r : Nat) : Y.1 r ≤ Y1.1 r := by
  rw [hY]
  unfold inc_
  by_cases c : r = j
  · subst c; rw [if_pos rfl]; omega
  · rw [if_neg c]; omega
theorem inc_o (hY : Y1.1 = inc_ Y j) {r : Nat} (c : r ≠ j) : Y1.1 r = Y.1 r := by
  rw [hY]; unfold inc_; rw [if_neg c]
theorem inc_s (hY : Y1.1 = inc_ Y j) : Y1.1 j = Y.1 j + 1 := by
  rw [hY]; unfold inc_; rw [if_pos rfl]
/-- the entry i of the column c was told -/
def OldC (Y : Xt) (c i : Nat) : Prop := (13 ≤ c ∧ c ≤ 16 ∧ i < xd Y) ∨ (c = 18 ∧ i < xt Y) ∨ (20 ≤ c ∧ c ≤ 21 ∧ i < xk Y) ∨ (30 ≤ c ∧ c ≤ 32 ∧ i < xm Y) ∨ (23 ≤ c ∧ c ≤ 28 ∧ ∃ k s, i = 6 * k + s ∧ k < xk Y ∧ s < xs Y k)
def OldJ (g : Nat) (Y : Xt) (p i : Nat) : Prop := (13 ≤ p ∧ p ≤ 16 ∧ ∃ d, d < xd Y ∧ i = 12 * g + d) ∨ (p = 18 ∧ ∃ d, d < xt Y ∧ i = 6 * g + d) ∨ (20 ≤ p ∧ p ≤ 21 ∧ ∃ d, d < xk Y ∧ i = 6 * g + d) ∨ (30 ≤ p ∧ p ≤ 32 ∧ ∃ d, d < xm Y ∧ i = 6 * g + d) ∨ (23 ≤ p ∧ p ≤ 28 ∧ ∃ k s, i = 6 * (6 * g + k) + s ∧ k < xk Y ∧ s < xs Y k)
theorem VTx.add (h : VTx T Y e) (hY : Y1.1 = inc_ Y j) (h3 : j = 3 → xs Y (xk Y) = 0) (ho : ∀ c i, OldC Y c i → tb Y1 c i = tb Y c i) (hl : ∀ m, m < xm Y → Y1.2.2 m = Y.2.2 m)
    (n1 : j = 1 → T.2.1 x 0 = iN (tb Y1 13 (xd Y)) ∧ T.2.1 x 1 = iN (tb Y1 14 (xd Y)) ∧ T.2.1 x 2 = iN (tb Y1 15 (xd Y)) ∧ T.2.1 x 3 = iN (tb Y1 16 (xd Y)))
    (n2 : j = 2 → T.2.1 x 1 = iN (tb Y1 18 (xt Y)))
    (n3 : j = 3 → T.2.1 x 1 = iN (tb Y1 20 (xk Y)) ∧ T.2.1 x 2 = iN (tb Y1 21 (xk Y)))
    (n4 : j = 4 → T.2.1 x 1 = iN (tb Y1 30 (xm Y)) ∧ T.2.1 x 2 = oC (tb Y1 31 (xm Y)) ∧ T.2.1 x 3 = oC (tb Y1 32 (xm Y)) ∧ lwT T (T.2.2.1 x 4) (Y1.2.2 (xm Y)))
    (n5 : ∀ k, j = 10 + k → T.2.1 x 0 = iN (tb Y1 23 (6 * k + xs Y k)) ∧ T.2.1 x 1 = iN (tb Y1 24 (6 * k + xs Y k)) ∧ T.2.1 x 2 = iN (tb Y1 25 (6 * k + xs Y k)) ∧ T.2.1 x 3 = iN (tb Y1 26 (6 * k + xs Y k)) ∧ T.2.1 x 4 = oC (tb Y1 27 (6 * k + xs Y k)) ∧ T.2.1 x 5 = oC (tb Y1 28 (6 * k + xs Y k))) :
    VTx T Y1 (fun q i => if q = j ∧ i = Y.1 j then x else e q i) := by
  obtain ⟨v1, v2, v3, v4, v5⟩ := h
  refine ⟨fun d hd => ?_, fun d hd => ?_, fun d hd => ?_, fun k s hk hs => ?_, fun d hd => ?_⟩
  · rcases inc_lt hY hd with ⟨c1, c2⟩ | ⟨c1, c2⟩
    · subst c1; subst c2
      simp only [and_self, if_true]
      exact n1 rfl
    · simp only [if_neg c1]
      rw [ho 13 d (Or.inl ⟨by omega, by omega, c2⟩), ho 14 d (Or.inl ⟨by omega, by omega, c2⟩), ho 15 d (Or.inl ⟨by omega, by omega, c2⟩), ho 16 d (Or.inl ⟨by omega, by omega, c2⟩)]
      exact v1 d c2
  · rcases inc_lt hY hd with ⟨c1, c2⟩ | ⟨c1, c2⟩
    · subst c1; subst c2
      simp only [and_self, if_true]
      exact n2 rfl
    · simp only [if_neg c1]
      rw [ho 18 d (Or.inr (Or.inl ⟨rfl, c2⟩))]
      exact v2 d c2
  · rcases inc_lt hY hd with ⟨c1, c2⟩ | ⟨c1, c2⟩
    · subst c1; subst c2
      simp only [and_self, if_true]
      exact n3 rfl
    · simp only [if_neg c1]
      rw [ho 20 d (Or.inr (Or.inr (Or.inl ⟨by omega, by omega, c2⟩))), ho 21 d (Or.inr (Or.inr (Or.inl ⟨by omega, by omega, c2⟩)))]
      exact v3 d c2
  · rcases inc_lt hY hk with ⟨c1, c2⟩ | ⟨c1, c2⟩
    · subst c1
      have hs0 : s < Y.1 (10 + k) := by have hs : s < Y1.1 (10 + k) := hs; rw [inc_o hY (by omega)] at hs; exact hs
      have := h3 rfl
      rw [c2] at hs0
      have hs1 : s < xs Y (xk Y) := hs0
      omega
    · rcases inc_lt hY hs with ⟨d1, d2⟩ | ⟨d1, d2⟩
      · subst d1; subst d2
        simp only [and_self, if_true]
        exact n5 k rfl
      · simp only [if_neg d1]
        have q : ∀ c, 23 ≤ c → c ≤ 28 → tb Y1 c (6 * k + s) = tb Y c (6 * k + s) := fun c a b => ho c _ (Or.inr (Or.inr (Or.inr (Or.inr ⟨a, b, k, s, rfl, c2, d2⟩))))
        rw [q 23 (by omega) (by omega), q 24 (by omega) (by omega), q 25 (by omega) (by omega), q 26 (by omega) (by omega), q 27 (by omega) (by omega), q 28 (by omega) (by omega)]
        exact v4 k s c2 d2
  · rcases inc_lt hY hd with ⟨c1, c2⟩ | ⟨c1, c2⟩
    · subst c1; subst c2
      simp only [and_self, if_true]
      exact n4 rfl
    · simp only [if_neg c1]
      rw [ho 30 d (Or.inr (Or.inr (Or.inr (Or.inl ⟨by omega, by omega, c2⟩)))), ho 31 d (Or.inr (Or.inr (Or.inr (Or.inl ⟨by omega, by omega, c2⟩)))), ho 32 d (Or.inr (Or.inr (Or.inr (Or.inl ⟨by omega, by omega, c2⟩)))), hl d c2]
      exact v5 d c2
theorem VJx.add (h : VJx J g nb nc Y) (hY : Y1.1 = inc_ Y j) (h3 : j = 3 → xs Y (xk Y) = 0) (h5 : j ≠ 5) (ho : ∀ c i, OldC Y c i → tb Y1 c i = tb Y c i) (hl : ∀ m, m < xm Y → Y1.2.2 m = Y.2.2 m)
    (hJ : ∀ p i, OldJ g Y p i → J1 p i = J p i) (h34 : J1 34 = J 34) (h35 : J1 35 = J 35) (h41 : J1 41 = J 41) (ha : AgJ g nb nc J J1)
    (n1 : j = 1 → J1 13 (12 * g + xd Y) = iN (tb Y1 13 (xd Y)) ∧ J1 14 (12 * g + xd Y) = iN (tb Y1 14 (xd Y)) ∧ J1 15 (12 * g + xd Y) = iN (tb Y1 15 (xd Y)) ∧ J1 16 (12 * g + xd Y) = iN (tb Y1 16 (xd Y)))
    (n2 : j = 2 → J1 18 (6 * g + xt Y) = iN (tb Y1 18 (xt Y)))
    (n3 : j = 3 → J1 20 (6 * g + xk Y) = iN (tb Y1 20 (xk Y)) ∧ J1 21 (6 * g + xk Y) = iN (tb Y1 21 (xk Y)))
    (n4 : j = 4 → xm Y < 6 ∧ J1 30 (6 * g + xm Y) = iN (tb Y1 30 (xm Y)) ∧ J1 31 (6 * g + xm Y) = oM (tb Y1 31 (xm Y)) ∧ J1 32 (6 * g + xm Y) = oM (tb Y1 32 (xm Y)) ∧ Y1.2.2 (xm Y) = none)
    (n5 : ∀ k, j = 10 + k → J1 23 (6 * (6 * g + k) + xs Y k) = iN (tb Y1 23 (6 * k + xs Y k)) ∧ J1 24 (6 * (6 * g + k) + xs Y k) = iN (tb Y1 24 (6 * k + xs Y k)) ∧ J1 25 (6 * (6 * g + k) + xs Y k) = iN (tb Y1 25 (6 * k + xs Y k)) ∧ J1 26 (6 * (6 * g + k) + xs Y k) = iN (tb Y1 26 (6 * k + xs Y k)) ∧ J1 27 (6 * (6 * g + k) + xs Y k) = oM (tb Y1 27 (6 * k + xs Y k)) ∧ J1 28 (6 * (6 * g + k) + xs Y k) = oM (tb Y1 28 (6 * k + xs Y k))) :
    VJx J1 g nb nc Y1 := by
  obtain ⟨v1, v2, v3, v4, v5, v6, v7⟩ := h
  refine ⟨fun d hd => ?_, fun d hd => ?_, fun d hd => ?_, fun k s hk hs => ?_, fun d hd => ?_, ?_, fun d hd hd2 => ?_⟩
  · rcases inc_lt hY hd with ⟨c1, c2⟩ | ⟨c1, c2⟩
    · subst c1; subst c2
      exact n1 rfl
    · have q : ∀ c, 13 ≤ c → c ≤ 16 → J1 c (12 * g + d) = J c (12 * g + d) := fun c a b => hJ c _ (Or.inl ⟨a, b, d, c2, rfl⟩)
      rw [ho 13 d (Or.inl ⟨by omega, by omega, c2⟩), ho 14 d (Or.inl ⟨by omega, by omega, c2⟩), ho 15 d (Or.inl ⟨by omega, by omega, c2⟩), ho 16 d (Or.inl ⟨by omega, by omega, c2⟩), q 13 (by omega) (by omega), q 14 (by omega) (by omega), q 15 (by omega) (by omega), q 16 (by omega) (by omega)]
      exact v1 d c2
  · rcases inc_lt hY hd with ⟨c1, c2⟩ | ⟨c1, c2⟩
    · subst c1; subst c2
      exact n2 rfl
    · rw [ho 18 d (Or.inr (Or.inl ⟨rfl, c2⟩)), hJ 18 _ (Or.inr (Or.inl ⟨rfl, d, c2, rfl⟩))]
      exact v2 d c2
  · rcases inc_lt hY hd with ⟨c1, c2⟩ | ⟨c1, c2⟩
    · subst c1; subst c2
      exact n3 rfl
    · have q : ∀ c, 20 ≤ c → c ≤ 21 → J1 c (6 * g + d) = J c (6 * g + d) := fun c a b => hJ c _ (Or.inr (Or.inr (Or.inl ⟨a, b, d, c2, rfl⟩)))
      rw [ho 20 d (Or.inr (Or.inr (Or.inl ⟨by omega, by omega, c2⟩))), ho 21 d (Or.inr (Or.inr (Or.inl ⟨by omega, by omega, c2⟩))), q 20 (by omega) (by omega), q 21 (by omega) (by omega)]
      exact v3 d c2
  · rcases inc_lt hY hk with ⟨c1, c2⟩ | ⟨c1, c2⟩
    · subst c1
      have hs0 : s < Y.1 (10 + k) := by have hs : s < Y1.1 (10 + k) := hs; rw [inc_o hY (by omega)] at hs; exact hs
      have := h3 rfl
      rw [c2] at hs0
      have hs1 : s < xs Y (xk Y) := hs0
      omega
    · rcases inc_lt hY hs with ⟨d1, d2⟩ | ⟨d1, d2⟩
      · subst d1; subst d2
        exact n5 k rfl
      · have q : ∀ c, 23 ≤ c → c ≤ 28 → tb Y1 c (6 * k + s) = tb Y c (6 * k + s) := fun c a b => ho c _ (Or.inr (Or.inr (Or.inr (Or.inr ⟨a, b, k, s, rfl, c2, d2⟩))))
        have r : ∀ c, 23 ≤ c → c ≤ 28 → J1 c (6 * (6 * g + k) + s) = J c (6 * (6 * g + k) + s) := fun c a b => hJ c _ (Or.inr (Or.inr (Or.inr (Or.inr ⟨a, b, k, s, rfl, c2, d2⟩))))
        rw [q 23 (by omega) (by omega), q 24 (by omega) (by omega), q 25 (by omega) (by omega), q 26 (by omega) (by omega), q 27 (by omega) (by omega), q 28 (by omega) (by omega), r 23 (by omega) (by omega), r 24 (by omega) (by omega), r 25 (by omega) (by omega), r 26 (by omega) (by omega), r 27 (by omega) (by omega), r 28 (by omega) (by omega)]
        exact v4 k s c2 d2
  · rw [h34, h35]
    rcases inc_lt hY hd with ⟨c1, c2⟩ | ⟨c1, c2⟩
    · subst c1; subst c2
      obtain ⟨m0, m1, m2, m3, m4⟩ := n4 rfl
      refine ⟨m1, m2, m3, ?_⟩
      rw [m4]
      exact fun J2 hJ2 => v7 _ (Nat.le_refl _) m0
    · have q : ∀ c, 30 ≤ c → c ≤ 32 → J1 c (6 * g + d) = J c (6 * g + d) := fun c a b => hJ c _ (Or.inr (Or.inr (Or.inr (Or.inl ⟨a, b, d, c2, rfl⟩))))
      rw [ho 30 d (Or.inr (Or.inr (Or.inr (Or.inl ⟨by omega, by omega, c2⟩)))), ho 31 d (Or.inr (Or.inr (Or.inr (Or.inl ⟨by omega, by omega, c2⟩)))), ho 32 d (Or.inr (Or.inr (Or.inr (Or.inl ⟨by omega, by omega, c2⟩)))), hl d c2, q 30 (by omega) (by omega), q 31 (by omega) (by omega), q 32 (by omega) (by omega)]
      obtain ⟨w1, w2, w3, w4⟩ := v5 d c2
      exact ⟨w1, w2, w3, w4.mo ha (Nat.le_refl _) (Nat.le_refl _)⟩
  · rw [h41, v6]
    show _ = iN (Y1.1 5)
    rw [inc_o hY (Ne.symm h5)]
  · rw [h34, h35]
    exact v7 d (Nat.le_trans (inc_ge hY 4) hd) hd2
theorem TxV.add (h : TxV Y) (hY : Y1.1 = inc_ Y j) (h3 : j = 3 → xs Y (xk Y) = 0) (h5 : j ≠ 5) (ho : ∀ c i, OldC Y c i → tb Y1 c i = tb Y c i)
    (hm : xr Y1 ≤ 8 ∧ xd Y1 ≤ 12 ∧ xt Y1 ≤ 6 ∧ xk Y1 ≤ 6 ∧ xm Y1 ≤ 6 ∧ ∀ k, k < xk Y1 → xs Y1 k ≤ 6)
    (n1 : j = 1 → tb Y1 13 (xd Y) < xr Y ∧ tb Y1 14 (xd Y) < xr Y ∧ tb Y1 15 (xd Y) ≤ 60 ∧ tb Y1 16 (xd Y) ≤ 1 ∧ tb Y1 13 (xd Y) ≠ tb Y1 14 (xd Y))
    (n2 : j = 2 → tb Y1 18 (xt Y) < xr Y)
    (n3 : j = 3 → tb Y1 20 (xk Y) < xr Y ∧ tb Y1 21 (xk Y) ≤ 999)
    (n4 : j = 4 → tb Y1 30 (xm Y) < xr Y ∧ (tb Y1 31 (xm Y) = 0 ∧ tb Y1 32 (xm Y) = 0 ∨ ∃ k s, tb Y1 31 (xm Y) = k + 1 ∧ tb Y1 32 (xm Y) = s + 1 ∧ k < xk Y ∧ s < xs Y k))
    (n5 : ∀ k, j = 10 + k → tb Y1 23 (6 * k + xs Y k) ≤ 120 ∧ 1 ≤ tb Y1 23 (6 * k + xs Y k) ∧ tb Y1 24 (6 * k + xs Y k) ≤ 99 ∧ tb Y1 25 (6 * k + xs Y k) ≤ 99 ∧ tb Y1 26 (6 * k + xs Y k) ≤ 99 ∧ tb Y1 27 (6 * k + xs Y k) ≤ xt Y ∧ tb Y1 28 (6 * k + xs Y k) ≤ xs Y k) : TxV Y1 := by
  obtain ⟨⟨t0, t1, t2, t3, t4, t5, t6⟩, td, tt, tk, ts, tm⟩ := h
  obtain ⟨m0, m1, m2, m3, m4, m5⟩ := hm
  have e5 : xn Y1 = xn Y := inc_o hY (Ne.symm h5)
  have gr : ∀ {y}, y < xr Y → y < xr Y1 := fun hy => Nat.lt_of_lt_of_le hy (inc_ge hY 0)
  refine ⟨⟨m0, m1, m2, m3, m4, by rw [e5]; exact t5, by rw [e5]; exact t6⟩, fun d hd => ?_, fun d hd => ?_, fun d hd => ?_, fun k s hk hs => ?_, fun d hd => ?_⟩
  · rcases inc_lt hY hd with ⟨c1, c2⟩ | ⟨c1, c2⟩
    · subst c1; subst c2
      obtain ⟨a1, a2, a3⟩ := n1 rfl
      exact ⟨gr a1, gr a2, a3⟩
    · rw [ho 13 d (Or.inl ⟨by omega, by omega, c2⟩), ho 14 d (Or.inl ⟨by omega, by omega, c2⟩), ho 15 d (Or.inl ⟨by omega, by omega, c2⟩), ho 16 d (Or.inl ⟨by omega, by omega, c2⟩)]
      obtain ⟨a1, a2, a3⟩ := td d c2
      exact ⟨gr a1, gr a2, a3⟩
  · rcases inc_lt hY hd with ⟨c1, c2⟩ | ⟨c1, c2⟩
    · subst c1; subst c2
      exact gr (n2 rfl)
    · rw [ho 18 d (Or.inr (Or.inl ⟨rfl, c2⟩))]
      exact gr (tt d c2)
  · refine ⟨?_, ?_, m5 d hd⟩
    · rcases inc_lt hY hd with ⟨c1, c2⟩ | ⟨c1, c2⟩
      · subst c1; subst c2
        exact gr (n3 rfl).1
      · rw [ho 20 d (Or.inr (Or.inr (Or.inl ⟨by omega, by omega, c2⟩)))]
        exact gr (tk d c2).1
    · rcases inc_lt hY hd with ⟨c1, c2⟩ | ⟨c1, c2⟩
      · subst c1; subst c2
        exact (n3 rfl).2
      · rw [ho 21 d (Or.inr (Or.inr (Or.inl ⟨by omega, by omega, c2⟩)))]
        exact (tk d c2).2.1
  · rcases inc_lt hY hk with ⟨c1, c2⟩ | ⟨c1, c2⟩
    · subst c1
      have hs0 : s < Y.1 (10 + k) := by have hs : s < Y1.1 (10 + k) := hs; rw [inc_o hY (by omega)] at hs; exact hs
      have := h3 rfl
      rw [c2] at hs0
      have hs1 : s < xs Y (xk Y) := hs0
      omega
    · rcases inc_lt hY hs with ⟨d1, d2⟩ | ⟨d1, d2⟩
      · subst d1; subst d2
        obtain ⟨a1, a2, a3, a4, a5, a6, a7⟩ := n5 k rfl
        exact ⟨a1, a2, a3, a4, a5, Nat.le_trans a6 (inc_ge hY 2), Nat.le_trans a7 (inc_ge hY (10 + k))⟩
      · have q : ∀ c, 23 ≤ c → c ≤ 28 → tb Y1 c (6 * k + s) = tb Y c (6 * k + s) := fun c a b => ho c _ (Or.inr (Or.inr (Or.inr (Or.inr ⟨a, b, k, s, rfl, c2, d2⟩))))
        rw [q 23 (by omega) (by omega), q 24 (by omega) (by omega), q 25 (by omega) (by omega), q 26 (by omega) (by omega), q 27 (by omega) (by omega), q 28 (by omega) (by omega)]
        obtain ⟨a1, a2, a3, a4, a5, a6, a7⟩ := ts k s c2 d2
        exact ⟨a1, a2, a3, a4, a5, Nat.le_trans a6 (inc_ge hY 2), Nat.le_trans a7 (inc_ge hY (10 + k))⟩
  · have old : ∀ {k s : Nat}, k < xk Y ∧ s < xs Y k → k < xk Y1 ∧ s < xs Y1 k := fun hh => ⟨Nat.lt_of_lt_of_le hh.1 (inc_ge hY 3), Nat.lt_of_lt_of_le hh.2 (inc_ge hY _)⟩
    rcases inc_lt hY hd with ⟨c1, c2⟩ | ⟨c1, c2⟩
    · subst c1; subst c2
      obtain ⟨a1, a2⟩ := n4 rfl
      refine ⟨gr a1, ?_⟩
      rcases a2 with a2 | ⟨k, s, z1, z2, z3⟩
      · exact Or.inl a2
      · exact Or.inr ⟨k, s, z1, z2, old z3⟩
    · rw [ho 30 d (Or.inr (Or.inr (Or.inr (Or.inl ⟨by omega, by omega, c2⟩)))), ho 31 d (Or.inr (Or.inr (Or.inr (Or.inl ⟨by omega, by omega, c2⟩)))), ho 32 d (Or.inr (Or.inr (Or.inr (Or.inl ⟨by omega, by omega, c2⟩))))]
      obtain ⟨a1, a2⟩ := tm d c2
      refine ⟨gr a1, ?_⟩
      rcases a2 with a2 | ⟨k, s, z1, z2, z3⟩
      · exact Or.inl a2
      · exact Or.inr ⟨k, s, z1, z2, old z3⟩
end AV
