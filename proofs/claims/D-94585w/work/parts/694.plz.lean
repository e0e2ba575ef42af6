/-! PURE LAW 61: a law is told -/
set_option maxRecDepth 100000
section LZ0
variable {n0 g nb nc n2 txa nk nl x la p0 p1 p2 : Nat} {T : Th} {r : Option Nat} {Y Y1 : Xt} {b ar : Nat → Nat} {e : Nat → Nat → Nat} {nm : Nat → Nat → List Int32} {J0 J J1 : Ji} {L : List (Br × Br × Br)} {c : Br}
/-- a man's law is written -/
theorem BdH.wl (h : BdH n0 T txa nk Y b ar e nl) (hx : T.1 x = some (.inl 14)) (hY : Y1.1 = Y.1) : BdH n0 (tR T x 4 r) txa nk Y1 b ar e nl := by
  obtain ⟨⟨h1, h2, h3, h4⟩, h5, h6, h7, h8, h9⟩ := h
  have hxt : txa ≠ x := fun hh => by rw [hh, hx] at h1; exact absurd h1 (by decide)
  have e1 : ∀ k, xs Y1 k = xs Y k := fun k => by show Y1.1 _ = _; rw [hY]
  refine ⟨⟨h1, h2, fun j hj => by rw [tR_3, if_neg (fun hh => hxt hh.1)]; exact h3 j hj, h4⟩, fun j hj => ?_, fun j i hj hi => h6 j i hj (by rw [hY] at hi; exact hi), fun k hk => ?_, h8, ?_⟩
  · obtain ⟨g1, g2, g3⟩ := h5 j hj
    rw [hY]
    refine ⟨g1.fr rfl ⟨rfl, rfl, ?_⟩ ⟨rfl, ?_⟩, g2, g3⟩
    · funext q
      rw [tR_3, if_neg (fun hh => by rw [← hh.1, g1.1] at hx; exact absurd hx (by decide))]
    · funext q
      obtain ⟨ln, hl⟩ := g1.ark
      rw [tR_3, if_neg (fun hh => by rw [← hh.1, hl] at hx; cases hx)]
  · have hk : k < xk Y := by rw [show xk Y1 = xk Y by show Y1.1 3 = _; rw [hY]] at hk; exact hk
    have := (h6 3 k (Or.inl (by omega)) hk).1
    rw [tR_3, if_neg (fun hh => by omega)]
    exact h7 k hk
  · show Y1.1 0 ≤ 8 ∧ Y1.1 1 ≤ 12 ∧ Y1.1 2 ≤ 6 ∧ Y1.1 3 ≤ 6 ∧ Y1.1 4 ≤ 6 ∧ nl ≤ 8 ∧ (∀ k, k < nk → Y1.1 (10 + k) ≤ 6) ∧ Y1.1 3 ≤ nk
    rw [hY]
    exact h9
theorem NmT.wl (h : NmT T Y e nm) (hx : T.1 x = some (.inl 14)) (hY : Y1.1 = Y.1) : NmT (tR T x 4 r) Y1 e nm := fun s i hs hi => by
  rw [hY] at hi
  obtain ⟨a1, t, a2, u1, u2, aa, u3, u4, u5⟩ := h s i hs hi
  refine ⟨a1, t, by rw [tR_3, if_neg (fun hh => by omega)]; exact a2, u1, u2, aa, ?_, u4, u5⟩
  rw [tR_3, if_neg (fun hh => by omega)]
  exact u3
theorem wl_sm (hx : T.1 x = some (.inl 14)) : SmK kL T (tR T x 4 r) := fun c dk hc hd => by
  refine ⟨rfl, rfl, ?_⟩
  funext q
  rw [tR_3, if_neg (fun hh => by
    rw [hh.1, hx] at hc
    rw [← Option.some.inj hc] at hd
    rcases hd with h | h | h | h | ⟨n, h⟩
    · exact absurd h (by decide)
    · exact absurd h (by decide)
    · exact absurd h (by decide)
    · exact absurd h (by decide)
    · cases h)]
theorem LwI.lw (h : LwI T la p0 p1 p2 L) (hc : PN T p2 L.length c) : lwT T (some la) (some (L, c)) := by
  obtain ⟨⟨h1, h2, h3, h4, h5, h6⟩, ⟨h7, h8, h9, h10⟩, h11⟩ := h
  obtain ⟨n, hn⟩ := hc
  refine ⟨la, p0, p1, p2, rfl, h1, h2, h3, h4, h5, h6, h7, h8, h9, fun i e he => ?_, n, hn⟩
  obtain ⟨⟨x0, a1, a2⟩, ⟨x1, b1, b2⟩, ⟨x2, c1, c2⟩⟩ := h11 i e he
  exact ⟨x0, x1, x2, a1, b1, c1, a2, b2, c2⟩
theorem VTx.wl {i : Nat} (h : VTx T Y e) (hx : T.1 (e 4 i) = some (.inl 14)) (hi : i < xm Y) (hinj : ∀ m, m < xm Y → m ≠ i → e 4 m ≠ e 4 i) (h1 : Y1.1 = Y.1) (h2 : Y1.2.1 = Y.2.1) (h3 : ∀ m, Y1.2.2 m = if m = i then some (L, c) else Y.2.2 m) (hl : lwT T (some la) (some (L, c))) : VTx (tR T (e 4 i) 4 (some la)) Y1 e := by
  obtain ⟨v1, v2, v3, v4, v5⟩ := h
  have e1 : tb Y1 = tb Y := h2
  have f1 : xd Y1 = xd Y := by show Y1.1 1 = _; rw [h1]
  have f2 : xt Y1 = xt Y := by show Y1.1 2 = _; rw [h1]
  have f3 : xk Y1 = xk Y := by show Y1.1 3 = _; rw [h1]
  have f4 : xm Y1 = xm Y := by show Y1.1 4 = _; rw [h1]
  have f5 : ∀ k, xs Y1 k = xs Y k := fun k => by show Y1.1 _ = _; rw [h1]
  refine ⟨fun d hd => by rw [f1] at hd; rw [e1]; exact v1 d hd, fun d hd => by rw [f2] at hd; rw [e1]; exact v2 d hd, fun d hd => by rw [f3] at hd; rw [e1]; exact v3 d hd, fun k s hk hs => by rw [f3] at hk; rw [f5] at hs; rw [e1]; exact v4 k s hk hs, fun m hm => ?_⟩
  rw [f4] at hm
  rw [e1]
  obtain ⟨w1, w2, w3, w4⟩ := v5 m hm
  refine ⟨w1, w2, w3, ?_⟩
  rw [h3 m]
  by_cases cm : m = i
  · rw [if_pos cm, cm, tR_3, if_pos ⟨rfl, rfl⟩]
    exact hl.sm (wl_sm hx)
  · rw [if_neg cm, tR_3, if_neg (fun hh => hinj m hm cm hh.1)]
    exact w4.sm (wl_sm hx)
theorem lwB_of (h : LwM g nb nc J0 J L n2) (h0 : J 36 (50 * g + nb + L.length) = iN 0) (hc : cdN J g n2 (J 39 (50 * g + nb + L.length)) (J 40 (50 * g + nb + L.length)) c) (hJ : ∀ p, 36 ≤ p → p ≤ 43 → p ≠ 41 → J1 p = J p) (h2 : n2 ≤ 420) (hb : nb + L.length + 1 ≤ 50) : lwB J1 g (nb + L.length + 1) n2 (iN (50 * g + nb)) (iN (50 * g + nb + L.length + 1)) (some (L, c)) := fun J2 ha => by
  have f : ∀ p i, 36 ≤ p → p ≤ 40 → i ≤ L.length → J2 p (50 * g + nb + i) = J p (50 * g + nb + i) := fun p i p1 p2 hi => by rw [ha.1 p _ p1 p2 (by omega), hJ p p1 (by omega) (by omega)]
  have q : ∀ p i, (p = 42 ∨ p = 43) → i < 420 * g + n2 → J2 p i = J p i := fun p i hp hi => by rw [ha.2 p i hp hi, hJ p (by omega) (by omega) (by omega)]
  refine ⟨50 * g + nb, rfl, rfl, by omega, by show 50 * g + nb + L.length + 1 ≤ _; omega, fun i e he => ?_, ?_, ?_⟩
  · have hi : i < L.length := L_lt he
    have hi2 : i ≤ L.length := by omega
    obtain ⟨a1, a2, a3, a4⟩ := h.2.1 i e he
    rw [f 36 i (by omega) (by omega) hi2, f 37 i (by omega) (by omega) hi2, f 38 i (by omega) (by omega) hi2, f 39 i (by omega) (by omega) hi2, f 40 i (by omega) (by omega) hi2]
    exact ⟨a1, (a2.mo (Nat.le_refl _) q).j h2, (a3.mo (Nat.le_refl _) q).j h2, (a4.mo (Nat.le_refl _) q).j h2⟩
  · show J2 36 (50 * g + nb + L.length) = iN 0
    rw [f 36 _ (by omega) (by omega) (Nat.le_refl _)]; exact h0
  · show cdJ J2 g (J2 39 (50 * g + nb + L.length)) (J2 40 (50 * g + nb + L.length)) c
    rw [f 39 _ (by omega) (by omega) (Nat.le_refl _), f 40 _ (by omega) (by omega) (Nat.le_refl _)]
    exact (hc.mo (Nat.le_refl _) q).j h2
/-- a law's cell and its rows -/
theorem law_new (hH : HB T) (hb : (tL T).2.2.1 ≤ tN T) (hN : tN T + 4 ≤ (tL T).1) (hZ : tZ T + 17 ≤ (tL T).2.1) : ∃ T8, A_Law (tN T) (tNew T (.inl 15) 4) = some T8 ∧ LwI T8 (tN T) (tN T + 1) (tN T + 2) (tN T + 3) [] ∧ ExN T T8 ∧ tN T8 = tN T + 4 ∧ tZ T8 = tZ T + 17 := by
  let S : FieldType := .object "SleepWork$Sum"
  let T2 := tNew T (.inl 15) 4
  let T3 := tNew T2 (.inr (S, 4)) 4
  let T4 := tR T3 (tN T) 0 (some (tN T2))
  let T5 := tNew T4 (.inr (S, 4)) 4
  let T6 := tR T5 (tN T) 1 (some (tN T4))
  let T7 := tNew T6 (.inr (S, 5)) 5
  let T8 := tR T7 (tN T) 2 (some (tN T6))
  have n2 : tN T2 = tN T + 1 := rfl
  have n4 : tN T4 = tN T + 2 := rfl
  have n6 : tN T6 = tN T + 3 := rfl
  have k2 : T2.1 (tN T) = some (.inl 15) := by show (tNew T (.inl 15) 4).1 _ = _; rw [tNew_1, if_pos rfl]
  have k3 : T3.1 (tN T) = some (.inl 15) := by show (tNew T2 (.inr (S, 4)) 4).1 _ = _; rw [tNew_1, n2, if_neg (by omega)]; exact k2
  have k5 : T5.1 (tN T) = some (.inl 15) := by show (tNew T4 (.inr (S, 4)) 4).1 _ = _; rw [tNew_1, n4, if_neg (by omega)]; exact k3
  have k7 : T7.1 (tN T) = some (.inl 15) := by show (tNew T6 (.inr (S, 5)) 5).1 _ = _; rw [tNew_1, n6, if_neg (by omega)]; exact k5
  have a3 : ∀ g : Th → Option Th, nA T2 S 4 g = g T3 := fun g => nA_p (n := 4) (by omega) (show tN T + 1 + 1 ≤ (tL T).1 by omega) (show tZ T + 4 + 4 ≤ (tL T).2.1 by omega)
  have a4 : ∀ g : Th → Option Th, pR T3 (tN T) 15 0 (some (tN T2)) g = g T4 := fun g => pR_p k3 hb
  have a5 : ∀ g : Th → Option Th, nA T4 S 4 g = g T5 := fun g => nA_p (n := 4) (by omega) (show tN T + 1 + 1 + 1 ≤ (tL T).1 by omega) (show tZ T + 4 + 4 + 4 ≤ (tL T).2.1 by omega)
  have a6 : ∀ g : Th → Option Th, pR T5 (tN T) 15 1 (some (tN T4)) g = g T6 := fun g => pR_p k5 hb
  have a7 : ∀ g : Th → Option Th, nA T6 S 5 g = g T7 := fun g => nA_p (n := 5) (by omega) (show tN T + 1 + 1 + 1 + 1 ≤ (tL T).1 by omega) (show tZ T + 4 + 4 + 4 + 5 ≤ (tL T).2.1 by omega)
  have a8 : ∀ g : Th → Option Th, pR T7 (tN T) 15 2 (some (tN T6)) g = g T8 := fun g => pR_p k7 hb
  have e1 : T8.1 (tN T + 1) = some (.inr (S, 4)) := by
    show (tNew T6 (.inr (S, 5)) 5).1 _ = _
    rw [tNew_1, n6, if_neg (by omega)]
    show (tNew T4 (.inr (S, 4)) 4).1 _ = _
    rw [tNew_1, n4, if_neg (by omega)]
    show (tNew T2 (.inr (S, 4)) 4).1 _ = _
    rw [tNew_1, n2, if_pos rfl]
  have e2 : T8.1 (tN T + 2) = some (.inr (S, 4)) := by
    show (tNew T6 (.inr (S, 5)) 5).1 _ = _
    rw [tNew_1, n6, if_neg (by omega)]
    show (tNew T4 (.inr (S, 4)) 4).1 _ = _
    rw [tNew_1, n4, if_pos rfl]
  have e3 : T8.1 (tN T + 3) = some (.inr (S, 5)) := by
    show (tNew T6 (.inr (S, 5)) 5).1 _ = _
    rw [tNew_1, n6, if_pos rfl]
  have i3 : T8.2.1 (tN T) 3 = 0 := by
    show (tNew T6 (.inr (S, 5)) 5).2.1 _ _ = _
    rw [tNew_2, n6, if_neg (by omega)]
    show (tNew T4 (.inr (S, 4)) 4).2.1 _ _ = _
    rw [tNew_2, n4, if_neg (by omega)]
    show (tNew T2 (.inr (S, 4)) 4).2.1 _ _ = _
    rw [tNew_2, n2, if_neg (by omega)]
    show (tNew T (.inl 15) 4).2.1 _ _ = _
    rw [tNew_2, if_pos rfl]
  have r0 : T4.2.2.1 (tN T) 0 = some (tN T + 1) := by
    show (tR T3 _ _ _).2.2.1 _ _ = _
    rw [tR_3, if_pos ⟨rfl, rfl⟩]
    rfl
  have r1 : ∀ j, T5.2.2.1 (tN T) j = T4.2.2.1 (tN T) j := fun j => by show (tNew T4 (.inr (S, 4)) 4).2.2.1 _ _ = _; rw [tNew_3, n4, if_neg (by omega)]
  have r2 : ∀ j, T7.2.2.1 (tN T) j = T6.2.2.1 (tN T) j := fun j => by show (tNew T6 (.inr (S, 5)) 5).2.2.1 _ _ = _; rw [tNew_3, n6, if_neg (by omega)]
  have q0 : T8.2.2.1 (tN T) 0 = some (tN T + 1) := by
    show (tR T7 _ _ _).2.2.1 _ _ = _
    rw [tR_3, if_neg (by omega), r2]
    show (tR T5 _ _ _).2.2.1 _ _ = _
    rw [tR_3, if_neg (by omega), r1]; exact r0
  have q1 : T8.2.2.1 (tN T) 1 = some (tN T + 2) := by
    show (tR T7 _ _ _).2.2.1 _ _ = _
    rw [tR_3, if_neg (by omega), r2]
    show (tR T5 _ _ _).2.2.1 _ _ = _
    rw [tR_3, if_pos ⟨rfl, rfl⟩]
    rfl
  have q2 : T8.2.2.1 (tN T) 2 = some (tN T + 3) := by
    show (tR T7 _ _ _).2.2.1 _ _ = _
    rw [tR_3, if_pos ⟨rfl, rfl⟩]
    rfl
  have x2 : ExN T T2 := ExN.new
  have x4 : ExN T T4 := (x2.tr ExN.new).wR (Nat.le_refl _)
  have x6 : ExN T T6 := (x4.tr ExN.new).wR (Nat.le_refl _)
  have x8 : ExN T T8 := (x6.tr ExN.new).wR (Nat.le_refl _)
  refine ⟨T8, ?_, ⟨⟨k7, i3, by simp, q0, q1, q2⟩, ⟨e1, e2, e3, by omega, by omega, by omega⟩, fun i e he => by cases he⟩, x8, rfl, rfl⟩
  simp only [A_Law]
  show nA T2 S 4 (fun T1 => pR T1 (tN T) 15 0 (some (tN T2)) fun T2 => nA T2 S 4 fun T3 => pR T3 (tN T) 15 1 (some (tN T2)) fun T4 => nA T4 S 5 fun T5 => pR T5 (tN T) 15 2 (some (tN T4)) fun T6 => some T6) = some T8
  rw [a3, a4, a5, a6, a7, a8]
end LZ0
