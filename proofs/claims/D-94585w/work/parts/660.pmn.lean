/-! PURE LAW 44: the model's end of a statement that tells a name -/
set_option maxRecDepth 100000
section MN
variable {g a a1 nl nb nc s Nn : Nat} {J J4 : Ji} {K : Jl} {Y Y1 : Xt} {sg id_ : Nat → Nat} {nm : Nat → Nat → List Int32} {L : List Int32} {q : Prop}
theorem mo_nm (hs : s < 4) (hY : Y1.1 = inc_ Y (rw_ s)) (ha : a1 < 403) (hB : BdJ J g Y nl nb nc) (h22 : ∀ k, k < xk Y1 → J 22 (6 * g + k) = iN (xs Y1 k)) (hNt : NtM J K Nn sg id_ nm (fun s => Y.1 (rw_ s))) (hNn : Nn = xr Y + xt Y + xk Y + xm Y) (hN : Nn < 26) (h5 : allL L) (h8 : L.length ≤ 8) (hk : K 6 a1 = c27 L)
    (hm : (∀ k, k < xk Y1 → xs Y1 k ≤ 6) ∧ xd Y1 ≤ 12 ∧ xt Y1 ≤ 6 ∧ xk Y1 ≤ 6 ∧ xm Y1 ≤ 6) (hv : q → VJx J g nb nc Y1) (hJ4 : J4 = uJ J 0 11 (iN (a + 1))) :
    ∃ J6 K1 Nn1 sg1 id1, (ldI J4 (co_ s) 2 (J4 0 19) fun x3 => (M_notes (iN a1) (iN s) x3 J4 K).bind fun r4 => ldI r4.1 (co_ s) 2 (r4.1 0 19) fun x5 => stI r4.1 (co_ s) 2 (r4.1 0 19) (x5 + 1) fun J6 => some (J6, r4.2)) = some (J6, K1) ∧ (∀ p, 3 ≤ p → p ≤ 5 → J6 p = J4 p) ∧ (∀ i, 11 ≤ i → i ≤ 16 → J6 0 i = J4 0 i) ∧ (∀ o, o ≠ 8 → K1 o = K o) ∧ NtM J6 K1 Nn1 sg1 id1 (fun y i => if y = s ∧ i = Y.1 (rw_ s) then L else nm y i) (fun s => Y1.1 (rw_ s)) ∧ Nn1 = xr Y1 + xt Y1 + xk Y1 + xm Y1 ∧ BdJ J6 g Y1 nl nb nc ∧ FrJ g J4 J6 ∧ (q → VJx J6 g nb nc Y1) := by
  obtain ⟨⟨j1, j2⟩, ⟨j3, j4, j5, j6, j7, j8⟩, j9, j10, j11⟩ := hB
  have hco : (s = 0 ∧ co_ s = 11 ∧ rw_ s = 0) ∨ (s = 1 ∧ co_ s = 17 ∧ rw_ s = 2) ∨ (s = 2 ∧ co_ s = 19 ∧ rw_ s = 3) ∨ (s = 3 ∧ co_ s = 29 ∧ rw_ s = 4) := by
    have : s = 0 ∨ s = 1 ∨ s = 2 ∨ s = 3 := by omega
    rcases this with rfl | rfl | rfl | rfl
    · exact Or.inl ⟨rfl, rfl, rfl⟩
    · exact Or.inr (Or.inl ⟨rfl, rfl, rfl⟩)
    · exact Or.inr (Or.inr (Or.inl ⟨rfl, rfl, rfl⟩))
    · exact Or.inr (Or.inr (Or.inr ⟨rfl, rfl, rfl⟩))
  have h4o : ∀ p, p ≠ 0 → J4 p = J p := fun p hp => by rw [hJ4, uJ_o hp]
  have h40 : ∀ i, i ≠ 11 → J4 0 i = J 0 i := fun i hi => by rw [hJ4, uJ_sn hi]
  have hc : J4 (co_ s) g = iN (Y.1 (rw_ s)) := by
    rcases hco with ⟨_, c, d⟩ | ⟨_, c, d⟩ | ⟨_, c, d⟩ | ⟨_, c, d⟩
    · rw [c, d, h4o 11 (by omega)]; exact j3
    · rw [c, d, h4o 17 (by omega)]; exact j5
    · rw [c, d, h4o 19 (by omega)]; exact j6
    · rw [c, d, h4o 29 (by omega)]; exact j7
  obtain ⟨J6, K1, m1, m2, m3, m4, m5, m6, m7⟩ := en_mo (J4 := J4) hs hY ha j1 (by rw [h40 19 (by omega)]; exact j2) hc (hNt.fr (h4o 9 (by omega)) (h4o 10 (by omega)) (h40 20 (by omega))) hN h5 h8 hk
  have hp : ∀ p, p ≠ 0 → p ≠ 9 → p ≠ 10 → p ≠ 11 → p ≠ 17 → p ≠ 19 → p ≠ 29 → J6 p = J p := fun p p0 p9 p10 a1 a2 a3 a4 => by rw [m4 p p0 p9 p10 (by omega), h4o p p0]
  have hp0 : ∀ i, i ≠ 11 → i ≠ 20 → J6 0 i = J 0 i := fun i h1 h2 => by rw [m5 i h2, h40 i h1]
  refine ⟨J6, K1, Nn + 1, _, _, m1, fun p p1 p2 => m4 p (by omega) (by omega) (by omega) (by omega), fun i i1 i2 => m5 i (by omega), m3, m2, ?_, ⟨⟨j1, by rw [hp0 19 (by omega) (by omega)]; exact j2⟩, ?_, fun k hk => by rw [hp 22 (by omega) (by omega) (by omega) (by omega) (by omega) (by omega) (by omega)]; exact h22 k hk, ⟨by rw [hp0 49 (by omega) (by omega)]; exact j10.1, j10.2⟩, by rw [hp0 56 (by omega) (by omega)]; exact j11⟩, m7, fun hq => ?_⟩
  · rw [hNn]
    show Y.1 0 + Y.1 2 + Y.1 3 + Y.1 4 + 1 = Y1.1 0 + Y1.1 2 + Y1.1 3 + Y1.1 4
    rcases hco with ⟨_, c, d⟩ | ⟨_, c, d⟩ | ⟨_, c, d⟩ | ⟨_, c, d⟩ <;> rw [d] at hY
    · rw [inc_s hY, inc_o hY (r := 2) (by omega), inc_o hY (r := 3) (by omega), inc_o hY (r := 4) (by omega)]; omega
    · rw [inc_s hY, inc_o hY (r := 0) (by omega), inc_o hY (r := 3) (by omega), inc_o hY (r := 4) (by omega)]; omega
    · rw [inc_s hY, inc_o hY (r := 0) (by omega), inc_o hY (r := 2) (by omega), inc_o hY (r := 4) (by omega)]; omega
    · rw [inc_s hY, inc_o hY (r := 0) (by omega), inc_o hY (r := 2) (by omega), inc_o hY (r := 3) (by omega)]; omega
  · show J6 11 g = iN (Y1.1 0) ∧ J6 12 g = iN (Y1.1 1) ∧ J6 17 g = iN (Y1.1 2) ∧ J6 19 g = iN (Y1.1 3) ∧ J6 29 g = iN (Y1.1 4) ∧ J6 33 g = iN nl
    rw [hp 12 (by omega) (by omega) (by omega) (by omega) (by omega) (by omega) (by omega), hp 33 (by omega) (by omega) (by omega) (by omega) (by omega) (by omega) (by omega)]
    rcases hco with ⟨_, c, d⟩ | ⟨_, c, d⟩ | ⟨_, c, d⟩ | ⟨_, c, d⟩ <;> rw [d] at hY <;> rw [c] at m6 m4 <;> rw [d] at m6
    · rw [m4 17 (by omega) (by omega) (by omega) (by omega), m4 19 (by omega) (by omega) (by omega) (by omega), m4 29 (by omega) (by omega) (by omega) (by omega), h4o 17 (by omega), h4o 19 (by omega), h4o 29 (by omega), inc_s hY, inc_o hY (r := 1) (by omega), inc_o hY (r := 2) (by omega), inc_o hY (r := 3) (by omega), inc_o hY (r := 4) (by omega)]
      exact ⟨m6, j4, j5, j6, j7, j8⟩
    · rw [m4 11 (by omega) (by omega) (by omega) (by omega), m4 19 (by omega) (by omega) (by omega) (by omega), m4 29 (by omega) (by omega) (by omega) (by omega), h4o 11 (by omega), h4o 19 (by omega), h4o 29 (by omega), inc_s hY, inc_o hY (r := 1) (by omega), inc_o hY (r := 0) (by omega), inc_o hY (r := 3) (by omega), inc_o hY (r := 4) (by omega)]
      exact ⟨j3, j4, m6, j6, j7, j8⟩
    · rw [m4 11 (by omega) (by omega) (by omega) (by omega), m4 17 (by omega) (by omega) (by omega) (by omega), m4 29 (by omega) (by omega) (by omega) (by omega), h4o 11 (by omega), h4o 17 (by omega), h4o 29 (by omega), inc_s hY, inc_o hY (r := 1) (by omega), inc_o hY (r := 0) (by omega), inc_o hY (r := 2) (by omega), inc_o hY (r := 4) (by omega)]
      exact ⟨j3, j4, j5, m6, j7, j8⟩
    · rw [m4 11 (by omega) (by omega) (by omega) (by omega), m4 17 (by omega) (by omega) (by omega) (by omega), m4 19 (by omega) (by omega) (by omega) (by omega), h4o 11 (by omega), h4o 17 (by omega), h4o 19 (by omega), inc_s hY, inc_o hY (r := 1) (by omega), inc_o hY (r := 0) (by omega), inc_o hY (r := 2) (by omega), inc_o hY (r := 3) (by omega)]
      exact ⟨j3, j4, j5, j6, m6, j8⟩
  · exact (hv hq).fr hm.1 hm.2 (fun p p1 p2 p3 => hp p (by omega) (by omega) (by omega) (by omega) (by omega) (by omega) (by omega)) ⟨fun p i p1 p2 _ => by rw [hp p (by omega) (by omega) (by omega) (by omega) (by omega) (by omega) (by omega)], fun p i p1 _ => by rw [hp p (by omega) (by omega) (by omega) (by omega) (by omega) (by omega) (by omega)]⟩ (Nat.le_refl _) (Nat.le_refl _)
end MN
