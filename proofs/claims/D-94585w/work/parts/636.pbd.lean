/-! PURE LAW 32: a text that is being made -/
set_option maxRecDepth 100000
/-- T1 has at a what T has -/
abbrev At_ (T T1 : Th) (a : Nat) : Prop := T1.1 a = T.1 a ∧ T1.2.1 a = T.2.1 a ∧ T1.2.2.1 a = T.2.2.1 a
/-- cells of laws and of sums -/
def kL (dk : Dk) : Prop := dk = .inl 15 ∨ dk = .inl 16 ∨ dk = .inl 17 ∨ dk = .inl 18 ∨ ∃ n, dk = .inr (.object "SleepWork$Sum", n)
/-- what is told of, in rows -/
def kE (dk : Dk) : Prop := dk = .inl 9 ∨ dk = .inl 10 ∨ dk = .inl 11 ∨ dk = .inl 12 ∨ dk = .inl 13 ∨ dk = .inl 14
/-- all but rows and their arrays -/
def kA (dk : Dk) : Prop := dk ≠ .inl 19 ∧ ∀ n, dk ≠ .inr (.object "java/lang/Object", n)
def SmK (k : Dk → Prop) (T T1 : Th) : Prop := ∀ a dk, T.1 a = some dk → k dk → At_ T T1 a
theorem kL.a {dk : Dk} (h : kL dk) : kA dk := by
  rcases h with rfl | rfl | rfl | rfl | ⟨n, rfl⟩
  · exact ⟨by decide, fun n hh => by cases hh⟩
  · exact ⟨by decide, fun n hh => by cases hh⟩
  · exact ⟨by decide, fun n hh => by cases hh⟩
  · exact ⟨by decide, fun n hh => by cases hh⟩
  · refine ⟨(fun hh => (by cases hh)), fun m hh => ?_⟩
    have h1 := (Prod.mk.inj (Sum.inr.inj hh)).1
    exact absurd h1 (by decide)
theorem kE.a {dk : Dk} (h : kE dk) : kA dk := by
  rcases h with rfl | rfl | rfl | rfl | rfl | rfl <;> exact ⟨by decide, fun n hh => by cases hh⟩
theorem SmK.l {T T1 : Th} (h : SmK kA T T1) : SmK kL T T1 := fun a dk ha hk => h a dk ha hk.a
theorem SmK.e {T T1 : Th} (h : SmK kA T T1) : SmK kE T T1 := fun a dk ha hk => h a dk ha hk.a
theorem SmK.tr {k : Dk → Prop} {T T1 T2 : Th} (h : SmK k T T1) (h2 : SmK k T1 T2) : SmK k T T2 := fun a dk ha hk => by
  obtain ⟨x1, x2, x3⟩ := h a dk ha hk
  obtain ⟨y1, y2, y3⟩ := h2 a dk (x1.trans ha) hk
  exact ⟨y1.trans x1, y2.trans x2, y3.trans x3⟩
theorem Nd.sm {T T1 : Th} (h : SmK kL T T1) : ∀ n a c, Nd T n a c → Nd T1 n a c := by
  intro n
  induction n with
  | zero => intro a c hh; exact hh
  | succ n ih =>
    intro a c hh
    rcases hh with ⟨a1, a2⟩ | ⟨k, a1, a2, a3, a4⟩ | ⟨a0, a1, a2, c1, c2, op, b1, b2, b3, b4, b5, b6⟩
    · obtain ⟨x1, x2, x3⟩ := h a _ a1 (Or.inr (Or.inl rfl))
      exact Or.inl ⟨by rw [x1]; exact a1, by rw [x2]; exact a2⟩
    · obtain ⟨x1, x2, x3⟩ := h a _ a2 (Or.inr (Or.inr (Or.inl rfl)))
      exact Or.inr (Or.inl ⟨k, a1, by rw [x1]; exact a2, by rw [x2]; exact a3, a4⟩)
    · obtain ⟨x1, x2, x3⟩ := h a _ a0 (Or.inr (Or.inr (Or.inr (Or.inl rfl))))
      exact Or.inr (Or.inr ⟨by rw [x1]; exact a0, a1, a2, c1, c2, op, by rw [x3]; exact b1, by rw [x3]; exact b2, ih _ _ b3, ih _ _ b4, b5, by rw [x2]; exact b6⟩)
theorem lwT.sm {T T1 : Th} (h : SmK kL T T1) {r : Option Nat} {o : Option Lw} (hh : lwT T r o) : lwT T1 r o := by
  rcases o with _ | L
  · exact hh
  · obtain ⟨a, p0, p1, p2, r1, r2, r3, r4, r5, r6, r7, r8, r9, r10, r11, n, r12, r13⟩ := hh
    obtain ⟨x1, x2, x3⟩ := h a _ r2 (Or.inl rfl)
    obtain ⟨y1, y2, y3⟩ := h p0 _ r8 (Or.inr (Or.inr (Or.inr (Or.inr ⟨4, rfl⟩))))
    obtain ⟨z1, z2, z3⟩ := h p1 _ r9 (Or.inr (Or.inr (Or.inr (Or.inr ⟨4, rfl⟩))))
    obtain ⟨w1, w2, w3⟩ := h p2 _ r10 (Or.inr (Or.inr (Or.inr (Or.inr ⟨5, rfl⟩))))
    refine ⟨a, p0, p1, p2, r1, by rw [x1]; exact r2, by rw [x2]; exact r3, r4, by rw [x3]; exact r5, by rw [x3]; exact r6, by rw [x3]; exact r7, by rw [y1]; exact r8, by rw [z1]; exact r9, by rw [w1]; exact r10, fun i e he => ?_, n, by rw [w3]; exact r12, Nd.sm h _ _ _ r13⟩
    obtain ⟨n0, n1, n2, q1, q2, q3, q4, q5, q6⟩ := r11 i e he
    exact ⟨n0, n1, n2, by rw [y3]; exact q1, by rw [z3]; exact q2, by rw [w3]; exact q3, Nd.sm h _ _ _ q4, Nd.sm h _ _ _ q5, Nd.sm h _ _ _ q6⟩
/-- the values of what was told: the component's -/
def VTx (T : Th) (Y : Xt) (e : Nat → Nat → Nat) : Prop := (∀ d, d < xd Y → T.2.1 (e 1 d) 0 = iN (tb Y 13 d) ∧ T.2.1 (e 1 d) 1 = iN (tb Y 14 d) ∧ T.2.1 (e 1 d) 2 = iN (tb Y 15 d) ∧ T.2.1 (e 1 d) 3 = iN (tb Y 16 d)) ∧ (∀ t, t < xt Y → T.2.1 (e 2 t) 1 = iN (tb Y 18 t)) ∧ (∀ k, k < xk Y → T.2.1 (e 3 k) 1 = iN (tb Y 20 k) ∧ T.2.1 (e 3 k) 2 = iN (tb Y 21 k)) ∧ (∀ k s, k < xk Y → s < xs Y k → T.2.1 (e (10 + k) s) 0 = iN (tb Y 23 (6 * k + s)) ∧ T.2.1 (e (10 + k) s) 1 = iN (tb Y 24 (6 * k + s)) ∧ T.2.1 (e (10 + k) s) 2 = iN (tb Y 25 (6 * k + s)) ∧ T.2.1 (e (10 + k) s) 3 = iN (tb Y 26 (6 * k + s)) ∧ T.2.1 (e (10 + k) s) 4 = oC (tb Y 27 (6 * k + s)) ∧ T.2.1 (e (10 + k) s) 5 = oC (tb Y 28 (6 * k + s))) ∧ (∀ m, m < xm Y → T.2.1 (e 4 m) 1 = iN (tb Y 30 m) ∧ T.2.1 (e 4 m) 2 = oC (tb Y 31 m) ∧ T.2.1 (e 4 m) 3 = oC (tb Y 32 m) ∧ lwT T (T.2.2.1 (e 4 m) 4) (Y.2.2 m))
/-- the rows that a text has; nk: of steps -/
def dm_ (nk j : Nat) : Prop := j < 5 ∨ (10 ≤ j ∧ j < 10 + nk)
def kd_ (j : Nat) : Nat := if j = 0 then 9 else if j = 1 then 10 else if j = 2 then 11 else if j = 3 then 12 else if j = 4 then 14 else 13
theorem kd_E (j : Nat) : kE (.inl (kd_ j)) := by
  unfold kd_ kE
  by_cases c0 : j = 0
  · rw [if_pos c0]; exact Or.inl rfl
  rw [if_neg c0]
  by_cases c1 : j = 1
  · rw [if_pos c1]; exact Or.inr (Or.inl rfl)
  rw [if_neg c1]
  by_cases c2 : j = 2
  · rw [if_pos c2]; exact Or.inr (Or.inr (Or.inl rfl))
  rw [if_neg c2]
  by_cases c3 : j = 3
  · rw [if_pos c3]; exact Or.inr (Or.inr (Or.inr (Or.inl rfl)))
  rw [if_neg c3]
  by_cases c4 : j = 4
  · rw [if_pos c4]; exact Or.inr (Or.inr (Or.inr (Or.inr (Or.inr rfl))))
  · rw [if_neg c4]; exact Or.inr (Or.inr (Or.inr (Or.inr (Or.inl rfl))))
theorem kd_elk (j : Nat) : kd_ j ∈ elk (.object "java/lang/Object") := by
  have h : elk (.object "java/lang/Object") = [9, 10, 11, 12, 13, 14] := by unfold elk; rw [if_pos rfl]
  rw [h]
  unfold kd_
  by_cases c0 : j = 0
  · rw [if_pos c0]; decide
  rw [if_neg c0]
  by_cases c1 : j = 1
  · rw [if_pos c1]; decide
  rw [if_neg c1]
  by_cases c2 : j = 2
  · rw [if_pos c2]; decide
  rw [if_neg c2]
  by_cases c3 : j = 3
  · rw [if_pos c3]; decide
  rw [if_neg c3]
  by_cases c4 : j = 4
  · rw [if_pos c4]; decide
  · rw [if_neg c4]; decide
/-- the text at txa is being made, from the address n0 on; nl laws were told -/
def BdH (n0 : Nat) (T : Th) (txa nk : Nat) (Y : Xt) (b ar : Nat → Nat) (e : Nat → Nat → Nat) (nl : Nat) : Prop := (T.1 txa = some (.inl 4) ∧ n0 ≤ txa ∧ (∀ j, j < 5 → T.2.2.1 txa j = some (b j)) ∧ T.2.1 txa 6 = iN nl) ∧ (∀ j, dm_ nk j → GL T (b j) (Y.1 j) (e j) (ar j) ∧ n0 ≤ b j ∧ (ar j = tE T ∨ n0 ≤ ar j)) ∧ (∀ j i, dm_ nk j → i < Y.1 j → T.1 (e j i) = some (.inl (kd_ j)) ∧ n0 ≤ e j i) ∧ (∀ k, k < xk Y → T.2.2.1 (e 3 k) 3 = some (b (10 + k))) ∧ (∀ i j, dm_ nk i → dm_ nk j → i ≠ j → b i ≠ b j ∧ (ar i ≠ tE T → ar i ≠ ar j)) ∧ (xr Y ≤ 8 ∧ xd Y ≤ 12 ∧ xt Y ≤ 6 ∧ xk Y ≤ 6 ∧ xm Y ≤ 6 ∧ nl ≤ 8 ∧ (∀ k, k < nk → xs Y k ≤ 6) ∧ xk Y ≤ nk)
/-- the heap while a text is read -/
def LmT (n0 : Nat) (T : Th) : Prop := HB T ∧ (tL T).2.2.1 ≤ n0 ∧ n0 ≤ tN T ∧ tE T < n0 ∧ T.1 (tE T) = some (.inr (.object "java/lang/Object", 0))
theorem LmT.ex {n0 : Nat} {T T1 : Th} (h : LmT n0 T) (hx : ExN T T1) : LmT n0 T1 := by
  obtain ⟨h1, h2, h3, h4, h5⟩ := h
  have e1 : tE T1 = tE T := by unfold tE; rw [hx.2.1]
  refine ⟨hx.2.2.2 h1, by rw [hx.2.1]; exact h2, by have := hx.1; omega, by rw [e1]; exact h4, ?_⟩
  rw [e1, (hx.2.2.1 (tE T) (by omega)).1]
  exact h5
theorem BdH.ex {n0 : Nat} {T T1 : Th} {txa nl nk : Nat} {Y : Xt} {b ar : Nat → Nat} {e : Nat → Nat → Nat} (h : BdH n0 T txa nk Y b ar e nl) (hB : HB T) (hx : ExN T T1) : BdH n0 T1 txa nk Y b ar e nl := by
  obtain ⟨⟨h1, h2, h3, h4⟩, h5, h6, h7, h8, h9⟩ := h
  have e1 : tE T1 = tE T := by unfold tE; rw [hx.2.1]
  obtain ⟨x1, x2, x3⟩ := hB.at_ hx h1
  refine ⟨⟨x1, h2, fun j hj => by rw [x3]; exact h3 j hj, by rw [x2]; exact h4⟩, fun j hj => ?_, fun j i hj hi => ⟨(hB.at_ hx (h6 j i hj hi).1).1, (h6 j i hj hi).2⟩, fun k hk => ?_, fun i j hi hj hij => by rw [e1]; exact h8 i j hi hj hij, h9⟩
  · obtain ⟨g1, g2, g3⟩ := h5 j hj
    rw [e1]
    refine ⟨?_, g2, g3⟩
    obtain ⟨y1, y2, y3⟩ := hB.at_ hx g1.1
    have : ∃ dk, T.1 (ar j) = some dk := by
      rcases g1.2.2.2.2.1 with ⟨_, _, c⟩ | ⟨_, ln, _, _, c⟩
      · exact ⟨_, c⟩
      · exact ⟨_, c⟩
    obtain ⟨dk, hdk⟩ := this
    obtain ⟨z1, z2, z3⟩ := hB.at_ hx hdk
    exact g1.fr hx.2.1 ⟨y1.trans g1.1.symm, y2, y3⟩ ⟨z1.trans hdk.symm, z3⟩
  · have := (h6 3 k (Or.inl (by omega)) hk).1
    rw [(hB.at_ hx this).2.2]
    exact h7 k hk
theorem ExN.sm {T T1 : Th} {k : Dk → Prop} (hB : HB T) (hx : ExN T T1) : SmK k T T1 := fun a dk ha _ => by
  obtain ⟨x1, x2, x3⟩ := hB.at_ hx ha
  exact ⟨x1.trans ha.symm, x2, x3⟩
theorem VTx.sm {n0 : Nat} {T T1 : Th} {txa nl nk : Nat} {Y : Xt} {b ar : Nat → Nat} {e : Nat → Nat → Nat} (h : VTx T Y e) (hb : BdH n0 T txa nk Y b ar e nl) (hL : SmK kL T T1) (hE : SmK kE T T1) : VTx T1 Y e := by
  have hc := hb.2.2.1
  have q : ∀ j i, dm_ nk j → i < Y.1 j → At_ T T1 (e j i) := fun j i hj hi => hE _ _ (hc j i hj hi).1 (kd_E j)
  obtain ⟨v1, v2, v3, v4, v5⟩ := h
  refine ⟨fun d hd => by rw [(q 1 d (Or.inl (by omega)) hd).2.1]; exact v1 d hd, fun t ht => by rw [(q 2 t (Or.inl (by omega)) ht).2.1]; exact v2 t ht, fun k hk => by rw [(q 3 k (Or.inl (by omega)) hk).2.1]; exact v3 k hk, fun k s hk hs => by rw [(q (10 + k) s (Or.inr ⟨by omega, by have := hb.2.2.2.2.2.2.2.2.2.2.2.2; omega⟩) hs).2.1]; exact v4 k s hk hs, fun m hm => ?_⟩
  rw [(q 4 m (Or.inl (by omega)) hm).2.1, (q 4 m (Or.inl (by omega)) hm).2.2]
  obtain ⟨w1, w2, w3, w4⟩ := v5 m hm
  exact ⟨w1, w2, w3, w4.sm hL⟩
