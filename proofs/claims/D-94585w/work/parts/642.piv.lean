/-! PURE LAW 35: what holds between two statements -/
set_option maxRecDepth 100000
/-- the model agrees up to its counts of branches and of codes -/
def AgJ (g nb nc : Nat) (J J1 : Ji) : Prop := (∀ o i, 36 ≤ o → o ≤ 40 → i < 50 * g + nb → J1 o i = J o i) ∧ ∀ o i, (o = 42 ∨ o = 43) → i < 420 * g + nc → J1 o i = J o i
/-- a law, whatever comes behind it -/
def lwB (J : Ji) (g nb nc : Nat) (x y : Int32) (o : Option Lw) : Prop := ∀ J1, AgJ g nb nc J J1 → lwJ J1 g x y o
theorem lwB.j {J : Ji} {g nb nc : Nat} {x y : Int32} {o : Option Lw} (h : lwB J g nb nc x y o) : lwJ J g x y o := h J ⟨fun _ _ _ _ _ => rfl, fun _ _ _ _ => rfl⟩
theorem lwB.mo {J J1 : Ji} {g nb nc nb1 nc1 : Nat} {x y : Int32} {o : Option Lw} (h : lwB J g nb nc x y o) (ha : AgJ g nb nc J J1) (h1 : nb ≤ nb1) (h2 : nc ≤ nc1) : lwB J1 g nb1 nc1 x y o := fun J2 hj => h J2 ⟨fun o i a1 a2 a3 => by rw [hj.1 o i a1 a2 (by omega), ha.1 o i a1 a2 a3], fun o i a1 a2 => by rw [hj.2 o i a1 (by omega), ha.2 o i a1 a2]⟩
/-- how many there are: the model's -/
def BdJ (J : Ji) (g : Nat) (Y : Xt) (nl nb nc : Nat) : Prop := (g < 2 ∧ J 0 19 = iN g) ∧ (J 11 g = iN (xr Y) ∧ J 12 g = iN (xd Y) ∧ J 17 g = iN (xt Y) ∧ J 19 g = iN (xk Y) ∧ J 29 g = iN (xm Y) ∧ J 33 g = iN nl) ∧ (∀ k, k < xk Y → J 22 (6 * g + k) = iN (xs Y k)) ∧ (J 0 49 = iN (50 * g + nb) ∧ nb ≤ 5 * nl) ∧ (J 0 56 = iN (420 * g + nc))
/-- the values of what was told: the model's -/
def VJx (J : Ji) (g nb nc : Nat) (Y : Xt) : Prop := (∀ d, d < xd Y → J 13 (12 * g + d) = iN (tb Y 13 d) ∧ J 14 (12 * g + d) = iN (tb Y 14 d) ∧ J 15 (12 * g + d) = iN (tb Y 15 d) ∧ J 16 (12 * g + d) = iN (tb Y 16 d)) ∧ (∀ t, t < xt Y → J 18 (6 * g + t) = iN (tb Y 18 t)) ∧ (∀ k, k < xk Y → J 20 (6 * g + k) = iN (tb Y 20 k) ∧ J 21 (6 * g + k) = iN (tb Y 21 k)) ∧ (∀ k s, k < xk Y → s < xs Y k → J 23 (6 * (6 * g + k) + s) = iN (tb Y 23 (6 * k + s)) ∧ J 24 (6 * (6 * g + k) + s) = iN (tb Y 24 (6 * k + s)) ∧ J 25 (6 * (6 * g + k) + s) = iN (tb Y 25 (6 * k + s)) ∧ J 26 (6 * (6 * g + k) + s) = iN (tb Y 26 (6 * k + s)) ∧ J 27 (6 * (6 * g + k) + s) = oM (tb Y 27 (6 * k + s)) ∧ J 28 (6 * (6 * g + k) + s) = oM (tb Y 28 (6 * k + s))) ∧ (∀ m, m < xm Y → J 30 (6 * g + m) = iN (tb Y 30 m) ∧ J 31 (6 * g + m) = oM (tb Y 31 m) ∧ J 32 (6 * g + m) = oM (tb Y 32 m) ∧ lwB J g nb nc (J 34 (6 * g + m)) (J 35 (6 * g + m)) (Y.2.2 m)) ∧ J 41 g = iN (xn Y) ∧ ∀ m, xm Y ≤ m → m < 6 → J 34 (6 * g + m) = J 35 (6 * g + m)
/-- both sides hold the text Y so far -/
def IV (n0 g txa : Nat) (Xp : Jr) (N : Nat) (P E : Nat → Nat) (a : Nat) (Q J : Ji) (K : Jl) (T : Th) (Y : Xt) (b ar : Nat → Nat) (e : Nat → Nat → Nat) (nl Nn : Nat) (sg id_ : Nat → Nat) (nm : Nat → Nat → List Int32) (nb nc : Nat) : Prop := PT N P E a 0 Q J K ∧ Xp 9 2 = some txa ∧ LmT n0 T ∧ BdH n0 T txa (xk Y) Y b ar e nl ∧ NmT T Y e nm ∧ (NtM J K Nn sg id_ nm (fun s => Y.1 (rw_ s)) ∧ Nn = xr Y + xt Y + xk Y + xm Y) ∧ BdJ J g Y nl nb nc ∧ (nc ≤ a ∧ ∀ i i', i < i' → i' < xm Y → e 4 i ≠ e 4 i') ∧ (tN T + 16 * (402 - a) ≤ (tL T).1 ∧ tZ T + 120 * (402 - a) ≤ (tL T).2.1) ∧ (Q 9 5 = iN 0 → VTx T Y e ∧ VJx J g nb nc Y ∧ TxV Y ∧ T.2.1 txa 5 = iN (xn Y))
def IVx (n0 g txa : Nat) (Xp : Jr) (N : Nat) (P E : Nat → Nat) (a : Nat) (Q J : Ji) (K : Jl) (T : Th) : Prop := ∃ Y b ar e nl Nn sg id_ nm nb nc, IV n0 g txa Xp N P E a Q J K T Y b ar e nl Nn sg id_ nm nb nc
/-- what a statement leaves -/
def StF (n0 g : Nat) (Q Q1 J J1 : Ji) (K K1 : Jl) (T T1 : Th) : Prop := qF Q Q1 ∧ FrJ g J J1 ∧ (∀ o, o ≠ 8 → K1 o = K o) ∧ (∀ c, c < n0 → At_ T T1 c) ∧ tL T1 = tL T ∧ tN T ≤ tN T1
theorem StF.tr {n0 g : Nat} {Q Q1 Q2 J J1 J2 : Ji} {K K1 K2 : Jl} {T T1 T2 : Th} (h : StF n0 g Q Q1 J J1 K K1 T T1) (h2 : StF n0 g Q1 Q2 J1 J2 K1 K2 T1 T2) : StF n0 g Q Q2 J J2 K K2 T T2 := by
  obtain ⟨a1, a2, a3, a4, a5, a6⟩ := h
  obtain ⟨b1, b2, b3, b4, b5, b6⟩ := h2
  refine ⟨a1.tr b1, a2.tr b2, fun o ho => by rw [b3 o ho, a3 o ho], fun c hc => ?_, b5.trans a5, by omega⟩
  obtain ⟨x1, x2, x3⟩ := a4 c hc
  obtain ⟨y1, y2, y3⟩ := b4 c hc
  exact ⟨y1.trans x1, y2.trans x2, y3.trans x3⟩
/-- a statement, by both -/
def StO (n0 g txa : Nat) (Xp : Jr) (N : Nat) (P E : Nat → Nat) (a : Nat) (Q J : Ji) (K : Jl) (T : Th) (x : Option ((Ji × Jr × Th) ⊕ (Ji × Th))) (y : Option (Ji × Jl)) : Prop := (∃ a1 Q1 T1 J1 K1, x = some (.inr (Q1, T1)) ∧ y = some (J1, K1) ∧ IVx n0 g txa Xp N P E a1 Q1 J1 K1 T1 ∧ a < a1 ∧ StF n0 g Q Q1 J J1 K K1 T T1) ∨ ∃ Q1 T1 J1 K1, x = some (.inl (Q1, Xp, T1)) ∧ y = some (J1, K1) ∧ FT Q1 J1 ∧ StF n0 g Q Q1 J J1 K K1 T T1
/-- the model's values hold on where nothing of them is written -/
theorem VJx.fr {J J1 : Ji} {g nb nc nb1 nc1 : Nat} {Y : Xt} (h : VJx J g nb nc Y) (hk : ∀ k, k < xk Y → xs Y k ≤ 6) (hm : xd Y ≤ 12 ∧ xt Y ≤ 6 ∧ xk Y ≤ 6 ∧ xm Y ≤ 6) (hJ : ∀ o, 13 ≤ o → o ≤ 43 → (o ≠ 17 ∧ o ≠ 19 ∧ o ≠ 22 ∧ o ≠ 29 ∧ o ≠ 33 ∧ (o < 36 ∨ o = 41)) → J1 o = J o) (ha : AgJ g nb nc J J1) (h1 : nb ≤ nb1) (h2 : nc ≤ nc1) : VJx J1 g nb1 nc1 Y := by
  obtain ⟨v1, v2, v3, v4, v5, v6, v7⟩ := h
  have q : ∀ o, 13 ≤ o → o ≤ 43 → (o ≠ 17 ∧ o ≠ 19 ∧ o ≠ 22 ∧ o ≠ 29 ∧ o ≠ 33 ∧ (o < 36 ∨ o = 41)) → J1 o = J o := hJ
  refine ⟨fun d hd => ?_, fun t ht => ?_, fun k hk => ?_, fun k s hk hs => ?_, fun m hm => ?_, ?_, fun m hm hm2 => ?_⟩
  · rw [q 13 (by omega) (by omega) (by omega), q 14 (by omega) (by omega) (by omega), q 15 (by omega) (by omega) (by omega), q 16 (by omega) (by omega) (by omega)]; exact v1 d hd
  · rw [q 18 (by omega) (by omega) (by omega)]; exact v2 t ht
  · rw [q 20 (by omega) (by omega) (by omega), q 21 (by omega) (by omega) (by omega)]; exact v3 k hk
  · rw [q 23 (by omega) (by omega) (by omega), q 24 (by omega) (by omega) (by omega), q 25 (by omega) (by omega) (by omega), q 26 (by omega) (by omega) (by omega), q 27 (by omega) (by omega) (by omega), q 28 (by omega) (by omega) (by omega)]; exact v4 k s hk hs
  · rw [q 30 (by omega) (by omega) (by omega), q 31 (by omega) (by omega) (by omega), q 32 (by omega) (by omega) (by omega), q 34 (by omega) (by omega) (by omega), q 35 (by omega) (by omega) (by omega)]
    obtain ⟨w1, w2, w3, w4⟩ := v5 m hm
    exact ⟨w1, w2, w3, w4.mo ha h1 h2⟩
  · rw [q 41 (by omega) (by omega) (by omega)]; exact v6
  · rw [q 34 (by omega) (by omega) (by omega), q 35 (by omega) (by omega) (by omega)]; exact v7 m hm hm2
