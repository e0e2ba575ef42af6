/-! PURE LAW 8: a night goes on, on both sides -/
set_option maxRecDepth 100000
/-- one man -/
def MR (X : Xt) (C J : Ji) (m : Nat) : Prop := (C 9 m = onC (J 48 (42 + m)) ∧ C 12 m = J 55 m ∧ C 13 m = J 48 (60 + m) + J 55 m ∧ C 14 m = J 48 (66 + m)) ∧ ((J 48 (42 + m) = iM 1 ∧ J 48 (48 + m) = iM 1 ∧ C 10 m = iM 2 ∧ J 50 m = iN 0 ∧ C (25 + m) 0 = iN 0 ∧ C (25 + m) 1 = iM 2 ∧ J 54 m = iM 1 ∧ J 56 m = iN 0) ∨ (∃ k s, k < xk X ∧ s < xs X k ∧ J 48 (42 + m) = iN k ∧ C (25 + m) 1 = iN k ∧ J 54 m = iN s ∧ C (25 + m) 2 = iN s ∧ C (25 + m) 6 = J 56 m ∧ ((J 50 m = iN 3 ∧ C (25 + m) 0 = iN 0 ∧ (J 56 m = iN 0 ∨ J 56 m = iN 1)) ∨ (J 50 m = iN 1 ∧ C (25 + m) 0 = iN 1 ∧ J 56 m = iN 0 ∧ C (25 + m) 4 = J 51 m) ∨ (J 50 m = iN 2 ∧ C (25 + m) 0 = iN 2 ∧ J 56 m = iN 0 ∧ C (25 + m) 5 = J 52 m ∧ C (25 + m) 4 = J 51 m ∧ ∃ d, d < xs X k ∧ J 53 m = iN d ∧ C (25 + m) 3 = iN d))))
theorem MR.cg {X : Xt} {C J C1 J1 : Ji} {m : Nat} (h : MR X C J m) (a9 : C1 9 m = C 9 m) (a10 : C1 10 m = C 10 m) (a12 : C1 12 m = C 12 m) (a13 : C1 13 m = C 13 m) (a14 : C1 14 m = C 14 m) (as : C1 (25 + m) = C (25 + m)) (b42 : J1 48 (42 + m) = J 48 (42 + m)) (b48 : J1 48 (48 + m) = J 48 (48 + m)) (b60 : J1 48 (60 + m) = J 48 (60 + m)) (b66 : J1 48 (66 + m) = J 48 (66 + m)) (b50 : J1 50 m = J 50 m) (b51 : J1 51 m = J 51 m) (b52 : J1 52 m = J 52 m) (b53 : J1 53 m = J 53 m) (b54 : J1 54 m = J 54 m) (b55 : J1 55 m = J 55 m) (b56 : J1 56 m = J 56 m) : MR X C1 J1 m := by
  unfold MR
  rw [a9, a10, a12, a13, a14, as, b42, b48, b60, b66, b50, b51, b52, b53, b54, b55, b56]
  exact h
/-- a man at work with a tool -/
def Bz (X : Xt) (J : Ji) (m t : Nat) : Prop := J 50 m = iN 2 ∧ ∃ k d, k < xk X ∧ d < xs X k ∧ J 48 (42 + m) = iN k ∧ J 53 m = iN d ∧ tb X 27 (6 * k + d) = t + 1
theorem Bz.cg {X : Xt} {J J1 : Ji} {m t : Nat} (b50 : J1 50 m = J 50 m) (b42 : J1 48 (42 + m) = J 48 (42 + m)) (b53 : J1 53 m = J 53 m) : Bz X J1 m t ↔ Bz X J m t := by
  unfold Bz
  rw [b50, b42, b53]
/-- tools in use -/
def UR (X : Xt) (C J : Ji) : Prop := (∀ t, t < xt X → (bt (C 0 13) t ↔ ∃ m, m < xm X ∧ Bz X J m t)) ∧ (∀ t m m', t < xt X → m < xm X → m' < xm X → Bz X J m t → Bz X J m' t → m = m') ∧ (∀ t m k, t < xt X → m < xm X → Bz X J m t → k < xk X → J 48 (42 + m) = iN k → J 48 (72 + t) = iN (tb X 20 k) ∨ J 48 (72 + t) = iN (100 + m))
/-- how many are at work at a task -/
def nbz (J : Ji) (k : Nat) : Nat → Nat
  | 0 => 0
  | n + 1 => nbz J k n + (if J 50 n = iN 2 ∧ J 48 (42 + n) = iN k then 1 else 0)
theorem nbz_cg {J J1 : Ji} {k : Nat} : ∀ n, (∀ m, m < n → J1 50 m = J 50 m ∧ J1 48 (42 + m) = J 48 (42 + m)) → nbz J1 k n = nbz J k n := by
  intro n
  induction n with
  | zero => intro _; rfl
  | succ n ih =>
    intro h
    unfold nbz
    rw [ih (fun m hm => h m (by omega)), (h n (by omega)).1, (h n (by omega)).2]
theorem nbz_u {J J1 : Ji} {k m : Nat} : ∀ n, m < n → (∀ i, i < n → i ≠ m → J1 50 i = J 50 i ∧ J1 48 (42 + i) = J 48 (42 + i)) → nbz J1 k n + (if J 50 m = iN 2 ∧ J 48 (42 + m) = iN k then 1 else 0) = nbz J k n + (if J1 50 m = iN 2 ∧ J1 48 (42 + m) = iN k then 1 else 0) := by
  intro n
  induction n with
  | zero => intro h; omega
  | succ n ih =>
    intro hm h
    unfold nbz
    by_cases c : m = n
    · subst c
      rw [nbz_cg m (fun i hi => h i (by omega) (by omega))]
      omega
    · have := ih (by omega) (fun i hi => h i (by omega))
      rw [(h n (by omega) (by omega)).1, (h n (by omega) (by omega)).2]
      omega
theorem nbz_0 {J : Ji} {k : Nat} : ∀ n, (∀ m, m < n → J 50 m ≠ iN 2) → nbz J k n = 0 := by
  intro n
  induction n with
  | zero => intro _; rfl
  | succ n ih =>
    intro h
    unfold nbz
    rw [ih (fun m hm => h m (by omega)), if_neg (fun h1 => h n (by omega) h1.1)]
/-- what is left of each task, what is done of it -/
def SD (X : Xt) (C J : Ji) : Prop := (∃ a : Nat → Nat, (∀ k, k < xk X → J 48 k = iN (a k) ∧ C 8 k = iN (a k) ∧ a k ≤ 999) ∧ VD X (J 48) (fun k => a k + nbz J k (xm X))) ∧ ∀ k s, k < xk X → s < xs X k → C (2 + k) s = J 48 (6 + 6 * k + s)
/-- what a night leaves alone -/
def NK (X : Xt) (C J : Ji) : Prop := (∀ t, t < xt X → C 11 t = J 48 (72 + t)) ∧ VT X (J 48) ∧ C 0 8 = J 48 78 ∧ C 0 9 = J 48 79 ∧ (∃ b, b < 4096 ∧ J 48 78 = iN b) ∧ WR (xr X) C J
def NR (X : Xt) (l : Nat) (C J : Ji) : Prop := (∀ m, m < xm X → MR X C J m) ∧ UR X C J ∧ SD X C J ∧ NK X C J ∧ TxJ J l X
/-- what else the model holds: all but the row and the night's own -/
def nF (J J1 : Ji) : Prop := (∀ o, (o < 45 ∨ o = 47 ∨ 57 ≤ o) → o ≠ 0 → J1 o = J o) ∧ ∀ i, i ≠ 63 → J1 0 i = J 0 i
theorem nF.rf {J : Ji} : nF J J := ⟨fun _ _ _ => rfl, fun _ _ => rfl⟩
theorem nF.tr {J J1 J2 : Ji} (h : nF J J1) (h2 : nF J1 J2) : nF J J2 := ⟨fun o a c => by rw [h2.1 o a c, h.1 o a c], fun i hi => by rw [h2.2 i hi, h.2 i hi]⟩
theorem nF.u {J : Ji} {o i : Nat} {v : Int32} (h1 : 45 ≤ o) (h2 : o ≠ 47) (h3 : o ≤ 56) : nF J (uJ J o i v) := ⟨fun p hp _ => uJ_o (by omega), fun j _ => by rw [uJ_o (by omega)]⟩
theorem nF.tx {J J1 : Ji} {l : Nat} {X : Xt} (h : nF J J1) (hX : TxV X) (hJ : TxJ J l X) : TxJ J1 l X := hJ.fo hX (h.2 18 (by omega)) (fun o a1 a2 => h.1 o (by omega) (by omega))
/-- the law's own cells changed, nothing else -/
theorem NR.lw {X : Xt} {l : Nat} {C J C1 J1 : Ji} (hX : TxV X) (h : NR X l C J) (hC : ∀ o, o ≠ 31 → o ≠ 32 → C1 o = C o) (hJ : ∀ o, o ≠ 45 → o ≠ 46 → o ≠ 0 → J1 o = J o) (h0 : ∀ i, i ≠ 63 → J1 0 i = J 0 i) : NR X l C1 J1 ∧ nF J J1 := by
  obtain ⟨h1, h2, h3, h4, h5⟩ := h
  have hm6 := hX.1.2.2.2.2.1
  have hk6 := hX.1.2.2.2.1
  have hr8 := hX.1.1
  have hF : nF J J1 := ⟨fun o a c => hJ o (by omega) (by omega) c, h0⟩
  have e48 : J1 48 = J 48 := hJ 48 (by omega) (by omega) (by omega)
  have e50 : J1 50 = J 50 := hJ 50 (by omega) (by omega) (by omega)
  have e53 : J1 53 = J 53 := hJ 53 (by omega) (by omega) (by omega)
  have hB : ∀ m t, Bz X J1 m t ↔ Bz X J m t := fun m t => Bz.cg (by rw [e50]) (by rw [e48]) (by rw [e53])
  refine ⟨⟨fun m hm => ?_, ?_, ?_, ?_, hF.tx hX h5⟩, hF⟩
  · refine (h1 m hm).cg ?_ ?_ ?_ ?_ ?_ ?_ ?_ ?_ ?_ ?_ ?_ ?_ ?_ ?_ ?_ ?_ ?_ <;> first | rw [hC _ (by omega) (by omega)] | rw [hJ _ (by omega) (by omega) (by omega)]
  · refine ⟨fun t ht => ?_, fun t m m' ht hm hm' b1 b2 => ?_, fun t m k ht hm b1 hk e1 => ?_⟩
    · rw [hC 0 (by omega) (by omega), h2.1 t ht]
      exact ⟨fun ⟨m, a1, a2⟩ => ⟨m, a1, (hB m t).2 a2⟩, fun ⟨m, a1, a2⟩ => ⟨m, a1, (hB m t).1 a2⟩⟩
    · exact h2.2.1 t m m' ht hm hm' ((hB m t).1 b1) ((hB m' t).1 b2)
    · rw [e48] at e1 ⊢
      exact h2.2.2 t m k ht hm ((hB m t).1 b1) hk e1
  · obtain ⟨⟨a, a1, a2⟩, a3⟩ := h3
    refine ⟨⟨a, fun k hk => ?_, ?_⟩, fun k s hk hs => ?_⟩
    · rw [e48, hC 8 (by omega) (by omega)]
      exact a1 k hk
    · rw [e48]
      have : (fun k => a k + nbz J1 k (xm X)) = fun k => a k + nbz J k (xm X) := by
        funext k
        rw [nbz_cg (xm X) (fun m _ => ⟨by rw [e50], by rw [e48]⟩)]
      rw [this]
      exact a2
    · rw [e48, hC (2 + k) (by omega) (by omega)]
      exact a3 k s hk hs
  · obtain ⟨a1, a2, a3, a4, a5, a6⟩ := h4
    unfold NK
    rw [e48, hC 0 (by omega) (by omega), hC 11 (by omega) (by omega)]
    refine ⟨a1, a2, a3, a4, a5, fun a c ha hc => ?_, fun a c ha hc => ?_⟩
    · rw [hC (16 + a) (by omega) (by omega), hJ 49 (by omega) (by omega) (by omega)]
      exact a6.1 a c ha hc
    · rw [hJ 49 (by omega) (by omega) (by omega)]
      exact a6.2 a c ha hc
section NRS
variable {T : Th} {tx : Nat} {X : Xt} {b : Nat → Nat} {e : Nat → Nat → Nat} {J C : Ji} {l F : Nat}
/-- what the model does with a man at a minute's beginning -/
def mEnds (a3 a2 : Int32) (J : Ji) : Option Ji := ldI J 50 6 a3 fun x6 => if x6 = 2 then ldI J 52 6 a3 fun x7 => if x7 = a2 then M_isOver a3 J else some J else some J
/-- and then -/
def mBeg (F : Nat) (a3 a2 : Int32) (J : Ji) : Option Ji := ldI J 50 6 a3 fun x16 => if x16 = 1 then ldI J 51 6 a3 fun x17 => if a2 < x17 then some J else M_begins1 F a3 a2 J else some J
/-- somebody lies down: on both sides -/
theorem nr_lies (hX : TxV X) (h : NR X l C J) {m k s : Nat} {mi : Int32} (hm : m < xm X) (hk : k < xk X) (hs : s < xs X k) (q1 : J 48 (42 + m) = iN k) (q2 : C (25 + m) 1 = iN k) (q3 : J 54 m = iN s) (q4 : C (25 + m) 2 = iN s) (q5 : C (25 + m) 6 = J 56 m) (q6 : J 56 m = iN 0 ∨ J 56 m = iN 1) (q7 : J 50 m = iN 1) : NR X l (uJ (uJ C (25 + m) 0 0) 14 m mi) (uJ (uJ J 50 m 3) 48 (66 + m) mi) ∧ nF J (uJ (uJ J 50 m 3) 48 (66 + m) mi) := by
  obtain ⟨h1, h2, h3, h4, h5⟩ := h
  have hm6 := hX.1.2.2.2.2.1
  have hk6 := hX.1.2.2.2.1
  have hr8 := hX.1.1
  have ht6 := hX.1.2.2.1
  have hF : nF J (uJ (uJ J 50 m 3) 48 (66 + m) mi) := (nF.u (by omega) (by omega) (by omega)).tr (nF.u (by omega) (by omega) (by omega))
  have n12 : ¬ iN 1 = iN 2 := by decide
  have n32 : ¬ iN 3 = iN 2 := by decide
  have hB : ∀ m' t, m' < xm X → (Bz X (uJ (uJ J 50 m 3) 48 (66 + m) mi) m' t ↔ Bz X J m' t) := by
    intro m' t hm'
    by_cases c : m' = m
    · subst c
      constructor
      · intro hb
        have := hb.1
        rw [uJ_o (by omega), uJ_ss] at this
        exact absurd this n32
      · intro hb
        exact absurd (q7.symm.trans hb.1) n12
    · exact Bz.cg (by rw [uJ_o (by omega), uJ_sn c]) (by rw [uJ_sn (by omega), uJ_o (by omega)]) (by rw [uJ_o (by omega), uJ_o (by omega)])
  refine ⟨⟨fun m' hm' => ?_, ?_, ?_, ?_, hF.tx hX h5⟩, hF⟩
  · by_cases c : m' = m
    · subst c
      obtain ⟨⟨a1, a2, a3, a4⟩, _⟩ := h1 m' hm'
      unfold MR
      simp (disch := omega) only [uJ_o, uJ_ss, uJ_sn]
      exact ⟨⟨a1, a2, a3, trivial⟩, Or.inr ⟨k, s, hk, hs, q1, q2, q3, q4, q5, Or.inl ⟨rfl, rfl, q6⟩⟩⟩
    · refine (h1 m' hm').cg ?_ ?_ ?_ ?_ ?_ ?_ ?_ ?_ ?_ ?_ ?_ ?_ ?_ ?_ ?_ ?_ ?_ <;> simp (disch := omega) only [uJ_o, uJ_sn]
  · refine ⟨fun t ht => ?_, fun t m1 m2 ht hm1 hm2 b1 b2 => ?_, fun t m1 k1 ht hm1 b1 hk1 e1 => ?_⟩
    · rw [uJ_o (by omega), uJ_o (by omega), h2.1 t ht]
      exact ⟨fun ⟨m1, a1, a2⟩ => ⟨m1, a1, (hB m1 t a1).2 a2⟩, fun ⟨m1, a1, a2⟩ => ⟨m1, a1, (hB m1 t a1).1 a2⟩⟩
    · exact h2.2.1 t m1 m2 ht hm1 hm2 ((hB m1 t hm1).1 b1) ((hB m2 t hm2).1 b2)
    · rw [uJ_sn (by omega), uJ_o (by omega)] at e1 ⊢
      exact h2.2.2 t m1 k1 ht hm1 ((hB m1 t hm1).1 b1) hk1 e1
  · obtain ⟨⟨a, a1, a2⟩, a3⟩ := h3
    have hn : ∀ k, nbz (uJ (uJ J 50 m 3) 48 (66 + m) mi) k (xm X) = nbz J k (xm X) := by
      intro k'
      have := nbz_u (J := J) (J1 := uJ (uJ J 50 m 3) 48 (66 + m) mi) (k := k') (m := m) (xm X) hm (fun i hi hne => ⟨by rw [uJ_o (by omega), uJ_sn hne], by rw [uJ_sn (by omega), uJ_o (by omega)]⟩)
      rw [if_neg (fun hh => n12 (q7.symm.trans hh.1)), if_neg (fun hh => by have := hh.1; rw [uJ_o (by omega), uJ_ss] at this; exact n32 this)] at this
      omega
    refine ⟨⟨a, fun k' hk' => ?_, fun k' s' hk' hs' => ?_⟩, fun k' s' hk' hs' => ?_⟩
    · simp (disch := omega) only [uJ_o, uJ_sn]
      exact a1 k' hk'
    · have := (hX.2.2.2.1 k' hk').2.2
      obtain ⟨d, d1, d2⟩ := a2 k' s' hk' hs'
      refine ⟨d, ?_, ?_⟩
      · simp (disch := omega) only [uJ_o, uJ_sn]
        exact d1
      · show d + (a k' + nbz (uJ (uJ J 50 m 3) 48 (66 + m) mi) k' (xm X)) ≤ 999
        rw [hn]
        exact d2
    · have := (hX.2.2.2.1 k' hk').2.2
      simp (disch := omega) only [uJ_o, uJ_sn]
      exact a3 k' s' hk' hs'
  · obtain ⟨a1, a2, a3, a4, a5, a6⟩ := h4
    refine ⟨fun t ht => ?_, fun t ht => ?_, ?_, ?_, ?_, fun a c ha hc => ?_, fun a c ha hc => ?_⟩
    · simp (disch := omega) only [uJ_o, uJ_sn]
      exact a1 t ht
    · simp (disch := omega) only [uJ_o, uJ_sn]
      exact a2 t ht
    · simp (disch := omega) only [uJ_o, uJ_sn]
      exact a3
    · simp (disch := omega) only [uJ_o, uJ_sn]
      exact a4
    · simp (disch := omega) only [uJ_o, uJ_sn]
      exact a5
    · simp (disch := omega) only [uJ_o, uJ_sn]
      exact a6.1 a c ha hc
    · simp (disch := omega) only [uJ_o, uJ_sn]
      exact a6.2 a c ha hc
/-- somebody begins a step: on both sides -/
theorem nr_work (hX : TxV X) (h : NR X l C J) {m k s d a0 : Nat} {mi : Int32} (ha0 : a0 < 999) (hm : m < xm X) (hk : k < xk X) (hs : s < xs X k) (hd : d < xs X k) (q1 : J 48 (42 + m) = iN k) (q2 : C (25 + m) 1 = iN k) (q3 : J 54 m = iN s) (q4 : C (25 + m) 2 = iN s) (q5 : C (25 + m) 6 = J 56 m) (q6 : J 56 m = iN 0) (q7 : J 50 m = iN 1) (q8 : C (25 + m) 4 = J 51 m) (qa : J 48 k = iN (a0 + 1)) (U : Int32) (hu : (tb X 27 (6 * k + d) = 0 ∧ U = C 0 13) ∨ (∃ t, t < xt X ∧ tb X 27 (6 * k + d) = t + 1 ∧ U = C 0 13 ||| (1 <<< (iN t &&& 31)) ∧ ¬ bt (C 0 13) t ∧ (J 48 (72 + t) = iN (tb X 20 k) ∨ J 48 (72 + t) = iN (100 + m)))) : NR X l (uJ (uJ (uJ (uJ (uJ C 8 k (iN a0)) 0 13 U) (25 + m) 3 (iN d)) (25 + m) 5 mi) (25 + m) 0 2) (uJ (uJ (uJ (uJ J 48 k (iN a0)) 53 m (iN d)) 50 m 2) 52 m mi) ∧ nF J (uJ (uJ (uJ (uJ J 48 k (iN a0)) 53 m (iN d)) 50 m 2) 52 m mi) := by
  obtain ⟨h1, h2, h3, h4, h5⟩ := h
  have hm6 := hX.1.2.2.2.2.1
  have hk6 := hX.1.2.2.2.1
  have hr8 := hX.1.1
  have ht6 := hX.1.2.2.1
  have hF : nF J (uJ (uJ (uJ (uJ J 48 k (iN a0)) 53 m (iN d)) 50 m 2) 52 m mi) := (((nF.u (by omega) (by omega) (by omega)).tr (nF.u (by omega) (by omega) (by omega))).tr (nF.u (by omega) (by omega) (by omega))).tr (nF.u (by omega) (by omega) (by omega))
  have n12 : ¬ iN 1 = iN 2 := by decide
  have hBo : ∀ m' t, m' < xm X → m' ≠ m → (Bz X (uJ (uJ (uJ (uJ J 48 k (iN a0)) 53 m (iN d)) 50 m 2) 52 m mi) m' t ↔ Bz X J m' t) := by
    intro m' t hm' c
    exact Bz.cg (by simp (disch := omega) only [uJ_o, uJ_sn]) (by simp (disch := omega) only [uJ_o, uJ_sn]) (by simp (disch := omega) only [uJ_o, uJ_sn])
  have hBm : ∀ t, Bz X (uJ (uJ (uJ (uJ J 48 k (iN a0)) 53 m (iN d)) 50 m 2) 52 m mi) m t ↔ tb X 27 (6 * k + d) = t + 1 := by
    intro t
    unfold Bz
    simp (disch := omega) only [uJ_o, uJ_ss, uJ_sn, q1]
    constructor
    · rintro ⟨_, k', d', hk', hd', e1, e2, e3⟩
      have := (hX.2.2.2.1 k' hk').2.2
      have := (hX.2.2.2.1 k hk).2.2
      rw [iN_eq (by omega) (by omega)] at e1 e2
      subst e1
      subst e2
      exact e3
    · intro e3
      exact ⟨rfl, k, d, hk, hd, rfl, rfl, e3⟩
  have hBn : ∀ t, ¬ Bz X J m t := fun t hb => n12 (q7.symm.trans hb.1)
  refine ⟨⟨fun m' hm' => ?_, ?_, ?_, ?_, hF.tx hX h5⟩, hF⟩
  · by_cases c : m' = m
    · subst c
      obtain ⟨⟨a1, a2, a3, a4⟩, _⟩ := h1 m' hm'
      unfold MR
      simp (disch := omega) only [uJ_o, uJ_ss, uJ_sn]
      exact ⟨⟨a1, a2, a3, a4⟩, Or.inr ⟨k, s, hk, hs, q1, q2, q3, q4, q5, Or.inr (Or.inr ⟨rfl, rfl, q6, trivial, q8, d, hd, rfl, rfl⟩)⟩⟩
    · refine (h1 m' hm').cg ?_ ?_ ?_ ?_ ?_ ?_ ?_ ?_ ?_ ?_ ?_ ?_ ?_ ?_ ?_ ?_ ?_ <;> simp (disch := omega) only [uJ_o, uJ_sn]
  · refine ⟨fun t ht => ?_, fun t m1 m2 ht hm1 hm2 b1 b2 => ?_, fun t m1 k1 ht hm1 b1 hk1 e1 => ?_⟩
    · simp (disch := omega) only [uJ_o, uJ_ss]
      have hx : bt U t ↔ (tb X 27 (6 * k + d) = t + 1 ∨ bt (C 0 13) t) := by
        rcases hu with ⟨u1, u2⟩ | ⟨t0, u1, u2, u3, u4, u5⟩
        · rw [u2, u1]
          exact ⟨Or.inr, fun hh => hh.elim (fun h0 => by omega) id⟩
        · rw [u3, bt_set (by omega) (by omega), u2]
          exact ⟨fun hh => hh.elim (fun h0 => Or.inl (by omega)) Or.inr, fun hh => hh.elim (fun h0 => Or.inl (by omega)) Or.inr⟩
      rw [hx, h2.1 t ht]
      constructor
      · rintro (h0 | ⟨m1, a1, a2⟩)
        · exact ⟨m, hm, (hBm t).2 h0⟩
        · refine ⟨m1, a1, (hBo m1 t a1 ?_).2 a2⟩
          rintro rfl
          exact hBn t a2
      · rintro ⟨m1, a1, a2⟩
        by_cases c : m1 = m
        · subst c
          exact Or.inl ((hBm t).1 a2)
        · exact Or.inr ⟨m1, a1, (hBo m1 t a1 c).1 a2⟩
    · have key : ∀ m', m' < xm X → m' ≠ m → tb X 27 (6 * k + d) = t + 1 → ¬ Bz X J m' t := by
        intro m' hm' c e1 hb
        rcases hu with ⟨u1, u2⟩ | ⟨t0, u1, u2, u3, u4, u5⟩
        · omega
        · have : t = t0 := by omega
          subst this
          exact u4 ((h2.1 t ht).2 ⟨m', hm', hb⟩)
      by_cases c1 : m1 = m
      · by_cases c2 : m2 = m
        · omega
        · subst c1
          exact absurd ((hBo m2 t hm2 c2).1 b2) (key m2 hm2 c2 ((hBm t).1 b1))
      · by_cases c2 : m2 = m
        · subst c2
          exact absurd ((hBo m1 t hm1 c1).1 b1) (key m1 hm1 c1 ((hBm t).1 b2))
        · exact h2.2.1 t m1 m2 ht hm1 hm2 ((hBo m1 t hm1 c1).1 b1) ((hBo m2 t hm2 c2).1 b2)
    · simp (disch := omega) only [uJ_o, uJ_sn] at e1 ⊢
      by_cases c1 : m1 = m
      · subst c1
        have e2 := (hBm t).1 b1
        rw [q1, iN_eq (by omega) (by omega)] at e1
        subst e1
        rcases hu with ⟨u1, u2⟩ | ⟨t0, u1, u2, u3, u4, u5⟩
        · omega
        · have : t = t0 := by omega
          subst this
          exact u5
      · exact h2.2.2 t m1 k1 ht hm1 ((hBo m1 t hm1 c1).1 b1) hk1 e1
  · obtain ⟨⟨a, a1, a2⟩, a3⟩ := h3
    have hak : a k = a0 + 1 := by
      have h0 := (a1 k hk).1
      have h00 := (a1 k hk).2.2
      rw [qa] at h0
      rw [iN_eq (by omega) (by omega)] at h0
      omega
    have hn : ∀ k', k' < xk X → nbz (uJ (uJ (uJ (uJ J 48 k (iN a0)) 53 m (iN d)) 50 m 2) 52 m mi) k' (xm X) = nbz J k' (xm X) + (if k' = k then 1 else 0) := by
      intro k' hk'
      have := nbz_u (J := J) (J1 := uJ (uJ (uJ (uJ J 48 k (iN a0)) 53 m (iN d)) 50 m 2) 52 m mi) (k := k') (m := m) (xm X) hm (fun i hi hne => ⟨by simp (disch := omega) only [uJ_o, uJ_sn], by simp (disch := omega) only [uJ_o, uJ_sn]⟩)
      simp (disch := omega) only [uJ_o, uJ_ss, uJ_sn, q7, q1] at this
      rw [if_neg (fun hh => n12 hh.1)] at this
      by_cases ck : k' = k
      · subst ck
        rw [if_pos ⟨rfl, rfl⟩] at this
        rw [if_pos rfl]
        omega
      · rw [if_neg (fun hh => by rw [iN_eq (by omega) (by omega)] at hh; omega)] at this
        rw [if_neg ck]
        omega
    refine ⟨⟨fun i => if i = k then a0 else a i, fun k' hk' => ?_, fun k' s' hk' hs' => ?_⟩, fun k' s' hk' hs' => ?_⟩
    · by_cases ck : k' = k
      · subst ck
        simp (disch := omega) only [uJ_o, uJ_ss, if_true]
        have := (a1 k' hk').2.2
        exact ⟨trivial, trivial, by omega⟩
      · simp (disch := omega) only [uJ_o, uJ_sn, if_neg ck]
        exact a1 k' hk'
    · have := (hX.2.2.2.1 k' hk').2.2
      obtain ⟨d', d1, d2⟩ := a2 k' s' hk' hs'
      refine ⟨d', ?_, ?_⟩
      · simp (disch := omega) only [uJ_o, uJ_sn]
        exact d1
      · show d' + ((if k' = k then a0 else a k') + nbz (uJ (uJ (uJ (uJ J 48 k (iN a0)) 53 m (iN d)) 50 m 2) 52 m mi) k' (xm X)) ≤ 999
        rw [hn k' hk']
        have d2 : d' + (a k' + nbz J k' (xm X)) ≤ 999 := d2
        by_cases ck : k' = k
        · subst ck
          rw [if_pos rfl, if_pos rfl]
          omega
        · rw [if_neg ck, if_neg ck]
          omega
    · have := (hX.2.2.2.1 k' hk').2.2
      simp (disch := omega) only [uJ_o, uJ_sn]
      exact a3 k' s' hk' hs'
  · obtain ⟨a1, a2, a3, a4, a5, a6⟩ := h4
    refine ⟨fun t ht => ?_, fun t ht => ?_, ?_, ?_, ?_, fun a c ha hc => ?_, fun a c ha hc => ?_⟩
    · simp (disch := omega) only [uJ_o, uJ_sn]
      exact a1 t ht
    · simp (disch := omega) only [uJ_o, uJ_sn]
      exact a2 t ht
    · simp (disch := omega) only [uJ_o, uJ_sn]
      exact a3
    · simp (disch := omega) only [uJ_o, uJ_sn]
      exact a4
    · simp (disch := omega) only [uJ_o, uJ_sn]
      exact a5
    · simp (disch := omega) only [uJ_o, uJ_sn]
      exact a6.1 a c ha hc
    · simp (disch := omega) only [uJ_o, uJ_sn]
      exact a6.2 a c ha hc
end NRS
