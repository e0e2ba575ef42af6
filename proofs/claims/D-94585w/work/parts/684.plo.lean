/-! PURE LAW 56: operands joined by signs -/
set_option maxRecDepth 100000
section LO
variable {g nc F N o : Nat} {P E : Nat → Nat} {K : Jl} {J0 : Ji} {Xp : Jr} {un : Ji → Th → Ro}
theorem op_96 {a k m n : Nat} {Q J : Ji} {s : Int32} (h : PT N P E a o Q J K) (hk : J 3 a = iN k) (hs : (s = 1 ∧ (k = 10 ∨ k = 15)) ∨ (s = 0 ∧ (k = 8 ∨ k = 9))) : M_expression_L96 F (M_expression_L12 F n) (m + 1) (iN 0) J = M_expression_B234 F (M_expression_L12 F n) (iN 0) 1 s J := by
  have e : ∀ q, q < 1000 → M_is J (iN q) = some (if k = q then 1 else 0) := fun q hq => by
    have : k < 1000 := by omega
    rw [m_is h (iN q), hk]
    by_cases c : k = q
    · rw [if_pos c, if_pos (by rw [c])]
    · rw [if_neg c, if_neg (by rw [iN_eq (by omega) (by omega)]; exact c)]
  have e7 : M_is J 7 = some (if k = 7 then 1 else 0) := e 7 (by omega)
  have e8 : M_is J 8 = some (if k = 8 then 1 else 0) := e 8 (by omega)
  have e9 : M_is J 9 = some (if k = 9 then 1 else 0) := e 9 (by omega)
  have e10 : M_is J 10 = some (if k = 10 then 1 else 0) := e 10 (by omega)
  have e15 : M_is J 15 = some (if k = 15 then 1 else 0) := e 15 (by omega)
  have n10 : ¬ (1 : Int32) = 0 := by decide
  show M_expression_B96 F (M_expression_L12 F n) (M_expression_L96 F (M_expression_L12 F n) m) (iN 0) J = _
  rcases hs with ⟨rfl, rfl | rfl⟩ | ⟨rfl, rfl | rfl⟩
  · simp [M_expression_B96, M_expression_B145, M_expression_B186, e7, e8, e9, e10]
  · simp [M_expression_B96, M_expression_B145, M_expression_B186, e7, e8, e9, e10, e15]
  · simp [M_expression_B96, M_expression_B145, M_expression_B186, e7, e8, e10, e15]
  · simp [M_expression_B96, M_expression_B145, M_expression_B186, e7, e8, e9, e10, e15]
theorem FM.l12 {n : Nat} {J : Ji} (h : FM J) : M_expression_L12 F (n + 1) (iN 0) 1 J = some J := by
  show M_expression_B12 F (M_expression_L12 F n) (iN 0) 1 J = some J
  unfold M_expression_B12
  rw [if_neg (show ¬ (1 : Int32) = 0 by decide), if_neg h.n0.1]
theorem l12_ok {n a : Nat} {Q J : Ji} (h : PT N P E a o Q J K) : M_expression_L12 F (n + 1) (iN 0) 1 J = M_expression_L23 F (M_expression_L12 F n) F (iN 0) J := by
  show M_expression_B12 F (M_expression_L12 F n) (iN 0) 1 J = _
  unfold M_expression_B12
  rw [if_neg (show ¬ (1 : Int32) = 0 by decide), if_pos (show J 0 13 = 0 from h.2.2.2.2.1)]
theorem op_C {ch : Int32} {k : Nat} (h : sgP ch k) (hk : isOp k) : opC ch (opn k) := by
  rcases hk with rfl | rfl | rfl | rfl
  · rcases h with h | h | h | h | h | h | h | h | h <;> first | omega | exact Or.inl ⟨h.1, rfl⟩
  · rcases h with h | h | h | h | h | h | h | h | h <;> first | omega | exact Or.inr (Or.inl ⟨h.1, rfl⟩)
  · rcases h with h | h | h | h | h | h | h | h | h <;> first | omega | exact Or.inr (Or.inr (Or.inl ⟨h.1, rfl⟩))
  · rcases h with h | h | h | h | h | h | h | h | h <;> first | omega | exact Or.inr (Or.inr (Or.inr ⟨h.1, rfl⟩))
/-- what a row of operands is like, c1 and c2 being its signs -/
def LpH (o F : Nat) (s : Int32) (c1 c2 : Int32) (k1 k2 : Nat) (tpO tpL : List Nat → Prop) (lnO lnL pl : Nat) (pkO pkL exO exL : Nat → Prop) : Prop := (sgP c1 k1) ∧ (sgP c2 k2) ∧ (∀ k, k = k1 ∨ k = k2 → (s = 1 ∧ (k = 10 ∨ k = 15)) ∨ (s = 0 ∧ (k = 8 ∨ k = 9))) ∧ (∀ W, tpL W → tpO W) ∧ (∀ W k, tpL W → k = k1 ∨ k = k2 → tpO (W ++ [k])) ∧ (∀ W, tpL W → W = [] ∨ ∃ W' w, W = W' ++ [w] ∧ stp s w) ∧ (lnL + 1 ≤ lnO) ∧ (lnL + pl + 1 ≤ 60) ∧ (∀ w, pkO w → pkL w) ∧ (pkL k1 ∧ pkL k2) ∧ (∀ w, pkL w → isOp w ∧ ¬ stp s w) ∧ (∀ k, exL k → exO k ∨ k = k1 ∨ k = k2)
theorem LpH.g1 {o F : Nat} {s : Int32} {c1 c2 : Int32} {k1 k2 : Nat} {tpO tpL : List Nat → Prop} {lnO lnL pl : Nat} {pkO pkL exO exL : Nat → Prop} (h : LpH o F s c1 c2 k1 k2 tpO tpL lnO lnL pl pkO pkL exO exL) : sgP c1 k1 := h.1
theorem LpH.g2 {o F : Nat} {s : Int32} {c1 c2 : Int32} {k1 k2 : Nat} {tpO tpL : List Nat → Prop} {lnO lnL pl : Nat} {pkO pkL exO exL : Nat → Prop} (h : LpH o F s c1 c2 k1 k2 tpO tpL lnO lnL pl pkO pkL exO exL) : sgP c2 k2 := h.2.1
theorem LpH.fs {o F : Nat} {s : Int32} {c1 c2 : Int32} {k1 k2 : Nat} {tpO tpL : List Nat → Prop} {lnO lnL pl : Nat} {pkO pkL exO exL : Nat → Prop} (h : LpH o F s c1 c2 k1 k2 tpO tpL lnO lnL pl pkO pkL exO exL) : ∀ k, k = k1 ∨ k = k2 → (s = 1 ∧ (k = 10 ∨ k = 15)) ∨ (s = 0 ∧ (k = 8 ∨ k = 9)) := h.2.2.1
theorem LpH.t1 {o F : Nat} {s : Int32} {c1 c2 : Int32} {k1 k2 : Nat} {tpO tpL : List Nat → Prop} {lnO lnL pl : Nat} {pkO pkL exO exL : Nat → Prop} (h : LpH o F s c1 c2 k1 k2 tpO tpL lnO lnL pl pkO pkL exO exL) : ∀ W, tpL W → tpO W := h.2.2.2.1
theorem LpH.t2 {o F : Nat} {s : Int32} {c1 c2 : Int32} {k1 k2 : Nat} {tpO tpL : List Nat → Prop} {lnO lnL pl : Nat} {pkO pkL exO exL : Nat → Prop} (h : LpH o F s c1 c2 k1 k2 tpO tpL lnO lnL pl pkO pkL exO exL) : ∀ W k, tpL W → k = k1 ∨ k = k2 → tpO (W ++ [k]) := h.2.2.2.2.1
theorem LpH.t3 {o F : Nat} {s : Int32} {c1 c2 : Int32} {k1 k2 : Nat} {tpO tpL : List Nat → Prop} {lnO lnL pl : Nat} {pkO pkL exO exL : Nat → Prop} (h : LpH o F s c1 c2 k1 k2 tpO tpL lnO lnL pl pkO pkL exO exL) : ∀ W, tpL W → W = [] ∨ ∃ W' w, W = W' ++ [w] ∧ stp s w := h.2.2.2.2.2.1
theorem LpH.l1 {o F : Nat} {s : Int32} {c1 c2 : Int32} {k1 k2 : Nat} {tpO tpL : List Nat → Prop} {lnO lnL pl : Nat} {pkO pkL exO exL : Nat → Prop} (h : LpH o F s c1 c2 k1 k2 tpO tpL lnO lnL pl pkO pkL exO exL) : lnL + 1 ≤ lnO := h.2.2.2.2.2.2.1
theorem LpH.l2 {o F : Nat} {s : Int32} {c1 c2 : Int32} {k1 k2 : Nat} {tpO tpL : List Nat → Prop} {lnO lnL pl : Nat} {pkO pkL exO exL : Nat → Prop} (h : LpH o F s c1 c2 k1 k2 tpO tpL lnO lnL pl pkO pkL exO exL) : lnL + pl + 1 ≤ 60 := h.2.2.2.2.2.2.2.1
theorem LpH.p1 {o F : Nat} {s : Int32} {c1 c2 : Int32} {k1 k2 : Nat} {tpO tpL : List Nat → Prop} {lnO lnL pl : Nat} {pkO pkL exO exL : Nat → Prop} (h : LpH o F s c1 c2 k1 k2 tpO tpL lnO lnL pl pkO pkL exO exL) : ∀ w, pkO w → pkL w := h.2.2.2.2.2.2.2.2.1
theorem LpH.p2 {o F : Nat} {s : Int32} {c1 c2 : Int32} {k1 k2 : Nat} {tpO tpL : List Nat → Prop} {lnO lnL pl : Nat} {pkO pkL exO exL : Nat → Prop} (h : LpH o F s c1 c2 k1 k2 tpO tpL lnO lnL pl pkO pkL exO exL) : pkL k1 ∧ pkL k2 := h.2.2.2.2.2.2.2.2.2.1
theorem LpH.p3 {o F : Nat} {s : Int32} {c1 c2 : Int32} {k1 k2 : Nat} {tpO tpL : List Nat → Prop} {lnO lnL pl : Nat} {pkO pkL exO exL : Nat → Prop} (h : LpH o F s c1 c2 k1 k2 tpO tpL lnO lnL pl pkO pkL exO exL) : ∀ w, pkL w → isOp w ∧ ¬ stp s w := h.2.2.2.2.2.2.2.2.2.2.1
theorem LpH.ex {o F : Nat} {s : Int32} {c1 c2 : Int32} {k1 k2 : Nat} {tpO tpL : List Nat → Prop} {lnO lnL pl : Nat} {pkO pkL exO exL : Nat → Prop} (h : LpH o F s c1 c2 k1 k2 tpO tpL lnO lnL pl pkO pkL exO exL) : ∀ k, exL k → exO k ∨ k = k1 ∨ k = k2 := h.2.2.2.2.2.2.2.2.2.2.2
theorem l_ok {s c1 c2 : Int32} {k1 k2 lnO lnL pl : Nat} {tpO tpL : List Nat → Prop} {pkO pkL exO exL : Nat → Prop} (hF : 2100 ≤ F) (hg : g < 2) (H : LpH o F s c1 c2 k1 k2 tpO tpL lnO lnL pl pkO pkL exO exL) (hU : OpS g nc F N P E K J0 Xp o tpO lnO pl pkO exO un) {a : Nat} {Q : Ji} {T : Th} {W : List Nat} {c : Br} (hW : tpL W) (hWl : W.length ≤ lnL) (hH : HpB T a) :
    ∀ (f a1 : Nat) (x : Nat) (Q1 : Ji) (T1 : Th) (J1 : Ji) (ce : Br) (pe : List Nat) (n1 m1 : Nat), 402 ≤ f + a1 → a < a1 → PT N P E a1 o Q1 J1 K → ES g nc J0 J1 (c ++ ce) (W ++ pe) → (pe.length ≤ pl + 1 ∧ ∀ w, w ∈ pe → pkL w) → (∀ k, exO k → J1 3 a1 ≠ iN k) → Nd T1 (a1 - a) x (ce ++ emis pe) → ExT T T1 a a1 → 402 ≤ n1 + a1 → F + o ≤ m1 + 6 → (qF Q Q1 ∧ Q1 9 5 = Q 9 5) → nc + (c ++ ce).length + (W ++ pe).length ≤ a1 →
    (∃ x' a' Q' T' J' ce' pe' n' m', gL5 c1 c2 un Xp f (some x) Q1 T1 = some (.inr (some x', Q', T')) ∧ M_expression_L96 F (M_expression_L12 F n1) m1 (iN 0) J1 = M_expression_L96 F (M_expression_L12 F n') m' (iN 0) J' ∧ a < a' ∧ PT N P E a' o Q' J' K ∧ ES g nc J0 J' (c ++ ce') (W ++ pe') ∧ (pe'.length ≤ pl + 1 ∧ ∀ w, w ∈ pe' → pkL w) ∧ (∀ k, exL k → J' 3 a' ≠ iN k) ∧ Nd T' (a' - a) x' (ce' ++ emis pe') ∧ ExT T T' a a' ∧ 402 ≤ n' + a' ∧ F + o ≤ m' + 6 ∧ (qF Q Q' ∧ Q' 9 5 = Q 9 5) ∧ nc + (c ++ ce').length + (W ++ pe').length ≤ a') ∨
    (∃ Q' T' J', gL5 c1 c2 un Xp f (some x) Q1 T1 = some (.inl (Q', Xp, T')) ∧ M_expression_L96 F (M_expression_L12 F n1) m1 (iN 0) J1 = some J' ∧ FT Q' J' ∧ (FrJ g J0 J' ∧ J' 0 49 = J0 0 49) ∧ qF Q Q' ∧ ExN T T') := by
  intro f
  induction f with
  | zero =>
    intro a1 x Q1 T1 J1 ce pe n1 m1 hf ha hP
    have := hP.n
    have := hP.2.1
    omega
  | succ f ih =>
    intro a1 x Q1 T1 J1 ce pe n1 m1 hf ha hP hE hpe hex hNd hX hn hm hq hc
    have hNN := hP.n
    have haN := hP.2.1
    have n10 : ¬ (1 : Int32) = 0 := by decide
    have ho6 := hP.2.2.2.2.2.1.1
    have hlW : (W ++ pe).length = W.length + pe.length := List.length_append
    have hl1 := H.l1
    have hl2 := H.l2
    -- one more operand, behind the sign k
    have step : ∀ (ch : Int32) (k : Nat), sgP ch k → (k = k1 ∨ k = k2) → Q1 5 a1 = iN 2 → Q1 8 a1 = ch → J1 3 a1 = iN k →
        (∃ x' a' Q' T' J' ce' pe' n' m', gB23 un (gL5 c1 c2 un Xp f) Xp (some x) Q1 T1 = some (.inr (some x', Q', T')) ∧ M_expression_L96 F (M_expression_L12 F n1) m1 (iN 0) J1 = M_expression_L96 F (M_expression_L12 F n') m' (iN 0) J' ∧ a < a' ∧ PT N P E a' o Q' J' K ∧ ES g nc J0 J' (c ++ ce') (W ++ pe') ∧ (pe'.length ≤ pl + 1 ∧ ∀ w, w ∈ pe' → pkL w) ∧ (∀ k, exL k → J' 3 a' ≠ iN k) ∧ Nd T' (a' - a) x' (ce' ++ emis pe') ∧ ExT T T' a a' ∧ 402 ≤ n' + a' ∧ F + o ≤ m' + 6 ∧ (qF Q Q' ∧ Q' 9 5 = Q 9 5) ∧ nc + (c ++ ce').length + (W ++ pe').length ≤ a') ∨
        (∃ Q' T' J', gB23 un (gL5 c1 c2 un Xp f) Xp (some x) Q1 T1 = some (.inl (Q', Xp, T')) ∧ M_expression_L96 F (M_expression_L12 F n1) m1 (iN 0) J1 = some J' ∧ FT Q' J' ∧ (FrJ g J0 J' ∧ J' 0 49 = J0 0 49) ∧ qF Q Q' ∧ ExN T T') := fun ch k hsg hkk h5 h8 h3 => by
      have hpk : pkL k := by rcases hkk with rfl | rfl; exact H.p2.1; exact H.p2.2
      obtain ⟨m, rfl⟩ : ∃ m', m1 = m' + 1 := ⟨m1 - 1, by omega⟩
      obtain ⟨n, rfl⟩ : ∃ n', n1 = n' + 1 := ⟨n1 - 1, by omega⟩
      obtain ⟨J2, q1, q2, q3⟩ := co_ok (F := F) (s := s) (W := W) (p := pe) hF hg (H.t3 W hW) hE (by omega) (by omega) (fun w hw => H.p3 w (hpe.2 w hw))
      have hP2 : PT N P E a1 o Q1 J2 K := q3.pt hP
      obtain ⟨q4, q5⟩ := q2.push2 (k := k) (by omega) (Or.inr (H.p3 k hpk).1)
      obtain ⟨J3, hJ3⟩ : ∃ J3, J3 = uJ (uJ J2 44 W.length (iN k)) 0 60 (iN (W.length + 1)) := ⟨_, rfl⟩
      have hpu := q2.push (k := k) (by omega) (fun J25 => (M_goesOn J25).bind fun r26 => M_expression_L12 F (n + 1) (iN 0) 1 r26)
      rw [← hJ3] at q4 q5 hpu
      have hP3 : PT N P E a1 o Q1 J3 K := q5.pt hP2
      have hB : M_expression_L96 F (M_expression_L12 F (n + 1)) (m + 1) (iN 0) J1 = (M_goesOn J3).bind fun r26 => M_expression_L12 F (n + 1) (iN 0) 1 r26 := by
        rw [op_96 hP h3 (H.fs k hkk)]
        unfold M_expression_B234
        rw [q1, Option.bind_some, hP2.2.2.2.1, ldI_n (by omega) (by omega), q3.1 3 (by omega) (by omega) (by omega) (by omega), h3]
        exact hpu
      rw [hB]
      have hld : ∀ {α : Type} (f : Int32 → Option α), ldI Q1 8 2001 (Q1 9 3) f = f ch := fun f => by rw [hP.2.2.1, ldI_n (by omega) (by omega), h8]
      rcases p_pass (Xp := Xp) (T := T1) hP3 ⟨by rw [h5]; decide, by rw [h5]; decide⟩ with ⟨Q2, J4, t1, t2, t3, t4, t5, t6, t7⟩ | ⟨Q2, J4, t1, t2, t3, t4, t5, t6⟩
      · rw [t2, Option.bind_some, l12_ok t3]
        have hH1 : HpB T1 a1 := hH.ex hX (by omega) (by omega)
        have hx1 : ExN T1 (tNew T1 (.inl 18) 3) := ExN.new
        have hnO : ∀ {α : Type} (f : Th → Option α), nO T1 18 3 f = f (tNew T1 (.inl 18) 3) := fun f => nO_p (by have := hH1.2.2.1; omega) (by have := hH1.2.2.2; omega)
        have hlk : (W ++ [k]).length = W.length + 1 := by simp
        have hle : (c ++ ce ++ emis pe).length = (c ++ ce).length + pe.length := by rw [List.length_append, emis_l]
        have t3N := t3.2.1
        rcases hU (a1 + 1) Q2 J4 (tNew T1 (.inl 18) 3) (W ++ [k]) (c ++ ce ++ emis pe) n F t3 (q4.jf t5) (H.t2 W k hW hkk) (by omega) (by omega) (by omega) (by omega) ⟨hx1.2.2.2 hH1.1, by show (tL T1).2.2.1 ≤ tN T1 + 1; have := hH1.2.1; omega, by show tN T1 + 1 + (402 - (a1 + 1)) ≤ (tL T1).1; have := hH1.2.2.1; omega, by show tZ T1 + 3 + 3 * (402 - (a1 + 1)) ≤ (tL T1).2.1; have := hH1.2.2.2; omega⟩ with ⟨y, a2, Q3, T3, J5, cf, pf, n2, m2, s1, s2, s3, s4, s5, s6, s7, s8, s9, s10, s11, s12, s13⟩ | ⟨Q3, T3, J5, s1, s2, s3, s4, s5, s6⟩
        · rw [s2]
          have s4N := s4.2.1
          have hlt : tN T1 < tN (tNew T1 (.inl 18) 3) := Nat.lt_succ_self _
          have d3 := s9.1.2.2.1 (tN T1) hlt
          have k3 : T3.1 (tN T1) = some (.inl 18) := by rw [d3.1, tNew_1, if_pos rfl]
          have r3 : T3.2.2.1 (tN T1) 1 = none := by rw [d3.2.2, tNew_3, if_pos rfl]
          have hl3 : (tL T3).2.2.1 ≤ tN T1 := by rw [s9.1.2.1]; exact hH1.2.1
          obtain ⟨T4, hT4⟩ : ∃ T4, T4 = tR (tR (tI T3 (tN T1) 0 ch) (tN T1) 1 (some x)) (tN T1) 2 (some y) := ⟨_, rfl⟩
          have hA : A_Joined (tN T1) ch x y T3 = some T4 := by
            have e1 : ∀ g : Th → Option Th, pI T3 (tN T1) 18 0 ch g = g (tI T3 (tN T1) 0 ch) := fun g => pI_p k3 hl3
            have e2 : ∀ g : Th → Option Th, pR (tI T3 (tN T1) 0 ch) (tN T1) 18 1 (some x) g = g (tR (tI T3 (tN T1) 0 ch) (tN T1) 1 (some x)) := fun g => pR_p k3 hl3
            have e3 : ∀ g : Th → Option Th, pR (tR (tI T3 (tN T1) 0 ch) (tN T1) 1 (some x)) (tN T1) 18 2 (some y) g = g T4 := fun g => by rw [hT4]; exact pR_p k3 hl3
            simp only [A_Joined, A_Sum_X20, Option.bind_some, e1, e2, e3]
          have f41 : T4.1 = T3.1 := by rw [hT4]; rfl
          have f42 : ∀ b, b ≠ tN T1 → T4.2.1 b = T3.2.1 b ∧ T4.2.2.1 b = T3.2.2.1 b := fun b hb => by
            rw [hT4]
            refine ⟨?_, ?_⟩
            · funext i
              show (tI T3 (tN T1) 0 ch).2.1 b i = _
              rw [tI_2, if_neg (fun hh => hb hh.1)]
            · funext i
              rw [tR_3, if_neg (fun hh => hb hh.1), tR_3, if_neg (fun hh => hb hh.1)]
              rfl
          have f43 : T4.2.1 (tN T1) 0 = ch := by
            rw [hT4]
            show (tI T3 (tN T1) 0 ch).2.1 (tN T1) 0 = _
            rw [tI_2, if_pos ⟨rfl, rfl⟩]
          have f44 : T4.2.2.1 (tN T1) 1 = some x := by rw [hT4, tR_3, if_neg (by omega), tR_3, if_pos ⟨rfl, rfl⟩]
          have f45 : T4.2.2.1 (tN T1) 2 = some y := by rw [hT4, tR_3, if_pos ⟨rfl, rfl⟩]
          have hXN : ExN T T3 := (hX.1.tr hx1).tr s9.1
          have hTN := hX.1.1
          have hX4 : ExN T T4 := by rw [hT4]; exact ((hXN.wI hTN).wR hTN).wR hTN
          have nx : Nd T4 (a2 - a - 1) x (ce ++ emis pe) := by
            have := Nd.sm (ExN.sm hH1.1 (hx1.tr s9.1)) _ _ _ hNd
            exact Nd.mo _ _ _ _ (by omega) (Nd.wr r3 f41 f42 k3 _ _ _ this)
          have ny : Nd T4 (a2 - a - 1) y (cf ++ emis pf) := Nd.mo _ _ _ _ (by omega) (Nd.wr r3 f41 f42 k3 _ _ _ s8)
          have ee : (ce ++ emis pe ++ cf) ++ emis (k :: pf) = (ce ++ emis pe) ++ (cf ++ emis pf) ++ [(opn k, 0)] := by
            rw [emis_c]; simp only [List.append_assoc]
          have hN4 : tN T4 = tN T3 := by rw [hT4]; rfl
          have hZ4 : tZ T4 = tZ T3 := by rw [hT4]; rfl
          have hC : ∀ X, gL5 c1 c2 un Xp f (some (tN T1)) Q3 T4 = X → gB23 un (gL5 c1 c2 un Xp f) Xp (some x) Q1 T1 = X := fun X hX => by
            rw [← hX]
            simp only [gB23, hld, xb, t1, Option.bind_some, hnO, s1, hA]
          have s9a : tN T3 ≤ tN T1 + 1 + (a2 - (a1 + 1)) := s9.2.1
          have s9b : tZ T3 ≤ tZ T1 + 3 + 3 * (a2 - (a1 + 1)) := s9.2.2
          have key := ih a2 (tN T1) Q3 T4 J5 (ce ++ emis pe ++ cf) (k :: pf) n2 m2 (by omega) (by omega) s4 (by
              rw [show c ++ (ce ++ emis pe ++ cf) = c ++ ce ++ emis pe ++ cf by simp only [List.append_assoc], show W ++ k :: pf = W ++ [k] ++ pf by simp]
              exact s5) ⟨by rw [List.length_cons]; have := s6.1; omega, fun w hw => by
                rcases List.mem_cons.1 hw with hw | hw
                · rw [hw]; exact hpk
                · exact H.p1 w (s6.2 w hw)⟩ s7 (by
              rw [show a2 - a = a2 - a - 1 + 1 by omega, ee]
              exact Or.inr (Or.inr ⟨by rw [f41]; exact k3, x, y, _, _, opn k, f44, f45, nx, ny, rfl, by rw [f43]; exact op_C hsg (H.p3 k hpk).1⟩)) ⟨hX4, by rw [hN4]; have := hX.2.1; omega, by rw [hZ4]; have := hX.2.2; omega⟩ s10 s11 ⟨(hq.1.tr t4).tr s12.1, by rw [s12.2, t6, uJ_sn (by omega)]; exact hq.2⟩ (by
              rw [show c ++ (ce ++ emis pe ++ cf) = c ++ ce ++ emis pe ++ cf by simp only [List.append_assoc], show W ++ k :: pf = W ++ [k] ++ pf by simp]
              exact s13)
          rcases key with ⟨x', a', Q', T', J', ce', pe', n', m', v1, v2⟩ | ⟨Q', T', J', v1, v2⟩
          · exact Or.inl ⟨x', a', Q', T', J', ce', pe', n', m', hC _ v1, v2⟩
          · exact Or.inr ⟨Q', T', J', hC _ v1, v2⟩
        · right
          refine ⟨Q3, T3, J5, ?_, s2, s3, s4, (hq.1.tr t4).tr s5, (hX.1.tr hx1).tr s6⟩
          simp only [gB23, hld, xb, t1, Option.bind_some, hnO, s1]
      · right
        have hft : FT Q2 J4 := ⟨_, _, t3⟩
        refine ⟨Q2, T1, J4, ?_, by rw [t2, Option.bind_some, hft.fm.l12], hft, ⟨(q4.jf t5).2.2.2.2.2.1, (q4.jf t5).2.2.2.2.1 49 (by omega) (by omega) (by omega)⟩, hq.1.tr t4, hX.1⟩
        simp only [gB23, hld, xb, t1, Option.bind_some]
    rcases p_iss (Xp := Xp) (T := T1) hP H.g1 with ⟨i1, i2, i3, i4, i5⟩ | ⟨i1, i2, i3, i4⟩
    · have hC : ∀ X, gB23 un (gL5 c1 c2 un Xp f) Xp (some x) Q1 T1 = X → gL5 c1 c2 un Xp (f + 1) (some x) Q1 T1 = X := fun X hX => by
        rw [← hX]
        show gB5 c1 c2 un (gL5 c1 c2 un Xp f) Xp (some x) Q1 T1 = _
        simp only [gB5, xb, i1, Option.bind_some, if_neg n10]
      rcases step c1 k1 H.g1 (Or.inl rfl) i3 i4 i5 with ⟨x', a', Q', T', J', ce', pe', n', m', v1, v2⟩ | ⟨Q', T', J', v1, v2⟩
      · exact Or.inl ⟨x', a', Q', T', J', ce', pe', n', m', hC _ v1, v2⟩
      · exact Or.inr ⟨Q', T', J', hC _ v1, v2⟩
    · rcases p_iss (Xp := Xp) (T := T1) hP H.g2 with ⟨l1, l2, l3, l4, l5⟩ | ⟨l1, l2, l3, l4⟩
      · have hC : ∀ X, gB23 un (gL5 c1 c2 un Xp f) Xp (some x) Q1 T1 = X → gL5 c1 c2 un Xp (f + 1) (some x) Q1 T1 = X := fun X hX => by
          rw [← hX]
          show gB5 c1 c2 un (gL5 c1 c2 un Xp f) Xp (some x) Q1 T1 = _
          simp only [gB5, xb, i1, l1, Option.bind_some, if_neg n10, if_true]
        rcases step c2 k2 H.g2 (Or.inr rfl) l3 l4 l5 with ⟨x', a', Q', T', J', ce', pe', n', m', v1, v2⟩ | ⟨Q', T', J', v1, v2⟩
        · exact Or.inl ⟨x', a', Q', T', J', ce', pe', n', m', hC _ v1, v2⟩
        · exact Or.inr ⟨Q', T', J', hC _ v1, v2⟩
      · left
        refine ⟨x, a1, Q1, T1, J1, ce, pe, n1, m1, ?_, rfl, ha, hP, hE, hpe, fun k hk => ?_, hNd, hX, hn, hm, hq, hc⟩
        · show gB5 c1 c2 un (gL5 c1 c2 un Xp f) Xp (some x) Q1 T1 = _
          simp only [gB5, xb, i1, l1, Option.bind_some, if_true]
        · rcases H.ex k hk with h | h | h
          · exact hex k h
          · rw [h]; exact i4
          · rw [h]; exact l4
theorem g_ok {s c1 c2 : Int32} {k1 k2 lnO lnL pl : Nat} {tpO tpL : List Nat → Prop} {pkO pkL exO exL : Nat → Prop} (hF : 2100 ≤ F) (hg : g < 2) (H : LpH o F s c1 c2 k1 k2 tpO tpL lnO lnL pl pkO pkL exO exL) (hU : OpS g nc F N P E K J0 Xp o tpO lnO pl pkO exO un) : OpS g nc F N P E K J0 Xp o tpL lnL (pl + 1) pkL exL (gG F c1 c2 un Xp) := by
  intro a Q J T W c n m hP hE hW hWl hc hn hm hH
  rcases hU a Q J T W c n m hP hE (H.t1 W hW) (by have := H.l1; omega) hc hn hm hH with ⟨x, a1, Q1, T1, J1, ce, pe, n1, m1, s1, s2, s3, s4, s5, s6, s7, s8, s9, s10, s11, s12, s13⟩ | ⟨Q1, T1, J1, s1, s2, s3, s4, s5, s6⟩
  · rw [s2]
    have hC : ∀ X, gL5 c1 c2 un Xp F (some x) Q1 T1 = X → gG F c1 c2 un Xp Q T = X := fun X hX => by
      rw [← hX]
      simp only [gG, xb, s1, Option.bind_some]
    rcases l_ok hF hg H hU hW hWl hH F a1 x Q1 T1 J1 ce pe n1 m1 (by omega) s3 s4 s5 ⟨by have := s6.1; omega, fun w hw => H.p1 w (s6.2 w hw)⟩ s7 s8 s9 s10 s11 s12 s13 with ⟨x', a', Q', T', J', ce', pe', n', m', v1, v2⟩ | ⟨Q', T', J', v1, v2⟩
    · exact Or.inl ⟨x', a', Q', T', J', ce', pe', n', m', hC _ v1, v2⟩
    · exact Or.inr ⟨Q', T', J', hC _ v1, v2⟩
  · right
    refine ⟨Q1, T1, J1, ?_, s2, s3, s4, s5, s6⟩
    simp only [gG, xb, s1, Option.bind_some]
/-- a sum -/
theorem s_ok (hF : 2100 ≤ F) (hg : g < 2) : ∀ d o, d + o = 8 → 2 ≤ d → OpS g nc F N P E K J0 Xp o tpS (3 * o) 2 isOp isOp (gS F Xp d) := by
  intro d
  induction d with
  | zero => intro o _ h; omega
  | succ d ih =>
    intro o hd h2
    have hu := u_ok (g := g) (nc := nc) (N := N) (P := P) (E := E) (K := K) (J0 := J0) (Xp := Xp) (o := o) (sm := gS F Xp d) hF hg (by omega) (fun ho => ih (o + 1) (by omega) (by omega))
    have hp := g_ok (c1 := 42) (c2 := 47) (s := 1) (k1 := 10) (k2 := 15) (tpL := tpP) (lnL := 3 * o + 1) (pkL := fun w => w = 10 ∨ w = 15) (exL := fun w => w = 10 ∨ w = 15) hF hg
      ⟨Or.inr (Or.inr (Or.inr (Or.inr (Or.inr (Or.inr (Or.inl ⟨rfl, rfl⟩)))))), Or.inr (Or.inr (Or.inr (Or.inr (Or.inr (Or.inr (Or.inr (Or.inl ⟨rfl, rfl⟩))))))), fun k hk => Or.inl ⟨rfl, hk⟩, fun _ _ => trivial, fun _ _ _ _ => trivial, fun W hW => by
        rcases hW with hW | ⟨W', w, h1, h2⟩
        · exact Or.inl hW
        · refine Or.inr ⟨W', w, h1, ?_⟩
          rcases h2 with h2 | h2
          · exact Or.inl h2
          · exact Or.inr ⟨by decide, h2⟩, by omega, by omega, fun w hw => hw.elim, ⟨Or.inl rfl, Or.inr rfl⟩, fun w hw => by
        refine ⟨by rcases hw with h | h; exact Or.inr (Or.inr (Or.inl h)); exact Or.inr (Or.inr (Or.inr h)), fun hs => ?_⟩
        rcases hs with hs | ⟨_, hs⟩ <;> omega, fun k hk => Or.inr hk⟩ hu
    exact g_ok (c1 := 43) (c2 := 45) (s := 0) (k1 := 8) (k2 := 9) (tpL := tpS) (lnL := 3 * o) (pkL := isOp) (exL := isOp) hF hg
      ⟨Or.inr (Or.inr (Or.inr (Or.inr (Or.inl ⟨rfl, rfl⟩)))), Or.inr (Or.inr (Or.inr (Or.inr (Or.inr (Or.inl ⟨rfl, rfl⟩))))), fun k hk => Or.inr ⟨rfl, hk⟩, fun W hW => by
        rcases hW with hW | ⟨W', h1⟩
        · exact Or.inl hW
        · exact Or.inr ⟨W', 6, h1, Or.inl rfl⟩, fun W k _ hk => Or.inr ⟨W, k, rfl, Or.inr hk⟩, fun W hW => by
        rcases hW with hW | ⟨W', h1⟩
        · exact Or.inl hW
        · exact Or.inr ⟨W', 6, h1, Or.inl rfl⟩, by omega, by omega, fun w hw => Or.inr (Or.inr hw), ⟨Or.inl rfl, Or.inr (Or.inl rfl)⟩, fun w hw => by
        refine ⟨hw, fun hs => ?_⟩
        rcases hs with hs | ⟨hs, _⟩
        · rcases hw with h | h | h | h <;> omega
        · exact hs rfl, fun k hk => by
        rcases hk with h | h | h | h
        · exact Or.inr (Or.inl h)
        · exact Or.inr (Or.inr h)
        · exact Or.inl (Or.inl h)
        · exact Or.inl (Or.inr h)⟩ hp
end LO
