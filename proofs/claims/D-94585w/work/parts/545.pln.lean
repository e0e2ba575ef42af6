/-! PURE LAW 6: the step with which one goes on -/
set_option maxRecDepth 100000
/-- a law, as the component's heap holds it -/
def lwC (T : Th) (a p0 p1 p2 : Nat) (L : Lw) : Prop := T.1 a = some (.inl 15) ∧ T.2.1 a 3 = iN L.1.length ∧ L.1.length ≤ 4 ∧ T.2.2.1 a 0 = some p0 ∧ T.2.2.1 a 1 = some p1 ∧ T.2.2.1 a 2 = some p2 ∧ T.1 p0 = some (.inr (.object "SleepWork$Sum", 4)) ∧ T.1 p1 = some (.inr (.object "SleepWork$Sum", 4)) ∧ T.1 p2 = some (.inr (.object "SleepWork$Sum", 5)) ∧ (∀ i e, L.1[i]? = some e → ∃ n0 n1 n2, T.2.2.1 p0 i = some n0 ∧ T.2.2.1 p1 i = some n1 ∧ T.2.2.1 p2 i = some n2 ∧ Nd T dSum n0 e.1 ∧ Nd T dSum n1 e.2.1 ∧ Nd T dSum n2 e.2.2) ∧ ∃ n, T.2.2.1 p2 L.1.length = some n ∧ Nd T dSum n L.2
/-- a law, as the model's rows hold it -/
def lwM (J : Ji) (l q : Nat) (L : Lw) : Prop := 50 * l ≤ q ∧ q + L.1.length + 1 ≤ 50 * l + 50 ∧ (∀ i e, L.1[i]? = some e → J 36 (q + i) = iN 1 ∧ cdJ J l (J 37 (q + i)) (J 38 (q + i)) e.1 ∧ cdJ J l (J 38 (q + i)) (J 39 (q + i)) e.2.1 ∧ cdJ J l (J 39 (q + i)) (J 40 (q + i)) e.2.2) ∧ J 36 (q + L.1.length) = iN 0 ∧ cdJ J l (J 39 (q + L.1.length)) (J 40 (q + L.1.length)) L.2
theorem mP.lv {J J1 : Ji} {l : Nat} (h : mP J J1) : ∀ o i, lv_ l o i = true → J1 o i = J o i := fun o i ho => by
  by_cases c : o = 0
  · subst c
    have hi : i = 18 := by simpa [lv_] using ho
    subst hi
    exact h.2 18 (by omega)
  · have h1 : o ≠ 46 := by
      rintro rfl
      exact absurd ho (by simp [lv_])
    rw [h.1 o h1 c]
theorem lwM.fr {J J1 : Ji} {l q : Nat} {L : Lw} (h : lwM J l q L) (hP : mP J J1) : lwM J1 l q L := by
  have h1 : lwJ J l (iN q) (iN (q + L.1.length + 1)) (some L) := ⟨q, rfl, rfl, h⟩
  obtain ⟨a1, a2, a3, a4, a5⟩ := h
  refine ⟨a1, a2, fun i e he => ?_, ?_, ?_⟩
  · obtain ⟨b1, b2, b3, b4⟩ := a3 i e he
    rw [hP.1 36 (by omega) (by omega), hP.1 37 (by omega) (by omega), hP.1 38 (by omega) (by omega), hP.1 39 (by omega) (by omega), hP.1 40 (by omega) (by omega)]
    exact ⟨b1, b2.fr hP.lv, b3.fr hP.lv, b4.fr hP.lv⟩
  · rw [hP.1 36 (by omega) (by omega)]
    exact a4
  · rw [hP.1 39 (by omega) (by omega), hP.1 40 (by omega) (by omega)]
    exact a5.fr hP.lv
section LN
variable {T : Th} {F : Nat} {X : Xt} {l a p0 p1 p2 q s k mm : Nat} {L : Lw}
theorem lw_fin (hF : 900 ≤ F) (hX : TxV X) (hC : lwC T a p0 p1 p2 L) (hk : k < xk X) (hs : s < xs X k) (hmm : mm < 6) {i : Nat} {C J : Ji} (hJ : TxJ J l X) (hM : lwM J l q L) (hi : i ≤ L.1.length) (hv : ∀ k, k < 6 → C 32 k = J 45 k) (h0 : C 31 1 = 0) (h1 : J 0 63 = 0) (h2 : C 32 2 = iN (xs X k)) (h3 : C 32 0 = iN s) (h4 : J 54 mm = iN s) : ∃ r C1 J1, r < xs X k ∧ C_Law_of_B44 F T a (iN i) C = some (iN r, C1) ∧ M_tells_B211 F (iN mm) (iN k) (iN (q + i)) J = some (iN r, J1) ∧ cA C C1 ∧ mP J J1 := by
  obtain ⟨ha, g3, g4, g0, g1, g2, t0, t1, t2, hb, he⟩ := hC
  have hM0 := hM
  obtain ⟨m1, m2, m3, m4, m5⟩ := hM
  have hl := hJ.l2
  have hs6 := (hX.2.2.2.1 k hk).2.2
  obtain ⟨nd, c, q1, q2, q3⟩ : ∃ nd c, T.2.2.1 p2 i = some nd ∧ Nd T dSum nd c ∧ cdJ J l (J 39 (q + i)) (J 40 (q + i)) c := by
    by_cases c : i < L.1.length
    · obtain ⟨n0, n1, n2, _, _, r3, _, _, r6⟩ := hb i _ (List.getElem?_eq_getElem c)
      exact ⟨n2, _, r3, r6, (m3 i _ (List.getElem?_eq_getElem c)).2.2.2⟩
    · have : i = L.1.length := by omega
      subst this
      obtain ⟨nd, r1, r2⟩ := he
      exact ⟨nd, _, r1, r2, m5⟩
  obtain ⟨v, hr⟩ := tm_run (F := F) hF hl q2 q3 hv
  have l2 : ∀ (C1 : Ji) (f : Int32 → Option (Int32 × Ji)), C1 32 2 = iN (xs X k) → ldI C1 32 6 2 f = f (iN (xs X k)) := fun C1 f h => by rw [i_2, ldI_n (by omega) (by omega), h]
  have l0 : ∀ (C1 : Ji) (f : Int32 → Option (Int32 × Ji)), C1 32 0 = iN s → ldI C1 32 6 0 f = f (iN s) := fun C1 f h => by rw [i_0, ldI_n (by omega) (by omega), h]
  rcases hr with ⟨e1, J1, e2, e3, e4⟩ | ⟨e1, J1, e2, e3, e4⟩
  · obtain ⟨r, r1, r2, r3⟩ := clampL (v := v) (n := xs X k) (by omega) hs6
    have hst := (hJ.fr hX e4.lv).steps hX hk
    refine ⟨r, C, J1, r1, ?_, ?_, fun _ _ => rfl, e4⟩
    · unfold C_Law_of_B44
      generalize C_sof T dSum = S at e1 ⊢
      rw [dR_p ha, g2, Option.bind_some, dA_p t2 (show i < 5 by omega) (by omega), q1, Option.bind_some, e1, Option.bind_some]
      show ldI C 32 6 2 _ = _
      rw [l2 C _ h2, if_pos h0]
      unfold C_Law_of_B81
      rw [r2]
    · simp (disch := omega) only [M_tells_B211, ldI_n, e2, Option.bind_some, e3, h1, if_true, hst]
      rw [← r3]
      by_cases c1 : 0 ≤ v
      · rw [if_pos c1, if_pos c1]
        by_cases c2 : v < iN (xs X k)
        · rw [if_pos c2, if_pos c2]
        · rw [if_neg c2, if_neg c2]
      · rw [if_neg c1, if_neg c1]
  · refine ⟨s, uJ C 31 1 1, J1, hs, ?_, ?_, cA.u, e4⟩
    · unfold C_Law_of_B44
      generalize C_sof T dSum = S at e1 ⊢
      rw [dR_p ha, g2, Option.bind_some, dA_p t2 (show i < 5 by omega) (by omega), q1, Option.bind_some, e1, Option.bind_some]
      show ldI (uJ C 31 1 1) 32 6 2 _ = _
      rw [l2 (uJ C 31 1 1) _ (by rw [uJ_o (by omega)]; exact h2)]
      show (if uJ C 31 1 1 31 1 = 0 then _ else ldI (uJ C 31 1 1) 32 6 0 _) = _
      rw [uJ_ss, if_neg (by decide), l0 (uJ C 31 1 1) _ (by rw [uJ_o (by omega)]; exact h3)]
      unfold C_Law_of_B81
      rw [clampS hs hs6]
    · simp (disch := omega) only [M_tells_B211, ldI_n, e2, Option.bind_some, e3, if_neg (show ¬ (1 : Int32) = 0 by decide), e4.1 54, h4]
theorem lw_run (hF : 900 ≤ F) (hX : TxV X) (hC : lwC T a p0 p1 p2 L) (hk : k < xk X) (hs : s < xs X k) (hmm : mm < 6) : ∀ m i (C J : Ji), L.1.length < m + i → i ≤ L.1.length → TxJ J l X → lwM J l q L → (∀ k, k < 6 → C 32 k = J 45 k) → C 31 1 = 0 → J 0 63 = 0 → C 32 2 = iN (xs X k) → C 32 0 = iN s → J 54 mm = iN s → ∃ r C1 J1, r < xs X k ∧ C_Law_of_L7 F T m a (iN i) C = some (iN r, C1) ∧ M_tells_L130 F m (iN mm) (iN k) (iN (q + L.1.length + 1)) (iN (q + i)) J = some (iN r, J1) ∧ cA C C1 ∧ mP J J1 := by
  have hC0 := hC
  obtain ⟨ha, g3, g4, g0, g1, g2, t0, t1, t2, hb, he⟩ := hC
  have hs6 := (hX.2.2.2.1 k hk).2.2
  intro m
  induction m with
  | zero => intro i C J h1 h2; omega
  | succ m ih =>
    intro i C J h1 h2 hJ hM hv c0 j0 c2 c3 j4
    have hl := hJ.l2
    have hM0 := hM
    obtain ⟨m1, m2, m3, m4, m5⟩ := hM
    by_cases c : i < L.1.length
    · obtain ⟨n0, n1, n2, r1, r2, r3, r4, r5, r6⟩ := hb i _ (List.getElem?_eq_getElem c)
      obtain ⟨d1, d2, d3, d4⟩ := m3 i _ (List.getElem?_eq_getElem c)
      obtain ⟨hB1, hB2⟩ := lw_broken (F := F) hs hs6 ha g3 g4 g0 g1 g2 t0 t1 t2 hb he
      obtain ⟨x, hx⟩ := tm_run (F := F) hF hl r4 d2 hv
      rcases hx with ⟨e1, J1, e2, e3, e4⟩ | ⟨e1, J1, e2, e3, e4⟩
      · have f38 : J1 38 = J 38 := e4.1 38 (by omega) (by omega)
        have f39 : J1 39 = J 39 := e4.1 39 (by omega) (by omega)
        obtain ⟨y, hy⟩ := tm_run (F := F) hF hl r5 (d3.fr e4.lv) (fun k hk => by rw [e4.1 45 (by omega) (by omega)]; exact hv k hk)
        rcases hy with ⟨u1, J2, u2, u3, u4⟩ | ⟨u1, J2, u2, u3, u4⟩
        · have hJ2 := (hJ.fr hX e4.lv).fr hX u4.lv
          have z0 : J2 0 63 = 0 := by rw [u3, e3]; exact j0
          have p54 : J2 54 mm = iN s := by rw [u4.1 54 (by omega) (by omega), e4.1 54 (by omega) (by omega)]; exact j4
          have p45 : ∀ k, k < 6 → C 32 k = J2 45 k := fun k hk => by rw [u4.1 45 (by omega) (by omega), e4.1 45 (by omega) (by omega)]; exact hv k hk
          have hM2 := (hM0.fr e4).fr u4
          simp (disch := omega) only [C_Law_of_L7, C_Law_of_B7, M_tells_L130, M_tells_B130, dI_p ha, g3, iN_le, if_neg (show ¬ L.1.length ≤ i by omega), if_neg (show ¬ q + L.1.length + 1 ≤ q + i by omega), dR_p ha, g0, g1, Option.bind_some, dA_p t0, dA_p t1, r1, r2, e1, u1, ldI_n, d1, if_neg (show ¬ iN 1 = 0 by decide), e2, f38, f39, u2, z0, if_true]
          by_cases cc : x < y
          · simp only [if_pos cc]
            obtain ⟨r, C1, J3, w1, w2, w3, w4, w5⟩ := lw_fin hF hX hC0 hk hs hmm hJ2 hM2 (by omega) p45 c0 z0 c2 c3 p54
            exact ⟨r, C1, J3, w1, w2, w3, w4, (e4.tr u4).tr w5⟩
          · simp only [if_neg cc, lt_e, i_1, iN_add]
            obtain ⟨r, C1, J3, w1, w2, w3, w4, w5⟩ := ih (i + 1) C J2 (by omega) (by omega) hJ2 hM2 p45 c0 z0 c2 c3 p54
            exact ⟨r, C1, J3, w1, w2, w3, w4, (e4.tr u4).tr w5⟩
        · have p54 : J2 54 mm = iN s := by rw [u4.1 54 (by omega) (by omega), e4.1 54 (by omega) (by omega)]; exact j4
          have hfin : ∃ C1, (if x < y then C_Law_of_B44 F T a (iN i) (uJ C 31 1 1) else C_Law_of_L7 F T m a (iN (i + 1)) (uJ C 31 1 1)) = some (iN s, C1) ∧ cA (uJ C 31 1 1) C1 := by
            by_cases cc : x < y
            · rw [if_pos cc]
              exact hB1 i _ (by omega) uJ_ss (by rw [uJ_o (by omega)]; exact c2) (by rw [uJ_o (by omega)]; exact c3)
            · rw [if_neg cc]
              exact hB2 m (i + 1) _ (by omega) (by omega) uJ_ss (by rw [uJ_o (by omega)]; exact c2) (by rw [uJ_o (by omega)]; exact c3)
          obtain ⟨C1, w1, w2⟩ := hfin
          refine ⟨s, C1, J2, hs, ?_, ?_, fun o ho => by rw [w2 o ho, uJ_o ho], e4.tr u4⟩
          · rw [← w1]
            simp (disch := omega) only [C_Law_of_L7, C_Law_of_B7, dI_p ha, g3, iN_le, if_neg (show ¬ L.1.length ≤ i by omega), dR_p ha, g0, g1, Option.bind_some, dA_p t0, dA_p t1, r1, r2, e1, u1, lt_e, show iN i + 1 = iN (i + 1) by rw [i_1, iN_add]]
          · simp (disch := omega) only [M_tells_L130, M_tells_B130, iN_le, if_neg (show ¬ q + L.1.length + 1 ≤ q + i by omega), Option.bind_some, ldI_n, d1, if_neg (show ¬ iN 1 = 0 by decide), e2, f38, f39, u2, u3, if_neg (show ¬ (1 : Int32) = 0 by decide), p54]
      · have f38 : J1 38 = J 38 := e4.1 38 (by omega) (by omega)
        have f39 : J1 39 = J 39 := e4.1 39 (by omega) (by omega)
        obtain ⟨y, hy⟩ := tm_run (F := F) (C := uJ C 31 1 1) hF hl r5 (d3.fr e4.lv) (fun k hk => by rw [e4.1 45 (by omega) (by omega), uJ_o (by omega)]; exact hv k hk)
        obtain ⟨y2, J2, u1, u2, u3, u4⟩ : ∃ y2 J2, C_sof T dSum n1 (uJ C 31 1 1) = some (y, uJ C 31 1 1) ∧ M_termOf F (J 38 (q + i)) (J 39 (q + i)) J1 = some (y2, J2) ∧ J2 0 63 = 1 ∧ mP J1 J2 := by
          rcases hy with ⟨u1, J2, u2, u3, u4⟩ | ⟨u1, J2, u2, u3, u4⟩
          · exact ⟨y, J2, u1, u2, by rw [u3]; exact e3, u4⟩
          · rw [uJ_id] at u1
            exact ⟨0, J2, u1, u2, u3, u4⟩
        have p54 : J2 54 mm = iN s := by rw [u4.1 54 (by omega) (by omega), e4.1 54 (by omega) (by omega)]; exact j4
        have hfin : ∃ C1, (if x < y then C_Law_of_B44 F T a (iN i) (uJ C 31 1 1) else C_Law_of_L7 F T m a (iN (i + 1)) (uJ C 31 1 1)) = some (iN s, C1) ∧ cA (uJ C 31 1 1) C1 := by
          by_cases cc : x < y
          · rw [if_pos cc]
            exact hB1 i _ (by omega) uJ_ss (by rw [uJ_o (by omega)]; exact c2) (by rw [uJ_o (by omega)]; exact c3)
          · rw [if_neg cc]
            exact hB2 m (i + 1) _ (by omega) (by omega) uJ_ss (by rw [uJ_o (by omega)]; exact c2) (by rw [uJ_o (by omega)]; exact c3)
        obtain ⟨C1, w1, w2⟩ := hfin
        refine ⟨s, C1, J2, hs, ?_, ?_, fun o ho => by rw [w2 o ho, uJ_o ho], e4.tr u4⟩
        · rw [← w1]
          simp (disch := omega) only [C_Law_of_L7, C_Law_of_B7, dI_p ha, g3, iN_le, if_neg (show ¬ L.1.length ≤ i by omega), dR_p ha, g0, g1, Option.bind_some, dA_p t0, dA_p t1, r1, r2, e1, u1, lt_e, show iN i + 1 = iN (i + 1) by rw [i_1, iN_add]]
        · simp (disch := omega) only [M_tells_L130, M_tells_B130, iN_le, if_neg (show ¬ q + L.1.length + 1 ≤ q + i by omega), Option.bind_some, ldI_n, d1, if_neg (show ¬ iN 1 = 0 by decide), e2, f38, f39, u2, u3, if_neg (show ¬ (1 : Int32) = 0 by decide), p54]
    · have : i = L.1.length := by omega
      subst this
      simp (disch := omega) only [C_Law_of_L7, C_Law_of_B7, M_tells_L130, M_tells_B130, dI_p ha, g3, iN_le, if_pos (Nat.le_refl _), if_neg (show ¬ q + L.1.length + 1 ≤ q + L.1.length by omega), ldI_n, m4, if_pos (show iN 0 = 0 by decide)]
      exact lw_fin hF hX hC0 hk hs hmm hJ hM0 (Nat.le_refl _) hv c0 j0 c2 c3 j4
end LN
section NX
variable {T : Th} {tx : Nat} {X : Xt} {b : Nat → Nat} {e : Nat → Nat → Nat} {J C : Ji} {l F : Nat}
/-- the same step on both sides -/
theorem pl_next (hF : 900 ≤ F) (hX : TxV X) (hT : TxT T tx X b e) (hJ : TxJ J l X) {m k s : Nat} {mi : Int32} (hm : m < xm X) (hk : k < xk X) (hs : s < xs X k) (c1 : C (25 + m) 1 = iN k) (c2 : C (25 + m) 2 = iN s) (j1 : J 48 (42 + m) = iN k) (j2 : J 54 m = iN s) (hd : C (2 + k) s = J 48 (6 + 6 * k + s)) (hst : C 8 k = J 48 k) (ht : C 12 m = J 55 m) : ∃ r C1 J1, r < xs X k ∧ P_next F T m tx (iN m) mi C = some (iN r, C1) ∧ M_tells F (iN m) mi J = some (iN r, J1) ∧ (∀ o, o ≠ 31 → o ≠ 32 → C1 o = C o) ∧ (∀ o, o ≠ 45 → o ≠ 46 → o ≠ 0 → J1 o = J o) ∧ ∀ i, i ≠ 63 → J1 0 i = J 0 i := by
  have hm6 := hX.1.2.2.2.2.1
  have hk6 := hX.1.2.2.2.1
  have hs6 := (hX.2.2.2.1 k hk).2.2
  have hl := hJ.l2
  obtain ⟨q1, q2, q3, q4, q5⟩ := hT.2.2.2.2.2 m hm
  obtain ⟨w1, w2, w3, w4⟩ := hJ.2.2.2.2.2 m hm
  -- the model's variables
  let J9 := uJ (uJ (uJ (uJ (uJ (uJ (uJ J 45 0 (iN s)) 45 1 (J 48 (6 + 6 * k + s))) 45 2 (iN (xs X k))) 45 3 mi) 45 4 (J 48 k)) 45 5 (J 55 m)) 0 63 0
  have h9o : ∀ o, o ≠ 45 → o ≠ 0 → J9 o = J o := fun o h1 h2 => by
    show uJ (uJ (uJ (uJ (uJ (uJ (uJ J 45 0 (iN s)) 45 1 (J 48 (6 + 6 * k + s))) 45 2 (iN (xs X k))) 45 3 mi) 45 4 (J 48 k)) 45 5 (J 55 m)) 0 63 0 o = J o
    rw [uJ_o h2, uJ_o h1, uJ_o h1, uJ_o h1, uJ_o h1, uJ_o h1, uJ_o h1]
  have h90 : ∀ i, i ≠ 63 → J9 0 i = J 0 i := fun i h1 => by
    show uJ (uJ (uJ (uJ (uJ (uJ (uJ J 45 0 (iN s)) 45 1 (J 48 (6 + 6 * k + s))) 45 2 (iN (xs X k))) 45 3 mi) 45 4 (J 48 k)) 45 5 (J 55 m)) 0 63 0 0 i = J 0 i
    rw [uJ_sn h1, uJ_o (by omega), uJ_o (by omega), uJ_o (by omega), uJ_o (by omega), uJ_o (by omega), uJ_o (by omega)]
  have hJ9 : TxJ J9 l X := hJ.fo hX (h90 18 (by omega)) (fun o a1 a2 => h9o o (by omega) (by omega))
  have hM : M_tells F (iN m) mi J = M_tells_L130 F F (iN m) (iN k) (J 35 (6 * l + m)) (J 34 (6 * l + m)) J9 := by
    have hst2 : M_stepsOf (uJ (uJ J 45 0 (iN s)) 45 1 (J 48 (6 + 6 * k + s))) (iN k) = some (iN (xs X k)) := (hJ.fo hX (by rw [uJ_o (by omega), uJ_o (by omega)]) (fun o a1 a2 => by rw [uJ_o (by omega), uJ_o (by omega)])).steps hX hk
    simp (disch := omega) only [M_tells, i_42, i_6, i_0, i_1, i_2, i_3, i_4, i_5, iN_add, iN_mul, ldI_n, stI_n, j1, hJ.lv, uJ_o, j2, Option.bind_some, hst2, lt_e]
    rfl
  rw [hM]
  cases hlaw : X.2.2 m with
  | none =>
    rw [hlaw] at q5 w4
    have q5 : T.2.2.1 (e 4 m) 4 = none := q5
    have w4 : J 34 (6 * l + m) = J 35 (6 * l + m) := w4
    refine ⟨s, C, J9, hs, ?_, ?_, fun _ _ _ => rfl, fun o h1 h2 h3 => h9o o h1 h3, h90⟩
    · simp only [P_next, hT.r4, Option.bind_some, hT.g4 hm, hT.cm hm, hT.m4 hm, q5, rC, c2]
    · rw [w4]
      obtain ⟨g, rfl⟩ : ∃ g, F = g + 1 := ⟨F - 1, by omega⟩
      have e54 : J9 54 m = iN s := by rw [h9o 54 (by omega) (by omega)]; exact j2
      simp (disch := omega) only [M_tells_L130, M_tells_B130, Int32.le_refl, if_true, ldI_n, e54]
  | some L =>
    rw [hlaw] at q5 w4
    obtain ⟨a, p0, p1, p2, q6, hq⟩ := q5
    obtain ⟨q, w5, w6, hw⟩ := w4
    have hC : lwC T a p0 p1 p2 L := hq
    have hMw : lwM J9 l q L := by
      have h := lwJ.fr (J1 := J9) (show lwJ J l (iN q) (iN (q + L.1.length + 1)) (some L) from ⟨q, rfl, rfl, hw⟩) (fun o i ho => by
        by_cases c : o = 0
        · subst c
          have hi : i = 18 := by simpa [lv_] using ho
          subst hi
          exact h90 18 (by omega)
        · have h1 : o ≠ 45 := by
            rintro rfl
            exact absurd ho (by simp [lv_])
          rw [h9o o h1 c])
      obtain ⟨q', z1, z2, z3, z4, z5⟩ := h
      have hqq : q = q' := by
        obtain ⟨u1, u2, _⟩ := hw
        rw [iN_eq (by omega) (by omega)] at z1
        exact z1
      subst hqq
      exact ⟨z3, z4, z5⟩
    rw [w5, w6]
    let C9 := uJ (uJ (uJ (uJ (uJ (uJ (uJ C 32 0 (iN s)) 32 1 (C (2 + k) s)) 32 2 (iN (xs X k))) 32 3 mi) 32 4 (C 8 k)) 32 5 (C 12 m)) 31 1 0
    have c9o : ∀ o, o ≠ 31 → o ≠ 32 → C9 o = C o := fun o h1 h2 => by
      show uJ (uJ (uJ (uJ (uJ (uJ (uJ C 32 0 (iN s)) 32 1 (C (2 + k) s)) 32 2 (iN (xs X k))) 32 3 mi) 32 4 (C 8 k)) 32 5 (C 12 m)) 31 1 0 o = C o
      rw [uJ_o h1, uJ_o h2, uJ_o h2, uJ_o h2, uJ_o h2, uJ_o h2, uJ_o h2]
    have hP : ∀ f : Int32 × Ji → Option (Int32 × Ji), P_next F T m tx (iN m) mi C = (C_Law_of_L7 F T F a 0 C9).bind fun r24 => some (r24.1, r24.2) := by
      intro f
      simp (disch := omega) only [P_next, hT.r4, Option.bind_some, hT.g4 hm, hT.cm hm, hT.m4 hm, q6, rC, i_0, i_1, i_2, i_3, i_4, i_5, stI_n, uJ_o, c1, c2, ix_n, ldI_n, hT.r3, hT.g3 hk, hT.ck hk, hT.k3 hk, hT.ksz hk, dC_p hC.1, C_Law_of, lt_e]
      rfl
    rw [hP (fun _ => none)]
    obtain ⟨r, C1, J1, v1, v2, v3, v4, v5⟩ := lw_run (F := F) (mm := m) hF hX hC hk hs (by omega) F 0 C9 J9 (by have := hC.2.2.1; omega) (by omega) hJ9 hMw (fun k' hk' => by
        have e0 : (show Ji from C9) 32 k' = uJ (uJ (uJ (uJ (uJ (uJ C 32 0 (iN s)) 32 1 (C (2 + k) s)) 32 2 (iN (xs X k))) 32 3 mi) 32 4 (C 8 k)) 32 5 (C 12 m) 32 k' := by
          show uJ (uJ (uJ (uJ (uJ (uJ (uJ C 32 0 (iN s)) 32 1 (C (2 + k) s)) 32 2 (iN (xs X k))) 32 3 mi) 32 4 (C 8 k)) 32 5 (C 12 m)) 31 1 0 32 k' = _
          rw [uJ_o (by omega)]
        have e1 : (show Ji from J9) 45 k' = uJ (uJ (uJ (uJ (uJ (uJ J 45 0 (iN s)) 45 1 (J 48 (6 + 6 * k + s))) 45 2 (iN (xs X k))) 45 3 mi) 45 4 (J 48 k)) 45 5 (J 55 m) 45 k' := by
          show uJ (uJ (uJ (uJ (uJ (uJ (uJ J 45 0 (iN s)) 45 1 (J 48 (6 + 6 * k + s))) 45 2 (iN (xs X k))) 45 3 mi) 45 4 (J 48 k)) 45 5 (J 55 m)) 0 63 0 45 k' = _
          rw [uJ_o (by omega)]
        have : k' = 0 ∨ k' = 1 ∨ k' = 2 ∨ k' = 3 ∨ k' = 4 ∨ k' = 5 := by omega
        show C9 32 k' = J9 45 k'
        rw [e0, e1]
        rcases this with rfl | rfl | rfl | rfl | rfl | rfl <;> simp (disch := omega) only [uJ_ss, uJ_sn, hd, hst, ht]) uJ_ss uJ_ss (by
        show uJ (uJ (uJ (uJ (uJ (uJ (uJ C 32 0 (iN s)) 32 1 (C (2 + k) s)) 32 2 (iN (xs X k))) 32 3 mi) 32 4 (C 8 k)) 32 5 (C 12 m)) 31 1 0 32 2 = _
        simp (disch := omega) only [uJ_o, uJ_ss, uJ_sn]) (by
        show uJ (uJ (uJ (uJ (uJ (uJ (uJ C 32 0 (iN s)) 32 1 (C (2 + k) s)) 32 2 (iN (xs X k))) 32 3 mi) 32 4 (C 8 k)) 32 5 (C 12 m)) 31 1 0 32 0 = _
        simp (disch := omega) only [uJ_o, uJ_ss, uJ_sn]) (by rw [h9o 54 (by omega) (by omega)]; exact j2)
    rw [Nat.add_zero] at v3
    rw [← i_0] at v2
    rw [v2]
    exact ⟨r, C1, J1, v1, rfl, v3, fun o h1 h2 => by rw [v4 o h1, c9o o h1 h2], fun o h1 h2 h3 => by rw [v5.1 o h2 h3, h9o o h1 h3], fun i hi => by rw [v5.2 i hi, h90 i hi]⟩
end NX
