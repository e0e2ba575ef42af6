/-! PURE LAW 55: a unit of an expression is read -/
set_option maxRecDepth 100000
section UO
variable {g nc F N o : Nat} {P E : Nat → Nat} {K : Jl} {J0 : Ji} {Xp : Jr} {sm : Ji → Th → Ro}
/-- the close of what was opened -/
theorem u_close (hF : 2100 ≤ F) (hg : g < 2) (ho : o < 6) {a1 n1 m1 : Nat} {Q1 J1 : Ji} {T1 : Th} {W pe : List Nat} {c ce : Br} (hW : W.length ≤ 3 * o + 2) (s4 : PT N P E a1 (o + 1) Q1 J1 K) (s5 : ES g nc J0 J1 (c ++ ce) (W ++ [6] ++ pe)) (s6 : pe.length ≤ 2 ∧ ∀ w, w ∈ pe → isOp w) (s7 : ∀ k, isOp k → J1 3 a1 ≠ iN k) (s11 : F + (o + 1) ≤ m1 + 6) (s13 : nc + (c ++ ce).length + (W ++ [6] ++ pe).length ≤ a1) :
    (∃ Q2 J2, R_sign Xp 41 Q1 T1 = some (.inr (Q2, T1)) ∧ M_expression_L96 F (M_expression_L12 F n1) m1 (iN 0) J1 = M_expression_L96 F (M_expression_L12 F n1) (m1 - 1) (iN 0) J2 ∧ PT N P E (a1 + 1) o (uJ Q2 9 4 (Q2 9 4 - 1)) J2 K ∧ ES g nc J0 J2 (c ++ (ce ++ emis pe)) W ∧ qF Q1 (uJ Q2 9 4 (Q2 9 4 - 1)) ∧ (uJ Q2 9 4 (Q2 9 4 - 1)) 9 5 = Q1 9 5 ∧ nc + (c ++ (ce ++ emis pe)).length + W.length ≤ a1 + 1) ∨ (∃ Q2 J2, R_sign Xp 41 Q1 T1 = some (.inl (Q2, Xp, T1)) ∧ M_expression_L96 F (M_expression_L12 F n1) m1 (iN 0) J1 = some J2 ∧ FT Q2 J2 ∧ (FrJ g J0 J2 ∧ J2 0 49 = J0 0 49) ∧ qF Q1 Q2) := by
  have hNN := s4.n
  have haN := s4.2.1
  obtain ⟨m, rfl⟩ : ∃ m', m1 = m' + 1 + 1 := ⟨m1 - 2, by omega⟩
  have hlen : (W ++ [6] ++ pe).length = W.length + 1 + pe.length := by simp; omega
  have hlc : (c ++ ce).length = c.length + ce.length := List.length_append
  have hl6 : (W ++ [6]).length = W.length + 1 := by simp
  have hst : ∀ w, w ∈ pe → isOp w ∧ ¬ stp 0 w := fun w hw => ⟨s6.2 w hw, fun hs => by
    rcases hs with hs | hs
    · rcases s6.2 w hw with h | h | h | h <;> omega
    · exact hs.1 rfl⟩
  have e12 : J1 0 12 = iN (o + 1) := s4.2.2.2.2.2.1.2.2
  have hop : ¬ J1 0 12 ≤ iN 0 := by rw [e12, iN_le (by omega) (by omega)]; omega
  have hL : M_expression_L96 F (M_expression_L12 F n1) (m + 1 + 1) (iN 0) J1 = M_expression_B96 F (M_expression_L12 F n1) (M_expression_L96 F (M_expression_L12 F n1) (m + 1)) (iN 0) J1 := rfl
  rw [hL, show m + 1 + 1 - 1 = m + 1 from rfl]
  rcases p_iss (Xp := Xp) (T := T1) s4 (c := 41) (k := 7) (Or.inr (Or.inr (Or.inr (Or.inl ⟨rfl, rfl⟩)))) with ⟨i1, i2, i3, i4, i5⟩ | ⟨i1, i2, i3, i4⟩
  · have i2' : M_is J1 7 = some 1 := i2
    obtain ⟨J2, q1, q2, q3⟩ := co_ok (F := F) (s := 0) (W := W ++ [6]) (p := pe) hF hg (Or.inr ⟨W, 6, rfl, Or.inl rfl⟩) s5 (by omega) (by omega) hst
    obtain ⟨r1, r2, r3, r4⟩ := q2.pop (by omega)
    obtain ⟨J3, hJ3⟩ : ∃ J3, J3 = uJ J2 0 60 (iN W.length) := ⟨_, rfl⟩
    rw [← hJ3] at r3 r4
    have hP3 : PT N P E a1 (o + 1) Q1 J3 K := (q3.tr r4).pt s4
    have hP4 := hP3.op (o' := o) (by omega)
    obtain ⟨J4, hJ4⟩ : ∃ J4, J4 = uJ J3 0 12 (iN o) := ⟨_, rfl⟩
    rw [← hJ4] at hP4
    have j4 : jF J3 J4 := by rw [hJ4]; exact jF.u (by omega) (by omega)
    have hB : M_expression_B96 F (M_expression_L12 F n1) (M_expression_L96 F (M_expression_L12 F n1) (m + 1)) (iN 0) J1 = (M_goesOn J4).bind fun r14 => M_expression_L96 F (M_expression_L12 F n1) (m + 1) (iN 0) r14 := by
      unfold M_expression_B96
      rw [i2', Option.bind_some, if_neg (show ¬ (1 : Int32) = 0 by decide), if_neg hop, q1, Option.bind_some, lt_e, r1, show iN (W.length + 1) - 1 = iN W.length by rw [i_1, iN_sub (by omega)]; rfl, ← hJ3, lt_e, hP3.2.2.2.2.2.1.2.2, show iN (o + 1) - 1 = iN o by rw [i_1, iN_sub (by omega)]; rfl, ← hJ4]
    rw [hB, m_go hP4.2.2.2.1 (by omega)]
    by_cases c4 : a1 = 400
    · obtain ⟨Q2, J5, f1, f2, f3, f4, f5, f6⟩ := p_wrong (T := T1) hP3 (w := 2) (by omega) (by omega)
      obtain ⟨Q3, J6, g1, g2, g3, g4, g5, g6⟩ := p_wrong (T := T1) hP4 (w := 2) (by omega) (by omega)
      have f1' : R_wrong T1 2 Q1 = some Q2 := f1
      have g2' : M_fail 2 J4 = some J6 := g2
      have hft : FT Q2 J6 := ⟨2, P a1, f3.1, f3.2.1, f3.2.2.1, f3.2.2.2.1, f3.2.2.2.2.1, g3.2.2.2.2.2.1, g3.2.2.2.2.2.2⟩
      have hle : ((c ++ ce) ++ emis pe).length = c.length + ce.length + pe.length := by rw [List.length_append, emis_l, hlc]
      obtain ⟨J7, k1, k2, k3, k4⟩ := FM.l96 (k12 := M_expression_L12 F n1) (m := m) hF hg hft.fm ((r3.jf j4).jf g5) (by omega) (by omega)
      right
      refine ⟨Q2, J7, ?_, ?_, k2.ft hft, ⟨k3, k4⟩, f4⟩
      · unfold R_sign
        simp only [xb, i1, Option.bind_some, if_neg (show ¬ (1 : Int32) = 0 by decide), r_ps (T := T1) (Xp := Xp) s4.2.2.1 (show a1 ≤ 400 by omega), if_pos c4, f1']
      · rw [if_pos c4, g2', Option.bind_some, k1]
    · left
      rcases p_pass (Xp := Xp) (T := T1) hP4 ⟨by rw [uJ_o (by omega), i3]; decide, by rw [uJ_o (by omega), i3]; decide⟩ with ⟨Q5, J8, t1, t2, t3, t4, t5, t6, t7⟩ | ⟨Q5, J8, t1, t2, t3, t4, t5, t6⟩
      · have hQe : uJ (uJ Q1 9 3 (iN (a1 + 1))) 9 4 ((uJ Q1 9 3 (iN (a1 + 1))) 9 4 - 1) = Q5 := by
          rw [t6, uJ_sn (by omega), s4.2.2.2.2.2.1.2.1, show iN (o + 1) - 1 = iN o by rw [i_1, iN_sub (by omega)]; rfl]
          funext p i
          rw [uJ_ap, uJ_ap, uJ_ap, uJ_ap]
          by_cases d1 : p = 9 ∧ i = 4
          · rw [if_pos d1, if_neg (by omega), if_pos d1]
          · rw [if_neg d1, if_neg d1]
        refine ⟨uJ Q1 9 3 (iN (a1 + 1)), J8, ?_, ?_, by rw [hQe]; exact t3, ?_, ?_, ?_, ?_⟩
        · unfold R_sign
          simp only [xb, i1, Option.bind_some, if_neg (show ¬ (1 : Int32) = 0 by decide), r_ps (T := T1) (Xp := Xp) s4.2.2.1 (show a1 ≤ 400 by omega), if_neg c4]
        · rw [if_neg c4, Option.bind_some, t7]
        · rw [← List.append_assoc]
          exact (r3.jf j4).jf t5
        · rw [hQe]; exact (qF.u9 (by omega) (by omega)).tr t4
        · rw [hQe, t6, uJ_sn (by omega), uJ_sn (by omega)]
        · rw [List.length_append, List.length_append, emis_l]; omega
      · exfalso
        rw [m_go hP4.2.2.2.1 (by omega), if_neg c4] at t2
        have t8 := Option.some.inj t2
        have t9 := t3.2.2.2.2.2.1
        rw [← t8, uJ_sn (by omega), hP4.2.2.2.2.1] at t9
        exact absurd t9 (by decide)
  · have i2' : M_is J1 7 = some 0 := i2
    right
    obtain ⟨Q2, J2, f1, f2, f3, f4, f5, f6⟩ := p_wrong (T := T1) s4 (w := 1) (by omega) (by omega)
    have f1' : R_wrong T1 1 Q1 = some Q2 := f1
    have f2' : M_fail 1 J1 = some J2 := f2
    obtain ⟨J3, k1, k2, k3, k4⟩ := co_anE hF hg (s5.jf f5) (by omega) (by omega)
    have hft : FT Q2 J2 := ⟨_, _, f3⟩
    have mz : ∀ k, J1 3 a1 ≠ iN k → M_is J1 (iN k) = some 0 := fun k hk => by rw [m_is s4 (iN k), if_neg hk]
    have e8 : M_is J1 8 = some 0 := mz 8 (s7 8 (Or.inl rfl))
    have e9 : M_is J1 9 = some 0 := mz 9 (s7 9 (Or.inr (Or.inl rfl)))
    have e10 : M_is J1 10 = some 0 := mz 10 (s7 10 (Or.inr (Or.inr (Or.inl rfl))))
    have e15 : M_is J1 15 = some 0 := mz 15 (s7 15 (Or.inr (Or.inr (Or.inr rfl))))
    refine ⟨Q2, J3, ?_, ?_, k2.ft hft, ⟨k3, k4⟩, f4⟩
    · unfold R_sign
      simp only [xb, i1, Option.bind_some, if_true, f1']
    · simp only [M_expression_B96, M_expression_B145, M_expression_B186, M_expression_B204, i2', e8, e9, e10, e15, Option.bind_some, if_true, if_neg hop, f2', k1]
/-- a unit -/
theorem u_ok (hF : 2100 ≤ F) (hg : g < 2) (ho : o ≤ 6) (hin : o < 6 → OpS g nc F N P E K J0 Xp (o + 1) tpS (3 * (o + 1)) 2 isOp isOp sm) : OpS g nc F N P E K J0 Xp o (fun _ => True) (3 * o + 2) 0 (fun _ => False) (fun _ => False) (gU F sm Xp) := by
  intro a Q J T W c n m hP hE _ hW hc hn hm hH
  obtain ⟨m, rfl⟩ : ∃ m', m = m' + 1 := ⟨m - 1, by omega⟩
  have hNN := hP.n
  have ha := hP.2.1
  have n10 : ¬ (1 : Int32) = 0 := by decide
  have hL : M_expression_L23 F (M_expression_L12 F n) (m + 1) (iN 0) J = M_expression_B23 F (M_expression_L12 F n) (M_expression_L23 F (M_expression_L12 F n) m) (iN 0) J := rfl
  rw [hL]
  have h49 : J 0 49 = J0 0 49 := hE.2.2.2.2.1 49 (by omega) (by omega) (by omega)
  rcases p_iss (Xp := Xp) (T := T) hP (c := 40) (k := 6) (Or.inr (Or.inr (Or.inl ⟨rfl, rfl⟩))) with ⟨i1, i2, i3, i4, i5⟩ | ⟨i1, i2, i3, i4⟩
  · have i2' : M_is J 6 = some 1 := i2
    have hs : R_sort Xp Q T = some (.inr (iN 2, Q, T)) := by
      rcases r_sort (Xp := Xp) (T := T) hP with ⟨q1, q2⟩ | ⟨q1, _⟩
      · rw [q2, i3]
      · rw [i3] at q1; exact absurd q1 (by decide)
    have hC0 : gU F sm Xp Q T = gB87 sm Xp Q T := by
      simp only [gU, xb, hs, Option.bind_some, if_neg (show ¬ iN 2 = 1 by decide), if_neg (show ¬ iN 2 = 3 by decide)]
    rw [hC0]
    have e94 : Q 9 4 = iN o := hP.2.2.2.2.2.1.2.1
    have e012 : J 0 12 = iN o := hP.2.2.2.2.2.1.2.2
    by_cases c6 : o = 6
    · right
      obtain ⟨Q2, J2, f1, f2, f3, f4, f5, f6⟩ := p_wrong (T := T) hP (w := 2) (by omega) (by omega)
      have f1' : R_wrong T 2 Q = some Q2 := f1
      have f2' : M_fail 2 J = some J2 := f2
      have hft : FT Q2 J2 := ⟨_, _, f3⟩
      obtain ⟨m', rfl⟩ : ∃ m', m = m' + 1 := ⟨m - 1, by omega⟩
      obtain ⟨J9, b1, b2, b3, b4, b5⟩ := FM.b46 (F := F) (k12 := M_expression_L12 F n) (k23 := M_expression_L23 F (M_expression_L12 F n) (m' + 1)) (x := iN 0) g hft.fm (hE.jf f5).1.1 (by omega)
      have hft9 : FT Q2 J9 := by
        obtain ⟨w, p, z1, z2, z3, z4, z5, z6, z7⟩ := hft
        exact ⟨w, p, z1, z2, z3, z4, z5, by rw [b2]; exact z6, by rw [b3]; exact z7⟩
      refine ⟨Q2, T, J9, ?_, ?_, hft9, ⟨((hE.jf f5).2.2.2.2.2.1).tr b4, by rw [b5, f5.2 49 (by omega), h49]⟩, f4, ExN.rf⟩
      · simp only [gB87, xb, i1, Option.bind_some, if_neg n10, e94, c6, if_pos (show iN 6 = 6 by decide), f1']
      · unfold M_expression_B23
        rw [i2', Option.bind_some, if_neg n10, if_pos (by rw [e012, c6]; rfl), f2', Option.bind_some, b1, hft9.fm.l23]
    · have ho6 : o < 6 := by omega
      have hne : ¬ iN o = 6 := by rw [show (6 : Int32) = iN 6 from rfl, iN_eq (by omega) (by omega)]; omega
      have e1 : iN o + 1 = iN (o + 1) := by rw [i_1, iN_add]
      have hP1 := hP.op (o' := o + 1) (by omega)
      obtain ⟨J1, hJ1⟩ : ∃ J1, J1 = uJ J 0 12 (iN (o + 1)) := ⟨_, rfl⟩
      rw [← hJ1] at hP1
      have j1 : jF J J1 := by rw [hJ1]; exact jF.u (by omega) (by omega)
      have hE1 := hE.jf j1
      have hB : M_expression_B23 F (M_expression_L12 F n) (M_expression_L23 F (M_expression_L12 F n) m) (iN 0) J = (M_goesOn J1).bind fun r7 => stI r7 44 64 (r7 0 60) 6 fun J8 => lt_ (uJ J8 0 60 ((J8 0 60) + 1)) fun J9 => M_expression_L23 F (M_expression_L12 F n) m (iN 0) J9 := by
        unfold M_expression_B23 M_expression_B46
        rw [i2', Option.bind_some, if_neg n10, if_neg (by rw [e012]; exact hne), lt_e, e012, e1, ← hJ1]
      rw [hB]
      have q1 : qF Q (uJ Q 9 4 (iN (o + 1))) := qF.u9 (by omega) (by omega)
      rcases p_pass (Xp := Xp) (T := T) hP1 ⟨by rw [uJ_o (by omega), i3]; decide, by rw [uJ_o (by omega), i3]; decide⟩ with ⟨Q5, J8, t1, t2, t3, t4, t5, t6, t7⟩ | ⟨Q5, J8, t1, t2, t3, t4, t5, t6⟩
      · have hE8 := hE1.jf t5
        rw [t2, Option.bind_some]
        have hpu := hE8.push (k := 6) (by omega) (fun J9 => M_expression_L23 F (M_expression_L12 F n) m (iN 0) J9)
        have hpu' : (stI J8 44 64 (J8 0 60) 6 fun J8 => lt_ (uJ J8 0 60 ((J8 0 60) + 1)) fun J9 => M_expression_L23 F (M_expression_L12 F n) m (iN 0) J9) = _ := hpu
        rw [hpu']
        obtain ⟨hE9, hF9⟩ := hE8.push2 (k := 6) (by omega) (Or.inl rfl)
        obtain ⟨J9, hJ9⟩ : ∃ J9, J9 = uJ (uJ J8 44 W.length (iN 6)) 0 60 (iN (W.length + 1)) := ⟨_, rfl⟩
        rw [← hJ9] at hE9 hF9 ⊢
        have hlW : (W ++ [6]).length = W.length + 1 := by simp
        rcases hin ho6 (a + 1) Q5 J9 T (W ++ [6]) c n m (hF9.pt t3) hE9 (Or.inr ⟨W, rfl⟩) (by omega) (by omega) (by omega) (by omega) ⟨hH.1, hH.2.1, by have := hH.2.2.1; omega, by have := hH.2.2.2; omega⟩ with ⟨x, a1, Q1, T1, J10, ce, pe, n1, m1, s1, s2, s3, s4, s5, s6, s7, s8, s9, s10, s11, s12, s13⟩ | ⟨Q1, T1, J10, s1, s2, s3, s4, s5, s6⟩
        · rw [s2]
          have haN1 := s4.2.1
          rcases u_close (Xp := Xp) (T1 := T1) (n1 := n1) hF hg ho6 hW s4 s5 s6 s7 s11 s13 with ⟨Q2, J2, v1, v2, v3, v4, v5, v6, v7⟩ | ⟨Q2, J2, v1, v2, v3, v4, v5⟩
          · left
            refine ⟨x, a1 + 1, uJ Q2 9 4 (Q2 9 4 - 1), T1, J2, ce ++ emis pe, [], n1, m1 - 1, ?_, v2, by omega, v3, by rw [List.append_nil]; exact v4, ⟨by simp, fun w hw => by cases hw⟩, fun k hk => hk.elim, ?_, ⟨s9.1, by have := s9.2.1; omega, by have := s9.2.2; omega⟩, by omega, by omega, ⟨((q1.tr t4).tr s12.1).tr v5, ?_⟩, by rw [List.append_nil]; exact v7⟩
            · simp only [gB87, xb, i1, Option.bind_some, if_neg n10, e94, if_neg hne, lt_e, e1, t1, s1, v1]
            · rw [show emis [] = [] from rfl, List.append_nil]
              exact Nd.mo _ _ _ _ (by omega) s8
            · rw [v6, s12.2, t6, uJ_sn (by omega), uJ_sn (by omega)]
          · right
            refine ⟨Q2, T1, J2, ?_, v2, v3, v4, ((q1.tr t4).tr s12.1).tr v5, s9.1⟩
            simp only [gB87, xb, i1, Option.bind_some, if_neg n10, e94, if_neg hne, lt_e, e1, t1, s1, v1]
        · right
          refine ⟨Q1, T1, J10, ?_, s2, s3, s4, (q1.tr t4).tr s5, s6⟩
          simp only [gB87, xb, i1, Option.bind_some, if_neg n10, e94, if_neg hne, lt_e, e1, t1, s1]
      · right
        have hft : FT Q5 J8 := ⟨_, _, t3⟩
        have hE8 := hE1.jf t5
        obtain ⟨m', rfl⟩ : ∃ m', m = m' + 1 := ⟨m - 1, by omega⟩
        rw [t2, Option.bind_some]
        have hpu := hE8.push (k := 6) (by omega) (fun J9 => M_expression_L23 F (M_expression_L12 F n) (m' + 1) (iN 0) J9)
        have hpu' : (stI J8 44 64 (J8 0 60) 6 fun J8 => lt_ (uJ J8 0 60 ((J8 0 60) + 1)) fun J9 => M_expression_L23 F (M_expression_L12 F n) (m' + 1) (iN 0) J9) = _ := hpu
        rw [hpu']
        obtain ⟨hE9, hF9⟩ := hE8.push2 (k := 6) (by omega) (Or.inl rfl)
        have hft9 := hF9.ft hft
        refine ⟨Q5, T, _, ?_, hft9.fm.l23, hft9, ⟨hE9.2.2.2.2.2.1, hE9.2.2.2.2.1 49 (by omega) (by omega) (by omega)⟩, q1.tr t4, ExN.rf⟩
        simp only [gB87, xb, i1, Option.bind_some, if_neg n10, e94, if_neg hne, lt_e, e1, t1]
  · have i2' : M_is J 6 = some 0 := i2
    have hB : M_expression_B23 F (M_expression_L12 F n) (M_expression_L23 F (M_expression_L12 F n) m) (iN 0) J = (M_unit J).bind fun r4 => if (r4 0 13) ≤ 0 then M_expression_L96 F (M_expression_L12 F n) F (iN 0) r4 else some r4 := by
      unfold M_expression_B23
      rw [i2', Option.bind_some, if_pos rfl]
    rw [hB]
    obtain ⟨T3, hT3⟩ : ∃ T3 : Nat → Th, T3 = fun ci => tNew T (.inl ci) 1 := ⟨_, rfl⟩
    have hnO : ∀ (ci : Nat) {α : Type} (f : Th → Option α), nO T ci 1 f = f (tNew T (.inl ci) 1) := fun ci {α} f => nO_p (by have := hH.2.2.1; omega) (by have := hH.2.2.2; omega)
    have kk : ∀ ci, (tNew T (.inl ci) 1).1 (tN T) = some (.inl ci) := fun ci => by rw [tNew_1, if_pos rfl]
    have exT : ∀ (ci : Nat) (v : Int32), ExT T (tI (tNew T (.inl ci) 1) (tN T) 0 v) a (a + 1) := fun ci v => ⟨ExN.new.wI (Nat.le_refl _), by show tN T + 1 ≤ _; omega, by show tZ T + 1 ≤ _; omega⟩
    have bad : ∀ k, J 3 a = iN k → k ≠ 2 → k < 35 → gU F sm Xp Q T = ((R_wrong T 1 Q).bind fun r13 => some (.inl (r13, Xp, T)) : Ro) → (∃ Q1 T1 J1, gU F sm Xp Q T = some (.inl (Q1, Xp, T1)) ∧ ((M_unit J).bind fun r4 => if (r4 0 13) ≤ 0 then M_expression_L96 F (M_expression_L12 F n) F (iN 0) r4 else some r4) = some J1 ∧ FT Q1 J1 ∧ (FrJ g J0 J1 ∧ J1 0 49 = J0 0 49) ∧ qF Q Q1 ∧ ExN T T1) := fun k k1 k2 k3 hC => by
      obtain ⟨Q2, J2, f1, f2, f3, f4, f5, f6⟩ := p_wrong (T := T) hP (w := 1) (by omega) (by omega)
      have f1' : R_wrong T 1 Q = some Q2 := f1
      have f2' : M_fail 1 J = some J2 := f2
      have hft : FT Q2 J2 := ⟨_, _, f3⟩
      exact ⟨Q2, T, J2, by rw [hC, f1', Option.bind_some], by rw [m_bad hP k1 k2 k3, f2', Option.bind_some, if_neg hft.n0.2.1], hft, ⟨(hE.jf f5).2.2.2.2.2.1, by rw [f5.2 49 (by omega), h49]⟩, f4, ExN.rf⟩
    have h87 : gB87 sm Xp Q T = ((R_wrong T 1 Q).bind fun r13 => some (.inl (r13, Xp, T)) : Ro) := by
      simp only [gB87, xb, i1, Option.bind_some, if_true]
    rcases r_sort (Xp := Xp) (T := T) hP with ⟨q1, q2⟩ | ⟨q1, Q2, J2, f1, f2, f3, f4, f5, f6⟩
    · rcases tr_kind hP.tr with ⟨z1, z2⟩ | ⟨z1, z2⟩ | ⟨z1, z2⟩ | ⟨z1, w, z2, z3, z4⟩ | ⟨z1, z2⟩ | ⟨z1, z2⟩
      · right
        refine bad 1 z2 (by omega) (by omega) ?_
        rw [z1] at q2
        simp only [gU, xb, q2, Option.bind_some, if_neg (show ¬ iN 0 = 1 by decide), if_neg (show ¬ iN 0 = 3 by decide), h87]
      · -- a number
        rw [z1] at q2
        obtain ⟨v, v1, v2, v3, v4, v5, v6, v7⟩ := hP.num z1
        obtain ⟨J2, e1, e2, e3⟩ := hE.emit hg (k := 0) (v := iN v) (by omega)
        have hMu : M_unit J = (M_goesOn J2).bind fun r9 => some r9 := by
          unfold M_unit
          have e0 : M_is J 2 = some 1 := by rw [m_is hP 2, if_pos (show J 3 a = 2 from z2)]
          rw [e0, Option.bind_some, if_neg n10, hP.2.2.2.1, ldI_n (by omega) (by omega), v2]
          have e1' : M_emit 0 (iN v) J = some J2 := e1
          rw [e1', Option.bind_some]
        rw [hMu]
        rcases p_pass (Xp := Xp) (T := T) (e3.pt hP) ⟨by rw [z1]; decide, by rw [z1]; decide⟩ with ⟨Q5, J8, t1, t2, t3, t4, t5, t6, t7⟩ | ⟨Q5, J8, t1, t2, t3, t4, t5, t6⟩
        · left
          rw [t2, Option.bind_some, Option.bind_some, if_pos (by rw [t3.2.2.2.2.1]; decide)]
          have hnum : T_number F Q5 (tNew T (.inl 16) 1) (Q5 9 3 - 1) = some (iN v) := by
            rw [t3.2.2.1, show iN (a + 1) - 1 = iN a by rw [i_1, iN_sub (by omega)]; rfl, nu_ok hF (by omega) v6 v7 (by rw [t6, uJ_o (by omega)]; exact v4) (by rw [t6, uJ_o (by omega)]; exact v5), t6, uJ_o (by omega), v3]
          have hA : A_Number (tN T) (iN v) (tNew T (.inl 16) 1) = some (tI (tNew T (.inl 16) 1) (tN T) 0 (iN v)) := by
            simp only [A_Number, A_Sum_X18, Option.bind_some]
            exact pI_p (kk 16) hH.2.1
          refine ⟨tN T, a + 1, Q5, tI (tNew T (.inl 16) 1) (tN T) 0 (iN v), J8, [(0, iN v)], [], n, F, ?_, rfl, by omega, t3, by rw [List.append_nil]; exact e2.jf t5, ⟨by simp, fun w hw => by cases hw⟩, fun k hk => hk.elim, ?_, exT 16 _, by omega, by omega, ⟨t4, by rw [t6, uJ_sn (by omega)]⟩, by rw [List.append_nil, List.length_append, List.length_singleton]; omega⟩
          · simp only [gU, xb, q2, Option.bind_some, if_pos (show iN 1 = 1 by decide), t1, hnO, hnum, hA]
          · rw [show a + 1 - a = 0 + 1 by omega]
            refine Or.inl ⟨kk 16, ?_⟩
            show [(0, iN v)] = [(0, (tI (tNew T (.inl 16) 1) (tN T) 0 (iN v)).2.1 (tN T) 0)]
            rw [tI_2, if_pos ⟨rfl, rfl⟩]
        · right
          have hft : FT Q5 J8 := ⟨_, _, t3⟩
          refine ⟨Q5, T, J8, ?_, by rw [t2, Option.bind_some, Option.bind_some, if_neg hft.n0.2.1], hft, ⟨(e2.jf t5).2.2.2.2.2.1, (e2.jf t5).2.2.2.2.1 49 (by omega) (by omega) (by omega)⟩, t4, ExN.rf⟩
          simp only [gU, xb, q2, Option.bind_some, if_pos (show iN 1 = 1 by decide), t1]
      · right
        rw [z1] at q2
        have hkk : ∃ k, J 3 a = iN k ∧ k ≠ 2 ∧ k < 35 := by
          rcases z2 with z | z | z | z | z | z | z | z | z
          · exact ⟨4, z.2, by omega, by omega⟩
          · exact ⟨5, z.2, by omega, by omega⟩
          · exact ⟨6, z.2, by omega, by omega⟩
          · exact ⟨7, z.2, by omega, by omega⟩
          · exact ⟨8, z.2, by omega, by omega⟩
          · exact ⟨9, z.2, by omega, by omega⟩
          · exact ⟨10, z.2, by omega, by omega⟩
          · exact ⟨15, z.2, by omega, by omega⟩
          · exact ⟨13, z.2, by omega, by omega⟩
        obtain ⟨k, k1, k2, k3⟩ := hkk
        refine bad k k1 k2 k3 ?_
        simp only [gU, xb, q2, Option.bind_some, if_neg (show ¬ iN 2 = 1 by decide), if_neg (show ¬ iN 2 = 3 by decide), h87]
      · rw [z1] at q2
        have e15 : (15 : Int32) = iN 15 := rfl
        have hld : ∀ {α : Type} (f : Int32 → Option α), ldI Q 8 2001 (Q 9 3) f = f (iN w) := fun f => by rw [hP.2.2.1, ldI_n (by omega) (by omega), z3]
        by_cases cw : w < 15
        · right
          refine bad (20 + w) z4 (by omega) (by omega) ?_
          simp only [gU, xb, q2, Option.bind_some, if_neg (show ¬ iN 3 = 1 by decide), if_pos (show iN 3 = 3 by decide), hld, if_pos (show iN w < 15 by rw [e15, iN_lt (by omega) (by omega)]; exact cw), h87]
        · -- a variable
          have nw : ¬ iN w < 15 := by rw [e15, iN_lt (by omega) (by omega)]; exact cw
          obtain ⟨J2, e1, e2, e3⟩ := hE.emit hg (k := 1) (v := iN (w - 15)) (by omega)
          have hMu : M_unit J = (M_goesOn J2).bind fun r9 => some r9 := by
            unfold M_unit
            have e0 : M_is J 2 = some 0 := by rw [m_is hP 2, if_neg (by rw [z4, i_2, iN_eq (by omega) (by omega)]; omega)]
            rw [e0, Option.bind_some, if_pos rfl, if_pos (show J 0 13 = 0 from hP.2.2.2.2.1), hP.2.2.2.1, ldI_n (by omega) (by omega), z4, if_neg (show ¬ iN (20 + w) < 35 by rw [show (35 : Int32) = iN 35 from rfl, iN_lt (by omega) (by omega)]; omega), ldI_n (by omega) (by omega), z4, if_neg (show ¬ 40 < iN (20 + w) by rw [show (40 : Int32) = iN 40 from rfl, iN_lt (by omega) (by omega)]; omega), ldI_n (by omega) (by omega), z4, show iN (20 + w) - 35 = iN (w - 15) by rw [show (35 : Int32) = iN 35 from rfl, iN_sub (by omega)]; congr 1; omega]
            have e1' : M_emit 1 (iN (w - 15)) J = some J2 := e1
            rw [e1', Option.bind_some]
          rw [hMu]
          rcases p_pass (Xp := Xp) (T := T) (e3.pt hP) ⟨by rw [z1]; decide, by rw [z1]; decide⟩ with ⟨Q5, J8, t1, t2, t3, t4, t5, t6, t7⟩ | ⟨Q5, J8, t1, t2, t3, t4, t5, t6⟩
          · left
            rw [t2, Option.bind_some, Option.bind_some, if_pos (by rw [t3.2.2.2.2.1]; decide)]
            have hld2 : ∀ {α : Type} (f : Int32 → Option α), ldI Q5 8 2001 (Q5 9 3 - 1) f = f (iN w) := fun f => by
              rw [t3.2.2.1, show iN (a + 1) - 1 = iN a by rw [i_1, iN_sub (by omega)]; rfl, ldI_n (by omega) (by omega), t6, uJ_o (by omega), z3]
            have hA : A_Var (tN T) (iN w - 15) (tNew T (.inl 17) 1) = some (tI (tNew T (.inl 17) 1) (tN T) 0 (iN (w - 15))) := by
              rw [e15, iN_sub (by omega)]
              simp only [A_Var, A_Sum_X19, Option.bind_some]
              exact pI_p (kk 17) hH.2.1
            refine ⟨tN T, a + 1, Q5, tI (tNew T (.inl 17) 1) (tN T) 0 (iN (w - 15)), J8, [(1, iN (w - 15))], [], n, F, ?_, rfl, by omega, t3, by rw [List.append_nil]; exact e2.jf t5, ⟨by simp, fun w hw => by cases hw⟩, fun k hk => hk.elim, ?_, exT 17 _, by omega, by omega, ⟨t4, by rw [t6, uJ_sn (by omega)]⟩, by rw [List.append_nil, List.length_append, List.length_singleton]; omega⟩
            · simp only [gU, xb, q2, Option.bind_some, if_neg (show ¬ iN 3 = 1 by decide), if_pos (show iN 3 = 3 by decide), hld, if_neg nw, t1, hnO, hld2, hA]
            · rw [show a + 1 - a = 0 + 1 by omega]
              refine Or.inr (Or.inl ⟨w - 15, by omega, kk 17, ?_, rfl⟩)
              rw [tI_2, if_pos ⟨rfl, rfl⟩]
          · right
            have hft : FT Q5 J8 := ⟨_, _, t3⟩
            refine ⟨Q5, T, J8, ?_, by rw [t2, Option.bind_some, Option.bind_some, if_neg hft.n0.2.1], hft, ⟨(e2.jf t5).2.2.2.2.2.1, (e2.jf t5).2.2.2.2.1 49 (by omega) (by omega) (by omega)⟩, t4, ExN.rf⟩
            simp only [gU, xb, q2, Option.bind_some, if_neg (show ¬ iN 3 = 1 by decide), if_pos (show iN 3 = 3 by decide), hld, if_neg nw, t1]
      · right
        refine bad 0 z2 (by omega) (by omega) ?_
        rw [z1] at q2
        simp only [gU, xb, q2, Option.bind_some, if_neg (show ¬ iN 4 = 1 by decide), if_neg (show ¬ iN 4 = 3 by decide), h87]
      · exact absurd z1 q1
    · right
      have z2 : J 3 a = iN 3 := (k_sort hP (s := 5) (k := 3) (Or.inr (Or.inr (Or.inr ⟨rfl, rfl⟩)))).1 q1
      have hft : FT Q2 J2 := ⟨_, _, f3⟩
      refine ⟨Q2, T, J2, ?_, by rw [m_bad hP z2 (by omega) (by omega), f2, Option.bind_some, if_neg hft.n0.2.1], hft, ⟨(hE.jf f5).2.2.2.2.2.1, by rw [f5.2 49 (by omega), h49]⟩, f4, ExN.rf⟩
      simp only [gU, xb, f1, Option.bind_some]
end UO
