/-! PURE LAW 16: what is told at once -/
set_option maxRecDepth 100000
theorem i_2000 : (2000 : Int32) = iN 2000 := rfl
theorem i_183 : (183 : Int32) = iN 183 := rfl
section SM
variable {T : Th} {tx : Nat} {X : Xt} {b : Nat → Nat} {e : Nat → Nat → Nat} {l F : Nat} {S Q : Ji} {V : Nat → Ji} {J : Ji}
/-! the tape -/
def Tp (n : Nat) (Q J : Ji) : Prop := Q 2 2 = iN n ∧ J 0 2 = iN n ∧ ∀ i, i < n → Q 4 i = J 1 i ∧ (J 1 i).toInt8.toInt32 = J 1 i
def tpQ (Q Q1 : Ji) : Prop := (∀ o, o ≠ 2 → o ≠ 4 → Q1 o = Q o) ∧ ∀ i, i ≠ 2 → Q1 2 i = Q 2 i
def tpJ (J J1 : Ji) : Prop := (∀ o, o ≠ 0 → o ≠ 1 → J1 o = J o) ∧ ∀ i, i ≠ 2 → J1 0 i = J 0 i
theorem tpJ.tr {J J1 J2 : Ji} (h : tpJ J J1) (h2 : tpJ J1 J2) : tpJ J J2 := ⟨fun o a c => by rw [h2.1 o a c, h.1 o a c], fun i hi => by rw [h2.2 i hi, h.2 i hi]⟩
theorem tpQ.tr {J J1 J2 : Ji} (h : tpQ J J1) (h2 : tpQ J1 J2) : tpQ J J2 := ⟨fun o a c => by rw [h2.1 o a c, h.1 o a c], fun i hi => by rw [h2.2 i hi, h.2 i hi]⟩
def sh8 (c : Nat) : Int32 := if c = 0 then -8 else iN (8 * (c - 1))
theorem ty_L {a : Int32} : ∀ c n n2 k Q J, c ≤ 4 → c < n → c < n2 → k + c ≤ 2000 → Tp k Q J → ∃ Q1 J1, S_typed_L3 F T tx n a (sh8 c) Q = some Q1 ∧ M_put_L3 F n2 a (sh8 c) J = some J1 ∧ Tp (k + c) Q1 J1 ∧ tpQ Q Q1 ∧ tpJ J J1 := by
  intro c
  induction c with
  | zero =>
    intro n n2 k Q J h0 h1 h2 h3 hp
    obtain ⟨n, rfl⟩ : ∃ g, n = g + 1 := ⟨n - 1, by omega⟩
    obtain ⟨n2, rfl⟩ : ∃ g, n2 = g + 1 := ⟨n2 - 1, by omega⟩
    have e0 : sh8 0 < 0 := by decide
    refine ⟨Q, J, ?_, ?_, hp, ⟨fun _ _ _ => rfl, fun _ _ => rfl⟩, ⟨fun _ _ _ => rfl, fun _ _ => rfl⟩⟩
    · simp only [S_typed_L3, S_typed_B3, if_pos e0]
    · simp only [M_put_L3, M_put_B3, if_pos e0]
  | succ c ih =>
    intro n n2 k Q J h0 h1 h2 h3 hp
    obtain ⟨n, rfl⟩ : ∃ g, n = g + 1 := ⟨n - 1, by omega⟩
    obtain ⟨n2, rfl⟩ : ∃ g, n2 = g + 1 := ⟨n2 - 1, by omega⟩
    obtain ⟨p1, p2, p3⟩ := hp
    have e0 : ¬ sh8 (c + 1) < 0 := by
      unfold sh8
      rw [if_neg (by omega), i_0, iN_lt (by omega) (by omega)]
      omega
    have e1 : sh8 (c + 1) + -8 = sh8 c := by
      unfold sh8
      rw [if_neg (by omega)]
      by_cases c0 : c = 0
      · subst c0
        rfl
      · rw [if_neg c0, show (-8 : Int32) = iM 8 from rfl, iN_addm (by omega)]
        congr 1
        omega
    obtain ⟨Q1, J1, u1, u2, u3, u4, u5⟩ := ih n n2 (k + 1) (uJ (uJ Q 4 k (((a >>> (sh8 (c + 1) &&& 31)).toInt8.toInt32).toInt8.toInt32)) 2 2 (iN (k + 1))) (uJ (uJ J 1 k (((a >>> (sh8 (c + 1) &&& 31)).toInt8.toInt32).toInt8.toInt32)) 0 2 (iN (k + 1))) (by omega) (by omega) (by omega) (by omega) ⟨uJ_ss, uJ_ss, fun i hi => by
      rw [uJ_o (show 4 ≠ 2 by omega), uJ_o (show 1 ≠ 0 by omega)]
      by_cases ci : i = k
      · subst ci
        rw [uJ_ss, uJ_ss]
        exact ⟨rfl, by simp⟩
      · rw [uJ_sn ci, uJ_sn ci]
        exact p3 i (by omega)⟩
    refine ⟨Q1, J1, ?_, ?_, by rw [show k + (c + 1) = k + 1 + c by omega]; exact u3, tpQ.tr ⟨fun o o1 o2 => by rw [uJ_o o1, uJ_o o2], fun i hi => by rw [uJ_sn hi, uJ_o (by omega)]⟩ u4, tpJ.tr ⟨fun o o1 o2 => by rw [uJ_o o1, uJ_o o2], fun i hi => by rw [uJ_sn hi, uJ_o (by omega)]⟩ u5⟩
    · rw [← u1]
      simp (disch := omega) only [S_typed_L3, S_typed_B3, if_neg e0, p1, stI_n, lt_e, uJ_o, i_1, iN_add, e1]
    · rw [← u2]
      simp (disch := omega) only [M_put_L3, M_put_B3, if_neg e0, p2, stI_n, lt_e, uJ_o, i_1, iN_add, e1]
theorem ty_1 (hF : 10 ≤ F) {a : Int32} {k : Nat} (hk : k + 4 ≤ 2000) (h : Tp k Q J) : ∃ Q1 J1, S_typed F T tx a Q = some Q1 ∧ M_put F a J = some J1 ∧ Tp (k + 4) Q1 J1 ∧ tpQ Q Q1 ∧ tpJ J J1 := ty_L (F := F) (T := T) (tx := tx) (a := a) 4 F F k Q J (by omega) (by omega) (by omega) hk h
/-- the tape changed, nothing else -/
theorem Cpl.tape (h : Cpl X b e l T tx S Q V J) {Q1 J1 : Ji} (hp : Tpe Q1 J1) (hJ : tpJ J J1) : Cpl X b e l T tx S Q1 V J1 := by
  obtain ⟨h1, h2, h3, ⟨h4, h5⟩, ⟨u, p, p1, p2, p3, p4, p5, p6⟩, h7, ⟨n, n1, n2, n3, n4⟩, _, h10⟩ := h
  refine ⟨h1, h2, h3.fo h1 (hJ.2 18 (by omega)) (fun o a1 a2 => hJ.1 o (by omega) (by omega)), ⟨?_, ?_⟩, ⟨u, p, p1, p2, p3, ?_, p5, fun i hi => ?_⟩, fun s hs => ?_, ⟨n, n1, n2, ?_, fun i hi => ?_⟩, hp, ?_⟩
  · rw [hJ.1 47 (by omega) (by omega)]; exact h4
  · rw [hJ.1 47 (by omega) (by omega)]; exact h5
  · rw [hJ.2 74 (by omega)]; exact p4
  · rw [hJ.1 57 (by omega) (by omega)]; exact p6 i hi
  · rw [hJ.1 61 (by omega) (by omega), hJ.1 62 (by omega) (by omega)]; exact h7 s hs
  · rw [hJ.2 77 (by omega)]; exact n3
  · rw [hJ.1 58 (by omega) (by omega), hJ.1 59 (by omega) (by omega), hJ.1 60 (by omega) (by omega)]; exact n4 i hi
  · rw [hJ.2 17 (by omega)]; exact h10
theorem q_feed (h : Cpl X b e l T tx S Q V J) (hF : 10 ≤ F) (a1 a2 a3 a4 a5 : Int32) : ∃ r Q1 J1, S_feed F T tx a1 a2 a3 a4 a5 Q = some (r, Q1) ∧ M_feed F a1 a2 a3 a4 a5 J = some (r, J1) ∧ Cpl X b e l T tx S Q1 V J1 ∧ tpQ Q Q1 := by
  have h0 := h
  obtain ⟨_, _, _, _, _, _, _, ⟨n, n1, hp⟩, _⟩ := h
  have hp : Tp n Q J := hp
  by_cases c : n + 20 ≤ 2000
  · obtain ⟨Q1, J1, u1, v1, w1, x1, y1⟩ := ty_1 (T := T) (tx := tx) (F := F) (a := a1) hF (by omega) hp
    obtain ⟨Q2, J2, u2, v2, w2, x2, y2⟩ := ty_1 (T := T) (tx := tx) (F := F) (a := a2) hF (by omega) w1
    obtain ⟨Q3, J3, u3, v3, w3, x3, y3⟩ := ty_1 (T := T) (tx := tx) (F := F) (a := a3) hF (by omega) w2
    obtain ⟨Q4, J4, u4, v4, w4, x4, y4⟩ := ty_1 (T := T) (tx := tx) (F := F) (a := a4) hF (by omega) w3
    obtain ⟨Q5, J5, u5, v5, w5, x5, y5⟩ := ty_1 (T := T) (tx := tx) (F := F) (a := a5) hF (by omega) w4
    refine ⟨iN (n + 4 + 4 + 4 + 4 + 4), Q5, J5, ?_, ?_, h0.tape ⟨_, by omega, w5⟩ ((((y1.tr y2).tr y3).tr y4).tr y5), (((x1.tr x2).tr x3).tr x4).tr x5⟩
    · simp (disch := omega) only [S_feed, hp.1, i_20, i_2000, iN_add, iN_le, if_pos c, u1, u2, u3, u4, u5, Option.bind_some, w5.1]
    · simp (disch := omega) only [M_feed, hp.2.1, i_20, i_2000, iN_add, iN_le, if_pos c, v1, v2, v3, v4, v5, Option.bind_some, w5.2.1]
  · refine ⟨-1, Q, J, ?_, ?_, h0, ⟨fun _ _ _ => rfl, fun _ _ => rfl⟩⟩
    · simp (disch := omega) only [S_feed, hp.1, i_20, i_2000, iN_add, iN_le, if_neg c]
    · simp (disch := omega) only [M_feed, hp.2.1, i_20, i_2000, iN_add, iN_le, if_neg c]
theorem q_back (h : Cpl X b e l T tx S Q V J) (a : Int32) : ∃ r Q1 J1, S_back T tx a Q = some (r, Q1) ∧ M_back a J = some (r, J1) ∧ Cpl X b e l T tx S Q1 V J1 ∧ tpQ Q Q1 := by
  have h0 := h
  obtain ⟨_, _, _, _, _, _, _, ⟨n, n1, p1, p2, p3⟩, _⟩ := h
  by_cases c0 : a < 0
  · exact ⟨-1, Q, J, by simp only [S_back, if_pos c0], by simp only [M_back, if_pos c0], h0, ⟨fun _ _ _ => rfl, fun _ _ => rfl⟩⟩
  · obtain ⟨k, hk, rfl⟩ := nn_iN c0
    by_cases c : k ≤ n
    · refine ⟨iN (n - k), uJ Q 2 2 (iN (n - k)), uJ J 0 2 (iN (n - k)), ?_, ?_, h0.tape ⟨n - k, by omega, uJ_ss, uJ_ss, fun i hi => ?_⟩ ⟨fun o o1 _ => uJ_o o1, fun i hi => uJ_sn hi⟩, ⟨fun o o1 _ => uJ_o o1, fun i hi => uJ_sn hi⟩⟩
      · simp (disch := omega) only [S_back, if_neg c0, p1, iN_le, if_pos c, iN_sub, lt_e, uJ_ss]
      · simp (disch := omega) only [M_back, if_neg c0, p2, iN_le, if_pos c, iN_sub, lt_e, uJ_ss]
      · rw [uJ_o (by omega), uJ_o (by omega)]
        exact p3 i (by omega)
    · refine ⟨-1, Q, J, ?_, ?_, h0, ⟨fun _ _ _ => rfl, fun _ _ => rfl⟩⟩
      · simp (disch := omega) only [S_back, if_neg c0, p1, iN_le, if_neg c]
      · simp (disch := omega) only [M_back, if_neg c0, p2, iN_le, if_neg c]
theorem q_place (h : Cpl X b e l T tx S Q V J) : ∃ r, S_place T tx S = some r ∧ M_place J = some r := ⟨S 0 4, rfl, by unfold M_place; rw [h.2.2.2.2.2.2.2.2]⟩
/-! asked -/
theorem q_task (h : Cpl X b e l T tx S Q V J) (hF : 900 ≤ F) (a c : Int32) : ∃ r J1, S_task F T tx V a c = some r ∧ M_task F a c J = some (r, J1) ∧ Cpl X b e l T tx S Q V J1 := by
  have h0 := h
  obtain ⟨hX, hT, hJ, ⟨hR, hV⟩, _⟩ := h
  have hk6 := hX.1.2.2.2.1
  have z10 : ¬ (1 : Int32) = 0 := by decide
  by_cases ha : idx a (xk X)
  · obtain ⟨k, hk, rfl⟩ := ha
    obtain ⟨J1, e1, e2, e3⟩ := tk_m (F := F) (by omega) J
    have hG : nG J J1 := nG.r e2
    have hJ1 := hG.tx hX hJ
    have hl := hJ1.l2
    have hR1 : VR X (V 0) (J1 48) := hR.ev hX e3
    obtain ⟨⟨w, w1, w2⟩, _⟩ := hV.ev hX e3
    have hC := h0.fr sG.rf (fun _ _ _ => rfl) hR hG (V1 := V)
    obtain ⟨j20, j21, j22⟩ := hJ1.2.2.2.1 k hk
    by_cases c0 : c = 0
    · refine ⟨iN (tb X 20 k), J1, ?_, ?_, hC⟩
      · simp only [S_task, sk_y hX hT hk, Option.bind_some, if_neg z10, if_pos c0, hT.r3, hT.g3 hk, hT.ck hk, hT.k1 hk]
      · simp (disch := omega) only [M_task, mk_y hX hJ hk, Option.bind_some, if_neg z10, e1, if_pos c0, i_6, hJ1.lv, iN_mul, iN_add, ldI_n, j20]
    by_cases c1 : c = 1
    · refine ⟨iN (xs X k), J1, ?_, ?_, hC⟩
      · simp only [S_task, sk_y hX hT hk, Option.bind_some, if_neg z10, if_neg c0, if_pos c1, hT.r3, hT.g3 hk, hT.ck hk, hT.k3 hk, hT.ksz hk]
      · simp only [M_task, mk_y hX hJ hk, Option.bind_some, if_neg z10, e1, if_neg c0, if_pos c1, hJ1.steps hX hk]
    by_cases c2 : c = 2
    · refine ⟨J1 48 k, J1, ?_, ?_, hC⟩
      · simp (disch := omega) only [S_task, sk_y hX hT hk, Option.bind_some, if_neg z10, if_neg c0, if_neg c1, if_pos c2, ldI_n, hR1.1 k hk]
      · simp (disch := omega) only [M_task, mk_y hX hJ hk, Option.bind_some, if_neg z10, e1, if_neg c0, if_neg c1, if_pos c2, ldI_n]
    by_cases c3 : c = 3
    · obtain ⟨r, r1, r2⟩ := pl_worth (F := F) hX hT hJ1 hR1 w2 (by omega) hk
      refine ⟨r, J1, ?_, ?_, hC⟩
      · simp only [S_task, sk_y hX hT hk, Option.bind_some, if_neg z10, if_neg c0, if_neg c1, if_neg c2, if_pos c3, r1]
      · simp only [M_task, mk_y hX hJ hk, Option.bind_some, if_neg z10, e1, if_neg c0, if_neg c1, if_neg c2, if_pos c3, r2]
    by_cases c4 : c = 4
    · obtain ⟨r, r1, r2, r3⟩ := pl_ended (F := F) hX hT hJ1 hR1.2.1 (by omega) hk
      refine ⟨if r = 0 then 0 else 1, J1, ?_, ?_, hC⟩
      · simp only [S_task, sk_y hX hT hk, Option.bind_some, if_neg z10, if_neg c0, if_neg c1, if_neg c2, if_neg c3, if_pos c4, r1]
        by_cases cr : r = 0
        · rw [if_pos cr, if_pos cr]
        · rw [if_neg cr, if_neg cr]
      · simp only [M_task, mk_y hX hJ hk, Option.bind_some, if_neg z10, e1, if_neg c0, if_neg c1, if_neg c2, if_neg c3, if_pos c4, r2]
        by_cases cr : r = 0
        · rw [if_pos cr, if_pos cr]
        · rw [if_neg cr, if_neg cr]
    · refine ⟨-1, J1, ?_, ?_, hC⟩
      · simp only [S_task, sk_y hX hT hk, Option.bind_some, if_neg z10, if_neg c0, if_neg c1, if_neg c2, if_neg c3, if_neg c4]
      · simp only [M_task, mk_y hX hJ hk, Option.bind_some, if_neg z10, e1, if_neg c0, if_neg c1, if_neg c2, if_neg c3, if_neg c4]
  · refine ⟨-1, J, ?_, ?_, h0⟩
    · simp only [S_task, sk_n hX hT ha, Option.bind_some, if_true]
    · simp only [M_task, mk_n hX hJ ha, Option.bind_some, if_true]
theorem on_M {x : Nat} (h : x < 1000) : M_orNone (oM x) = some (oC x) := by
  cases x with
  | zero => rfl
  | succ n =>
    rw [oM_s, oC_s]
    unfold M_orNone
    rw [if_pos (by rw [i_0, iN_le (by omega) (by omega)]; omega)]
theorem q_step (h : Cpl X b e l T tx S Q V J) (a c w : Int32) : ∃ r, S_step T tx V a c w = some r ∧ M_step J a c w = some r := by
  obtain ⟨hX, hT, hJ, ⟨hR, hV⟩, _⟩ := h
  have hk6 := hX.1.2.2.2.1
  have ht6 := hX.1.2.2.1
  have hl := hJ.l2
  have z10 : ¬ (1 : Int32) = 0 := by decide
  by_cases ha : idS X a c
  · obtain ⟨k, s, hk, hs, rfl, rfl⟩ := ha
    have hs6 := (hX.2.2.2.1 k hk).2.2
    obtain ⟨j1, j2, j3, j4, j5, j6⟩ := hJ.2.2.2.2.1 k s hk hs
    obtain ⟨x1, x1', x2, x3, x4, x5, x6⟩ := hX.2.2.2.2.1 k s hk hs
    have hC : S_step T tx V (iN k) (iN s) w = if w = 0 then some (J 47 (6 + 6 * k + s)) else if w = 1 then some (iN (tb X 23 (6 * k + s))) else if w = 2 then some (iN (tb X 24 (6 * k + s))) else if w = 3 then some (iN (tb X 25 (6 * k + s))) else if w = 4 then some (iN (tb X 26 (6 * k + s))) else if w = 5 then some (oC (tb X 27 (6 * k + s))) else if w = 6 then some (oC (tb X 28 (6 * k + s))) else some (-1) := by
      have e0 : ∀ f : Int32 → Option Int32, ((ix (iN k) 6).bind fun q10 => ldI (V 0) (2 + q10) 6 (iN s) f) = f (J 47 (6 + 6 * k + s)) := by
        intro f
        rw [ix_n (by omega) (by omega), Option.bind_some, ldI_n (by omega) (by omega), hR.2.1 k s hk hs]
      unfold S_step
      rw [ss_y hX hT hk hs, Option.bind_some, if_neg z10, hT.r3, Option.bind_some, hT.g3 hk, Option.bind_some, hT.ck hk, hT.k3 hk, Option.bind_some, hT.kgt hk hs, Option.bind_some, hT.cs hk hs, e0, hT.s0 hk hs, hT.s1 hk hs, hT.s2 hk hs, hT.s3 hk hs, hT.s4 hk hs, hT.s5 hk hs]
    have hM : M_step J (iN k) (iN s) w = if w = 0 then some (J 47 (6 + 6 * k + s)) else if w = 1 then some (iN (tb X 23 (6 * k + s))) else if w = 2 then some (iN (tb X 24 (6 * k + s))) else if w = 3 then some (iN (tb X 25 (6 * k + s))) else if w = 4 then some (iN (tb X 26 (6 * k + s))) else if w = 5 then some (oC (tb X 27 (6 * k + s))) else if w = 6 then some (oC (tb X 28 (6 * k + s))) else some (-1) := by
      have e6 : (6 : Int32) + 6 * iN k + iN s = iN (6 + 6 * k + s) := by rw [i_6, iN_mul, iN_add, iN_add]
      have hat : M_stepAt J (iN k) (iN s) = some (iN (6 * (6 * l + k) + s)) := hJ.at_
      simp (disch := omega) only [M_step, ms_y hX hJ hk hs, Option.bind_some, if_neg z10, hat, e6, ldI_n, j1, j2, j3, j4, j5, j6, on_M]
    rw [hC, hM]
    by_cases c0 : w = 0
    · exact ⟨_, if_pos c0, if_pos c0⟩
    by_cases c1 : w = 1
    · simp only [if_neg c0, if_pos c1]; exact ⟨_, rfl, rfl⟩
    by_cases c2 : w = 2
    · simp only [if_neg c0, if_neg c1, if_pos c2]; exact ⟨_, rfl, rfl⟩
    by_cases c3 : w = 3
    · simp only [if_neg c0, if_neg c1, if_neg c2, if_pos c3]; exact ⟨_, rfl, rfl⟩
    by_cases c4 : w = 4
    · simp only [if_neg c0, if_neg c1, if_neg c2, if_neg c3, if_pos c4]; exact ⟨_, rfl, rfl⟩
    by_cases c5 : w = 5
    · simp only [if_neg c0, if_neg c1, if_neg c2, if_neg c3, if_neg c4, if_pos c5]; exact ⟨_, rfl, rfl⟩
    by_cases c6 : w = 6
    · simp only [if_neg c0, if_neg c1, if_neg c2, if_neg c3, if_neg c4, if_neg c5, if_pos c6]; exact ⟨_, rfl, rfl⟩
    · simp only [if_neg c0, if_neg c1, if_neg c2, if_neg c3, if_neg c4, if_neg c5, if_neg c6]; exact ⟨_, rfl, rfl⟩
  · refine ⟨-1, ?_, ?_⟩
    · simp only [S_step, ss_n hX hT ha, Option.bind_some, if_true]
    · simp only [M_step, ms_n hX hJ ha, Option.bind_some, if_true]
theorem on_M2 {x : Int32} (h : x = iM 1 ∨ ∃ k, k < 1000 ∧ x = iN k) : M_orNone x = some (onC x) := by
  rcases h with rfl | ⟨k, hk, rfl⟩
  · rfl
  · rw [onC_n (by omega)]
    unfold M_orNone
    rw [if_pos (by rw [i_0, iN_le (by omega) (by omega)]; omega)]
theorem q_man (h : Cpl X b e l T tx S Q V J) (a w : Int32) : ∃ r, S_man T tx V a w = some r ∧ M_man J a w = some r := by
  obtain ⟨hX, hT, hJ, ⟨hR, hV⟩, _⟩ := h
  have hm6 := hX.1.2.2.2.2.1
  have hk6 := hX.1.2.2.2.1
  have hl := hJ.l2
  have z10 : ¬ (1 : Int32) = 0 := by decide
  by_cases ha : idx a (xm X)
  · obtain ⟨m, hm, rfl⟩ := ha
    obtain ⟨r1, r2, r3, r4, r5⟩ := hR.2.2.1 m hm
    have j30 := (hJ.2.2.2.2.2 m hm).1
    have hq : (J 47 (42 + m) = iM 1 ∨ ∃ k, k < 1000 ∧ J 47 (42 + m) = iN k) ∧ (J 47 (48 + m) = iM 1 ∨ ∃ k, k < 1000 ∧ J 47 (48 + m) = iN k) := by
      rcases hV.2.1 m hm with ⟨q1, q2⟩ | ⟨k, s, hk, hs, q1, q2⟩
      · exact ⟨Or.inl q1, Or.inl q2⟩
      · have := (hX.2.2.2.1 k hk).2.2
        exact ⟨Or.inr ⟨k, by omega, q1⟩, Or.inr ⟨s, by omega, q2⟩⟩
    have hC : S_man T tx V (iN m) w = if w = 0 then some (iN (tb X 30 m)) else if w = 1 then some (onC (J 47 (42 + m))) else if w = 2 then some (onC (J 47 (48 + m))) else if w = 3 then some (J 47 (54 + m)) else if w = 4 then some (J 47 (60 + m)) else if w = 5 then some (J 47 (66 + m)) else some (-1) := by
      simp (disch := omega) only [S_man, sm_y hX hT hm, Option.bind_some, if_neg z10, hT.r4, hT.g4 hm, hT.cm hm, hT.m1 hm, ldI_n, r1, r2, r3, r4, r5]
    have hM : M_man J (iN m) w = if w = 0 then some (iN (tb X 30 m)) else if w = 1 then some (onC (J 47 (42 + m))) else if w = 2 then some (onC (J 47 (48 + m))) else if w = 3 then some (J 47 (54 + m)) else if w = 4 then some (J 47 (60 + m)) else if w = 5 then some (J 47 (66 + m)) else some (-1) := by
      have e6 : (6 : Int32) * iN l + iN m = iN (6 * l + m) := by rw [i_6, iN_mul, iN_add]
      simp (disch := omega) only [M_man, mm_y hX hJ hm, Option.bind_some, if_neg z10, hJ.lv, e6, i_42, i_48, i_54, i_60, i_66, iN_add, ldI_n, j30, on_M2 hq.1, on_M2 hq.2]
    rw [hC, hM]
    by_cases c0 : w = 0
    · exact ⟨_, if_pos c0, if_pos c0⟩
    by_cases c1 : w = 1
    · simp only [if_neg c0, if_pos c1]; exact ⟨_, rfl, rfl⟩
    by_cases c2 : w = 2
    · simp only [if_neg c0, if_neg c1, if_pos c2]; exact ⟨_, rfl, rfl⟩
    by_cases c3 : w = 3
    · simp only [if_neg c0, if_neg c1, if_neg c2, if_pos c3]; exact ⟨_, rfl, rfl⟩
    by_cases c4 : w = 4
    · simp only [if_neg c0, if_neg c1, if_neg c2, if_neg c3, if_pos c4]; exact ⟨_, rfl, rfl⟩
    by_cases c5 : w = 5
    · simp only [if_neg c0, if_neg c1, if_neg c2, if_neg c3, if_neg c4, if_pos c5]; exact ⟨_, rfl, rfl⟩
    · simp only [if_neg c0, if_neg c1, if_neg c2, if_neg c3, if_neg c4, if_neg c5]; exact ⟨_, rfl, rfl⟩
  · refine ⟨-1, ?_, ?_⟩
    · simp only [S_man, sm_n hX hT ha, Option.bind_some, if_true]
    · simp only [M_man, mm_n hX hJ ha, Option.bind_some, if_true]
theorem q_tool (h : Cpl X b e l T tx S Q V J) (a : Int32) : ∃ r, S_tool T tx V a = some r ∧ M_tool J a = some r := by
  obtain ⟨hX, hT, hJ, ⟨hR, hV⟩, _⟩ := h
  have ht6 := hX.1.2.2.1
  have z10 : ¬ (1 : Int32) = 0 := by decide
  by_cases ha : idx a (xt X)
  · obtain ⟨t, ht, rfl⟩ := ha
    refine ⟨J 47 (72 + t), ?_, ?_⟩
    · simp (disch := omega) only [S_tool, hT.r2, hT.z2, Option.bind_some, i1_y ht, if_neg z10, ldI_n, hR.2.2.2.1 t ht]
    · simp (disch := omega) only [M_tool, mt_y hX hJ ht, Option.bind_some, if_neg z10, i_72, iN_add, ldI_n]
  · refine ⟨-1, ?_, ?_⟩
    · simp (disch := omega) only [S_tool, hT.r2, hT.z2, Option.bind_some, i1_n ha, if_true]
    · simp only [M_tool, mt_n hX hJ ha, Option.bind_some, if_true]
theorem q_way (h : Cpl X b e l T tx S Q V J) (hF : 900 ≤ F) (a c : Int32) : ∃ r V1 J1, S_way F T tx a c V = some (r, V1) ∧ M_way F a c J = some (r, J1) ∧ Cpl X b e l T tx S Q V1 J1 := by
  have h0 := h
  obtain ⟨hX, hT, hJ, ⟨hR, hV⟩, _⟩ := h
  have hr8 := hX.1.1
  have z10 : ¬ (1 : Int32) = 0 := by decide
  by_cases ha : idx a (xr X)
  · obtain ⟨r, hr, rfl⟩ := ha
    by_cases hc : idx c (xr X)
    · obtain ⟨q, hq, rfl⟩ := hc
      obtain ⟨J1, e1, e2, e3⟩ := tk_m (F := F) (by omega) J
      have hJ1 := (nG.r e2).tx hX hJ
      obtain ⟨C2, J2, w1, w2, w3, w4, w5⟩ := pl_ways (F := F) (C := V 0) hX hT hJ1 (by omega) (by rw [e3 78 (by omega)]; exact hR.2.2.2.2.1)
      have hnG : nG J J2 := (nG.r e2).tr ⟨fun o o1 o2 => w5 o (by omega), fun i _ _ => by rw [w5 0 (by omega)]⟩
      have hway := w3.1 r q hr hq
      obtain ⟨d, d1, d2, _⟩ := w3.2 r q (by omega) (by omega)
      have hV0 : ∀ o : Ji, vf_upd V 0 o 0 = o := fun o => vf_self _ _ _
      have hCC := h0.fr sG.rf (fun k k0 _ => vf_ne V C2 k0) (by rw [vf_self]; exact vr_ways hX hR w4) hnG
      have e8 : (8 : Int32) * iN r + iN q = iN (8 * r + q) := by rw [i_8, iN_mul, iN_add]
      refine ⟨if d = 1000000 then -2 else iN d, vf_upd V 0 C2, J2, ?_, ?_, hCC⟩
      · simp (disch := omega) only [S_way, sr_y hX hT hr, sr_y hX hT hq, Option.bind_some, if_neg z10, w1, ix_n, hV0, ldI_n, hway, d1, i_far, iN_lt]
        by_cases cd : d = 1000000
        · rw [if_neg (by omega), if_pos cd]
        · rw [if_pos (by omega), if_neg cd]
      · simp (disch := omega) only [M_way, mr_y hX hJ hr, mr_y hX hJ hq, Option.bind_some, if_neg z10, e1, w2, e8, ldI_n, d1, i_far, iN_eq]
        by_cases cd : d = 1000000
        · rw [if_pos cd, if_pos cd]
        · rw [if_neg cd, if_neg cd]
    · refine ⟨-1, V, J, ?_, ?_, h0⟩
      · simp only [S_way, sr_y hX hT hr, sr_n hX hT hc, Option.bind_some, if_neg z10, if_true]
      · simp only [M_way, mr_y hX hJ hr, mr_n hX hJ hc, Option.bind_some, if_neg z10, if_true]
  · refine ⟨-1, V, J, ?_, ?_, h0⟩
    · simp only [S_way, sr_n hX hT ha, Option.bind_some, if_true]
    · simp only [M_way, mr_n hX hJ ha, Option.bind_some, if_true]
end SM
