/-! PURE LAW 46: words that may stand; a step of a task told ahead; the end of a man -/
set_option maxRecDepth 100000
theorem xb_et {x : Option ((Ji × Jr × Th) ⊕ (Ji × Th))} {f : Ji × Th → Option ((Ji × Jr × Th) ⊕ (Ji × Th))} : xb (xb x fun r => some (.inr (r.1, r.2))) f = xb x f := by
  rcases x with _ | (x | x) <;> rfl
section SO
variable {T : Th} {F N a o : Nat} {P E : Nat → Nat} {Q J : Ji} {K : Jl} {Xp : Jr}
theorem p_isw (h : PT N P E a o Q J K) {w : Nat} (hw : w < 21) : (R_isWord Xp (iN w) Q T = some (.inr (1, Q, T)) ∧ M_is J (iN (20 + w)) = some 1 ∧ Q 5 a = iN 3) ∨ (R_isWord Xp (iN w) Q T = some (.inr (0, Q, T)) ∧ M_is J (iN (20 + w)) = some 0) := by
  have e1 := r_isWord (Xp := Xp) (T := T) h (iN w)
  have e2 := m_is h (iN (20 + w))
  by_cases c : Q 5 a = iN 3 ∧ Q 8 a = iN w
  · left
    rw [if_pos c] at e1
    rw [if_pos ((k_word h hw).1 c)] at e2
    exact ⟨e1, e2, c.1⟩
  · right
    rw [if_neg c] at e1
    rw [if_neg (fun hh => c ((k_word h hw).2 hh))] at e2
    exact ⟨e1, e2⟩
theorem p_iss (h : PT N P E a o Q J K) {c : Int32} {k : Nat} (hs : sgP c k) : (R_isSign Xp c Q T = some (.inr (1, Q, T)) ∧ M_is J (iN k) = some 1 ∧ Q 5 a = iN 2 ∧ Q 8 a = c ∧ J 3 a = iN k) ∨ (R_isSign Xp c Q T = some (.inr (0, Q, T)) ∧ M_is J (iN k) = some 0 ∧ ¬ (Q 5 a = iN 2 ∧ Q 8 a = c) ∧ J 3 a ≠ iN k) := by
  have e1 := r_isSign (Xp := Xp) (T := T) h c
  have e2 := m_is h (iN k)
  by_cases d : Q 5 a = iN 2 ∧ Q 8 a = c
  · left
    rw [if_pos d] at e1
    rw [if_pos ((k_sign h hs).1 d)] at e2
    exact ⟨e1, e2, d.1, d.2, (k_sign h hs).1 d⟩
  · right
    rw [if_neg d] at e1
    rw [if_neg (fun hh => d ((k_sign h hs).2 hh))] at e2
    exact ⟨e1, e2, d, fun hh => d ((k_sign h hs).2 hh)⟩
/-- a step of a task that is told ahead -/
theorem p_stepOf (hF : 2100 ≤ F) (h : PT N P E a o Q J K) {ot : Option Nat} {hi : Int32} {n : Nat} (hn : n ≤ 6) (hO : (ot = none ∧ hi = 9999) ∨ ∃ xa lb f, ot = some xa ∧ T.1 xa = some (.inl 12) ∧ T.2.2.1 xa 3 = some lb ∧ LsT T lb n f ∧ hi = iN n - 1) : (∃ v Q1 J1, R_stepOf F Xp ot Q T = some (.inr (iN v, Q1, T)) ∧ M_bounded 0 hi J = some (iN v, J1) ∧ v ≤ 9999 ∧ PT N P E (a + 1) o Q1 J1 K ∧ qF Q Q1 ∧ jF J J1 ∧ (Q1 9 5 = iN 0 → Q 9 5 = iN 0 ∧ (ot ≠ none → v < n))) ∨ ∃ Q1 J1, R_stepOf F Xp ot Q T = some (.inl (Q1, Xp, T)) ∧ (∃ v, M_bounded 0 hi J = some (v, J1)) ∧ FT Q1 J1 ∧ qF Q Q1 ∧ jF J J1 := by
  have hN := h.n
  have ha := h.2.1
  rcases p_int (F := F) (T := T) (Xp := Xp) (lo := 0) (hi := hi) hF h (by omega) with ⟨v, v1, v2, v3, v4, v5⟩ | ⟨Q1, J1, a1, a2, a3, a4, a5⟩
  · left
    have q1 : qF Q (uJ Q 9 3 (iN (a + 1))) := qF.u9 (by omega) (by omega)
    have j1 : jF J (uJ J 0 11 (iN (a + 1))) := jF.u (by omega) (by omega)
    have v5' : M_bounded 0 hi J = if iN v < iN 0 ∨ ¬ iN v ≤ hi then (M_wrong 5 (iN a) (uJ J 0 11 (iN (a + 1)))).bind fun J1 => some (iN v, J1) else some (iN v, uJ J 0 11 (iN (a + 1))) := v5
    have c1 : ¬ iN v < iN 0 := by rw [iN_lt (by omega) (by omega)]; omega
    have c10 : ¬ iN v < 0 := c1
    rcases hO with ⟨o1, o2⟩ | ⟨xa, lb, f, o1, o2, o3, o4, o5⟩
    · subst o1; subst o2
      have c2 : iN v ≤ 9999 := by
        have : iN v ≤ iN 9999 := by rw [iN_le (by omega) (by omega)]; omega
        exact this
      refine ⟨v, _, _, ?_, ?_, v1, v4, q1, j1, fun hh => ⟨by rw [uJ_sn (by omega)] at hh; exact hh, fun hh => absurd rfl hh⟩⟩
      · simp only [R_stepOf, xb, v2, v3, Option.bind_some, rC]
      · rw [v5', if_neg (fun hh => hh.elim c1 (fun h => h c2))]
    · subst o1; subst o5
      have e1 : iN n - 1 = if n = 0 then iM 1 else iN (n - 1) := by
        by_cases c : n = 0
        · subst c; rfl
        · rw [if_neg c, i_1, iN_sub (by omega)]
      have e2 : (iN v ≤ iN n - 1) ↔ v < n := by
        rw [e1]
        by_cases c : n = 0
        · rw [if_pos c, iN_lem (by omega) (by omega) (by omega)]
          constructor
          · intro hh; exact hh.elim
          · omega
        · rw [if_neg c, iN_le (by omega) (by omega)]
          omega
      have e3 : C_isStep T xa (iN v) = some (if v < n then 1 else 0) := by
        simp only [C_isStep, if_neg c10, dR_p o2, o3, Option.bind_some]
        rw [o4.sz]
        by_cases c : v < n
        · rw [if_neg (by rw [iN_le (by omega) (by omega)]; omega), if_pos c]
        · rw [if_pos (by rw [iN_le (by omega) (by omega)]; omega), if_neg c]
      by_cases c : v < n
      · rw [if_pos c] at e3
        refine ⟨v, _, _, ?_, ?_, v1, v4, q1, j1, fun hh => ⟨by rw [uJ_sn (by omega)] at hh; exact hh, fun _ => c⟩⟩
        · simp only [R_stepOf, xb, v2, v3, Option.bind_some, rC, dC_p o2, e3, if_neg (show ¬ (1 : Int32) = 0 by decide)]
        · rw [v5', if_neg (fun hh => hh.elim c1 (fun h => h (e2.2 c)))]
      · rw [if_neg c] at e3
        obtain ⟨Q2, J2, b1, b2, b3, b4, b5, b6, b7⟩ := p_tell (w := 5) (t := a) v4 (by omega) (by omega) ha
        have b1' : R_tell 5 (iN a) (uJ Q 9 3 (iN (a + 1))) = some Q2 := b1
        have b2' : M_wrong 5 (iN a) (uJ J 0 11 (iN (a + 1))) = some J2 := b2
        refine ⟨v, Q2, J2, ?_, ?_, v1, b3, q1.tr b4, j1.tr b5, fun hh => absurd hh b6⟩
        · simp only [R_stepOf, xb, v2, v3, Option.bind_some, rC, dC_p o2, e3, if_true, b1']
        · rw [v5', if_pos (Or.inr (fun hh => c (e2.1 hh))), b2', Option.bind_some]
  · right
    refine ⟨Q1, J1, ?_, a2, a3, a4, a5⟩
    simp only [R_stepOf, xb, a1, Option.bind_some]
end SO
section MF
variable {n0 g txa nl Nn nb nc a a1 : Nat} {Xp : Jr} {F N : Nat} {P E : Nat → Nat} {Q Q1 J J1 : Ji} {K : Jl} {T T1 : Th} {Y : Xt} {b ar : Nat → Nat} {e : Nat → Nat → Nat} {sg id_ : Nat → Nat} {nm : Nat → Nat → List Int32} {t : Nat} {L : List Int32}
/-- the end of a man -/
theorem man_fin (hI : IV n0 g txa Xp N P E a Q J K T Y b ar e nl Nn sg id_ nm nb nc) (hx6 : Y.1 4 ≠ 6) (ha1 : a < a1) (hP : PT N P E a1 0 Q1 J1 K) (hx : ExN T T1) (hc : tN T < tN T1) (hk : T1.1 (tN T) = some (.inl 14)) (ht : T1.2.2.1 (tN T) 0 = some t) (hs : StT T1 t L) (hr : T1.2.2.1 (tN T) 4 = none) (n5 : allL L) (n6 : L.length ≤ 8) (n7 : K 6 (a + 1) = c27 L) (hN : tN T1 + 1 + 16 * (401 - a1) ≤ (tL T).1) (hZ : tZ T1 + 15 + 120 * (401 - a1) ≤ (tL T).2.1) (hq : qF Q Q1)
    (hfr0 : ∀ i, i < 11 → J1 0 i = J 0 i) (q0 : ∀ i, 16 < i → J1 0 i = J 0 i) (q1 : ∀ p, p ≠ 0 → p ≠ 30 → p ≠ 31 → p ≠ 32 → J1 p = J p) (q2 : ∀ p i, 30 ≤ p → p ≤ 32 → i ≠ 6 * g + Y.1 4 → J1 p i = J p i)
    (hv : Q1 9 5 = iN 0 → Q 9 5 = iN 0 ∧ ∃ m k s, m < Y.1 0 ∧ T1.2.1 (tN T) 1 = iN m ∧ T1.2.1 (tN T) 2 = oC k ∧ T1.2.1 (tN T) 3 = oC s ∧ J1 30 (6 * g + Y.1 4) = iN m ∧ J1 31 (6 * g + Y.1 4) = oM k ∧ J1 32 (6 * g + Y.1 4) = oM s ∧ (k = 0 ∧ s = 0 ∨ ∃ k' s', k = k' + 1 ∧ s = s' + 1 ∧ k' < xk Y ∧ s' < xs Y k')) :
    StO n0 g txa Xp N P E a Q J K T (xb (R_man_B103 F Xp (tN T) Q1 T1) fun r => R_sign Xp 59 r.1 r.2) (M_tellMan_B118 F (iN (a + 1)) J1 K) := by
  obtain ⟨h1, h2, h3, h4, h5, ⟨h6, h6b⟩, h7, h8, ⟨h9, h10⟩, h11⟩ := hI
  have hNN := h1.n
  have ha := h1.2.1
  have haN := hP.2.1
  have hl0 := h3
  have h7c := h7
  obtain ⟨l1, l2, l3, l4, l5⟩ := h3
  obtain ⟨⟨j1, j2⟩, ⟨j3, j4⟩, j5, j6, j7⟩ := h7
  have hm9 := h4.2.2.2.2.2
  have hx7 : Y.1 4 ≤ 6 := hm9.2.2.2.2.1
  have hl1 : tL T1 = tL T := hx.2.1
  have hb7 := h4.ex l1 hx
  have hk2 : T1.1 (b 4) = some (.inl 19) := (hb7.2.1 4 (Or.inl (by omega))).1.1
  have hC : R_man_B103 F Xp (tN T) Q1 T1 = ((A_L_add (b 4) (tN T) T1).bind fun r => some (.inr (Q1, r.2)) : Option ((Ji × Jr × Th) ⊕ (Ji × Th))) := by
    simp only [R_man_B103, h2, Option.bind_some, dR_p hb7.1.1, hb7.1.2.2.1 4 (by omega), dC_p hk2]
  rw [hC]
  obtain ⟨m, k, s, hval⟩ : ∃ m k s, Q1 9 5 = iN 0 → Q 9 5 = iN 0 ∧ m < Y.1 0 ∧ T1.2.1 (tN T) 1 = iN m ∧ T1.2.1 (tN T) 2 = oC k ∧ T1.2.1 (tN T) 3 = oC s ∧ J1 30 (6 * g + Y.1 4) = iN m ∧ J1 31 (6 * g + Y.1 4) = oM k ∧ J1 32 (6 * g + Y.1 4) = oM s ∧ (k = 0 ∧ s = 0 ∨ ∃ k' s', k = k' + 1 ∧ s = s' + 1 ∧ k' < xk Y ∧ s' < xs Y k') := by
    by_cases c : Q1 9 5 = iN 0
    · obtain ⟨r1, m, k, s, r2⟩ := hv c
      exact ⟨m, k, s, fun _ => ⟨r1, r2⟩⟩
    · exact ⟨0, 0, 0, fun hh => absurd hh c⟩
  let Y1 : Xt := (inc_ Y 4, (fun c i => if c = 30 ∧ i = Y.1 4 then m else if c = 31 ∧ i = Y.1 4 then k else if c = 32 ∧ i = Y.1 4 then s else tb Y c i), fun i => if i = Y.1 4 then none else Y.2.2 i)
  have hY1 : Y1.1 = inc_ Y 4 := rfl
  have y14 : Y1.1 4 = Y.1 4 + 1 := inc_s hY1
  have y1o : ∀ r, r ≠ 4 → Y1.1 r = Y.1 r := fun r hr => inc_o hY1 hr
  have hxs : ∀ k, xs Y1 k = xs Y k := fun k => y1o (10 + k) (by omega)
  have hms : ∀ k, k < xk Y → xs Y1 k ≤ 6 := fun k hk => by rw [hxs]; exact hm9.2.2.2.2.2.2.1 k hk
  have hmx : xr Y1 ≤ 8 ∧ xd Y1 ≤ 12 ∧ xt Y1 ≤ 6 ∧ xk Y1 ≤ 6 ∧ xm Y1 ≤ 6 := ⟨hm9.1, hm9.2.1, hm9.2.2.1, hm9.2.2.2.1, by show Y1.1 4 ≤ 6; omega⟩
  have ho : ∀ c i, OldC Y c i → tb Y1 c i = tb Y c i := fun c i hc => by
    show (if c = 30 ∧ i = Y.1 4 then m else if c = 31 ∧ i = Y.1 4 then k else if c = 32 ∧ i = Y.1 4 then s else tb Y c i) = tb Y c i
    have : ¬ (30 ≤ c ∧ c ≤ 32 ∧ i = Y.1 4) := fun hh => by
      rcases hc with hc | hc | hc | hc | hc
      · omega
      · omega
      · omega
      · have : i < Y.1 4 := hc.2.2; omega
      · omega
    rw [if_neg (by omega), if_neg (by omega), if_neg (by omega)]
  have hlw : ∀ m, m < xm Y → Y1.2.2 m = Y.2.2 m := fun m hm => if_neg (by have : m < Y.1 4 := hm; omega)
  have t30 : tb Y1 30 (Y.1 4) = m := if_pos ⟨rfl, rfl⟩
  have t31 : tb Y1 31 (Y.1 4) = k := by
    show (if 31 = 30 ∧ Y.1 4 = Y.1 4 then m else if 31 = 31 ∧ Y.1 4 = Y.1 4 then k else _) = k
    rw [if_neg (by omega), if_pos ⟨rfl, rfl⟩]
  have t32 : tb Y1 32 (Y.1 4) = s := by
    show (if 32 = 30 ∧ Y.1 4 = Y.1 4 then m else if 32 = 31 ∧ Y.1 4 = Y.1 4 then k else if 32 = 32 ∧ Y.1 4 = Y.1 4 then s else _) = s
    rw [if_neg (by omega), if_neg (by omega), if_pos ⟨rfl, rfl⟩]
  have hln : Y1.2.2 (Y.1 4) = none := if_pos rfl
  have hNm := en_nm (s := 3) (Y1 := Y1) (by omega) hY1 hb7 (h5.sm h4 (ExN.sm l1 hx)) hk ht hs n6 sm_rf
  have hfr : FrJ g J J1 := fun o i hw => by
    by_cases c0 : o = 0
    · subst c0
      have : 16 < i ∨ i < 11 := by
        unfold wr_ at hw
        simp at hw
        omega
      rcases this with c | c
      · exact q0 i c
      · exact (hfr0 i c)
    · by_cases c : 30 ≤ o ∧ o ≤ 32
      · refine q2 o i c.1 c.2 (fun hh => ?_)
        have : o = 30 ∨ o = 31 ∨ o = 32 := by omega
        rcases this with rfl | rfl | rfl <;> (simp [wr_, lv_] at hw; omega)
      · rw [q1 o c0 (by omega) (by omega) (by omega)]
  refine fin_add (Y := Y) (Y1 := Y1) (a0 := a) (Q0 := Q) (J0 := J) (T0 := T) (nc := nc) (nb := nb) (g := g) (Xp := Xp) (nk := xk Y)
    (f := fun r9 => ldI r9 (co_ 3) 2 (r9 0 19) fun x10 => (M_notes (iN (a + 1)) (iN 3) x10 r9 K).bind fun r11 => ldI r11.1 (co_ 3) 2 (r11.1 0 19) fun x12 => stI r11.1 (co_ 3) 2 (r11.1 0 19) (x12 + 1) fun J13 => some (J13, r11.2))
    hP h2 (hl0.ex hx) hb7 (j := 4) (Or.inl (by omega)) hk l3 hY1 ⟨hmx.1, hmx.2.1, hmx.2.2.1, hmx.2.2.2.1, hmx.2.2.2.2, hms⟩ rfl (fun hh => by omega) hNm ⟨h8.2, fun _ i hi hh => by
      have := l1 (e 4 i) (by rw [(h4.2.2.1 4 i (Or.inl (by omega)) hi).1]; exact fun hh => by cases hh)
      omega⟩ (by omega) (by omega) ⟨by rw [hl1]; exact hN, by rw [hl1]; exact hZ⟩ ⟨hq, hfr, fun _ _ => rfl, hx.bl l3, hl1, hx.1⟩ (fun hq => ?_) (fun J9 hJ9 => ?_) (fun J9 m1 m2 => ?_) (fun J9 m1 m2 m3 m4 => ?_)
  · obtain ⟨r0, r1, r2, r3, r4, r5, r6, r7, r8⟩ := hval hq
    obtain ⟨v1, v2, v3, v4⟩ := h11 r0
    refine ⟨(v1.sm h4 (ExN.sm l1 hx) (ExN.sm l1 hx)).add hY1 (fun hh => by omega) ho hlw (fun hh => by omega) (fun hh => by omega) (fun hh => by omega) (fun _ => ⟨?_, ?_, ?_, ?_⟩) (fun k hh => by omega), v3.add hY1 (fun hh => by omega) (by omega) ho ⟨hmx.1, hmx.2.1, hmx.2.2.1, hmx.2.2.2.1, hmx.2.2.2.2, hms⟩ (fun hh => by omega) (fun hh => by omega) (fun hh => by omega) (fun _ => ⟨?_, ?_⟩) (fun k hh => by omega), ?_⟩
    · rw [t30]; exact r2
    · rw [t31]; exact r3
    · rw [t32]; exact r4
    · rw [hr, hln]; rfl
    · rw [t30]; exact r1
    · rw [t31, t32]; exact r8
    · have ht7 := l1.at_ hx h4.1.1
      rw [ht7.2.1, v4]
      show iN (Y.1 5) = iN (Y1.1 5)
      rw [y1o 5 (by omega)]
  · have hb0 : Y.1 0 ≤ 8 := hm9.1
    have hb2 : Y.1 2 ≤ 6 := hm9.2.2.1
    have hb3 : Y.1 3 ≤ 6 := hm9.2.2.2.1
    have h6c : Nn = Y.1 0 + Y.1 2 + Y.1 3 + Y.1 4 := h6b
    refine mo_nm (s := 3) (q := Q1 9 5 = iN 0) (nm := nm) (Y := Y) (Y1 := Y1) (by omega) hY1 (by omega) (h7c.fr q0 (fun p hp => q1 p (by omega) (by omega) (by omega) (by omega)) (fun k hk => by rw [q1 22 (by omega) (by omega) (by omega) (by omega)])) (fun k hk => by rw [q1 22 (by omega) (by omega) (by omega) (by omega), hxs]; exact j5 k hk) (h6.fr (q1 9 (by omega) (by omega) (by omega) (by omega)) (q1 10 (by omega) (by omega) (by omega) (by omega)) (q0 20 (by omega))) h6b (by omega) n5 n6 n7 ⟨hms, hmx.2.1, hmx.2.2.1, hmx.2.2.2.1, hmx.2.2.2.2⟩ (fun hq => ?_) hJ9
    obtain ⟨r0, r1, r2, r3, r4, r5, r6, r7, r8⟩ := hval hq
    obtain ⟨v1, v2, v3, v4⟩ := h11 r0
    refine v2.add hY1 (fun hh => by omega) (by omega) ho hlw (fun p i hp => ?_) (q1 34 (by omega) (by omega) (by omega) (by omega)) (q1 35 (by omega) (by omega) (by omega) (by omega)) (q1 41 (by omega) (by omega) (by omega) (by omega)) ⟨fun p i p1 p2 _ => by rw [q1 p (by omega) (by omega) (by omega) (by omega)], fun p i p1 _ => by rw [q1 p (by omega) (by omega) (by omega) (by omega)]⟩ (fun hh => by omega) (fun hh => by omega) (fun hh => by omega) (fun _ => ⟨by show Y.1 4 < 6; omega, ?_, ?_, ?_, hln⟩) (fun k hh => by omega)
    · by_cases c : 30 ≤ p ∧ p ≤ 32
      · refine q2 p i c.1 c.2 (fun hh => ?_)
        rcases hp with hp | hp | hp | hp | hp
        · omega
        · omega
        · omega
        · obtain ⟨_, _, d, d1, d2⟩ := hp
          have d1 : d < Y.1 4 := d1
          omega
        · omega
      · have : p ≠ 0 := by rcases hp with hp | hp | hp | hp | hp <;> omega
        rw [q1 p this (by omega) (by omega) (by omega)]
    · rw [t30]; exact r5
    · rw [t31]; exact r6
    · rw [t32]; exact r7
  · unfold M_tellMan_B118
    rw [m1, Option.bind_some, if_pos (by rw [m2]; decide)]
    rfl
  · unfold M_tellMan_B118
    rw [m1, Option.bind_some, if_neg m3]
end MF
