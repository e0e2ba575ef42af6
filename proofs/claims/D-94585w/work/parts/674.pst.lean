/-! PURE LAW 51: a step is told -/
set_option maxRecDepth 100000
section ST2
variable {n0 g txa nl Nn nb nc a a1 : Nat} {Xp : Jr} {F N : Nat} {P E : Nat → Nat} {Q Q1 J J1 : Ji} {K : Jl} {T T1 : Th} {Y : Xt} {b ar : Nat → Nat} {e : Nat → Nat → Nat} {sg id_ : Nat → Nat} {nm : Nat → Nat → List Int32}
/-- the task of a step, on both sides -/
def TkO (g : Nat) (Y : Xt) (e : Nat → Nat → Nat) (Q : Ji) (ot : Option Nat) (a2 a4 : Int32) (n : Nat) : Prop := (ot = none ∧ a2 = -1 ∧ n = 0 ∧ Q 9 5 ≠ iN 0) ∨ ∃ k, k < xk Y ∧ ot = some (e 3 k) ∧ a2 = iN k ∧ n = xs Y k ∧ n < 6 ∧ a4 = iN (6 * (6 * g + k) + n)
theorem step_174 {ot : Option Nat} {x u n : Nat} {a2 a4 a5 a6 a7 a8 a9 a10 : Int32} (hI : IV n0 g txa Xp N P E a Q J K T Y b ar e nl Nn sg id_ nm nb nc) (hO : TkO g Y e Q1 ot a2 a4 n) (ha1 : a + 6 ≤ a1) (hP : PT N P E a1 0 Q1 J1 K) (hx : ExN T T1) (hxn : tN T ≤ x) (hkk : T1.1 x = some (.inl 13)) (hN : tN T1 ≤ tN T + 9) (hZ : tZ T1 ≤ tZ T + 70) (hq : qF Q Q1) (hj : jF J J1)
    (hv : Q1 9 5 = iN 0 → Q 9 5 = iN 0 ∧ ∃ m1 m2 m3 m4 tl, SV Y T1 x a5 a6 a7 a8 a9 m1 m2 m3 m4 tl ∧ u ≤ n ∧ T1.2.1 x 5 = oC u ∧ a10 = oM u) :
    StO n0 g txa Xp N P E a Q J K T (xb (R_step_B176 F Xp ot x Q1 T1) fun r => R_sign Xp 59 r.1 r.2) ((M_tellStep_B174 F K a2 a4 a5 a6 a7 a8 a9 a10 J1).bind fun r => some (r, K)) := by
  have h9 := hI.2.2.2.2.2.2.2.2.1.1
  have h10 := hI.2.2.2.2.2.2.2.2.1.2
  have hbud := bud_ (n1 := tN T1) (z1 := tZ T1) (a1 := a1) h9 h10 hN hZ (by have := hP.2.1; have := hP.n; omega) (by omega) (by omega) (by omega)
  rcases hO with ⟨o1, o2, o3, o4⟩ | ⟨k, k1, k2, k3, k4, k5, k6⟩
  · subst o1; subst o2
    obtain ⟨h1, h2, h3, h4, h5, ⟨h6, h6b⟩, h7, h8, _, h11⟩ := hI
    have hl1 : tL T1 = tL T := hx.2.1
    have hC : R_step_B176 F Xp none x Q1 T1 = some (.inr (Q1, T1)) := rfl
    rw [hC]
    show StO n0 g txa Xp N P E a Q J K T (R_sign Xp 59 Q1 T1) _
    refine fin_no (Y := Y) hP h2 (h3.ex hx) (h4.ex h3.1 hx) (h5.sm h4 (ExN.sm h3.1 hx)) (h6.fr (hj.1 9 (by omega)) (hj.1 10 (by omega)) (hj.2 20 (by omega))) h6b (h7.fr (fun i hi => hj.2 i (by omega)) (fun p hp => hj.1 p (by omega)) (fun k hk => by rw [hj.1 22 (by omega)])) h8.2 (by omega) (by omega) ⟨by rw [hl1]; omega, by rw [hl1]; omega⟩ ⟨hq, hj.w, fun _ _ => rfl, hx.bl h3.2.2.1, hl1, hx.1⟩ o4 (fun J4 hJ4 => ?_)
    unfold M_tellStep_B174
    rw [hJ4, Option.bind_some, if_neg (show ¬ (0 : Int32) ≤ -1 by decide)]
    by_cases c : 0 < J4 0 13
    · rw [if_pos c, Option.bind_some]
    · rw [if_neg c, Option.bind_some]
  · subst k2; subst k3; subst k4; subst k6
    exact step_fin (u := u) hI k1 k5 (by omega) hP hx hxn hkk hbud.1 hbud.2 hq hj hv
/-- a step, from "undoes" on -/
theorem step_153 {ot : Option Nat} {x n : Nat} {a2 a4 a5 a6 a7 a8 a9 : Int32} (hF : 2100 ≤ F) (hI : IV n0 g txa Xp N P E a Q J K T Y b ar e nl Nn sg id_ nm nb nc) (hO : TkO g Y e Q1 ot a2 a4 n) (ha1 : a + 6 ≤ a1) (hP : PT N P E a1 0 Q1 J1 K) (hx : ExN T T1) (hxn : tN T ≤ x) (hkk : T1.1 x = some (.inl 13)) (hN : tN T1 ≤ tN T + 9) (hZ : tZ T1 ≤ tZ T + 70) (hq : qF Q Q1) (hj : jF J J1) (h5 : T1.2.1 x 5 = -2)
    (hv : Q1 9 5 = iN 0 → Q 9 5 = iN 0 ∧ ∃ m1 m2 m3 m4 tl, SV Y T1 x a5 a6 a7 a8 a9 m1 m2 m3 m4 tl) :
    StO n0 g txa Xp N P E a Q J K T (xb (R_step_B153 F Xp ot x Q1 T1) fun r => R_sign Xp 59 r.1 r.2) ((M_tellStep_B134 F K a2 (iN n) a4 a5 a6 a7 a8 a9 (-1) J1).bind fun r => some (r, K)) := by
  have hl1 : tL T1 = tL T := hx.2.1
  have hL := hI.2.2.1
  have hB := (hI.2.2.2.1).ex hL.1 hx
  have hm9 := (hI.2.2.2.1).2.2.2.2.2
  have hM : M_tellStep_B134 F K a2 (iN n) a4 a5 a6 a7 a8 a9 (-1) J1 = (M_is J1 27).bind fun r12 => if r12 = 0 then M_tellStep_B174 F K a2 a4 a5 a6 a7 a8 a9 (-1) J1 else (M_goesOn J1).bind fun r13 => if 0 ≤ a2 then M_tellStep_B169 F K a2 a4 a5 a6 a7 a8 a9 (iN n - 1) 0 r13 else M_tellStep_B169 F K a2 a4 a5 a6 a7 a8 a9 9999 0 r13 := by
    unfold M_tellStep_B134
    rw [if_pos (show J1 0 13 = 0 from hP.2.2.2.2.1)]
  rw [hM]
  rcases p_isw (Xp := Xp) (T := T1) hP (w := 7) (by omega) with ⟨w1, w2, w3⟩ | ⟨w1, w2⟩
  · have w1' : R_isWord Xp 7 Q1 T1 = some (.inr (1, Q1, T1)) := w1
    have w2' : M_is J1 27 = some 1 := w2
    rw [w2', Option.bind_some, if_neg (show ¬ (1 : Int32) = 0 by decide)]
    rcases p_pass (Xp := Xp) (T := T1) hP ⟨by rw [w3]; decide, by rw [w3]; decide⟩ with ⟨Q5, J8, s1, s2, s3, s4, s5, s6, s7⟩ | ⟨Q5, J8, s1, s2, s3, s4, s5, s6⟩
    · rw [s2, Option.bind_some]
      obtain ⟨hi, hhi, hO2, hne⟩ : ∃ hi, (if 0 ≤ a2 then M_tellStep_B169 F K a2 a4 a5 a6 a7 a8 a9 (iN n - 1) 0 J8 else M_tellStep_B169 F K a2 a4 a5 a6 a7 a8 a9 9999 0 J8) = M_tellStep_B169 F K a2 a4 a5 a6 a7 a8 a9 hi 0 J8 ∧ ((ot = none ∧ hi = 9999) ∨ ∃ xa lb f, ot = some xa ∧ T1.1 xa = some (.inl 12) ∧ T1.2.2.1 xa 3 = some lb ∧ LsT T1 lb n f ∧ hi = iN n - 1) ∧ (Q1 9 5 = iN 0 → ot ≠ none) ∧ n ≤ 6 := by
        rcases hO with ⟨o1, o2, o3, o4⟩ | ⟨k, k1, k2, k3, k4, k5, k6⟩
        · exact ⟨9999, by rw [if_neg (by rw [o2]; decide)], Or.inl ⟨o1, rfl⟩, fun hh => absurd hh o4, by omega⟩
        · have k1' : k < Y.1 3 := k1
          have : Y.1 3 ≤ 6 := hm9.2.2.2.1
          exact ⟨iN n - 1, by rw [if_pos (by rw [k3, i_0, iN_le (by omega) (by omega)]; omega)], Or.inr ⟨e 3 k, b (10 + k), e (10 + k), k2, (hB.2.2.1 3 k (Or.inl (by omega)) k1).1, hB.2.2.2.1 k k1, by rw [k4]; exact (hB.2.1 (10 + k) (Or.inr ⟨by omega, by omega⟩)).1.ls, rfl⟩, (fun _ hh => by rw [k2] at hh; cases hh), by omega⟩
      rw [hhi]
      rcases p_stepOf (Xp := Xp) (T := T1) hF s3 hne.2 hO2 with ⟨z, Q7, J12, z1, z2, z4, z5, z6, z7, z8⟩ | ⟨Q7, J12, z1, ⟨z, z2⟩, z5, z6, z7⟩
      · have hpI : ∀ {α : Type} (f : Th → Option α), pI T1 x 13 5 (iN z) f = f (tI T1 x 5 (iN z)) := fun f => pI_p hkk (by rw [hl1]; have := hL.2.1; have := hL.2.2.1; omega)
        have hC : R_step_B153 F Xp ot x Q1 T1 = R_step_B176 F Xp ot x Q7 (tI T1 x 5 (iN z)) := by
          simp only [R_step_B153, xb, w1', Option.bind_some, if_neg (show ¬ (1 : Int32) = 0 by decide), s1, z1, hpI]
        have hM2 : M_tellStep_B169 F K a2 a4 a5 a6 a7 a8 a9 hi 0 J8 = M_tellStep_B174 F K a2 a4 a5 a6 a7 a8 a9 (iN z) J12 := by
          unfold M_tellStep_B169
          rw [z2, Option.bind_some]
        rw [hC, hM2]
        have hO3 : TkO g Y e Q7 ot a2 a4 n := by
          rcases hO with ⟨o1, o2, o3, o4⟩ | hk
          · refine Or.inl ⟨o1, o2, o3, fun hh => o4 ?_⟩
            have := (z8 hh).1
            rw [s6, uJ_sn (by omega)] at this
            exact this
          · exact Or.inr hk
        refine step_174 (F := F) (u := z + 1) hI hO3 (by omega) z5 (hx.wI hxn) hxn hkk hN hZ ((hq.tr s4).tr z6) ((hj.tr s5).tr z7) (fun hh => ?_)
        obtain ⟨r1, r2⟩ := z8 hh
        rw [s6, uJ_sn (by omega)] at r1
        obtain ⟨r3, m1, m2, m3, m4, tl, ⟨b1, ⟨c1, c2, c3, c4, c5⟩, d1⟩⟩ := hv r1
        have r4 := r2 (hne.1 r1)
        refine ⟨r3, m1, m2, m3, m4, tl, ⟨b1, ⟨?_, ?_, ?_, ?_, ?_⟩, d1⟩, by omega, ?_, rfl⟩
        · rw [tI_2, if_neg (by omega)]; exact c1
        · rw [tI_2, if_neg (by omega)]; exact c2
        · rw [tI_2, if_neg (by omega)]; exact c3
        · rw [tI_2, if_neg (by omega)]; exact c4
        · rw [tI_2, if_neg (by omega)]; exact c5
        · rw [tI_2, if_pos ⟨rfl, rfl⟩]; rfl
      · right
        refine ⟨Q7, T1, J12, K, ?_, ?_, z5, (hq.tr s4).tr z6, ((hj.tr s5).tr z7).w, fun _ _ => rfl, hx.bl hL.2.2.1, hl1, hx.1⟩
        · simp only [R_step_B153, xb, w1', Option.bind_some, if_neg (show ¬ (1 : Int32) = 0 by decide), s1, z1]
        · unfold M_tellStep_B169
          rw [z2, Option.bind_some]
          rw [z5.fm.s174, Option.bind_some]
    · right
      have hf : FT Q5 J8 := ⟨_, _, s3⟩
      refine ⟨Q5, T1, J8, K, ?_, ?_, hf, hq.tr s4, (hj.tr s5).w, fun _ _ => rfl, hx.bl hL.2.2.1, hl1, hx.1⟩
      · simp only [R_step_B153, xb, w1', Option.bind_some, if_neg (show ¬ (1 : Int32) = 0 by decide), s1]
      · rw [s2, Option.bind_some]
        have h169 : ∀ h, M_tellStep_B169 F K a2 a4 a5 a6 a7 a8 a9 h 0 J8 = some J8 := fun h => by
          unfold M_tellStep_B169
          rw [hf.fm.bounded, Option.bind_some, hf.fm.s174]
        rw [h169, h169]
        by_cases c : (0 : Int32) ≤ a2
        · rw [if_pos c, Option.bind_some]
        · rw [if_neg c, Option.bind_some]
  · have w1' : R_isWord Xp 7 Q1 T1 = some (.inr (0, Q1, T1)) := w1
    have w2' : M_is J1 27 = some 0 := w2
    rw [w2', Option.bind_some, if_pos rfl]
    have hC : R_step_B153 F Xp ot x Q1 T1 = R_step_B176 F Xp ot x Q1 T1 := by
      simp only [R_step_B153, xb, w1', Option.bind_some, if_true]
    rw [hC]
    refine step_174 (F := F) (u := 0) hI hO ha1 hP hx hxn hkk hN hZ hq hj (fun hh => ?_)
    obtain ⟨r3, m1, m2, m3, m4, tl, r4⟩ := hv hh
    exact ⟨r3, m1, m2, m3, m4, tl, r4, by omega, by rw [h5]; rfl, rfl⟩
end ST2
section ST3
variable {n0 g txa nl Nn nb nc a : Nat} {Xp : Jr} {F N : Nat} {P E : Nat → Nat} {Q Q1 J J1 : Ji} {K : Jl} {T T1 : Th} {Y : Xt} {b ar : Nat → Nat} {e : Nat → Nat → Nat} {sg id_ : Nat → Nat} {nm : Nat → Nat → List Int32}
/-- a step, once its task is known -/
theorem step_67 {ot : Option Nat} {n : Nat} {a2 s0 s1 s2 : Int32} (hF : 2100 ≤ F) (hI : IV n0 g txa Xp N P E a Q J K T Y b ar e nl Nn sg id_ nm nb nc) (hO : TkO g Y e Q1 ot a2 (s2 * (s1 + s0) + iN n) n) (hP : PT N P E (a + 1 + 1) 0 Q1 J1 K) (hx : ExN T T1) (hN : tN T1 = tN T + 4) (hZ : tZ T1 ≤ tZ T + 32) (hq : qF Q Q1) (hj : jF J J1) (hQ : Q1 9 5 = iN 0 → Q 9 5 = iN 0) :
    StO n0 g txa Xp N P E a Q J K T (xb (R_step_B67 F Xp ot Q1 T1) fun r => R_sign Xp 59 r.1 r.2) ((M_tellStep_B59 F K a2 (iN n) s0 s1 s2 J1).bind fun r => some (r, K)) := by
  have hI0 := hI
  obtain ⟨h1, h2, h3, h4, h5, ⟨h6, h6b⟩, h7, h8, ⟨h9, h10⟩, h11⟩ := hI
  have hNN := h1.n
  have ha := h1.2.1
  obtain ⟨l1, l2, l3, l4, l5⟩ := h3
  have hl1 : tL T1 = tL T := hx.2.1
  obtain ⟨x, hxx⟩ : ∃ x, x = tN T1 := ⟨_, rfl⟩
  let T2 := tNew T1 (.inl 13) 6
  let T3 := tI (tI T2 x 4 (-2)) x 5 (-2)
  have k2 : T2.1 x = some (.inl 13) := by
    show (tNew T1 (.inl 13) 6).1 x = _
    rw [tNew_1, if_pos hxx]
  have hxn : tN T ≤ x := by omega
  have kb : (tL T1).2.2.1 ≤ x := by rw [hl1]; omega
  have x3 : ExN T T3 := ((hx.tr ExN.new).wI hxn).wI hxn
  have hnO : ∀ {α : Type} (f : Th → Option α), nO T1 13 6 f = f T2 := fun f => nO_p (by rw [hl1]; omega) (by rw [hl1]; omega)
  have hSt : A_Step x T2 = some T3 := by
    have e1 : ∀ g : Th → Option Th, pI T2 x 13 4 (-2) g = g (tI T2 x 4 (-2)) := fun g => pI_p k2 kb
    have e2 : ∀ g : Th → Option Th, pI (tI T2 x 4 (-2)) x 13 5 (-2) g = g T3 := fun g => pI_p k2 kb
    simp only [A_Step, e1, e2]
  have f34 : T3.2.1 x 4 = -2 := by
    show (tI (tI T2 x 4 (-2)) x 5 (-2)).2.1 x 4 = _
    rw [tI_2, if_neg (by omega), tI_2, if_pos ⟨rfl, rfl⟩]
  have f35 : T3.2.1 x 5 = -2 := by
    show (tI (tI T2 x 4 (-2)) x 5 (-2)).2.1 x 5 = _
    rw [tI_2, if_pos ⟨rfl, rfl⟩]
  have hpI : ∀ (T' : Th) (i : Nat) (v : Int32), T'.1 x = some (.inl 13) → tL T' = tL T1 → ∀ {α : Type} (f : Th → Option α), pI T' x 13 i v f = f (tI T' x i v) := fun T' i v hk hl {α} f => pI_p hk (by rw [hl]; exact kb)
  have hC0 : R_step_B67 F Xp ot Q1 T1 = xb (R_number F Xp 1 120 Q1 T3) fun r19 => pI r19.2.2 x 13 0 r19.1 fun T20 => xb (R_number F Xp 0 99 r19.2.1 T20) fun r21 => pI r21.2.2 x 13 1 r21.1 fun T22 => xb (R_number F Xp 0 99 r21.2.1 T22) fun r23 => pI r23.2.2 x 13 2 r23.1 fun T24 => xb (R_number F Xp 0 99 r23.2.1 T24) fun r25 => pI r25.2.2 x 13 3 r25.1 fun T26 => xb (R_isWord Xp 6 r25.2.1 T26) fun r27 => if r27.1 = 0 then R_step_B153 F Xp ot x r27.2.1 r27.2.2 else xb (R_pass Xp r27.2.1 r27.2.2) fun r28 => dR r28.2 txa 4 2 fun x30 => (x30).bind fun b31 => xb (R_known F Xp b31 r28.1 r28.2) fun r32 => pI r32.2.2 x 13 4 r32.1 fun T33 => R_step_B153 F Xp ot x r32.2.1 T33 := by
    unfold R_step_B67
    rw [hnO, ← hxx, hSt, Option.bind_some]
    simp only [h2, Option.bind_some]
  rw [hC0]
  have bl3 : ∀ c, c < n0 → At_ T T3 c := x3.bl l3
  rcases p_number (Xp := Xp) (T := T3) hF hP (lo := 1) (hi := 120) (by omega) (by omega) with ⟨v1, Qa, Ja, w1, w2, w3, w4, w5, w6, w7⟩ | ⟨Qa, Ja, w1, ⟨v, w2⟩, w3, w4, w5⟩
  · have w1' : R_number F Xp 1 120 Q1 T3 = some (.inr (iN v1, Qa, T3)) := w1
    have w2' : M_bounded 1 120 J1 = some (iN v1, Ja) := w2
    let T4 := tI T3 x 0 (iN v1)
    have x4 : ExN T T4 := x3.wI hxn
    rcases p_number (Xp := Xp) (T := T4) hF w4 (lo := 0) (hi := 99) (by omega) (by omega) with ⟨v2, Qb, Jb, y1, y2, y3, y4, y5, y6, y7⟩ | ⟨Qb, Jb, y1, ⟨v, y2⟩, y3, y4, y5⟩
    · have y1' : R_number F Xp 0 99 Qa T4 = some (.inr (iN v2, Qb, T4)) := y1
      have y2' : M_bounded 0 99 Ja = some (iN v2, Jb) := y2
      let T5 := tI T4 x 1 (iN v2)
      have x5 : ExN T T5 := x4.wI hxn
      rcases p_number (Xp := Xp) (T := T5) hF y4 (lo := 0) (hi := 99) (by omega) (by omega) with ⟨v3, Qc, Jc, z1, z2, z3, z4, z5, z6, z7⟩ | ⟨Qc, Jc, z1, ⟨v, z2⟩, z3, z4, z5⟩
      · have z1' : R_number F Xp 0 99 Qb T5 = some (.inr (iN v3, Qc, T5)) := z1
        have z2' : M_bounded 0 99 Jb = some (iN v3, Jc) := z2
        let T6 := tI T5 x 2 (iN v3)
        have x6 : ExN T T6 := x5.wI hxn
        rcases p_number (Xp := Xp) (T := T6) hF z4 (lo := 0) (hi := 99) (by omega) (by omega) with ⟨v4, Qd, Jd, t1, t2, t3, t4, t5, t6, t7⟩ | ⟨Qd, Jd, t1, ⟨v, t2⟩, t3, t4, t5⟩
        · have t1' : R_number F Xp 0 99 Qc T6 = some (.inr (iN v4, Qd, T6)) := t1
          have t2' : M_bounded 0 99 Jc = some (iN v4, Jd) := t2
          let T7 := tI T6 x 3 (iN v4)
          have x7 : ExN T T7 := x6.wI hxn
          have k7 : T7.1 x = some (.inl 13) := k2
          have qd : qF Q Qd := (((hq.tr w5).tr y5).tr z5).tr t5
          have jd : jF J Jd := (((hj.tr w6).tr y6).tr z6).tr t6
          have f70 : T7.2.1 x 0 = iN v1 := by
            show (tI (tI (tI (tI T3 x 0 (iN v1)) x 1 (iN v2)) x 2 (iN v3)) x 3 (iN v4)).2.1 x 0 = _
            rw [tI_2, if_neg (by omega), tI_2, if_neg (by omega), tI_2, if_neg (by omega), tI_2, if_pos ⟨rfl, rfl⟩]
          have f71 : T7.2.1 x 1 = iN v2 := by
            show (tI (tI (tI (tI T3 x 0 (iN v1)) x 1 (iN v2)) x 2 (iN v3)) x 3 (iN v4)).2.1 x 1 = _
            rw [tI_2, if_neg (by omega), tI_2, if_neg (by omega), tI_2, if_pos ⟨rfl, rfl⟩]
          have f72 : T7.2.1 x 2 = iN v3 := by
            show (tI (tI (tI (tI T3 x 0 (iN v1)) x 1 (iN v2)) x 2 (iN v3)) x 3 (iN v4)).2.1 x 2 = _
            rw [tI_2, if_neg (by omega), tI_2, if_pos ⟨rfl, rfl⟩]
          have f73 : T7.2.1 x 3 = iN v4 := by
            show (tI (tI (tI (tI T3 x 0 (iN v1)) x 1 (iN v2)) x 2 (iN v3)) x 3 (iN v4)).2.1 x 3 = _
            rw [tI_2, if_pos ⟨rfl, rfl⟩]
          have f74 : T7.2.1 x 4 = -2 := by
            show (tI (tI (tI (tI T3 x 0 (iN v1)) x 1 (iN v2)) x 2 (iN v3)) x 3 (iN v4)).2.1 x 4 = _
            rw [tI_2, if_neg (by omega), tI_2, if_neg (by omega), tI_2, if_neg (by omega), tI_2, if_neg (by omega)]; exact f34
          have f75 : T7.2.1 x 5 = -2 := by
            show (tI (tI (tI (tI T3 x 0 (iN v1)) x 1 (iN v2)) x 2 (iN v3)) x 3 (iN v4)).2.1 x 5 = _
            rw [tI_2, if_neg (by omega), tI_2, if_neg (by omega), tI_2, if_neg (by omega), tI_2, if_neg (by omega)]; exact f35
          have hQd : Qd 9 5 = iN 0 → Q1 9 5 = iN 0 ∧ 1 ≤ v1 ∧ v1 ≤ 120 ∧ v2 ≤ 99 ∧ v3 ≤ 99 ∧ v4 ≤ 99 := fun hh => by
            obtain ⟨r1, r2, r3⟩ := t7 hh
            obtain ⟨r4, r5, r6⟩ := z7 r1
            obtain ⟨r7, r8, r9⟩ := y7 r4
            obtain ⟨r10, r11, r12⟩ := w7 r7
            exact ⟨r10, r11, r12, r9, r6, r3⟩
          have hM : M_tellStep_B59 F K a2 (iN n) s0 s1 s2 J1 = (M_is Jd 26).bind fun r9 => if r9 = 0 then M_tellStep_B134 F K a2 (iN n) (s2 * (s1 + s0) + iN n) (iN v1) (iN v2) (iN v3) (iN v4) (-1) (-1) Jd else (M_goesOn Jd).bind fun r10 => (M_known F K 1 r10).bind fun r11 => M_tellStep_B134 F K a2 (iN n) (s2 * (s1 + s0) + iN n) (iN v1) (iN v2) (iN v3) (iN v4) r11.1 (-1) r11.2 := by
            unfold M_tellStep_B59
            rw [lt_e, w2', Option.bind_some]
            simp only [y2', z2', t2', Option.bind_some, if_pos (show Jd 0 13 = 0 from t4.2.2.2.2.1)]
          rw [hM]
          have hC1 : (xb (R_number F Xp 1 120 Q1 T3) fun r19 => pI r19.2.2 x 13 0 r19.1 fun T20 => xb (R_number F Xp 0 99 r19.2.1 T20) fun r21 => pI r21.2.2 x 13 1 r21.1 fun T22 => xb (R_number F Xp 0 99 r21.2.1 T22) fun r23 => pI r23.2.2 x 13 2 r23.1 fun T24 => xb (R_number F Xp 0 99 r23.2.1 T24) fun r25 => pI r25.2.2 x 13 3 r25.1 fun T26 => xb (R_isWord Xp 6 r25.2.1 T26) fun r27 => if r27.1 = 0 then R_step_B153 F Xp ot x r27.2.1 r27.2.2 else xb (R_pass Xp r27.2.1 r27.2.2) fun r28 => dR r28.2 txa 4 2 fun x30 => (x30).bind fun b31 => xb (R_known F Xp b31 r28.1 r28.2) fun r32 => pI r32.2.2 x 13 4 r32.1 fun T33 => R_step_B153 F Xp ot x r32.2.1 T33) = xb (R_isWord Xp 6 Qd T7) fun r27 => if r27.1 = 0 then R_step_B153 F Xp ot x r27.2.1 r27.2.2 else xb (R_pass Xp r27.2.1 r27.2.2) fun r28 => dR r28.2 txa 4 2 fun x30 => (x30).bind fun b31 => xb (R_known F Xp b31 r28.1 r28.2) fun r32 => pI r32.2.2 x 13 4 r32.1 fun T33 => R_step_B153 F Xp ot x r32.2.1 T33 := by
            have e1 : ∀ {α : Type} (f : Th → Option α), pI T3 x 13 0 (iN v1) f = f T4 := fun f => hpI T3 0 _ k2 rfl f
            have e2 : ∀ {α : Type} (f : Th → Option α), pI T4 x 13 1 (iN v2) f = f T5 := fun f => hpI T4 1 _ k2 rfl f
            have e3 : ∀ {α : Type} (f : Th → Option α), pI T5 x 13 2 (iN v3) f = f T6 := fun f => hpI T5 2 _ k2 rfl f
            have e4 : ∀ {α : Type} (f : Th → Option α), pI T6 x 13 3 (iN v4) f = f T7 := fun f => hpI T6 3 _ k2 rfl f
            simp only [xb, w1', Option.bind_some, e1, y1', e2, z1', e3, t1', e4]
          rw [hC1]
          have hn7 : tN T7 = tN T + 5 := by show tN T1 + 1 = _; omega
          have hz7 : tZ T7 ≤ tZ T + 38 := by show tZ T1 + 6 ≤ _; omega
          have hl7 : tL T7 = tL T := hl1
          have hOd : ∀ Q', (Q' 9 5 = iN 0 → Q1 9 5 = iN 0) → TkO g Y e Q' ot a2 (s2 * (s1 + s0) + iN n) n := fun Q' hh => by
            rcases hO with ⟨o1, o2, o3, o4⟩ | hk
            · exact Or.inl ⟨o1, o2, o3, fun hx => o4 (hh hx)⟩
            · exact Or.inr hk
          rcases p_isw (Xp := Xp) (T := T7) t4 (w := 6) (by omega) with ⟨i1, i2, i3⟩ | ⟨i1, i2⟩
          · have i1' : R_isWord Xp 6 Qd T7 = some (.inr (1, Qd, T7)) := i1
            have i2' : M_is Jd 26 = some 1 := i2
            rw [i2', Option.bind_some, if_neg (show ¬ (1 : Int32) = 0 by decide)]
            have hb7 := h4.ex l1 x7
            rcases p_pass (Xp := Xp) (T := T7) t4 ⟨by rw [i3]; decide, by rw [i3]; decide⟩ with ⟨Q5, J8, o1, o2, o3, o4, o5, o6, o7⟩ | ⟨Q5, J8, o1, o2, o3, o4, o5, o6⟩
            · rw [o2, Option.bind_some]
              have hdR : ∀ {α : Type} (f : Option Nat → Option α), dR T7 txa 4 2 f = f (some (b 2)) := fun f => by rw [dR_p hb7.1.1, hb7.1.2.2.1 2 (by omega)]
              rcases p_known2 (Xp := Xp) (T := T7) (s := 1) hF o3 (x7.2.2.2 l1) (hb7.rws (h5.sm h4 (ExN.sm l1 x7))) (h6.fr (by rw [o5.1 9 (by omega), jd.1 9 (by omega)]) (by rw [o5.1 10 (by omega), jd.1 10 (by omega)]) (by rw [o5.2 20 (by omega), jd.2 20 (by omega)])) (by omega) (by rw [hl7]; omega) (by rw [hl7]; omega) (by rw [hl7]; omega) with ⟨u, Q6, T8, J9, u1, u2, u3, u4, u5, u6, u7, u8, u9⟩ | ⟨Q6, J9, u1, u2, u3, u4, u5⟩
              · have u1' : R_known F Xp (b 2) Q5 T7 = some (.inr (u, Q6, T8)) := u1
                have u2' : M_known F K 1 J8 = some (u, J9) := u2
                have d8 := u7.2.2.1 x (by omega)
                have k8 : T8.1 x = some (.inl 13) := by rw [d8.1]; exact k7
                have hl8 : tL T8 = tL T := u7.2.1.trans hl7
                have hpI8 : ∀ {α : Type} (f : Th → Option α), pI T8 x 13 4 u f = f (tI T8 x 4 u) := fun f => pI_p k8 (by rw [hl8]; omega)
                have hC2 : (xb (R_isWord Xp 6 Qd T7) fun r27 => if r27.1 = 0 then R_step_B153 F Xp ot x r27.2.1 r27.2.2 else xb (R_pass Xp r27.2.1 r27.2.2) fun r28 => dR r28.2 txa 4 2 fun x30 => (x30).bind fun b31 => xb (R_known F Xp b31 r28.1 r28.2) fun r32 => pI r32.2.2 x 13 4 r32.1 fun T33 => R_step_B153 F Xp ot x r32.2.1 T33) = R_step_B153 F Xp ot x Q6 (tI T8 x 4 u) := by
                  simp only [xb, i1', Option.bind_some, if_neg (show ¬ (1 : Int32) = 0 by decide), o1, hdR, u1', hpI8]
                rw [hC2, u2', Option.bind_some]
                have hQ6 : Q6 9 5 = iN 0 → Qd 9 5 = iN 0 ∧ ∃ i, i < Y.1 2 ∧ u = iN i := fun hh => by
                  rcases u3 with ⟨i, i1, i2, i3⟩ | ⟨i2, i3⟩
                  · rw [i3, o6, uJ_sn (by omega)] at hh
                    exact ⟨hh, i, i1, i2⟩
                  · exact absurd hh i3
                refine step_153 hF hI0 (hOd Q6 (fun hh => (hQd (hQ6 hh).1).1)) (by omega) u4 ((x7.tr u7).wI hxn) hxn k8 (by show tN T8 ≤ _; omega) (by show tZ T8 ≤ _; omega) ((qd.tr o4).tr u5) ((jd.tr o5).tr u6) ?_ (fun hh => ?_)
                · rw [tI_2, if_neg (by omega), d8.2.1]; exact f75
                · obtain ⟨r1, i, r2, r3⟩ := hQ6 hh
                  obtain ⟨r4, r5, r6, r7, r8, r9⟩ := hQd r1
                  refine ⟨hQ r4, v1, v2, v3, v4, i + 1, ⟨r5, r6, r7, r8, r9, r2⟩, ⟨?_, ?_, ?_, ?_, ?_⟩, rfl, rfl, rfl, rfl, by rw [r3]; rfl⟩
                  · rw [tI_2, if_neg (by omega), d8.2.1]; exact f70
                  · rw [tI_2, if_neg (by omega), d8.2.1]; exact f71
                  · rw [tI_2, if_neg (by omega), d8.2.1]; exact f72
                  · rw [tI_2, if_neg (by omega), d8.2.1]; exact f73
                  · rw [tI_2, if_pos ⟨rfl, rfl⟩, r3]; rfl
              · right
                have u1' : R_known F Xp (b 2) Q5 T7 = some (.inl (Q6, Xp, T7)) := u1
                have u2' : M_known F K 1 J8 = some (-1, J9) := u2
                refine ⟨Q6, T7, J9, K, ?_, ?_, u3, (qd.tr o4).tr u4, ((jd.tr o5).tr u5).w, fun _ _ => rfl, x7.bl l3, hl7, x7.1⟩
                · simp only [xb, i1', Option.bind_some, if_neg (show ¬ (1 : Int32) = 0 by decide), o1, hdR, u1']
                · rw [u2', Option.bind_some, u3.fm.s134, Option.bind_some]
            · right
              have hf : FT Q5 J8 := ⟨_, _, o3⟩
              refine ⟨Q5, T7, J8, K, ?_, ?_, hf, qd.tr o4, (jd.tr o5).w, fun _ _ => rfl, x7.bl l3, hl7, x7.1⟩
              · simp only [xb, i1', Option.bind_some, if_neg (show ¬ (1 : Int32) = 0 by decide), o1]
              · rw [o2, Option.bind_some, hf.fm.known, Option.bind_some, hf.fm.s134, Option.bind_some]
          · have i1' : R_isWord Xp 6 Qd T7 = some (.inr (0, Qd, T7)) := i1
            have i2' : M_is Jd 26 = some 0 := i2
            rw [i2', Option.bind_some, if_pos rfl]
            have hC2 : (xb (R_isWord Xp 6 Qd T7) fun r27 => if r27.1 = 0 then R_step_B153 F Xp ot x r27.2.1 r27.2.2 else xb (R_pass Xp r27.2.1 r27.2.2) fun r28 => dR r28.2 txa 4 2 fun x30 => (x30).bind fun b31 => xb (R_known F Xp b31 r28.1 r28.2) fun r32 => pI r32.2.2 x 13 4 r32.1 fun T33 => R_step_B153 F Xp ot x r32.2.1 T33) = R_step_B153 F Xp ot x Qd T7 := by
              simp only [xb, i1', Option.bind_some, if_true]
            rw [hC2]
            refine step_153 hF hI0 (hOd Qd (fun hh => (hQd hh).1)) (by omega) t4 x7 hxn k7 (by omega) (by omega) qd jd f75 (fun hh => ?_)
            obtain ⟨r4, r5, r6, r7, r8, r9⟩ := hQd hh
            exact ⟨hQ r4, v1, v2, v3, v4, 0, ⟨r5, r6, r7, r8, r9, by omega⟩, ⟨f70, f71, f72, f73, by rw [f74]; rfl⟩, rfl, rfl, rfl, rfl, rfl⟩
        · right
          have t1' : R_number F Xp 0 99 Qc T6 = some (.inl (Qd, Xp, T6)) := t1
          have t2' : M_bounded 0 99 Jc = some (v, Jd) := t2
          refine ⟨Qd, T6, Jd, K, ?_, ?_, t3, (((hq.tr w5).tr y5).tr z5).tr t4, ((((hj.tr w6).tr y6).tr z6).tr t5).w, fun _ _ => rfl, x6.bl l3, hl1, x6.1⟩
          · have e1 : ∀ {α : Type} (f : Th → Option α), pI T3 x 13 0 (iN v1) f = f T4 := fun f => hpI T3 0 _ k2 rfl f
            have e2 : ∀ {α : Type} (f : Th → Option α), pI T4 x 13 1 (iN v2) f = f T5 := fun f => hpI T4 1 _ k2 rfl f
            have e3 : ∀ {α : Type} (f : Th → Option α), pI T5 x 13 2 (iN v3) f = f T6 := fun f => hpI T5 2 _ k2 rfl f
            simp only [xb, w1', Option.bind_some, e1, y1', e2, z1', e3, t1']
          · unfold M_tellStep_B59
            simp only [lt_e, w2', y2', z2', t2', Option.bind_some, if_neg t3.n0.1, t3.fm.s134]
      · right
        have z1' : R_number F Xp 0 99 Qb T5 = some (.inl (Qc, Xp, T5)) := z1
        have z2' : M_bounded 0 99 Jb = some (v, Jc) := z2
        refine ⟨Qc, T5, Jc, K, ?_, ?_, z3, ((hq.tr w5).tr y5).tr z4, (((hj.tr w6).tr y6).tr z5).w, fun _ _ => rfl, x5.bl l3, hl1, x5.1⟩
        · have e1 : ∀ {α : Type} (f : Th → Option α), pI T3 x 13 0 (iN v1) f = f T4 := fun f => hpI T3 0 _ k2 rfl f
          have e2 : ∀ {α : Type} (f : Th → Option α), pI T4 x 13 1 (iN v2) f = f T5 := fun f => hpI T4 1 _ k2 rfl f
          simp only [xb, w1', Option.bind_some, e1, y1', e2, z1']
        · unfold M_tellStep_B59
          simp only [lt_e, w2', y2', z2', z3.fm.bounded, Option.bind_some, if_neg z3.n0.1, z3.fm.s134]
    · right
      have y1' : R_number F Xp 0 99 Qa T4 = some (.inl (Qb, Xp, T4)) := y1
      have y2' : M_bounded 0 99 Ja = some (v, Jb) := y2
      refine ⟨Qb, T4, Jb, K, ?_, ?_, y3, (hq.tr w5).tr y4, ((hj.tr w6).tr y5).w, fun _ _ => rfl, x4.bl l3, hl1, x4.1⟩
      · have e1 : ∀ {α : Type} (f : Th → Option α), pI T3 x 13 0 (iN v1) f = f T4 := fun f => hpI T3 0 _ k2 rfl f
        simp only [xb, w1', Option.bind_some, e1, y1']
      · unfold M_tellStep_B59
        simp only [lt_e, w2', y2', y3.fm.bounded, Option.bind_some, if_neg y3.n0.1, y3.fm.s134]
  · right
    have w1' : R_number F Xp 1 120 Q1 T3 = some (.inl (Qa, Xp, T3)) := w1
    have w2' : M_bounded 1 120 J1 = some (v, Ja) := w2
    refine ⟨Qa, T3, Ja, K, ?_, ?_, w3, hq.tr w4, (hj.tr w5).w, fun _ _ => rfl, bl3, hl1, x3.1⟩
    · simp only [xb, w1', Option.bind_some]
    · unfold M_tellStep_B59
      simp only [lt_e, w2', w3.fm.bounded, Option.bind_some, if_neg w3.n0.1, w3.fm.s134]
/-- "step" task int int int int ("with" tool)? ("undoes" int)? ";" -/
theorem p_step (hF : 2100 ≤ F) (h : IVx n0 g txa Xp N P E a Q J K T) (hk : Q 5 a = iN 3) : StO n0 g txa Xp N P E a Q J K T (xb (R_told_B24 F Xp 5 Q T) fun r => R_sign Xp 59 r.1 r.2) ((M_goesOn J).bind fun r14 => (M_tellStep F K ((r14 0 11) - 1) r14).bind fun r15 => some (r15, K)) := by
  obtain ⟨Y, b, ar, e, nl, Nn, sg, id_, nm, nb, nc, hI⟩ := h
  have hI0 := hI
  obtain ⟨h1, h2, h3, h4, h5, ⟨h6, h6b⟩, h7, h8, ⟨h9, h10⟩, h11⟩ := hI
  have hNN := h1.n
  have ha := h1.2.1
  obtain ⟨l1, l2, l3, l4, l5⟩ := h3
  have hdR : ∀ {α : Type} (T' : Th) (j : Nat) (hj : j < 5) (hb : BdH n0 T' txa (xk Y) Y b ar e nl) (f : Option Nat → Option α), dR T' txa 4 j f = f (some (b j)) := fun T' j hj hb f => by rw [dR_p hb.1.1, hb.1.2.2.1 j hj]
  obtain ⟨⟨j1, j2⟩, ⟨j3, j4⟩, j5, j6, j7⟩ := h7
  have hm9 := h4.2.2.2.2.2
  have hxT : R_told_B24 F Xp 5 Q T = xb (R_step F Xp Q T) fun r56 => some (.inr (r56.1, r56.2)) := by
    unfold R_told_B24
    rw [if_neg (by decide), if_neg (by decide), if_neg (by decide), if_neg (by decide), if_pos rfl]
  rw [hxT, xb_et]
  have hxC : R_step F Xp Q T = xb (R_pass Xp Q T) fun r2 => dR r2.2 txa 4 3 fun x4 => (x4).bind fun b5 => xb (R_known F Xp b5 r2.1 r2.2) fun r6 => if 0 ≤ r6.1 then dR r6.2.2 txa 4 3 fun x8 => (x8).bind fun b9 => dC r6.2.2 b9 19 <| (L_get r6.2.2 b9 r6.1).bind fun r10 => (r10).bind fun b11 => dC r6.2.2 b11 12 <| R_step_B43 F Xp (iN a) (some b11) r6.2.1 r6.2.2 else R_step_B43 F Xp (iN a) none r6.2.1 r6.2.2 := by
    unfold R_step
    rw [h1.2.2.1, lt_e]
    simp only [h2, Option.bind_some]
  rw [hxC]
  rcases p_pass (Xp := Xp) (T := T) h1 ⟨by rw [hk]; decide, by rw [hk]; decide⟩ with ⟨Q1, J1, a1, a2, a3, a4, a5, a6, a7⟩ | ⟨Q1, J1, a1, a2, a3, a4, a5, a6⟩
  · rw [a2, Option.bind_some]
    have e1 : J1 0 11 - 1 = iN a := by rw [a3.2.2.2.1, i_1, iN_sub (by omega)]; rfl
    rw [e1]
    rcases p_known2 (Xp := Xp) (T := T) (s := 2) hF a3 l1 (h4.rws h5) (h6.fr (a5.1 9 (by omega)) (a5.1 10 (by omega)) (a5.2 20 (by omega))) (by omega) (by omega) (by omega) (by omega) with ⟨v, Q3, T5, J3, p1, p2, p3, p4, p5, p6, p7, p8, p9⟩ | ⟨Q3, J3, p1, p2, p3, p4, p5⟩
    · have p1' : R_known F Xp (b 3) Q1 T = some (.inr (v, Q3, T5)) := p1
      have p2' : M_known F K 2 J1 = some (v, J3) := p2
      have hb5 := h4.ex l1 p7
      have c19 : J3 0 19 = iN g := by rw [p6.2 19 (by omega), a5.2 19 (by omega)]; exact j2
      have c22 : J3 22 = J 22 := by rw [p6.1 22 (by omega), a5.1 22 (by omega)]
      have hM : M_tellStep F K (iN a) J1 = if 0 ≤ v then ldI J3 22 12 ((6 * (J3 0 19)) + v) fun x2 => M_tellStep_B28 F K (iN a) v x2 J3 else M_tellStep_B28 F K (iN a) v 0 J3 := by
        unfold M_tellStep
        rw [p2', Option.bind_some]
      rw [hM]
      have hC : ∀ (X : Option ((Ji × Jr × Th) ⊕ (Ji × Th))), (if 0 ≤ v then dR T5 txa 4 3 fun x8 => (x8).bind fun b9 => dC T5 b9 19 <| (L_get T5 b9 v).bind fun r10 => (r10).bind fun b11 => dC T5 b11 12 <| R_step_B43 F Xp (iN a) (some b11) Q3 T5 else R_step_B43 F Xp (iN a) none Q3 T5) = X → (xb (R_pass Xp Q T) fun r2 => dR r2.2 txa 4 3 fun x4 => (x4).bind fun b5 => xb (R_known F Xp b5 r2.1 r2.2) fun r6 => if 0 ≤ r6.1 then dR r6.2.2 txa 4 3 fun x8 => (x8).bind fun b9 => dC r6.2.2 b9 19 <| (L_get r6.2.2 b9 r6.1).bind fun r10 => (r10).bind fun b11 => dC r6.2.2 b11 12 <| R_step_B43 F Xp (iN a) (some b11) r6.2.1 r6.2.2 else R_step_B43 F Xp (iN a) none r6.2.1 r6.2.2) = X := fun X hX => by
        rw [← hX]
        simp only [xb, a1, Option.bind_some, hdR T 3 (by omega) h4, p1']
      have hQ1 : Q1 9 5 = Q 9 5 := by rw [a6, uJ_sn (by omega)]
      rcases p3 with ⟨i, i1, i2, i3⟩ | ⟨i2, i3⟩
      · have i1' : i < Y.1 3 := i1
        have hb3 : Y.1 3 ≤ 6 := hm9.2.2.2.1
        have hu0 : (0 : Int32) ≤ v := by rw [i2, i_0, iN_le (by omega) (by omega)]; omega
        have hkd : T5.1 (e 3 i) = some (.inl 12) := (hb5.2.2.1 3 i (Or.inl (by omega)) i1').1
        have hgl := (hb5.2.1 (10 + i) (Or.inr ⟨by omega, by show 10 + i < 10 + Y.1 3; omega⟩)).1
        have hx6' : Y.1 (10 + i) ≤ 6 := hm9.2.2.2.2.2.2.1 i i1'
        have hX : (if 0 ≤ v then dR T5 txa 4 3 fun x8 => (x8).bind fun b9 => dC T5 b9 19 <| (L_get T5 b9 v).bind fun r10 => (r10).bind fun b11 => dC T5 b11 12 <| R_step_B43 F Xp (iN a) (some b11) Q3 T5 else R_step_B43 F Xp (iN a) none Q3 T5) = if iN (xs Y i) = 6 then (R_wrongAt T5 2 (iN a) Q3).bind fun r16 => some (.inl (r16, Xp, T5)) else R_step_B67 F Xp (some (e 3 i)) Q3 T5 := by
          rw [if_pos hu0, hdR T5 3 (by omega) hb5, Option.bind_some, i2, (hb5.2.1 3 (Or.inl (by omega))).1.ls.gt i1', Option.bind_some, dC_p hkd]
          unfold R_step_B43
          show (dR T5 (e 3 i) 12 3 fun x13 => _) = _
          rw [dR_p hkd, hb5.2.2.2.1 i i1', Option.bind_some, hgl.ls.sz]
        rw [hC _ hX, if_pos hu0]
        have e22 : 6 * J3 0 19 + v = iN (6 * g + i) := by rw [c19, i2, i_6, iN_mul, iN_add]
        rw [e22, ldI_n (by omega) (by omega), c22, j5 i i1']
        unfold M_tellStep_B28
        by_cases c6 : iN (xs Y i) = 6
        · rw [if_pos c6, if_pos c6]
          obtain ⟨Q4, J4, f1, f2, f3, f4, f5, f6⟩ := p_wrongAt (T := T5) p4 (w := 2) (i := a) (by omega) (by omega) (by omega)
          have f1' : R_wrongAt T5 2 (iN a) Q3 = some Q4 := f1
          have f2' : M_failAt 2 (iN a) J3 = some J4 := f2
          right
          have hf : FT Q4 J4 := ⟨_, _, f3⟩
          refine ⟨Q4, T5, J4, K, ?_, ?_, hf, (a4.tr p5).tr f4, ((a5.tr p6).tr f5).w, fun _ _ => rfl, p7.bl l3, p7.2.1, p7.1⟩
          · rw [f1', Option.bind_some]; rfl
          · rw [f2', Option.bind_some, hf.fm.s41, Option.bind_some]
        · rw [if_neg c6, if_neg c6]
          have hne : xs Y i ≠ 6 := fun hh => c6 (by rw [hh]; rfl)
          unfold M_tellStep_B41
          rw [if_pos hu0]
          refine step_67 hF hI0 (Or.inr ⟨i, i1, rfl, i2, rfl, by show Y.1 (10 + i) < 6; have : Y.1 (10 + i) ≠ 6 := hne; omega, ?_⟩) p4 p7 p8 p9 (a4.tr p5) (a5.tr p6) (fun hh => by rw [i3, hQ1] at hh; exact hh)
          rw [c19, i2, i_6, iN_mul, iN_add, iN_mul, iN_add]
      · have hu0 : ¬ (0 : Int32) ≤ v := by rw [i2]; decide
        rw [hC _ (if_neg hu0), if_neg hu0]
        have hX : R_step_B43 F Xp (iN a) none Q3 T5 = R_step_B67 F Xp none Q3 T5 := rfl
        rw [hX]
        unfold M_tellStep_B28
        rw [if_neg (show ¬ (0 : Int32) = 6 by decide)]
        unfold M_tellStep_B41
        rw [if_neg hu0]
        exact step_67 (n := 0) hF hI0 (Or.inl ⟨rfl, i2, rfl, i3⟩) p4 p7 p8 p9 (a4.tr p5) (a5.tr p6) (fun hh => absurd hh i3)
    · right
      have p1' : R_known F Xp (b 3) Q1 T = some (.inl (Q3, Xp, T)) := p1
      have p2' : M_known F K 2 J1 = some (-1, J3) := p2
      refine ⟨Q3, T, J3, K, ?_, ?_, p3, a4.tr p4, (a5.tr p5).w, fun _ _ => rfl, fun c hc => ⟨rfl, rfl, rfl⟩, rfl, Nat.le_refl _⟩
      · simp only [xb, a1, Option.bind_some, hdR T 3 (by omega) h4, p1']
      · unfold M_tellStep
        rw [p2', Option.bind_some]
        show (if (0 : Int32) ≤ -1 then _ else M_tellStep_B28 F K (iN a) (-1) 0 J3).bind _ = _
        rw [if_neg (show ¬ (0 : Int32) ≤ -1 by decide)]
        unfold M_tellStep_B28
        rw [if_neg (show ¬ (0 : Int32) = 6 by decide), p3.fm.s41, Option.bind_some]
  · right
    have hf : FT Q1 J1 := ⟨_, _, a3⟩
    refine ⟨Q1, T, J1, K, ?_, ?_, hf, a4, a5.w, fun _ _ => rfl, fun c hc => ⟨rfl, rfl, rfl⟩, rfl, Nat.le_refl _⟩
    · simp only [xb, a1, Option.bind_some]
    · rw [a2, Option.bind_some]
      unfold M_tellStep
      rw [hf.fm.known, Option.bind_some]
      show (if (0 : Int32) ≤ -1 then _ else M_tellStep_B28 F K _ (-1) 0 J1).bind _ = _
      rw [if_neg (show ¬ (0 : Int32) ≤ -1 by decide)]
      unfold M_tellStep_B28
      rw [if_neg (show ¬ (0 : Int32) = 6 by decide), hf.fm.s41, Option.bind_some]
end ST3
