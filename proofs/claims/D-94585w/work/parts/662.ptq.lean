/-! PURE LAW 45: a task is told -/
set_option maxRecDepth 100000
theorem FM.u {J : Ji} {o i : Nat} {v : Int32} (h : FM J) (ho : o ≠ 0) : FM (uJ J o i v) := by
  obtain ⟨w, h1, h2, h3⟩ := h
  exact ⟨w, h1, h2, by rw [uJ_o (Ne.symm ho)]; exact h3⟩
theorem sm_rf {k : Dk → Prop} {T : Th} : SmK k T T := fun _ _ _ _ => ⟨rfl, rfl, rfl⟩
/-- a text, with no steps yet of the task that comes next -/
def rst_ (Y : Xt) : Xt := (fun q => if q = 10 + xk Y then 0 else Y.1 q, Y.2)
section RS
variable {T : Th} {J : Ji} {K : Jl} {Y : Xt} {e : Nat → Nat → Nat} {g nb nc nl : Nat}
theorem rst_o {q : Nat} (h : q ≠ 10 + xk Y) : (rst_ Y).1 q = Y.1 q := if_neg h
theorem rst_5 {q : Nat} (h : q ≤ 5) : (rst_ Y).1 q = Y.1 q := rst_o (by omega)
theorem rst_x {k : Nat} (h : k < xk Y) : xs (rst_ Y) k = xs Y k := rst_o (by have : k < Y.1 3 := h; show 10 + k ≠ 10 + Y.1 3; omega)
theorem VTx.rs (h : VTx T Y e) : VTx T (rst_ Y) e := by
  obtain ⟨v1, v2, v3, v4, v5⟩ := h
  refine ⟨fun d hd => v1 d (by rw [show xd (rst_ Y) = xd Y from rst_5 (by omega)] at hd; exact hd), fun d hd => v2 d (by rw [show xt (rst_ Y) = xt Y from rst_5 (by omega)] at hd; exact hd), fun d hd => v3 d (by rw [show xk (rst_ Y) = xk Y from rst_5 (by omega)] at hd; exact hd), fun k s hk hs => ?_, fun d hd => v5 d (by rw [show xm (rst_ Y) = xm Y from rst_5 (by omega)] at hd; exact hd)⟩
  rw [show xk (rst_ Y) = xk Y from rst_5 (by omega)] at hk
  rw [rst_x hk] at hs
  exact v4 k s hk hs
theorem VJx.rs (h : VJx J g nb nc Y) : VJx J g nb nc (rst_ Y) := by
  obtain ⟨v1, v2, v3, v4, v5, v6, v7⟩ := h
  refine ⟨fun d hd => v1 d (by rw [show xd (rst_ Y) = xd Y from rst_5 (by omega)] at hd; exact hd), fun d hd => v2 d (by rw [show xt (rst_ Y) = xt Y from rst_5 (by omega)] at hd; exact hd), fun d hd => v3 d (by rw [show xk (rst_ Y) = xk Y from rst_5 (by omega)] at hd; exact hd), fun k s hk hs => ?_, fun d hd => v5 d (by rw [show xm (rst_ Y) = xm Y from rst_5 (by omega)] at hd; exact hd), by rw [show xn (rst_ Y) = xn Y from rst_5 (by omega)]; exact v6, fun d hd => v7 d (by rw [show xm (rst_ Y) = xm Y from rst_5 (by omega)] at hd; exact hd)⟩
  rw [show xk (rst_ Y) = xk Y from rst_5 (by omega)] at hk
  rw [rst_x hk] at hs
  exact v4 k s hk hs
theorem TxV.rs (h : TxV Y) : TxV (rst_ Y) := by
  obtain ⟨⟨t0, t1, t2, t3, t4, t5, t6⟩, td, tt, tk, ts, tm⟩ := h
  have e0 : xr (rst_ Y) = xr Y := rst_5 (by omega)
  have e1 : xd (rst_ Y) = xd Y := rst_5 (by omega)
  have e2 : xt (rst_ Y) = xt Y := rst_5 (by omega)
  have e3 : xk (rst_ Y) = xk Y := rst_5 (by omega)
  have e4 : xm (rst_ Y) = xm Y := rst_5 (by omega)
  have e5 : xn (rst_ Y) = xn Y := rst_5 (by omega)
  refine ⟨⟨by rw [e0]; exact t0, by rw [e1]; exact t1, by rw [e2]; exact t2, by rw [e3]; exact t3, by rw [e4]; exact t4, by rw [e5]; exact t5, by rw [e5]; exact t6⟩, fun d hd => ?_, fun d hd => ?_, fun d hd => ?_, fun k s hk hs => ?_, fun d hd => ?_⟩
  · rw [e1] at hd; rw [e0]; exact td d hd
  · rw [e2] at hd; rw [e0]; exact tt d hd
  · rw [e3] at hd; rw [e0, rst_x hd]; exact tk d hd
  · rw [e3] at hk; rw [rst_x hk] at hs ⊢; rw [e2]; exact ts k s hk hs
  · rw [e4] at hd; rw [e0, e3]
    obtain ⟨y1, y2⟩ := tm d hd
    refine ⟨y1, ?_⟩
    rcases y2 with y2 | ⟨k, s, z1, z2, z3, z4⟩
    · exact Or.inl y2
    · exact Or.inr ⟨k, s, z1, z2, z3, by rw [rst_x z3]; exact z4⟩
theorem BdJ.rs (h : BdJ J g Y nl nb nc) : BdJ J g (rst_ Y) nl nb nc := by
  obtain ⟨h1, ⟨a1, a2, a3, a4, a5, a6⟩, h3, h4⟩ := h
  refine ⟨h1, ⟨by rw [show xr (rst_ Y) = xr Y from rst_5 (by omega)]; exact a1, by rw [show xd (rst_ Y) = xd Y from rst_5 (by omega)]; exact a2, by rw [show xt (rst_ Y) = xt Y from rst_5 (by omega)]; exact a3, by rw [show xk (rst_ Y) = xk Y from rst_5 (by omega)]; exact a4, by rw [show xm (rst_ Y) = xm Y from rst_5 (by omega)]; exact a5, a6⟩, fun k hk => ?_, h4⟩
  rw [show xk (rst_ Y) = xk Y from rst_5 (by omega)] at hk
  rw [rst_x hk]
  exact h3 k hk
theorem BdJ.fr {J1 : Ji} (h : BdJ J g Y nl nb nc) (h0 : ∀ i, 16 < i → J1 0 i = J 0 i) (hp : ∀ p, p = 11 ∨ p = 12 ∨ p = 17 ∨ p = 19 ∨ p = 29 ∨ p = 33 → J1 p = J p) (h22 : ∀ k, k < xk Y → J1 22 (6 * g + k) = J 22 (6 * g + k)) : BdJ J1 g Y nl nb nc := by
  obtain ⟨⟨j1, j2⟩, ⟨j3, j4⟩, j5, j6, j7⟩ := h
  refine ⟨⟨j1, by rw [h0 19 (by omega)]; exact j2⟩, ⟨by rw [hp 11 (by omega)]; exact j3, by rw [hp 12 (by omega), hp 17 (by omega), hp 19 (by omega), hp 29 (by omega), hp 33 (by omega)]; exact j4⟩, fun k hk => by rw [h22 k hk]; exact j5 k hk, by rw [h0 49 (by omega)]; exact j6, by rw [h0 56 (by omega)]; exact j7⟩
end RS
section TQ
variable {n0 g txa : Nat} {Xp : Jr} {F N : Nat} {P E : Nat → Nat} {a : Nat} {Q J : Ji} {K : Jl} {T : Th}
/-- "task" name room int ";" -/
theorem p_task (hF : 2100 ≤ F) (h : IVx n0 g txa Xp N P E a Q J K T) (hk : Q 5 a = iN 3) : StO n0 g txa Xp N P E a Q J K T (xb (R_told_B24 F Xp 4 Q T) fun r => R_sign Xp 59 r.1 r.2) (ldI J 19 2 (J 0 19) fun x2 => (M_roomFor x2 6 J).bind fun r3 => if (r3 0 13) = 0 then (M_tellTask F r3 K).bind fun r4 => some (r4.1, r4.2) else some (r3, K)) := by
  obtain ⟨Y, b, ar, e, nl, Nn, sg, id_, nm, nb, nc, h1, h2, h3, h4, h5, ⟨h6, h6b⟩, h7, h8, ⟨h9, h10⟩, h11⟩ := h
  have hNN := h1.n
  have ha := h1.2.1
  have hl0 := h3
  have h7c := h7
  obtain ⟨l1, l2, l3, l4, l5⟩ := h3
  have g2 := (h4.2.1 3 (Or.inl (by omega))).1
  have hdR : ∀ {α : Type} (T' : Th) (j : Nat) (hj : j < 5) (hb : BdH n0 T' txa (xk Y) Y b ar e nl) (f : Option Nat → Option α), dR T' txa 4 j f = f (some (b j)) := fun T' j hj hb f => by rw [dR_p hb.1.1, hb.1.2.2.1 j hj]
  obtain ⟨⟨j1, j2⟩, ⟨j3, j4⟩, j5, j6, j7⟩ := h7
  have j17 : J 19 g = iN (xk Y) := j4.2.2.1
  rw [show (ldI J 19 2 (J 0 19) fun x2 => (M_roomFor x2 6 J).bind fun r3 => if (r3 0 13) = 0 then (M_tellTask F r3 K).bind fun r4 => some (r4.1, r4.2) else some (r3, K)) = (M_roomFor (iN (xk Y)) 6 J).bind fun r3 => if (r3 0 13) = 0 then (M_tellTask F r3 K).bind fun r4 => some (r4.1, r4.2) else some (r3, K) by rw [j2, ldI_n (by omega) (by omega), j17]]
  have hxC : R_told_B24 F Xp 4 Q T = xb (R_begins Xp (iN (xk Y)) 6 Q T) fun r39 => nO r39.2 12 4 fun T40 => xb (R_name F Xp r39.1 T40) fun r41 => (r41.1).bind fun b42 => (A_Task (tN r39.2) b42 r41.2.2).bind fun r43 => dR r43 txa 4 0 fun x45 => (x45).bind fun b46 => xb (R_known F Xp b46 r41.2.1 r43) fun r47 => pI r47.2.2 (tN r39.2) 12 1 r47.1 fun T48 => xb (R_number F Xp 0 999 r47.2.1 T48) fun r49 => pI r49.2.2 (tN r39.2) 12 2 r49.1 fun T50 => dR T50 txa 4 3 fun x52 => (x52).bind fun b53 => dC T50 b53 19 <| (A_L_add b53 (tN r39.2) T50).bind fun r54 => some (.inr (r49.2.1, r54.2)) := by
    unfold R_told_B24
    rw [if_neg (by decide), if_neg (by decide), if_neg (by decide), if_pos rfl, h2, Option.bind_some, hdR T 3 (by omega) h4, Option.bind_some, g2.ls.sz]
    simp only [Option.bind_some]
  rw [hxC]
  have hid : ∀ x : Option (Ji × Jl), (x.bind fun r => some (r.1, r.2)) = x := fun x => by cases x <;> rfl
  have e6 : 6 * iN g + iN (xk Y) = iN (6 * g + Y.1 3) := by rw [i_6, iN_mul, iN_add]
  have hm9 := h4.2.2.2.2.2
  rcases p_begins (Xp := Xp) (T := T) h1 hk (x := iN (xk Y)) (y := 6) with ⟨Q1, J1, a1, a2, a3, a4, a5, a6, a7⟩ | ⟨Q1, J1, a1, a2, a3, a4, a5⟩
  · have hx6 : Y.1 3 ≠ 6 := fun hh => begins_ne a1 (by show iN (Y.1 3) = 6; rw [hh]; rfl)
    have hx7 : Y.1 3 ≤ 6 := hm9.2.2.2.1
    have hj13 : J1 0 13 = 0 := a3.2.2.2.2.1
    have q19 : J1 0 19 = iN g := by rw [a5.2 19 (by omega)]; exact j2
    have r17 : J1 19 g = iN (xk Y) := by rw [a5.1 19 (by omega)]; exact j17
    let T2 := tNew T (.inl 12) 4
    have x2 : ExN T T2 := ExN.new
    have hS2 : RwS T2 txa b e (fun s => Y.1 (rw_ s)) nm := (h4.ex l1 x2).rws (h5.sm h4 (ExN.sm l1 x2))
    have hM2 : NtM J1 K Nn sg id_ nm (fun s => Y.1 (rw_ s)) := h6.fr (a5.1 9 (by omega)) (a5.1 10 (by omega)) (a5.2 20 (by omega))
    have hnO : ∀ {α : Type} (f : Th → Option α), nO T 12 4 f = f T2 := fun f => nO_p (by omega) (by omega)
    obtain ⟨ix_, hix⟩ : ∃ ix_, ix_ = 6 * g + Y.1 3 := ⟨_, rfl⟩
    have hixl : ix_ < 12 := by omega
    have hw20 : wr_ g 20 ix_ = true := by simp [wr_, lv_]; omega
    have hw21 : wr_ g 21 ix_ = true := by simp [wr_, lv_]; omega
    have hw22 : wr_ g 22 ix_ = true := by simp [wr_, lv_]; omega
    have hMa : ∀ x2 J2, M_named F K J1 = some (x2, J2) → ((M_roomFor (iN (xk Y)) 6 J).bind fun r3 => if (r3 0 13) = 0 then (M_tellTask F r3 K).bind fun r4 => some (r4.1, r4.2) else some (r3, K)) = (M_known F K 0 J2).bind fun r4 => stI r4.2 20 12 (iN ix_) r4.1 fun J5 => (M_bounded 0 999 J5).bind fun r6 => stI r6.2 21 12 (iN ix_) r6.1 fun J7 => stI J7 22 12 (iN ix_) 0 fun J8 => (M_must 4 J8).bind fun r9 => if (r9 0 13) ≤ 0 then ldI r9 19 2 (r9 0 19) fun x10 => (M_notes x2 2 x10 r9 K).bind fun r11 => ldI r11.1 19 2 (r11.1 0 19) fun x12 => stI r11.1 19 2 (r11.1 0 19) (x12 + 1) fun J13 => some (J13, r11.2) else some (r9, K) := fun x2 J2 n2 => by
      rw [a2, Option.bind_some, if_pos hj13, hid]
      unfold M_tellTask
      rw [q19, ldI_n (by omega) (by omega), r17, lt_e, e6, n2, Option.bind_some, hix]
    have hft0 : ∀ J5, FM J5 → ∀ x2, ((M_bounded 0 999 J5).bind fun r6 => stI r6.2 21 12 (iN ix_) r6.1 fun J7 => stI J7 22 12 (iN ix_) 0 fun J8 => (M_must 4 J8).bind fun r9 => if (r9 0 13) ≤ 0 then ldI r9 19 2 (r9 0 19) fun x10 => (M_notes x2 2 x10 r9 K).bind fun r11 => ldI r11.1 19 2 (r11.1 0 19) fun x12 => stI r11.1 19 2 (r11.1 0 19) (x12 + 1) fun J13 => some (J13, r11.2) else some (r9, K)) = some (uJ (uJ J5 21 ix_ 0) 22 ix_ 0, K) := fun J5 hf x2 => by
      rw [hf.bounded, Option.bind_some]
      rw [stI_n (by omega) (by omega), stI_n (by omega) (by omega), ((hf.u (o := 21) (by omega)).u (o := 22) (by omega)).must, Option.bind_some, if_neg ((hf.u (o := 21) (by omega)).u (o := 22) (by omega)).n0.2.1]
    rcases p_name (T := T2) hF a3 (x2.2.2.2 l1) h2 hS2 hM2 (show (tL T).2.2.1 ≤ tN T + 1 by omega) (show tN T + 1 + 4 ≤ (tL T).1 by omega) (show tZ T + 4 + 32 ≤ (tL T).2.1 by omega) with ⟨t, Q2, T3, J2, L, n1, n2, n3, n4, n5, n6, n7, n8, n9, n10, n11, n12, n13, n14⟩ | ⟨Q2, J2, n1, ⟨v, n2⟩, n3, n4, n5⟩
    · have hl3 : tL T3 = tL T := n11.2.1
      have hn3 : tN T3 = tN T + 5 := n12
      have hz3 : tZ T3 ≤ tZ T + 36 := n13
      have k1 : T3.1 (tN T) = some (.inl 12) := by
        rw [(n11.2.2.1 (tN T) (show tN T < tN T + 1 by omega)).1]
        show (tNew T (.inl 12) 4).1 (tN T) = _
        rw [tNew_1, if_pos rfl]
      obtain ⟨T4, y1, y2, y3, y4, y5, y6, y7, y8, y9⟩ := tk_new (x2.tr n11) hl0 (Nat.le_refl _) (by omega) k1 n4 (by rw [hl3]; omega) (by rw [hl3]; omega)
      have hl4 : tL T4 = tL T := y2.2.1
      have hb4 := h4.ex l1 y2
      have hnm4 := h5.sm h4 (ExN.sm l1 y2)
      have hM4 : NtM J2 K Nn sg id_ nm (fun s => Y.1 (rw_ s)) := hM2.fr (n10.1 9 (by omega)) (n10.1 10 (by omega)) (n10.2 20 (by omega))
      rw [hMa _ _ n2]
      rcases p_known (Xp := Xp) (T := T4) (s := 0) hF n8 (y2.2.2.2 l1) (hb4.rws hnm4) hM4 (by omega) (by rw [hl4]; omega) (by rw [hl4]; omega) (by rw [hl4]; omega) with ⟨v, Q3, T5, J3, p1, p2, p3, p4, p5, p6, p7, p8, p9⟩ | ⟨Q3, J3, p1, ⟨v, p2⟩, p3, p4, p5⟩
      · let T6 := tI T5 (tN T) 1 v
        have x6 : ExN T T6 := (y2.tr p7).wI (Nat.le_refl _)
        have k5 : T5.1 (tN T) = some (.inl 12) := by
          rw [(p7.2.2.1 (tN T) (by omega)).1]; exact y3
        have hl5 : tL T5 = tL T := p7.2.1.trans hl4
        have hpI : ∀ {α : Type} (f : Th → Option α), pI T5 (tN T) 12 1 v f = f T6 := fun f => pI_p k5 (by rw [hl5]; omega)
        have p1' : R_known F Xp (b 0) Q2 T4 = some (.inr (v, Q3, T5)) := p1
        have p2' : M_known F K 0 J2 = some (v, J3) := p2
        obtain ⟨iv, hiv⟩ : ∃ iv, Q3 9 5 = iN 0 → v = iN iv ∧ iv < Y.1 0 ∧ Q2 9 5 = iN 0 := by
          rcases p3 with ⟨i, i1, i2, i3⟩ | ⟨i2, i3⟩
          · exact ⟨i, fun hh => ⟨i2, i1, by rw [← i3]; exact hh⟩⟩
          · exact ⟨0, fun hh => absurd hh i3⟩
        rw [p2', Option.bind_some]
        have hst : ∀ {α : Type} (f : Ji → Option α), stI J3 20 12 (iN ix_) v f = f (uJ J3 20 ix_ v) := fun f => stI_n (by omega) (by omega)
        rw [hst]
        have hpt : PT N P E (a + 1 + 1 + 1) 0 Q3 (uJ J3 20 ix_ v) K := p4.mo (fun p p1 p2 => uJ_o (by omega)) (fun i _ _ => by rw [uJ_o (by omega)]) (fun _ _ => rfl)
        have jt0 : jF J J3 := (a5.tr n10).tr p6
        have qt0 : qF Q Q3 := (a4.tr n9).tr p5
        rcases p_number (Xp := Xp) (T := T6) hF hpt (lo := 0) (hi := 999) (by omega) (by omega) with ⟨w, Q4, J4, w1, w2, w3, w4, w5, w6, w7⟩ | ⟨Q4, J4, w1, ⟨w, w2⟩, w3, w4, w5⟩
        · have w1' : R_number F Xp 0 999 Q3 T6 = some (.inr (iN w, Q4, T6)) := w1
          have w2' : M_bounded 0 999 (uJ J3 20 ix_ v) = some (iN w, J4) := w2
          let T7 := tI T6 (tN T) 2 (iN w)
          have x7 : ExN T T7 := x6.wI (Nat.le_refl _)
          have k7 : T7.1 (tN T) = some (.inl 12) := k5
          have hpI2 : ∀ {α : Type} (f : Th → Option α), pI T6 (tN T) 12 2 (iN w) f = f T7 := fun f => pI_p k5 (by show (tL T5).2.2.1 ≤ _; rw [hl5]; omega)
          have hb7 := h4.ex l1 x7
          have hk2 : T7.1 (b 3) = some (.inl 19) := (hb7.2.1 3 (Or.inl (by omega))).1.1
          have hC : (xb (R_begins Xp (iN (xk Y)) 6 Q T) fun r39 => nO r39.2 12 4 fun T40 => xb (R_name F Xp r39.1 T40) fun r41 => (r41.1).bind fun b42 => (A_Task (tN r39.2) b42 r41.2.2).bind fun r43 => dR r43 txa 4 0 fun x45 => (x45).bind fun b46 => xb (R_known F Xp b46 r41.2.1 r43) fun r47 => pI r47.2.2 (tN r39.2) 12 1 r47.1 fun T48 => xb (R_number F Xp 0 999 r47.2.1 T48) fun r49 => pI r49.2.2 (tN r39.2) 12 2 r49.1 fun T50 => dR T50 txa 4 3 fun x52 => (x52).bind fun b53 => dC T50 b53 19 <| (A_L_add b53 (tN r39.2) T50).bind fun r54 => some (.inr (r49.2.1, r54.2))) = ((A_L_add (b 3) (tN T) T7).bind fun r => some (.inr (Q4, r.2)) : Option ((Ji × Jr × Th) ⊕ (Ji × Th))) := by
            simp only [xb, a1, Option.bind_some, hnO, n1, y1, hdR T4 0 (by omega) hb4, p1', hpI, w1', hpI2, hdR T7 3 (by omega) hb7, dC_p hk2]
          rw [hC, w2', Option.bind_some]
          have hst2 : ∀ {α : Type} (f : Ji → Option α), (stI J4 21 12 (iN ix_) (iN w) fun J7 => stI J7 22 12 (iN ix_) 0 f) = f (uJ (uJ J4 21 ix_ (iN w)) 22 ix_ 0) := fun f => by rw [stI_n (by omega) (by omega), stI_n (by omega) (by omega)]
          rw [hst2]
          obtain ⟨J8, hJ8⟩ : ∃ J8, J8 = uJ (uJ J4 21 ix_ (iN w)) 22 ix_ 0 := ⟨_, rfl⟩
          rw [← hJ8]
          have q80 : ∀ i, 16 < i → J8 0 i = J 0 i := fun i hi => by rw [hJ8, uJ_o (by omega), uJ_o (by omega), w6.2 i (by omega), uJ_o (by omega), jt0.2 i (by omega)]
          have q8 : ∀ p, p ≠ 0 → p ≠ 20 → p ≠ 21 → p ≠ 22 → J8 p = J p := fun p c0 c1 c2 c3 => by rw [hJ8, uJ_o (by omega), uJ_o (by omega), w6.1 p c0, uJ_o (by omega), jt0.1 p c0]
          have q20 : ∀ i, J8 20 i = if i = ix_ then v else J 20 i := fun i => by
            rw [hJ8, uJ_o (by omega), uJ_o (by omega), w6.1 20 (by omega), uJ_ap, jt0.1 20 (by omega)]
            simp only [true_and]
          have q21 : ∀ i, J8 21 i = if i = ix_ then iN w else J 21 i := fun i => by
            rw [hJ8, uJ_o (by omega), uJ_ap, w6.1 21 (by omega), uJ_o (by omega), jt0.1 21 (by omega)]
            simp only [true_and]
          have q22 : ∀ i, J8 22 i = if i = ix_ then 0 else J 22 i := fun i => by
            rw [hJ8, uJ_ap, uJ_o (by omega), w6.1 22 (by omega), uJ_o (by omega), jt0.1 22 (by omega)]
            simp only [true_and]
          have hfr8 : FrJ g J J8 := by
            rw [hJ8]
            exact ((jt0.w.tr (FrJ.u hw20)).tr w6.w).tr ((FrJ.u hw21).tr (FrJ.u hw22))
          have hpt8 : PT N P E (a + 1 + 1 + 1 + 1) 0 Q4 J8 K := by
            rw [hJ8]
            exact (w4.mo (J1 := uJ J4 21 ix_ (iN w)) (fun p p1 p2 => uJ_o (by omega)) (fun i _ _ => by rw [uJ_o (by omega)]) (fun _ _ => rfl)).mo (fun p p1 p2 => uJ_o (by omega)) (fun i _ _ => by rw [uJ_o (by omega)]) (fun _ _ => rfl)
          -- the row of steps
          have hlbN : tN T3 < tN T4 := by omega
          have hG7 : GL T7 (tN T3) 0 (e (10 + xk Y)) (tE T7) := by
            have hE4 : tE T7 = tE T4 := by show (tL T5).2.2.2 = (tL T4).2.2.2; rw [p7.2.1]
            rw [hE4]
            have d5 := p7.2.2.1 (tN T3) hlbN
            refine (y6 (e (10 + xk Y))).fr (T1 := T7) (by show tL T5 = _; exact p7.2.1) ⟨d5.1, ?_, d5.2.2⟩ ?_
            · show (tI (tI T5 (tN T) 1 v) (tN T) 2 (iN w)).2.1 (tN T3) = _
              funext i
              rw [tI_2, if_neg (by omega), tI_2, if_neg (by omega), d5.2.1]
            · have hEl : tE T4 < tN T4 := by have : tE T4 = tE T := by { show (tL T4).2.2.2 = _; rw [hl4] }; omega
              have d6 := p7.2.2.1 (tE T4) hEl
              exact ⟨d6.1, d6.2.2⟩
          have hd7 : ∀ i, dm_ (xk Y) i → b i ≠ tN T3 := fun i hi hh => by
            have := l1 (b i) (by rw [(h4.2.1 i hi).1.1]; exact fun hh => by cases hh)
            omega
          have hbr := hb7.row (Y1 := rst_ Y) hG7 (by omega) hd7 rfl (fun q => rfl)
          let Y1 : Xt := (inc_ (rst_ Y) 3, (fun c i => if c = 20 ∧ i = Y.1 3 then iv else if c = 21 ∧ i = Y.1 3 then w else tb Y c i), Y.2.2)
          have hY1 : Y1.1 = inc_ (rst_ Y) 3 := rfl
          have z3 : (rst_ Y).1 3 = Y.1 3 := rst_5 (by omega)
          have y13 : xk Y1 = xk Y + 1 := by show Y1.1 3 = _; rw [inc_s hY1, z3]
          have y1o : ∀ r, r ≤ 5 → r ≠ 3 → Y1.1 r = Y.1 r := fun r hr hr3 => by rw [inc_o hY1 hr3, rst_5 hr]
          have y1s : ∀ k, xs Y1 k = if k = Y.1 3 then 0 else xs Y k := fun k => by
            show Y1.1 (10 + k) = _
            rw [inc_o hY1 (by omega)]
            show (if 10 + k = 10 + Y.1 3 then 0 else Y.1 (10 + k)) = _
            by_cases c : k = Y.1 3
            · rw [if_pos (by omega), if_pos c]
            · rw [if_neg (by omega), if_neg c]
          have hms : ∀ k, k < xk Y + 1 → xs Y1 k ≤ 6 := fun k hk => by
            rw [y1s]
            by_cases c : k = Y.1 3
            · rw [if_pos c]; omega
            · rw [if_neg c]; exact hm9.2.2.2.2.2.2.1 k (by show k < Y.1 3; have : k < Y.1 3 + 1 := hk; omega)
          have hz7 : tZ T7 ≤ tZ T + 71 := by show tZ T5 ≤ _; omega
          have hn7 : tN T7 = tN T + 10 := by show tN T5 = _; omega
          have hl7 : tL T7 = tL T := hl5
          have ht7 : T7.2.2.1 (tN T) 0 = some t := by
            show T5.2.2.1 (tN T) 0 = _
            rw [(p7.2.2.1 (tN T) (by omega)).2.2]; exact y4
          have ht3 : T7.2.2.1 (tN T) 3 = some (tN T3) := by
            show T5.2.2.1 (tN T) 3 = _
            rw [(p7.2.2.1 (tN T) (by omega)).2.2]; exact y5
          have hs7 : StT T7 t L := by
            have hs5 := y9.ex (y2.2.2.2 l1) p7
            obtain ⟨u1, u2, aa, u3, u4, u5⟩ := hs5
            have htx : t ≠ tN T := fun hh => by rw [hh, k5] at u1; exact absurd u1 (by decide)
            have hax : aa ≠ tN T := fun hh => by rw [hh, k5] at u4; cases u4
            refine ⟨u1, ?_, aa, u3, u4, fun i c hc => ?_⟩
            · show (tI (tI T5 (tN T) 1 v) (tN T) 2 (iN w)).2.1 t 1 = _
              rw [tI_2, if_neg (by omega), tI_2, if_neg (by omega)]; exact u2
            · show (tI (tI T5 (tN T) 1 v) (tN T) 2 (iN w)).2.1 aa i = _
              rw [tI_2, if_neg (by omega), tI_2, if_neg (by omega)]; exact u5 i c hc
          have hnm7 : NmT T7 (rst_ Y) e nm := fun s i hs hi => (h5.sm h4 (ExN.sm l1 x7)) s i hs (by rw [rst_5 (by have := rw_5 hs; omega)] at hi; exact hi)
          have hNm := en_nm (s := 2) (Y1 := Y1) (by omega) hY1 hbr hnm7 k7 ht7 hs7 n6 sm_rf
          have hb3 : (if 3 = 10 + xk Y then tN T3 else b 3) = b 3 := if_neg (by omega)
          have hmx : xr Y1 ≤ 8 ∧ xd Y1 ≤ 12 ∧ xt Y1 ≤ 6 ∧ xk Y1 ≤ 6 ∧ xm Y1 ≤ 6 := ⟨by show Y1.1 0 ≤ 8; rw [y1o 0 (by omega) (by omega)]; exact hm9.1, by show Y1.1 1 ≤ 12; rw [y1o 1 (by omega) (by omega)]; exact hm9.2.1, by show Y1.1 2 ≤ 6; rw [y1o 2 (by omega) (by omega)]; exact hm9.2.2.1, by rw [y13]; show Y.1 3 + 1 ≤ 6; omega, by show Y1.1 4 ≤ 6; rw [y1o 4 (by omega) (by omega)]; exact hm9.2.2.2.2.1⟩
          have hqq : Q4 9 5 = iN 0 → Q 9 5 = iN 0 ∧ v = iN iv ∧ iv < Y.1 0 ∧ w ≤ 999 := fun hq => by
            obtain ⟨r1, r2, r3⟩ := w7 hq
            obtain ⟨r4, r5, r6⟩ := hiv r1
            have r7 := n14 r6
            rw [a6, uJ_sn (by omega)] at r7
            exact ⟨r7, r4, r5, r3⟩
          have ho : ∀ c i, OldC (rst_ Y) c i → tb Y1 c i = tb (rst_ Y) c i := fun c i hc => by
            show (if c = 20 ∧ i = Y.1 3 then iv else if c = 21 ∧ i = Y.1 3 then w else tb Y c i) = tb Y c i
            have : ¬ (20 ≤ c ∧ c ≤ 21 ∧ i = Y.1 3) := fun hh => by
              rcases hc with hc | hc | hc | hc | hc
              · omega
              · omega
              · have := hc.2.2; rw [show xk (rst_ Y) = Y.1 3 from z3] at this; omega
              · omega
              · omega
            rw [if_neg (by omega), if_neg (by omega)]
          have hzz : tN T7 + 1 + 16 * (401 - (a + 1 + 1 + 1 + 1)) ≤ (tL T7).1 ∧ tZ T7 + 15 + 120 * (401 - (a + 1 + 1 + 1 + 1)) ≤ (tL T7).2.1 := by
            rw [hl7]
            exact bud_ h9 h10 (Nat.le_of_eq hn7) hz7 (by have := hpt8.2.1; omega) (by omega) (by omega) (by omega)
          have hfin := fin_add (Y := rst_ Y) (Y1 := Y1) (a0 := a) (Q0 := Q) (J0 := J) (T0 := T) (nc := nc) (nb := nb) (g := g) (Xp := Xp)
            (y := (M_must 4 J8).bind fun r9 => if (r9 0 13) ≤ 0 then ldI r9 19 2 (r9 0 19) fun x10 => (M_notes (iN (a + 1)) 2 x10 r9 K).bind fun r11 => ldI r11.1 19 2 (r11.1 0 19) fun x12 => stI r11.1 19 2 (r11.1 0 19) (x12 + 1) fun J13 => some (J13, r11.2) else some (r9, K))
            (f := fun r9 => ldI r9 (co_ 2) 2 (r9 0 19) fun x10 => (M_notes (iN (a + 1)) (iN 2) x10 r9 K).bind fun r11 => ldI r11.1 (co_ 2) 2 (r11.1 0 19) fun x12 => stI r11.1 (co_ 2) 2 (r11.1 0 19) (x12 + 1) fun J13 => some (J13, r11.2))
            hpt8 h2 (hl0.ex x7) hbr (j := 3) (Or.inl (by omega)) k7 l3 hY1 ⟨hmx.1, hmx.2.1, hmx.2.2.1, hmx.2.2.2.1, hmx.2.2.2.2, hms⟩ y13 (fun _ => by
              rw [ht3]
              show some (tN T3) = some (if 10 + xk (rst_ Y) = 10 + xk Y then tN T3 else b (10 + xk (rst_ Y)))
              rw [if_pos (by rw [show xk (rst_ Y) = xk Y from z3])]) hNm ⟨fun i i' h1 h2 => h8.2 i i' h1 (by rw [rst_5 (by omega)] at h2; exact h2), fun hh => by omega⟩ (by omega) (by omega) hzz ⟨qt0.tr w5, hfr8, fun _ _ => rfl, x7.bl l3, hl7, x7.1⟩ (fun hq => by
              obtain ⟨r1, r2, r3, r4⟩ := hqq hq
              obtain ⟨v1, v2, v3, v4⟩ := h11 r1
              refine ⟨((v1.sm h4 (ExN.sm l1 x7) (ExN.sm l1 x7)).rs).add hY1 (fun _ => ?_) ho (fun m hm => rfl) (fun hh => by omega) (fun hh => by omega) (fun _ => ⟨?_, ?_⟩) (fun hh => by omega) (fun k hh => by omega), v3.rs.add hY1 (fun _ => ?_) (by omega) ho ⟨hmx.1, hmx.2.1, hmx.2.2.1, hmx.2.2.2.1, hmx.2.2.2.2, fun k hk => hms k (by rw [y13] at hk; exact hk)⟩ (fun hh => by omega) (fun hh => by omega) (fun _ => ⟨?_, ?_⟩) (fun hh => by omega) (fun k hh => by omega), ?_⟩
              · show (if 10 + (rst_ Y).1 3 = 10 + Y.1 3 then 0 else Y.1 (10 + (rst_ Y).1 3)) = 0
                rw [if_pos (by rw [z3])]
              · show (tI (tI T5 (tN T) 1 v) (tN T) 2 (iN w)).2.1 (tN T) 1 = iN (if 20 = 20 ∧ (rst_ Y).1 3 = Y.1 3 then iv else _)
                rw [if_pos ⟨rfl, z3⟩, tI_2, if_neg (by omega), tI_2, if_pos ⟨rfl, rfl⟩]; exact r2
              · show (tI (tI T5 (tN T) 1 v) (tN T) 2 (iN w)).2.1 (tN T) 2 = iN (if 21 = 20 ∧ (rst_ Y).1 3 = Y.1 3 then iv else if 21 = 21 ∧ (rst_ Y).1 3 = Y.1 3 then w else _)
                rw [if_neg (by omega), if_pos ⟨rfl, z3⟩, tI_2, if_pos ⟨rfl, rfl⟩]
              · show (if 10 + (rst_ Y).1 3 = 10 + Y.1 3 then 0 else Y.1 (10 + (rst_ Y).1 3)) = 0
                rw [if_pos (by rw [z3])]
              · show (if 20 = 20 ∧ (rst_ Y).1 3 = Y.1 3 then iv else _) < (rst_ Y).1 0
                rw [if_pos ⟨rfl, z3⟩, rst_5 (by omega)]; exact r3
              · show (if 21 = 20 ∧ (rst_ Y).1 3 = Y.1 3 then iv else if 21 = 21 ∧ (rst_ Y).1 3 = Y.1 3 then w else _) ≤ 999
                rw [if_neg (by omega), if_pos ⟨rfl, z3⟩]; exact r4
              · have ht7 := l1.at_ x7 h4.1.1
                rw [ht7.2.1, v4]
                show iN (Y.1 5) = iN (Y1.1 5)
                rw [y1o 5 (by omega) (by omega)]) (fun J9 hJ9 => by
              have hBr : BdJ J8 g (rst_ Y) nl nb nc := (h7c.fr q80 (fun p hp => q8 p (by omega) (by omega) (by omega) (by omega)) (fun k hk => by rw [q22, if_neg (by have : k < Y.1 3 := hk; omega)])).rs
              have hb0 : Y.1 0 ≤ 8 := hm9.1
              have hb2 : Y.1 2 ≤ 6 := hm9.2.2.1
              have hb4 : Y.1 4 ≤ 6 := hm9.2.2.2.2.1
              have h6c : Nn = Y.1 0 + Y.1 2 + Y.1 3 + Y.1 4 := h6b
              refine mo_nm (s := 2) (q := Q4 9 5 = iN 0) (nm := nm) (Y := rst_ Y) (Y1 := Y1) (by omega) hY1 (by omega) hBr (fun k hk => ?_) ((h6.fr (q8 9 (by omega) (by omega) (by omega) (by omega)) (q8 10 (by omega) (by omega) (by omega) (by omega)) (q80 20 (by omega))).cg (fun s hs => rst_5 (by have := rw_5 hs; omega))) (by show Nn = (rst_ Y).1 0 + (rst_ Y).1 2 + (rst_ Y).1 3 + (rst_ Y).1 4; rw [rst_5 (by omega), rst_5 (by omega), rst_5 (by omega), rst_5 (by omega)]; exact h6b) (by omega) n5 n6 n7 ⟨(fun k hk => hms k (by rw [y13] at hk; exact hk)), hmx.2.1, hmx.2.2.1, hmx.2.2.2.1, hmx.2.2.2.2⟩ (fun hq => ?_) hJ9
              · rw [q22, y1s]
                by_cases c : k = Y.1 3
                · rw [if_pos (by omega), if_pos c]; rfl
                · rw [if_neg (by omega), if_neg c]
                  exact j5 k (by rw [y13] at hk; show k < Y.1 3; have : k < Y.1 3 + 1 := hk; omega)
              · obtain ⟨r1, r2, r3, r4⟩ := hqq hq
                obtain ⟨v1, v2, v3, v4⟩ := h11 r1
                refine v2.rs.add hY1 (fun _ => ?_) (by omega) ho (fun m hm => rfl) (fun p i hp => ?_) (q8 34 (by omega) (by omega) (by omega) (by omega)) (q8 35 (by omega) (by omega) (by omega) (by omega)) (q8 41 (by omega) (by omega) (by omega) (by omega)) ⟨fun p i p1 p2 _ => by rw [q8 p (by omega) (by omega) (by omega) (by omega)], fun p i p1 _ => by rw [q8 p (by omega) (by omega) (by omega) (by omega)]⟩ (fun hh => by omega) (fun hh => by omega) (fun _ => ⟨?_, ?_⟩) (fun hh => by omega) (fun k hh => by omega)
                · show (if 10 + (rst_ Y).1 3 = 10 + Y.1 3 then 0 else Y.1 (10 + (rst_ Y).1 3)) = 0
                  rw [if_pos (by rw [z3])]
                · by_cases c20 : p = 20
                  · subst c20
                    rw [q20, if_neg (fun hh => by
                      rcases hp with hp | hp | hp | hp | hp
                      · omega
                      · omega
                      · obtain ⟨_, _, d, d1, d2⟩ := hp
                        rw [show xk (rst_ Y) = Y.1 3 from z3] at d1; omega
                      · omega
                      · omega)]
                  by_cases c21 : p = 21
                  · subst c21
                    rw [q21, if_neg (fun hh => by
                      rcases hp with hp | hp | hp | hp | hp
                      · omega
                      · omega
                      · obtain ⟨_, _, d, d1, d2⟩ := hp
                        rw [show xk (rst_ Y) = Y.1 3 from z3] at d1; omega
                      · omega
                      · omega)]
                  · have : 13 ≤ p ∧ p ≠ 22 := by
                      rcases hp with hp | hp | hp | hp | hp <;> omega
                    rw [q8 p (by omega) c20 c21 this.2]
                · rw [show xk (rst_ Y) = Y.1 3 from z3, q20, if_pos hix.symm]
                  show v = iN (if 20 = 20 ∧ Y.1 3 = Y.1 3 then iv else _)
                  rw [if_pos ⟨rfl, rfl⟩]; exact r2
                · rw [show xk (rst_ Y) = Y.1 3 from z3, q21, if_pos hix.symm]
                  show iN w = iN (if 21 = 20 ∧ Y.1 3 = Y.1 3 then iv else if 21 = 21 ∧ Y.1 3 = Y.1 3 then w else _)
                  rw [if_neg (by omega), if_pos ⟨rfl, rfl⟩])
            (fun J9 m1 m2 => by
              rw [m1, Option.bind_some, if_pos (by rw [m2]; decide)]
              rfl) (fun J9 m1 m2 m3 m4 => by rw [m1, Option.bind_some, if_neg m3])
          simp only [hb3] at hfin
          exact hfin
        · right
          have w2' : M_bounded 0 999 (uJ J3 20 ix_ v) = some (w, J4) := w2
          have w1' : R_number F Xp 0 999 Q3 T6 = some (.inl (Q4, Xp, T6)) := w1
          have hf := (w3.u (o := 21) (i := ix_) (v := w) (by omega)).u (o := 22) (i := ix_) (v := 0) (by omega)
          refine ⟨Q4, T6, uJ (uJ J4 21 ix_ w) 22 ix_ 0, K, ?_, ?_, hf, qt0.tr w4, ((jt0.w.tr (FrJ.u hw20)).tr w5.w).tr ((FrJ.u hw21).tr (FrJ.u hw22)), fun _ _ => rfl, x6.bl l3, hl5, x6.1⟩
          · simp only [xb, a1, Option.bind_some, hnO, n1, y1, hdR T4 0 (by omega) hb4, p1', hpI, w1']
          · rw [w2', Option.bind_some]
            show (stI J4 21 12 (iN ix_) w fun J7 => stI J7 22 12 (iN ix_) 0 fun J8 => (M_must 4 J8).bind fun r9 => _) = _
            rw [stI_n (by omega) (by omega), stI_n (by omega) (by omega), hf.fm.must, Option.bind_some, if_neg hf.n0.2.1]
      · right
        have hf := ((p3.u (o := 20) (i := ix_) (v := v) (by omega)).u (o := 21) (i := ix_) (v := 0) (by omega)).u (o := 22) (i := ix_) (v := 0) (by omega)
        refine ⟨Q3, T4, uJ (uJ (uJ J3 20 ix_ v) 21 ix_ 0) 22 ix_ 0, K, ?_, ?_, hf, (a4.tr n9).tr p4, (((a5.tr n10).tr p5).w.tr (FrJ.u hw20)).tr ((FrJ.u hw21).tr (FrJ.u hw22)), fun _ _ => rfl, y2.bl l3, hl4, y2.1⟩
        · have p1' : R_known F Xp (b 0) Q2 T4 = some (.inl (Q3, Xp, T4)) := p1
          simp only [xb, a1, Option.bind_some, hnO, n1, y1, hdR T4 0 (by omega) hb4, p1']
        · have p2' : M_known F K 0 J2 = some (v, J3) := p2
          rw [p2', Option.bind_some]
          show (stI J3 20 12 (iN ix_) v fun J5 => (M_bounded 0 999 J5).bind fun r6 => _) = _
          rw [stI_n (by omega) (by omega)]
          exact hft0 _ (p3.fm.u (by omega)) _
    · right
      have hf := ((n3.u (o := 20) (i := ix_) (v := -1) (by omega)).u (o := 21) (i := ix_) (v := 0) (by omega)).u (o := 22) (i := ix_) (v := 0) (by omega)
      refine ⟨Q2, T2, uJ (uJ (uJ J2 20 ix_ (-1)) 21 ix_ 0) 22 ix_ 0, K, ?_, ?_, hf, a4.tr n4, ((a5.tr n5).w.tr (FrJ.u hw20)).tr ((FrJ.u hw21).tr (FrJ.u hw22)), fun _ _ => rfl, x2.bl l3, rfl, x2.1⟩
      · simp only [xb, a1, Option.bind_some, hnO, n1]
      · rw [hMa _ _ n2, n3.fm.known, Option.bind_some]
        show (stI J2 20 12 (iN ix_) (-1) fun J5 => (M_bounded 0 999 J5).bind fun r6 => _) = _
        rw [stI_n (by omega) (by omega)]
        exact hft0 _ (n3.fm.u (by omega)) _
  · right
    refine ⟨Q1, T, J1, K, ?_, ?_, a3, a4, a5.w, fun _ _ => rfl, fun c hc => ⟨rfl, rfl, rfl⟩, rfl, Nat.le_refl _⟩
    · simp only [xb, a1, Option.bind_some]
    · rw [a2, Option.bind_some, if_neg a3.n0.1]
end TQ
