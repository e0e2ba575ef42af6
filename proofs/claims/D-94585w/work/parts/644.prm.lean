/-! PURE LAW 36: a room is told -/
set_option maxRecDepth 100000
section RM0
variable {T T1 : Th}
theorem ExN.new {dk : Dk} {m : Nat} : ExN T (tNew T dk m) := ⟨by show tN T ≤ tN T + 1; omega, rfl, fun a ha => by rw [tNew_1, tNew_2, tNew_3, if_neg (by omega), if_neg (by omega), if_neg (by omega)]; exact ⟨rfl, rfl, rfl⟩, fun hb => hb.new⟩
theorem ExN.wR (h : ExN T T1) {x k : Nat} {v : Option Nat} (hx : tN T ≤ x) : ExN T (tR T1 x k v) := by
  obtain ⟨h1, h2, h3, h4⟩ := h
  refine ⟨h1, h2, fun a ha => ⟨(h3 a ha).1, (h3 a ha).2.1, ?_⟩, h4⟩
  funext j
  rw [tR_3, if_neg (by omega), (h3 a ha).2.2]
theorem ExN.wI (h : ExN T T1) {x k : Nat} {v : Int32} (hx : tN T ≤ x) : ExN T (tI T1 x k v) := by
  obtain ⟨h1, h2, h3, h4⟩ := h
  refine ⟨h1, h2, fun a ha => ⟨(h3 a ha).1, ?_, (h3 a ha).2.2⟩, h4⟩
  funext j
  rw [tI_2, if_neg (by omega), (h3 a ha).2.1]
theorem ExN.bl (h : ExN T T1) {n0 : Nat} (hn : n0 ≤ tN T) : ∀ c, c < n0 → At_ T T1 c := fun c hc => h.2.2.1 c (by omega)
theorem begins_ne {Xp : Jr} {x y : Int32} {Q : Ji} {r : Ji × Th} (h : R_begins Xp x y Q T = some (.inr r)) : x ≠ y := fun hh => by
  unfold R_begins at h
  rw [if_pos hh] at h
  cases hw : R_wrong T 2 Q with
  | none => rw [hw] at h; cases h
  | some q => rw [hw] at h; cases h
theorem PT.mo {N a o : Nat} {P E : Nat → Nat} {Q J J1 : Ji} {K K1 : Jl} (h : PT N P E a o Q J K) (hJ : ∀ p, 3 ≤ p → p ≤ 5 → J1 p = J p) (h0 : ∀ i, 11 ≤ i → i ≤ 16 → J1 0 i = J 0 i) (hK : ∀ p, p ≠ 8 → K1 p = K p) : PT N P E a o Q J1 K1 := by
  obtain ⟨⟨t1, t2, t3, t4, t5, t6⟩, p2, p3, p4, p5, ⟨p6, p7, p8⟩, p9⟩ := h
  refine ⟨⟨fun i hi => ?_, t2, t3, t4, t5, t6⟩, p2, p3, by rw [h0 11 (by omega) (by omega)]; exact p4, by rw [h0 13 (by omega) (by omega)]; exact p5, ⟨p6, p7, by rw [h0 12 (by omega) (by omega)]; exact p8⟩, ?_⟩
  · have := t1 i hi
    unfold TR at this ⊢
    rw [hJ 3 (by omega) (by omega), hJ 4 (by omega) (by omega), hJ 5 (by omega) (by omega), hK 6 (by omega)]
    exact this
  · unfold WO at p9 ⊢
    rw [h0 15 (by omega) (by omega), h0 16 (by omega) (by omega)]
    exact p9
end RM0
section RM
variable {n0 g txa : Nat} {Xp : Jr} {F N : Nat} {P E : Nat → Nat} {a : Nat} {Q J : Ji} {K : Jl} {T : Th}
/-- "room" name ";" -/
theorem p_room (hF : 2100 ≤ F) (h : IVx n0 g txa Xp N P E a Q J K T) (hk : Q 5 a = iN 3) : StO n0 g txa Xp N P E a Q J K T (xb (R_told_B24 F Xp 0 Q T) fun r => R_sign Xp 59 r.1 r.2) (ldI J 11 2 (J 0 19) fun x2 => (M_roomFor x2 8 J).bind fun r3 => if (r3 0 13) = 0 then (M_tellRoom F r3 K).bind fun r4 => some (r4.1, r4.2) else some (r3, K)) := by
  obtain ⟨Y, b, ar, e, nl, Nn, sg, id_, nm, nb, nc, h1, h2, h3, h4, h5, ⟨h6, h6b⟩, h7, h8, ⟨h9, h10⟩, h11⟩ := h
  have hNN := h1.n
  have ha := h1.2.1
  have hl0 := h3
  obtain ⟨l1, l2, l3, l4, l5⟩ := h3
  have g0 := (h4.2.1 0 (Or.inl (by omega))).1
  have hd0 : ∀ {α : Type} (T' : Th) (hx : T'.1 txa = some (.inl 4)) (hy : T'.2.2.1 txa 0 = some (b 0)) (f : Option Nat → Option α), dR T' txa 4 0 f = f (some (b 0)) := fun T' hx hy f => by rw [dR_p hx, hy]
  obtain ⟨⟨j1, j2⟩, ⟨j3, j4⟩, j5, j6, j7⟩ := h7
  have hyM : (ldI J 11 2 (J 0 19) fun x2 => (M_roomFor x2 8 J).bind fun r3 => if (r3 0 13) = 0 then (M_tellRoom F r3 K).bind fun r4 => some (r4.1, r4.2) else some (r3, K)) = (M_roomFor (iN (xr Y)) 8 J).bind fun r3 => if (r3 0 13) = 0 then (M_tellRoom F r3 K).bind fun r4 => some (r4.1, r4.2) else some (r3, K) := by
    rw [j2, ldI_n (by omega) (by omega), j3]
  rw [hyM]
  have hxC : R_told_B24 F Xp 0 Q T = xb (R_begins Xp (iN (xr Y)) 8 Q T) fun r7 => dR r7.2 txa 4 0 fun x9 => nO r7.2 9 1 fun T10 => xb (R_name F Xp r7.1 T10) fun r11 => (r11.1).bind fun b12 => (A_Room (tN r7.2) b12 r11.2.2).bind fun r13 => (x9).bind fun b14 => dC r13 b14 19 <| (A_L_add b14 (tN r7.2) r13).bind fun r15 => some (.inr (r11.2.1, r15.2)) := by
    unfold R_told_B24
    rw [if_pos rfl, h2, Option.bind_some, hd0 T h4.1.1 (h4.1.2.2.1 0 (by omega)), Option.bind_some, g0.ls.sz]
    simp only [Option.bind_some]
  rw [hxC]
  rcases p_begins (Xp := Xp) (T := T) h1 hk (x := iN (xr Y)) (y := 8) with ⟨Q1, J1, a1, a2, a3, a4, a5, a6, a7⟩ | ⟨Q1, J1, a1, a2, a3, a4, a5⟩
  · have hx8 : xr Y ≠ 8 := fun hh => begins_ne a1 (by rw [hh]; rfl)
    subst a6
    subst a7
    have hj13 : uJ J 0 11 (iN (a + 1)) 0 13 = 0 := a3.2.2.2.2.1
    let T2 := tNew T (.inl 9) 1
    have x2 : ExN T T2 := ExN.new
    have hS2 : RwS T2 txa b e (fun s => Y.1 (rw_ s)) nm := (h4.ex l1 x2).rws (h5.sm h4 (ExN.sm l1 x2))
    have hM2 : NtM (uJ J 0 11 (iN (a + 1))) K Nn sg id_ nm (fun s => Y.1 (rw_ s)) := h6.fr (uJ_o (by omega)) (uJ_o (by omega)) (uJ_sn (by omega))
    have hnO : ∀ {α : Type} (f : Th → Option α), nO T 9 1 f = f T2 := fun f => nO_p (by omega) (by omega)
    have hdT := fun {α : Type} (f : Option Nat → Option α) => hd0 T h4.1.1 (h4.1.2.2.1 0 (by omega)) f
    rcases p_name (T := T2) hF a3 (x2.2.2.2 l1) h2 hS2 hM2 (show (tL T).2.2.1 ≤ tN T + 1 by omega) (show tN T + 1 + 4 ≤ (tL T).1 by omega) (show tZ T + 1 + 32 ≤ (tL T).2.1 by omega) with ⟨t, Q2, T3, J2, L, n1, n2, n3, n4, n5, n6, n7, n8, n9, n10, n11, n12, n13, n14⟩ | ⟨Q2, J2, n1, ⟨v, n2⟩, n3, n4, n5⟩
    · let T4 := tR T3 (tN T) 0 (some t)
      let Y1 : Xt := (fun q => if q = 0 then Y.1 0 + 1 else Y.1 q, Y.2)
      have x4 : ExN T T4 := (x2.tr n11).wR (Nat.le_refl _)
      have k1 : T3.1 (tN T) = some (.inl 9) := by
        rw [(n11.2.2.1 (tN T) (show tN T < tN T + 1 by omega)).1]
        show (tNew T (.inl 9) 1).1 (tN T) = _
        rw [tNew_1, if_pos rfl]
      have hl3 : tL T3 = tL T := n11.2.1
      have hn3 : tN T3 = tN T + 5 := n12
      have hz3 : tZ T3 ≤ tZ T + 33 := n13
      have hRoom : A_Room (tN T) t T3 = some T4 := by
        unfold A_Room A_Named_X10
        rw [pR_p k1 (by rw [hl3]; omega), Option.bind_some]
      have hb4 := h4.ex l1 x4
      have hl4 := hl0.ex x4
      have hm9 := h4.2.2.2.2.2
      have hxr : Y.1 0 ≤ 8 := hm9.1
      have hxr8 : Y.1 0 ≠ 8 := hx8
      obtain ⟨T5, ar1, c1, c2, c3, c4, c5, c6, c7, c8, c9⟩ := hb4.add (j := 0) (x := tN T) (Y1 := Y1) hl4 (Or.inl (by omega)) k1 l3 (fun q => rfl) ⟨show Y.1 0 + 1 ≤ 8 by omega, hm9.2.1, hm9.2.2.1, hm9.2.2.2.1, hm9.2.2.2.2.1, (fun k hk => by
        show (if 10 + k = 0 then Y.1 0 + 1 else Y.1 (10 + k)) ≤ 6
        rw [if_neg (by omega)]
        exact hm9.2.2.2.2.2.2.1 k hk), Nat.le_refl _⟩ (fun hh => by omega) (show tN T3 + 1 ≤ (tL T3).1 by rw [hl3]; omega) (show tZ T3 + 15 ≤ (tL T3).2.1 by rw [hl3]; omega)
      have hC : (xb (R_begins Xp (iN (xr Y)) 8 Q T) fun r7 => dR r7.2 txa 4 0 fun x9 => nO r7.2 9 1 fun T10 => xb (R_name F Xp r7.1 T10) fun r11 => (r11.1).bind fun b12 => (A_Room (tN r7.2) b12 r11.2.2).bind fun r13 => (x9).bind fun b14 => dC r13 b14 19 <| (A_L_add b14 (tN r7.2) r13).bind fun r15 => some (.inr (r11.2.1, r15.2))) = some (.inr (Q2, T5)) := by
        have hk0 : T4.1 (b 0) = some (.inl 19) := (hb4.2.1 0 (Or.inl (by omega))).1.1
        simp only [xb, a1, Option.bind_some, hdT, hnO, n1, hRoom, dC_p hk0, c1]
      rw [hC]
      have hx : ∀ (f : Ji × Th → Option ((Ji × Jr × Th) ⊕ (Ji × Th))), xb (some (.inr (Q2, T5))) f = f (Q2, T5) := fun f => rfl
      rw [hx]
      have hid : ∀ x : Option (Ji × Jl), (x.bind fun r => some (r.1, r.2)) = x := fun x => by cases x <;> rfl
      have hM0 : ((M_roomFor (iN (xr Y)) 8 J).bind fun r3 => if (r3 0 13) = 0 then (M_tellRoom F r3 K).bind fun r4 => some (r4.1, r4.2) else some (r3, K)) = (M_must 4 J2).bind fun r2 => if (r2 0 13) ≤ 0 then ldI r2 11 2 (r2 0 19) fun x3 => (M_notes (iN (a + 1)) 0 x3 r2 K).bind fun r4 => ldI r4.1 11 2 (r4.1 0 19) fun x5 => stI r4.1 11 2 (r4.1 0 19) (x5 + 1) fun J6 => some (J6, r4.2) else some (r2, K) := by
        rw [a2, Option.bind_some, if_pos hj13, hid]
        unfold M_tellRoom
        rw [n2, Option.bind_some]
      rw [hM0]
      have hfr : ∀ c, c < n0 → At_ T T5 c := fun c hc => by
        obtain ⟨y1, y2, y3⟩ := x4.bl l3 c hc
        obtain ⟨z1, z2, z3⟩ := c9 c hc
        exact ⟨z1.trans y1, z2.trans y2, z3.trans y3⟩
      have hl5 : tL T5 = tL T := c5.trans x4.2.1
      have hn4 : tN T4 = tN T + 5 := hn3
      have hz4 : tZ T4 ≤ tZ T + 33 := hz3
      rcases p_sign (Xp := Xp) (T := T5) n8 (c := 59) (k := 4) (Or.inl ⟨rfl, rfl⟩) with ⟨Q4, J4, s1, s2, s3, s4, s5, s6, s7⟩ | ⟨Q4, J4, s1, s2, s3, s4, s5⟩
      · have s2' : M_must 4 J2 = some J4 := s2
        have hj4 : J4 0 13 ≤ 0 := by rw [s3.2.2.2.2.1]; decide
        have jt : jF J J4 := (a5.tr n10).tr s5
        have q19 : J4 0 19 = iN g := by rw [jt.2 19 (by omega)]; exact j2
        have q11 : J4 11 g = iN (Y.1 0) := by rw [jt.1 11 (by omega)]; exact j3
        have hNt : NtM J4 K Nn sg id_ nm (fun s => Y.1 (rw_ s)) := h6.fr (jt.1 9 (by omega)) (jt.1 10 (by omega)) (jt.2 20 (by omega))
        have h6c : Nn = Y.1 0 + Y.1 2 + Y.1 3 + Y.1 4 := h6b
        have hNn : Nn < 26 := by
          have b2 : Y.1 2 ≤ 6 := hm9.2.2.1
          have b3 : Y.1 3 ≤ 6 := hm9.2.2.2.1
          have b4 : Y.1 4 ≤ 6 := hm9.2.2.2.2.1
          omega
        obtain ⟨K1, m1, m2, m3⟩ := m_notes hNt (a := a + 1) (s := 0) (by omega) (by omega) hNn n5 n6 n7
        have m1' : M_notes (iN (a + 1)) 0 (iN (Y.1 0)) J4 K = some (uJ (uJ (uJ J4 9 Nn (iN 0)) 10 Nn (iN (Y.1 0))) 0 20 (iN (Nn + 1)), K1) := m1
        obtain ⟨J5, hJ5⟩ : ∃ J5, J5 = uJ (uJ (uJ J4 9 Nn (iN 0)) 10 Nn (iN (Y.1 0))) 0 20 (iN (Nn + 1)) := ⟨_, rfl⟩
        rw [← hJ5] at m1'
        have w19 : J5 0 19 = iN g := by rw [hJ5, uJ_sn (by omega), uJ_o (by omega), uJ_o (by omega)]; exact q19
        have w11 : J5 11 g = iN (Y.1 0) := by rw [hJ5, uJ_o (by omega), uJ_o (by omega), uJ_o (by omega)]; exact q11
        have e1 : iN (Y.1 0) + 1 = iN (Y.1 0 + 1) := by rw [i_1, iN_add]
        have hJo : ∀ p, p ≠ 0 → p ≠ 9 → p ≠ 10 → p ≠ 11 → uJ J5 11 g (iN (Y.1 0 + 1)) p = J p := fun p p0 p9 p10 p11 => by
          rw [uJ_o p11, hJ5, uJ_o p0, uJ_o p10, uJ_o p9, jt.1 p p0]
        have hJ4 : ∀ i, i ≠ 20 → uJ J5 11 g (iN (Y.1 0 + 1)) 0 i = J4 0 i := fun i hi => by
          rw [uJ_o (by omega), hJ5, uJ_sn hi, uJ_o (by omega), uJ_o (by omega)]
        have hJ0 : ∀ i, (i < 11 ∨ 16 < i) → i ≠ 20 → uJ J5 11 g (iN (Y.1 0 + 1)) 0 i = J 0 i := fun i hi h20 => by rw [hJ4 i h20, jt.2 i hi]
        have hrw : ∀ x, x < 4 → (rw_ x = 0 ↔ x = 0) := fun x hx => by
          unfold rw_
          by_cases c : x = 0
          · rw [if_pos c]; exact ⟨fun _ => c, fun _ => rfl⟩
          · rw [if_neg c]; exact ⟨fun hh => by omega, fun hh => absurd hh c⟩
        have hcn : (fun s => Y1.1 (rw_ s)) = (fun x => if x = 0 then Y.1 (rw_ 0) + 1 else Y.1 (rw_ x)) := by
          funext x
          show (if rw_ x = 0 then Y.1 0 + 1 else Y.1 (rw_ x)) = _
          by_cases c : x = 0
          · rw [if_pos c, c]; rfl
          · rw [if_neg c, if_neg (show ¬ rw_ x = 0 by unfold rw_; rw [if_neg c]; omega)]
        have hnt6 : NtM (uJ J5 11 g (iN (Y.1 0 + 1))) K1 (Nn + 1) (fun q => if q = Nn then 0 else sg q) (fun q => if q = Nn then Y.1 0 else id_ q) (fun x i => if x = 0 ∧ i = Y.1 0 then L else nm x i) (fun s => Y1.1 (rw_ s)) := by
          rw [hcn]
          refine m3 _ ?_ ?_ ?_
          · rw [uJ_o (by omega), hJ5, uJ_o (by omega), uJ_o (by omega)]
          · rw [uJ_o (by omega), hJ5, uJ_o (by omega)]
            funext i
            rw [uJ_ap]
            by_cases c : 10 = 10 ∧ i = Nn
            · rw [if_pos c, uJ_ap, if_pos c]; rfl
            · rw [if_neg c, uJ_ap, if_neg (by omega), uJ_ap, if_neg c]
          · rw [uJ_o (by omega), hJ5, uJ_ss]
        have hx5 : At_ T4 T5 (tN T) := c3 _ _ k1 (kE.a (Or.inl rfl))
        have ht5 : T5.2.2.1 (tN T) 0 = some t := by
          rw [hx5.2.2]
          show (tR T3 (tN T) 0 (some t)).2.2.1 (tN T) 0 = _
          rw [tR_3, if_pos ⟨rfl, rfl⟩]
        have htt : tN T + 1 ≤ t := n3
        have hs4 : StT T4 t L := by
          obtain ⟨u1, u2, aa, u3, u4, u5⟩ := n4
          refine ⟨u1, u2, aa, ?_, u4, u5⟩
          show (tR T3 (tN T) 0 (some t)).2.2.1 t 0 = _
          rw [tR_3, if_neg (by omega)]
          exact u3
        have hnm5 : NmT T5 Y e nm := (h5.sm h4 (ExN.sm l1 x4)).sm hb4 c3
        have hnm6 : NmT T5 Y1 (fun q i => if q = 0 ∧ i = Y.1 0 then tN T else e q i) (fun x i => if x = 0 ∧ i = Y.1 0 then L else nm x i) := fun x i hx hi => by
          have hi2 : i < if rw_ x = 0 then Y.1 0 + 1 else Y.1 (rw_ x) := hi
          show (if x = 0 ∧ i = Y.1 0 then L else nm x i).length ≤ 8 ∧ ∃ t, T5.2.2.1 (if rw_ x = 0 ∧ i = Y.1 0 then tN T else e (rw_ x) i) 0 = some t ∧ StT T5 t (if x = 0 ∧ i = Y.1 0 then L else nm x i)
          by_cases c : x = 0 ∧ i = Y.1 0
          · rw [if_pos c, if_pos ⟨(hrw x hx).2 c.1, c.2⟩]
            exact ⟨n6, t, ht5, hs4.sm c3⟩
          · rw [if_neg c, if_neg (fun hh => c ⟨(hrw x hx).1 hh.1, hh.2⟩)]
            have hi3 : i < Y.1 (rw_ x) := by
              by_cases c2 : rw_ x = 0
              · rw [if_pos c2] at hi2
                have : i ≠ Y.1 0 := fun hh => c ⟨(hrw x hx).1 c2, hh⟩
                rw [c2]
                omega
              · rw [if_neg c2] at hi2; exact hi2
            exact hnm5 x i hx hi3
        have hxs : ∀ k, xs Y1 k = xs Y k := fun k => by
          show (if 10 + k = 0 then Y.1 0 + 1 else Y.1 (10 + k)) = _
          rw [if_neg (by omega)]
        have hbj6 : BdJ (uJ J5 11 g (iN (Y.1 0 + 1))) g Y1 nl nb nc := by
          refine ⟨⟨j1, by rw [hJ0 19 (by omega) (by omega)]; exact j2⟩, ⟨uJ_ss, ?_, ?_, ?_, ?_, ?_⟩, fun k hk => ?_, ⟨by rw [hJ0 49 (by omega) (by omega)]; exact j6.1, j6.2⟩, by rw [hJ0 56 (by omega) (by omega)]; exact j7⟩
          · rw [hJo 12 (by omega) (by omega) (by omega) (by omega)]; exact j4.1
          · rw [hJo 17 (by omega) (by omega) (by omega) (by omega)]; exact j4.2.1
          · rw [hJo 19 (by omega) (by omega) (by omega) (by omega)]; exact j4.2.2.1
          · rw [hJo 29 (by omega) (by omega) (by omega) (by omega)]; exact j4.2.2.2.1
          · rw [hJo 33 (by omega) (by omega) (by omega) (by omega)]; exact j4.2.2.2.2
          · rw [hJo 22 (by omega) (by omega) (by omega) (by omega), hxs]; exact j5 k hk
        have hwr : FrJ g J4 (uJ J5 11 g (iN (Y.1 0 + 1))) := by
          rw [hJ5]
          exact (FrJ.u (by simp [wr_])).tr ((FrJ.u (by simp [wr_])).tr ((FrJ.u (by simp [wr_])).tr (FrJ.u (by simp [wr_, lv_]))))
        left
        refine ⟨a + 1 + 1 + 1, Q4, T5, uJ J5 11 g (iN (Y.1 0 + 1)), K1, s1, ?_, ⟨Y1, b, ar1, _, nl, Nn + 1, _, _, _, nb, nc, s3.mo (fun p p1 p2 => ?_) (fun i i1 i2 => hJ4 i (by omega)) m2, h2, c4, c2, hnm6, ⟨hnt6, ?_⟩, hbj6, ⟨by omega, h8.2⟩, ⟨by rw [hl5]; have := s3.2.1; omega, by rw [hl5]; have := s3.2.1; omega⟩, fun hq => ?_⟩, by omega, (a4.tr n9).tr s4, jt.w.tr hwr, m2, hfr, hl5, by omega⟩
        · rw [s2', Option.bind_some, if_pos hj4, q19, ldI_n (by omega) (by omega), q11, m1', Option.bind_some]
          show (ldI J5 11 2 (J5 0 19) fun x5 => stI J5 11 2 (J5 0 19) (x5 + 1) fun J6 => some (J6, K1)) = _
          rw [w19, ldI_n (by omega) (by omega), w11, e1, stI_n (by omega) (by omega)]
        · rw [uJ_o (by omega), hJ5, uJ_o (by omega), uJ_o (by omega), uJ_o (by omega)]
        · show Nn + 1 = Y.1 0 + 1 + Y.1 2 + Y.1 3 + Y.1 4
          omega
        · have hq0 : Q 9 5 = iN 0 := by
            rw [s6, uJ_sn (by omega)] at hq
            have := n14 hq
            rw [uJ_sn (by omega)] at this
            exact this
          obtain ⟨v1, v2, v3, v4⟩ := h11 hq0
          have v1' : VTx T5 Y e := (v1.sm h4 (ExN.sm l1 x4) (ExN.sm l1 x4)).sm hb4 c3.l c3.e
          have v2' : VJx (uJ J5 11 g (iN (Y.1 0 + 1))) g nb nc Y := v2.fr hm9.2.2.2.2.2.2.1 ⟨hm9.2.1, hm9.2.2.1, hm9.2.2.2.1, hm9.2.2.2.2.1⟩ (fun p p1 p2 p3 => hJo p (by omega) (by omega) (by omega) (by omega)) ⟨fun p i p1 p2 _ => by rw [hJo p (by omega) (by omega) (by omega) (by omega)], fun p i p1 _ => by rw [hJo p (by omega) (by omega) (by omega) (by omega)]⟩ (Nat.le_refl _) (Nat.le_refl _)
          refine ⟨⟨v1'.1, v1'.2.1, v1'.2.2.1, fun k s hk hs => ?_, v1'.2.2.2.2⟩, ⟨v2'.1, v2'.2.1, v2'.2.2.1, fun k s hk hs => ?_, v2'.2.2.2.2⟩, ?_, ?_⟩
          · rw [hxs] at hs
            show T5.2.1 (if 10 + k = 0 ∧ s = Y.1 0 then tN T else e (10 + k) s) 0 = _ ∧ T5.2.1 (if 10 + k = 0 ∧ s = Y.1 0 then tN T else e (10 + k) s) 1 = _ ∧ T5.2.1 (if 10 + k = 0 ∧ s = Y.1 0 then tN T else e (10 + k) s) 2 = _ ∧ T5.2.1 (if 10 + k = 0 ∧ s = Y.1 0 then tN T else e (10 + k) s) 3 = _ ∧ T5.2.1 (if 10 + k = 0 ∧ s = Y.1 0 then tN T else e (10 + k) s) 4 = _ ∧ T5.2.1 (if 10 + k = 0 ∧ s = Y.1 0 then tN T else e (10 + k) s) 5 = _
            rw [if_neg (by omega)]
            exact v1'.2.2.2.1 k s hk hs
          · rw [hxs] at hs
            exact v2'.2.2.2.1 k s hk hs
          · obtain ⟨⟨t0, t1, t2, t3, t4, t5, t6⟩, td, tt, tk, ts, tm⟩ := v3
            refine ⟨⟨show Y.1 0 + 1 ≤ 8 by omega, t1, t2, t3, t4, t5, t6⟩, fun d hd => ?_, fun t ht => ?_, fun k hk => ?_, fun k s hk hs => ?_, fun m hm => ?_⟩
            · obtain ⟨y1, y2, y3⟩ := td d hd
              exact ⟨Nat.lt_succ_of_lt y1, Nat.lt_succ_of_lt y2, y3⟩
            · exact Nat.lt_succ_of_lt (tt t ht)
            · obtain ⟨y1, y2, y3⟩ := tk k hk
              exact ⟨Nat.lt_succ_of_lt y1, y2, by rw [hxs]; exact y3⟩
            · rw [hxs] at hs ⊢
              exact ts k s hk hs
            · obtain ⟨y1, y2⟩ := tm m hm
              refine ⟨Nat.lt_succ_of_lt y1, ?_⟩
              rcases y2 with y2 | ⟨k, s, z1, z2, z3, z4⟩
              · exact Or.inl y2
              · exact Or.inr ⟨k, s, z1, z2, z3, by rw [hxs]; exact z4⟩
          · have ht4 := l1.at_ x4 h4.1.1
            have ht5' : At_ T4 T5 txa := c3 _ _ ht4.1 ⟨by decide, fun n hh => by cases hh⟩
            rw [ht5'.2.1, ht4.2.1]
            exact v4
      · have s2' : M_must 4 J2 = some J4 := s2
        right
        exact ⟨Q4, T5, J4, K, s1, by rw [s2', Option.bind_some, if_neg s3.n0.2.1], s3, (a4.tr n9).tr s4, ((a5.tr n10).tr s5).w, fun _ _ => rfl, hfr, hl5, by omega⟩
    · right
      refine ⟨Q2, T2, J2, K, ?_, ?_, n3, a4.tr n4, (a5.tr n5).w, fun _ _ => rfl, x2.bl l3, rfl, x2.1⟩
      · simp only [xb, a1, Option.bind_some, hdT, hnO, n1]
      · rw [a2, Option.bind_some, if_pos hj13]
        unfold M_tellRoom
        rw [n2, Option.bind_some, n3.fm.must, Option.bind_some, if_neg n3.n0.2.1, Option.bind_some]
  · right
    refine ⟨Q1, T, J1, K, ?_, ?_, a3, a4, a5.w, fun _ _ => rfl, fun c hc => ⟨rfl, rfl, rfl⟩, rfl, Nat.le_refl _⟩
    · simp only [xb, a1, Option.bind_some]
    · rw [a2, Option.bind_some, if_neg a3.n0.1]
end RM
