/-! PURE LAW 49: a door is told, whole -/
set_option maxRecDepth 100000
section DO2
variable {n0 g txa : Nat} {Xp : Jr} {F N : Nat} {P E : Nat → Nat} {a : Nat} {Q J : Ji} {K : Jl} {T : Th}
/-- "door" room room int "shut"? ";" -/
theorem p_door (hF : 2100 ≤ F) (h : IVx n0 g txa Xp N P E a Q J K T) (hk : Q 5 a = iN 3) : StO n0 g txa Xp N P E a Q J K T (xb (R_told_B24 F Xp 1 Q T) fun r => R_sign Xp 59 r.1 r.2) (ldI J 12 2 (J 0 19) fun x2 => (M_roomFor x2 12 J).bind fun r3 => if (r3 0 13) = 0 then (M_tellDoor F K r3).bind fun r4 => some (r4, K) else some (r3, K)) := by
  obtain ⟨Y, b, ar, e, nl, Nn, sg, id_, nm, nb, nc, hI⟩ := h
  have hI0 := hI
  obtain ⟨h1, h2, h3, h4, h5, ⟨h6, h6b⟩, h7, h8, ⟨h9, h10⟩, h11⟩ := hI
  have hNN := h1.n
  have ha := h1.2.1
  have hl0 := h3
  obtain ⟨l1, l2, l3, l4, l5⟩ := h3
  have g2 := (h4.2.1 1 (Or.inl (by omega))).1
  have hdR : ∀ {α : Type} (T' : Th) (j : Nat) (hj : j < 5) (hb : BdH n0 T' txa (xk Y) Y b ar e nl) (f : Option Nat → Option α), dR T' txa 4 j f = f (some (b j)) := fun T' j hj hb f => by rw [dR_p hb.1.1, hb.1.2.2.1 j hj]
  obtain ⟨⟨j1, j2⟩, ⟨j3, j4⟩, j5, j6, j7⟩ := h7
  have j17 : J 12 g = iN (xd Y) := j4.1
  rw [show (ldI J 12 2 (J 0 19) fun x2 => (M_roomFor x2 12 J).bind fun r3 => if (r3 0 13) = 0 then (M_tellDoor F K r3).bind fun r4 => some (r4, K) else some (r3, K)) = (M_roomFor (iN (xd Y)) 12 J).bind fun r3 => if (r3 0 13) = 0 then (M_tellDoor F K r3).bind fun r4 => some (r4, K) else some (r3, K) by rw [j2, ldI_n (by omega) (by omega), j17]]
  have hxT : R_told_B24 F Xp 1 Q T = xb (R_door F Xp Q T) fun r56 => some (.inr (r56.1, r56.2)) := by
    unfold R_told_B24
    rw [if_neg (by decide), if_pos rfl]
  rw [hxT, xb_et]
  have hxC : R_door F Xp Q T = xb (R_begins Xp (iN (xd Y)) 12 Q T) fun r5 => nO r5.2 10 4 fun T6 => dR T6 txa 4 0 fun x9 => (x9).bind fun b10 => xb (R_known F Xp b10 r5.1 T6) fun r11 => pI r11.2.2 (tN r5.2) 10 0 r11.1 fun T12 => lt_ (r11.2.1 9 3) fun x13 => dR T12 txa 4 0 fun x15 => (x15).bind fun b16 => xb (R_known F Xp b16 r11.2.1 T12) fun r17 => pI r17.2.2 (tN r5.2) 10 1 r17.1 fun T18 => dI T18 (tN r5.2) 10 0 fun x19 => if x19 < 0 then R_door_B83 F Xp (tN r5.2) r17.2.1 T18 else dI T18 (tN r5.2) 10 0 fun x20 => dI T18 (tN r5.2) 10 1 fun x21 => if x20 = x21 then (R_tell 5 x13 r17.2.1).bind fun r22 => R_door_B83 F Xp (tN r5.2) r22 T18 else R_door_B83 F Xp (tN r5.2) r17.2.1 T18 := by
    unfold R_door
    rw [h2, Option.bind_some, hdR T 1 (by omega) h4, Option.bind_some, g2.ls.sz]
    simp only [Option.bind_some, A_Door]
  rw [hxC]
  have e6 : 12 * iN g + iN (xd Y) = iN (12 * g + Y.1 1) := by rw [i_12, iN_mul, iN_add]
  have hm9 := h4.2.2.2.2.2
  rcases p_begins (Xp := Xp) (T := T) h1 hk (x := iN (xd Y)) (y := 12) with ⟨Q1, J1, a1, a2, a3, a4, a5, a6, a7⟩ | ⟨Q1, J1, a1, a2, a3, a4, a5⟩
  · have hx6 : Y.1 1 ≠ 12 := fun hh => begins_ne a1 (by show iN (Y.1 1) = 12; rw [hh]; rfl)
    have hx7 : Y.1 1 ≤ 12 := hm9.2.1
    have hj13 : J1 0 13 = 0 := a3.2.2.2.2.1
    have q19 : J1 0 19 = iN g := by rw [a5.2 19 (by omega)]; exact j2
    have r17 : J1 12 g = iN (xd Y) := by rw [a5.1 12 (by omega)]; exact j17
    let T2 := tNew T (.inl 10) 4
    have x2 : ExN T T2 := ExN.new
    have hb2 := h4.ex l1 x2
    have k1 : T2.1 (tN T) = some (.inl 10) := by
      show (tNew T (.inl 10) 4).1 (tN T) = _
      rw [tNew_1, if_pos rfl]
    have hS2 : RwS T2 txa b e (fun s => Y.1 (rw_ s)) nm := hb2.rws (h5.sm h4 (ExN.sm l1 x2))
    have hM2 : NtM J1 K Nn sg id_ nm (fun s => Y.1 (rw_ s)) := h6.fr (a5.1 9 (by omega)) (a5.1 10 (by omega)) (a5.2 20 (by omega))
    have hnO : ∀ {α : Type} (f : Th → Option α), nO T 10 4 f = f T2 := fun f => nO_p (by omega) (by omega)
    obtain ⟨ix_, hix⟩ : ∃ ix_, ix_ = 12 * g + Y.1 1 := ⟨_, rfl⟩
    have hixl : ix_ < 24 := by omega
    have hw13 : wr_ g 13 ix_ = true := by simp [wr_, lv_]; omega
    have hw14 : wr_ g 14 ix_ = true := by simp [wr_, lv_]; omega
    have hw15 : wr_ g 15 ix_ = true := by simp [wr_, lv_]; omega
    have hw16 : wr_ g 16 ix_ = true := by simp [wr_, lv_]; omega
    have hMa : ∀ v J3 u J5, M_known F K 0 J1 = some (v, J3) → M_known F K 0 (uJ J3 13 ix_ v) = some (u, J5) → ((M_roomFor (iN (xd Y)) 12 J).bind fun r3 => if (r3 0 13) = 0 then (M_tellDoor F K r3).bind fun r4 => some (r4, K) else some (r3, K)) = (lt_ (uJ J5 14 ix_ u) fun J7 => if (J7 0 13) = 0 then ldI J7 13 24 (iN ix_) fun x8 => if x8 < 0 then M_tellDoor_B82 F K (iN ix_) J7 else ldI J7 13 24 (iN ix_) fun x9 => ldI J7 14 24 (iN ix_) fun x10 => if x9 = x10 then (M_wrong 5 (uJ J3 13 ix_ v 0 11) J7).bind fun r11 => M_tellDoor_B82 F K (iN ix_) r11 else M_tellDoor_B82 F K (iN ix_) J7 else M_tellDoor_B82 F K (iN ix_) J7).bind fun r4 => some (r4, K) := fun v J3 u J5 n2 n3 => by
      rw [a2, Option.bind_some, if_pos hj13]
      unfold M_tellDoor
      rw [q19, ldI_n (by omega) (by omega), r17, lt_e, e6, n2, Option.bind_some, ← hix]
      show (stI J3 13 24 (iN ix_) v fun J4 => lt_ (J4 0 11) fun x5 => (M_known F K 0 J4).bind fun r6 => stI r6.2 14 24 (iN ix_) r6.1 fun J7 => _).bind _ = _
      rw [stI_n (by omega) (by omega), lt_e, n3, Option.bind_some]
      show (stI J5 14 24 (iN ix_) u fun J7 => _).bind _ = _
      rw [stI_n (by omega) (by omega), lt_e]
    have hff : ∀ {Q' J' : Ji} (v u : Int32), FT Q' J' → ((lt_ (uJ J' 14 ix_ u) fun J7 => if (J7 0 13) = 0 then ldI J7 13 24 (iN ix_) fun x8 => if x8 < 0 then M_tellDoor_B82 F K (iN ix_) J7 else ldI J7 13 24 (iN ix_) fun x9 => ldI J7 14 24 (iN ix_) fun x10 => if x9 = x10 then (M_wrong 5 v J7).bind fun r11 => M_tellDoor_B82 F K (iN ix_) r11 else M_tellDoor_B82 F K (iN ix_) J7 else M_tellDoor_B82 F K (iN ix_) J7).bind fun r4 => some (r4, K)) = some (uJ (uJ (uJ J' 14 ix_ u) 15 ix_ 1) 16 ix_ 0, K) := fun v u hf => by
      have hf2 := (hf.u (o := 14) (i := ix_) (v := u) (by omega))
      rw [lt_e, if_neg hf2.n0.1, FT.door82 hf2.fm hixl hf2.fm.bounded, Option.bind_some]
    rcases p_known2 (Xp := Xp) (T := T2) (s := 0) hF a3 (x2.2.2.2 l1) hS2 hM2 (by omega) (show (tL T).2.2.1 ≤ tN T + 1 by omega) (show tN T + 1 + 4 ≤ (tL T).1 by omega) (show tZ T + 4 + 32 ≤ (tL T).2.1 by omega) with ⟨v, Q3, T5, J3, p1, p2, p3, p4, p5, p6, p7, p8, p9⟩ | ⟨Q3, J3, p1, p2, p3, p4, p5⟩
    · have p1' : R_known F Xp (b 0) Q1 T2 = some (.inr (v, Q3, T5)) := p1
      have p2' : M_known F K 0 J1 = some (v, J3) := p2
      have d5 := p7.2.2.1 (tN T) (show tN T < tN T + 1 by omega)
      have k5 : T5.1 (tN T) = some (.inl 10) := by rw [d5.1]; exact k1
      have hl5 : tL T5 = tL T := p7.2.1
      have hn5 : tN T5 = tN T + 5 := p8
      have hz5 : tZ T5 ≤ tZ T + 36 := p9
      let T6 := tI T5 (tN T) 0 v
      have x6 : ExN T T6 := (x2.tr p7).wI (Nat.le_refl _)
      have hb6 := h4.ex l1 x6
      have hl6 : tL T6 = tL T := hl5
      have hpI : ∀ {α : Type} (f : Th → Option α), pI T5 (tN T) 10 0 v f = f T6 := fun f => pI_p k5 (by rw [hl5]; omega)
      obtain ⟨J4, hJ4⟩ : ∃ J4, J4 = uJ J3 13 ix_ v := ⟨_, rfl⟩
      have hpt4 : PT N P E (a + 1 + 1) 0 Q3 J4 K := p4.mo (fun p p1 p2 => by rw [hJ4, uJ_o (by omega)]) (fun i _ _ => by rw [hJ4, uJ_o (by omega)]) (fun _ _ => rfl)
      have hM4 : NtM J4 K Nn sg id_ nm (fun s => Y.1 (rw_ s)) := hM2.fr (by rw [hJ4, uJ_o (by omega), p6.1 9 (by omega)]) (by rw [hJ4, uJ_o (by omega), p6.1 10 (by omega)]) (by rw [hJ4, uJ_o (by omega), p6.2 20 (by omega)])
      have hfr4 : FrJ g J J4 := by rw [hJ4]; exact (a5.tr p6).w.tr (FrJ.u hw13)
      rcases p_known2 (Xp := Xp) (T := T6) (s := 0) hF hpt4 (x6.2.2.2 l1) (hb6.rws (h5.sm h4 (ExN.sm l1 x6))) hM4 (by omega) (by rw [hl6]; show _ ≤ tN T5; omega) (by rw [hl6]; show tN T5 + 4 ≤ _; omega) (by rw [hl6]; show tZ T5 + 32 ≤ _; omega) with ⟨u, Q4, T7, J5, u1, u2, u3, u4, u5, u6, u7, u8, u9⟩ | ⟨Q4, J5, u1, u2, u3, u4, u5⟩
      · have u1' : R_known F Xp (b 0) Q3 T6 = some (.inr (u, Q4, T7)) := u1
        have u2' : M_known F K 0 J4 = some (u, J5) := u2
        rw [hMa v J3 u J5 p2' (by rw [← hJ4]; exact u2'), lt_e, ← hJ4]
        have d7 := u7.2.2.1 (tN T) (show tN T < tN T5 by omega)
        have k7 : T7.1 (tN T) = some (.inl 10) := by rw [d7.1]; exact k5
        have hl7 : tL T7 = tL T := u7.2.1.trans hl6
        let T8 := tI T7 (tN T) 1 u
        have x8 : ExN T T8 := (x6.tr u7).wI (Nat.le_refl _)
        have k8 : T8.1 (tN T) = some (.inl 10) := k7
        have hpI8 : ∀ {α : Type} (f : Th → Option α), pI T7 (tN T) 10 1 u f = f T8 := fun f => pI_p k7 (by rw [hl7]; omega)
        have f80 : T8.2.1 (tN T) 0 = v := by
          show (tI T7 (tN T) 1 u).2.1 (tN T) 0 = _
          rw [tI_2, if_neg (by omega), d7.2.1]
          show (tI T5 (tN T) 0 v).2.1 (tN T) 0 = _
          rw [tI_2, if_pos ⟨rfl, rfl⟩]
        have f81 : T8.2.1 (tN T) 1 = u := by
          show (tI T7 (tN T) 1 u).2.1 (tN T) 1 = _
          rw [tI_2, if_pos ⟨rfl, rfl⟩]
        have hd0 : ∀ {α : Type} (f : Int32 → Option α), dI T8 (tN T) 10 0 f = f v := fun f => by unfold dI; rw [if_pos k8, f80]
        have hd1 : ∀ {α : Type} (f : Int32 → Option α), dI T8 (tN T) 10 1 f = f u := fun f => by unfold dI; rw [if_pos k8, f81]
        obtain ⟨J7, hJ7⟩ : ∃ J7, J7 = uJ J5 14 ix_ u := ⟨_, rfl⟩
        rw [← hJ7]
        have hpt7 : PT N P E (a + 1 + 1 + 1) 0 Q4 J7 K := u4.mo (fun p p1 p2 => by rw [hJ7, uJ_o (by omega)]) (fun i _ _ => by rw [hJ7, uJ_o (by omega)]) (fun _ _ => rfl)
        have hfr7 : FrJ g J J7 := by rw [hJ7]; exact (hfr4.tr u6.w).tr (FrJ.u hw14)
        have qt7 : qF Q Q4 := (a4.tr p5).tr u5
        have z13 : J7 13 ix_ = v := by rw [hJ7, uJ_o (by omega), u6.1 13 (by omega), hJ4, uJ_ss]
        have z14 : J7 14 ix_ = u := by rw [hJ7, uJ_ss]
        have o0 : ∀ i, 16 < i → J7 0 i = J 0 i := fun i hi => by rw [hJ7, uJ_o (by omega), u6.2 i (by omega), hJ4, uJ_o (by omega), p6.2 i (by omega), a5.2 i (by omega)]
        have o1 : ∀ p, p ≠ 0 → p ≠ 13 → p ≠ 14 → p ≠ 15 → p ≠ 16 → J7 p = J p := fun p c0 c1 c2 c3 c4 => by rw [hJ7, uJ_o c2, u6.1 p c0, hJ4, uJ_o c1, p6.1 p c0, a5.1 p c0]
        have o2 : ∀ p i, 13 ≤ p → p ≤ 16 → i ≠ 12 * g + Y.1 1 → J7 p i = J p i := fun p i c1 c2 hi => by
          rw [hJ7, uJ_ap, if_neg (by omega), u6.1 p (by omega), hJ4, uJ_ap, if_neg (by omega), p6.1 p (by omega), a5.1 p (by omega)]
        have hn8 : tN T8 = tN T + 9 := by show tN T7 = _; have : tN T7 = tN T5 + 4 := u8; omega
        have hz8 : tZ T8 ≤ tZ T + 68 := by show tZ T7 ≤ _; have : tZ T7 ≤ tZ T5 + 32 := u9; omega
        have t13 : Q3 9 3 = iN (a + 1 + 1) := p4.2.2.1
        have t11 : J4 0 11 = iN (a + 1 + 1) := hpt4.2.2.2.1
        have hC : ∀ (X : Option ((Ji × Jr × Th) ⊕ (Ji × Th))), (if v < 0 then R_door_B83 F Xp (tN T) Q4 T8 else if v = u then (R_tell 5 (iN (a + 1 + 1)) Q4).bind fun r22 => R_door_B83 F Xp (tN T) r22 T8 else R_door_B83 F Xp (tN T) Q4 T8) = X → (xb (R_begins Xp (iN (xd Y)) 12 Q T) fun r5 => nO r5.2 10 4 fun T6 => dR T6 txa 4 0 fun x9 => (x9).bind fun b10 => xb (R_known F Xp b10 r5.1 T6) fun r11 => pI r11.2.2 (tN r5.2) 10 0 r11.1 fun T12 => lt_ (r11.2.1 9 3) fun x13 => dR T12 txa 4 0 fun x15 => (x15).bind fun b16 => xb (R_known F Xp b16 r11.2.1 T12) fun r17 => pI r17.2.2 (tN r5.2) 10 1 r17.1 fun T18 => dI T18 (tN r5.2) 10 0 fun x19 => if x19 < 0 then R_door_B83 F Xp (tN r5.2) r17.2.1 T18 else dI T18 (tN r5.2) 10 0 fun x20 => dI T18 (tN r5.2) 10 1 fun x21 => if x20 = x21 then (R_tell 5 x13 r17.2.1).bind fun r22 => R_door_B83 F Xp (tN r5.2) r22 T18 else R_door_B83 F Xp (tN r5.2) r17.2.1 T18) = X := fun X hX => by
          rw [← hX]
          simp only [xb, a1, Option.bind_some, hnO, hdR T2 0 (by omega) hb2, p1', hpI, lt_e, hdR T6 0 (by omega) hb6, u1', hpI8, hd0, hd1, t13]
        have hM : ∀ (X : Option Ji), (if v < 0 then M_tellDoor_B82 F K (iN ix_) J7 else if v = u then (M_wrong 5 (iN (a + 1 + 1)) J7).bind fun r11 => M_tellDoor_B82 F K (iN ix_) r11 else M_tellDoor_B82 F K (iN ix_) J7) = X → (if (J7 0 13) = 0 then ldI J7 13 24 (iN ix_) fun x8 => if x8 < 0 then M_tellDoor_B82 F K (iN ix_) J7 else ldI J7 13 24 (iN ix_) fun x9 => ldI J7 14 24 (iN ix_) fun x10 => if x9 = x10 then (M_wrong 5 (J4 0 11) J7).bind fun r11 => M_tellDoor_B82 F K (iN ix_) r11 else M_tellDoor_B82 F K (iN ix_) J7 else M_tellDoor_B82 F K (iN ix_) J7) = X := fun X hX => by
          rw [← hX, if_pos (show J7 0 13 = 0 from hpt7.2.2.2.2.1), ldI_n (by omega) (by omega), z13, t11]
          rw [ldI_n (by omega) (by omega), z13, ldI_n (by omega) (by omega), z14]
        have hQQ : Q4 9 5 = iN 0 → ∃ m k, v = iN m ∧ u = iN k ∧ m < Y.1 0 ∧ k < Y.1 0 ∧ Q 9 5 = iN 0 := fun hh => by
          rcases u3 with ⟨k, k1, k2, k3⟩ | ⟨k2, k3⟩
          · rw [k3] at hh
            rcases p3 with ⟨m, m1, m2, m3⟩ | ⟨m2, m3⟩
            · rw [m3, a6, uJ_sn (by omega)] at hh
              exact ⟨m, k, m2, k2, m1, k1, hh⟩
            · exact absurd hh m3
          · exact absurd hh k3
        by_cases c1 : v < 0
        · rw [hC _ (if_pos c1), hM _ (if_pos c1), hix]
          refine door_83 hF hI0 hx6 hpt7 x8 k8 hn8 hz8 qt7 hfr7 o0 o1 o2 (fun hh => ?_)
          obtain ⟨m, k, m1, k1, m2, k2, hq⟩ := hQQ hh
          have hb0 : Y.1 0 ≤ 8 := hm9.1
          rw [m1, i_0, iN_lt (by omega) (by omega)] at c1
          omega
        · by_cases c2 : v = u
          · obtain ⟨Q5, J8, b1, b2, b3, b4, b5, b6, b7⟩ := p_tell (w := 5) (t := a + 1 + 1) hpt7 (by omega) (by omega) (by have := hpt7.2.1; omega)
            have b1' : R_tell 5 (iN (a + 1 + 1)) Q4 = some Q5 := b1
            have b2' : M_wrong 5 (iN (a + 1 + 1)) J7 = some J8 := b2
            rw [hC (R_door_B83 F Xp (tN T) Q5 T8) (by rw [if_neg c1, if_pos c2, b1', Option.bind_some]), hM (M_tellDoor_B82 F K (iN ix_) J8) (by rw [if_neg c1, if_pos c2, b2', Option.bind_some]), hix]
            exact door_83 hF hI0 hx6 b3 x8 k8 hn8 hz8 (qt7.tr b4) (hfr7.tr b5.w) (fun i hi => by rw [b5.2 i (by omega), o0 i hi]) (fun p c0 c1 c2 c3 c4 => by rw [b5.1 p c0, o1 p c0 c1 c2 c3 c4]) (fun p i c1 c2 hi => by rw [b5.1 p (by omega), o2 p i c1 c2 hi]) (fun hh => absurd hh b6)
          · rw [hC _ (by rw [if_neg c1, if_neg c2]), hM _ (by rw [if_neg c1, if_neg c2]), hix]
            refine door_83 hF hI0 hx6 hpt7 x8 k8 hn8 hz8 qt7 hfr7 o0 o1 o2 (fun hh => ?_)
            obtain ⟨m, k, m1, k1, m2, k2, hq⟩ := hQQ hh
            exact ⟨hq, m, k, m2, k2, fun hmk => c2 (by rw [m1, k1, hmk]), by rw [f80]; exact m1, by rw [f81]; exact k1, by rw [← hix, z13]; exact m1, by rw [← hix, z14]; exact k1⟩
      · right
        have u1' : R_known F Xp (b 0) Q3 T6 = some (.inl (Q4, Xp, T6)) := u1
        have u2' : M_known F K 0 J4 = some (-1, J5) := u2
        refine ⟨Q4, T6, uJ (uJ (uJ J5 14 ix_ (-1)) 15 ix_ 1) 16 ix_ 0, K, ?_, ?_, ((u3.u (by omega)).u (by omega)).u (by omega), (a4.tr p5).tr u4, (hfr4.tr u5.w).tr ((FrJ.u hw14).tr ((FrJ.u hw15).tr (FrJ.u hw16))), fun _ _ => rfl, x6.bl l3, hl6, x6.1⟩
        · simp only [xb, a1, Option.bind_some, hnO, hdR T2 0 (by omega) hb2, p1', hpI, lt_e, hdR T6 0 (by omega) hb6, u1']
        · rw [hMa v J3 (-1) J5 p2' (by rw [← hJ4]; exact u2'), hff _ _ u3]
    · right
      have p1' : R_known F Xp (b 0) Q1 T2 = some (.inl (Q3, Xp, T2)) := p1
      have p2' : M_known F K 0 J1 = some (-1, J3) := p2
      have hf := p3.u (o := 13) (i := ix_) (v := -1) (by omega)
      refine ⟨Q3, T2, uJ (uJ (uJ (uJ J3 13 ix_ (-1)) 14 ix_ (-1)) 15 ix_ 1) 16 ix_ 0, K, ?_, ?_, ((hf.u (by omega)).u (by omega)).u (by omega), a4.tr p4, ((a5.tr p5).w.tr (FrJ.u hw13)).tr ((FrJ.u hw14).tr ((FrJ.u hw15).tr (FrJ.u hw16))), fun _ _ => rfl, x2.bl l3, rfl, x2.1⟩
      · simp only [xb, a1, Option.bind_some, hnO, hdR T2 0 (by omega) hb2, p1']
      · rw [hMa (-1) J3 (-1) _ p2' hf.fm.known, hff _ _ hf]
  · right
    refine ⟨Q1, T, J1, K, ?_, ?_, a3, a4, a5.w, fun _ _ => rfl, fun c hc => ⟨rfl, rfl, rfl⟩, rfl, Nat.le_refl _⟩
    · simp only [xb, a1, Option.bind_some]
    · rw [a2, Option.bind_some, if_neg a3.n0.1]
end DO2
