/-! PURE LAW 48: a door is told -/
set_option maxRecDepth 100000
section DO1
variable {n0 g txa nl Nn nb nc a a1 : Nat} {Xp : Jr} {F N : Nat} {P E : Nat → Nat} {Q Q1 J J1 : Ji} {K : Jl} {T T1 : Th} {Y : Xt} {b ar : Nat → Nat} {e : Nat → Nat → Nat} {sg id_ : Nat → Nat} {nm : Nat → Nat → List Int32}
theorem FM.door135 (h : FM J) : M_tellDoor_B135 F K J = some J := by
  unfold M_tellDoor_B135
  rw [h.must, Option.bind_some, if_neg h.n0.1]
theorem FM.door120 {i : Nat} (h : FM J) (hi : i < 24) : M_tellDoor_B120 F K (iN i) (iN i) J = some (uJ J 16 i 0) := by
  unfold M_tellDoor_B120 M_tellDoor_B121
  rw [show (0 &&& 1 : Int32) = 0 by decide, stI_n (by omega) (by omega), ldI_n (by omega) (by omega), uJ_ss, if_pos rfl, (h.u (by omega)).door135]
theorem FT.door82 {i : Nat} {v : Int32} {J2 : Ji} (h : FM J2) (hi : i < 24) (hb : M_bounded 1 60 J = some (v, J2)) : M_tellDoor_B82 F K (iN i) J = some (uJ (uJ J2 15 i v) 16 i 0) := by
  unfold M_tellDoor_B82
  rw [hb, Option.bind_some]
  show (stI J2 15 24 (iN i) v fun J13 => if (J13 0 13) = 0 then (M_is J13 22).bind fun r14 => if r14 = 0 then M_tellDoor_B120 F K (iN i) (iN i) J13 else M_tellDoor_B121 F K (iN i) 1 (iN i) J13 else M_tellDoor_B120 F K (iN i) (iN i) J13) = _
  rw [stI_n (by omega) (by omega), if_neg (h.u (by omega)).n0.1, (h.u (by omega)).door120 hi]
/-- the end of a door -/
theorem door_fin (hI : IV n0 g txa Xp N P E a Q J K T Y b ar e nl Nn sg id_ nm nb nc) (hx6 : Y.1 1 ≠ 12) (ha1 : a < a1) (hP : PT N P E a1 0 Q1 J1 K) (hx : ExN T T1) (hk : T1.1 (tN T) = some (.inl 10)) (hN : tN T1 + 1 + 16 * (401 - a1) ≤ (tL T).1) (hZ : tZ T1 + 15 + 120 * (401 - a1) ≤ (tL T).2.1) (hq : qF Q Q1)
    (hfr : FrJ g J J1) (q0 : ∀ i, 16 < i → J1 0 i = J 0 i) (q1 : ∀ p, p ≠ 0 → p ≠ 13 → p ≠ 14 → p ≠ 15 → p ≠ 16 → J1 p = J p) (q2 : ∀ p i, 13 ≤ p → p ≤ 16 → i ≠ 12 * g + Y.1 1 → J1 p i = J p i)
    (hv : Q1 9 5 = iN 0 → Q 9 5 = iN 0 ∧ ∃ m k s d, m < Y.1 0 ∧ k < Y.1 0 ∧ m ≠ k ∧ s ≤ 60 ∧ d ≤ 1 ∧ T1.2.1 (tN T) 0 = iN m ∧ T1.2.1 (tN T) 1 = iN k ∧ T1.2.1 (tN T) 2 = iN s ∧ T1.2.1 (tN T) 3 = iN d ∧ J1 13 (12 * g + Y.1 1) = iN m ∧ J1 14 (12 * g + Y.1 1) = iN k ∧ J1 15 (12 * g + Y.1 1) = iN s ∧ J1 16 (12 * g + Y.1 1) = iN d) :
    StO n0 g txa Xp N P E a Q J K T (xb (R_door_B114 F Xp (tN T) Q1 T1) fun r => R_sign Xp 59 r.1 r.2) ((M_tellDoor_B135 F K J1).bind fun r => some (r, K)) := by
  obtain ⟨h1, h2, h3, h4, h5, ⟨h6, h6b⟩, h7, h8, ⟨h9, h10⟩, h11⟩ := hI
  have hNN := h1.n
  have ha := h1.2.1
  have haN := hP.2.1
  have hl0 := h3
  obtain ⟨l1, l2, l3, l4, l5⟩ := h3
  obtain ⟨⟨j1, j2⟩, ⟨j3, j4⟩, j5, j6, j7⟩ := h7
  have hm9 := h4.2.2.2.2.2
  have hx7 : Y.1 1 ≤ 12 := hm9.2.1
  have hl1 : tL T1 = tL T := hx.2.1
  have hb7 := h4.ex l1 hx
  have hk2 : T1.1 (b 1) = some (.inl 19) := (hb7.2.1 1 (Or.inl (by omega))).1.1
  have hC : R_door_B114 F Xp (tN T) Q1 T1 = ((A_L_add (b 1) (tN T) T1).bind fun r => some (.inr (Q1, r.2)) : Option ((Ji × Jr × Th) ⊕ (Ji × Th))) := by
    simp only [R_door_B114, h2, Option.bind_some, dR_p hb7.1.1, hb7.1.2.2.1 1 (by omega), dC_p hk2]
  rw [hC]
  obtain ⟨m, k, s, d, hval⟩ : ∃ m k s d, Q1 9 5 = iN 0 → Q 9 5 = iN 0 ∧ m < Y.1 0 ∧ k < Y.1 0 ∧ m ≠ k ∧ s ≤ 60 ∧ d ≤ 1 ∧ T1.2.1 (tN T) 0 = iN m ∧ T1.2.1 (tN T) 1 = iN k ∧ T1.2.1 (tN T) 2 = iN s ∧ T1.2.1 (tN T) 3 = iN d ∧ J1 13 (12 * g + Y.1 1) = iN m ∧ J1 14 (12 * g + Y.1 1) = iN k ∧ J1 15 (12 * g + Y.1 1) = iN s ∧ J1 16 (12 * g + Y.1 1) = iN d := by
    by_cases c : Q1 9 5 = iN 0
    · obtain ⟨r1, m, k, s, d, r2⟩ := hv c
      exact ⟨m, k, s, d, fun _ => ⟨r1, r2⟩⟩
    · exact ⟨0, 0, 0, 0, fun hh => absurd hh c⟩
  let Y1 : Xt := (inc_ Y 1, (fun c i => if c = 13 ∧ i = Y.1 1 then m else if c = 14 ∧ i = Y.1 1 then k else if c = 15 ∧ i = Y.1 1 then s else if c = 16 ∧ i = Y.1 1 then d else tb Y c i), Y.2.2)
  have hY1 : Y1.1 = inc_ Y 1 := rfl
  have y14 : Y1.1 1 = Y.1 1 + 1 := inc_s hY1
  have y1o : ∀ r, r ≠ 1 → Y1.1 r = Y.1 r := fun r hr => inc_o hY1 hr
  have hxs : ∀ k, xs Y1 k = xs Y k := fun k => y1o (10 + k) (by omega)
  have hms : ∀ k, k < xk Y → xs Y1 k ≤ 6 := fun k hk => by rw [hxs]; exact hm9.2.2.2.2.2.2.1 k hk
  have hmx : xr Y1 ≤ 8 ∧ xd Y1 ≤ 12 ∧ xt Y1 ≤ 6 ∧ xk Y1 ≤ 6 ∧ xm Y1 ≤ 6 := ⟨hm9.1, by show Y1.1 1 ≤ 12; omega, hm9.2.2.1, hm9.2.2.2.1, hm9.2.2.2.2.1⟩
  have ho : ∀ c i, OldC Y c i → tb Y1 c i = tb Y c i := fun c i hc => by
    show (if c = 13 ∧ i = Y.1 1 then m else if c = 14 ∧ i = Y.1 1 then k else if c = 15 ∧ i = Y.1 1 then s else if c = 16 ∧ i = Y.1 1 then d else tb Y c i) = tb Y c i
    have : ¬ (13 ≤ c ∧ c ≤ 16 ∧ i = Y.1 1) := fun hh => by
      rcases hc with hc | hc | hc | hc | hc
      · have : i < Y.1 1 := hc.2.2; omega
      · omega
      · omega
      · omega
      · omega
    rw [if_neg (by omega), if_neg (by omega), if_neg (by omega), if_neg (by omega)]
  have t13 : tb Y1 13 (Y.1 1) = m := if_pos ⟨rfl, rfl⟩
  have t14 : tb Y1 14 (Y.1 1) = k := by
    show (if 14 = 13 ∧ Y.1 1 = Y.1 1 then m else if 14 = 14 ∧ Y.1 1 = Y.1 1 then k else _) = k
    rw [if_neg (by omega), if_pos ⟨rfl, rfl⟩]
  have t15 : tb Y1 15 (Y.1 1) = s := by
    show (if 15 = 13 ∧ Y.1 1 = Y.1 1 then m else if 15 = 14 ∧ Y.1 1 = Y.1 1 then k else if 15 = 15 ∧ Y.1 1 = Y.1 1 then s else _) = s
    rw [if_neg (by omega), if_neg (by omega), if_pos ⟨rfl, rfl⟩]
  have t16 : tb Y1 16 (Y.1 1) = d := by
    show (if 16 = 13 ∧ Y.1 1 = Y.1 1 then m else if 16 = 14 ∧ Y.1 1 = Y.1 1 then k else if 16 = 15 ∧ Y.1 1 = Y.1 1 then s else if 16 = 16 ∧ Y.1 1 = Y.1 1 then d else _) = d
    rw [if_neg (by omega), if_neg (by omega), if_neg (by omega), if_pos ⟨rfl, rfl⟩]
  have hNm : NmT T1 Y1 (fun q i => if q = 1 ∧ i = Y.1 1 then tN T else e q i) nm := fun s i hs hi => by
    have hr : rw_ s ≠ 1 := by unfold rw_; by_cases c : s = 0 <;> simp [c]
    rw [y1o _ hr] at hi
    have := (h5.sm h4 (ExN.sm l1 hx)) s i hs hi
    simp only [if_neg (show ¬ (rw_ s = 1 ∧ i = Y.1 1) from fun hh => hr hh.1)]
    exact this
  refine fin_add (Y := Y) (Y1 := Y1) (a0 := a) (Q0 := Q) (J0 := J) (T0 := T) (nc := nc) (nb := nb) (g := g) (Xp := Xp) (nk := xk Y)
    (f := fun r18 => ldI r18 12 2 (r18 0 19) fun x19 => stI r18 12 2 (r18 0 19) (x19 + 1) fun J20 => some (J20, K))
    hP h2 (hl0.ex hx) hb7 (j := 1) (Or.inl (by omega)) hk l3 hY1 ⟨hmx.1, hmx.2.1, hmx.2.2.1, hmx.2.2.2.1, hmx.2.2.2.2, hms⟩ rfl (fun hh => by omega) hNm ⟨h8.2, fun hh => by omega⟩ (by omega) (by omega) ⟨by rw [hl1]; exact hN, by rw [hl1]; exact hZ⟩ ⟨hq, hfr, fun _ _ => rfl, hx.bl l3, hl1, hx.1⟩ (fun hq => ?_) (fun J9 hJ9 => ?_) (fun J9 m1 m2 => ?_) (fun J9 m1 m2 m3 m4 => ?_)
  · obtain ⟨r0, r1, r2, r3, r4, r5, r6, r7, r8, r9, r10⟩ := hval hq
    obtain ⟨v1, v2, v3, v4⟩ := h11 r0
    refine ⟨(v1.sm h4 (ExN.sm l1 hx) (ExN.sm l1 hx)).add hY1 (fun hh => by omega) ho (fun m hm => rfl) (fun _ => ⟨?_, ?_, ?_, ?_⟩) (fun hh => by omega) (fun hh => by omega) (fun hh => by omega) (fun k hh => by omega), v3.add hY1 (fun hh => by omega) (by omega) ho ⟨hmx.1, hmx.2.1, hmx.2.2.1, hmx.2.2.2.1, hmx.2.2.2.2, hms⟩ (fun _ => ⟨?_, ?_, ?_, ?_, ?_⟩) (fun hh => by omega) (fun hh => by omega) (fun hh => by omega) (fun k hh => by omega), ?_⟩
    · rw [t13]; exact r6
    · rw [t14]; exact r7
    · rw [t15]; exact r8
    · rw [t16]; exact r9
    · rw [t13]; exact r1
    · rw [t14]; exact r2
    · rw [t15]; exact r4
    · rw [t16]; exact r5
    · rw [t13, t14]; exact r3
    · have ht7 := l1.at_ hx h4.1.1
      rw [ht7.2.1, v4]
      show iN (Y.1 5) = iN (Y1.1 5)
      rw [y1o 5 (by omega)]
  · have h9o : ∀ p, p ≠ 0 → J9 p = J1 p := fun p hp => by rw [hJ9, uJ_o hp]
    have h90 : ∀ i, i ≠ 11 → J9 0 i = J1 0 i := fun i hi => by rw [hJ9, uJ_sn hi]
    have w19 : J9 0 19 = iN g := by rw [h90 19 (by omega), q0 19 (by omega)]; exact j2
    have w12 : J9 12 g = iN (Y.1 1) := by rw [h9o 12 (by omega), q1 12 (by omega) (by omega) (by omega) (by omega) (by omega)]; exact j4.1
    have e1 : iN (Y.1 1) + 1 = iN (Y.1 1 + 1) := by rw [i_1, iN_add]
    have hp : ∀ p, p ≠ 0 → p ≠ 12 → (p < 13 ∨ 16 < p) → uJ J9 12 g (iN (Y.1 1 + 1)) p = J p := fun p c0 c1 c2 => by rw [uJ_o c1, h9o p c0, q1 p c0 (by omega) (by omega) (by omega) (by omega)]
    have hp0 : ∀ i, 16 < i → uJ J9 12 g (iN (Y.1 1 + 1)) 0 i = J 0 i := fun i hi => by rw [uJ_o (by omega), h90 i (by omega), q0 i hi]
    have hpv : ∀ p i, 13 ≤ p → p ≤ 16 → uJ J9 12 g (iN (Y.1 1 + 1)) p i = J1 p i := fun p i c1 c2 => by rw [uJ_o (by omega), h9o p (by omega)]
    refine ⟨uJ J9 12 g (iN (Y.1 1 + 1)), K, Nn, sg, id_, ?_, fun p p1 p2 => uJ_o (by omega), fun i i1 i2 => by rw [uJ_o (by omega)], fun _ _ => rfl, (h6.fr (hp 9 (by omega) (by omega) (by omega)) (hp 10 (by omega) (by omega) (by omega)) (hp0 20 (by omega))).cg (fun s hs => y1o _ (by unfold rw_; by_cases c : s = 0 <;> simp [c])), h6b, ⟨⟨j1, by rw [hp0 19 (by omega)]; exact j2⟩, ⟨by rw [hp 11 (by omega) (by omega) (by omega)]; exact j3, by rw [uJ_ss]; exact (congrArg iN y14).symm, by rw [hp 17 (by omega) (by omega) (by omega), hp 19 (by omega) (by omega) (by omega), hp 29 (by omega) (by omega) (by omega), hp 33 (by omega) (by omega) (by omega)]; exact j4.2⟩, fun k hk => by rw [hp 22 (by omega) (by omega) (by omega), hxs]; exact j5 k hk, ⟨by rw [hp0 49 (by omega)]; exact j6.1, j6.2⟩, by rw [hp0 56 (by omega)]; exact j7⟩, FrJ.u (by simp [wr_, lv_]), fun hq => ?_⟩
    · show (ldI J9 12 2 (J9 0 19) fun x19 => stI J9 12 2 (J9 0 19) (x19 + 1) fun J20 => some (J20, K)) = _
      rw [w19, ldI_n (by omega) (by omega), w12, e1, stI_n (by omega) (by omega)]
    · obtain ⟨r0, r1, r2, r3, r4, r5, r6, r7, r8, r9, r10, r11, r12, r13⟩ := hval hq
      obtain ⟨v1, v2, v3, v4⟩ := h11 r0
      refine v2.add hY1 (fun hh => by omega) (by omega) ho (fun m hm => rfl) (fun p i hp' => ?_) (hp 34 (by omega) (by omega) (by omega)) (hp 35 (by omega) (by omega) (by omega)) (hp 41 (by omega) (by omega) (by omega)) ⟨fun p i p1 p2 _ => by rw [hp p (by omega) (by omega) (by omega)], fun p i p1 _ => by rw [hp p (by omega) (by omega) (by omega)]⟩ (fun _ => ⟨?_, ?_, ?_, ?_⟩) (fun hh => by omega) (fun hh => by omega) (fun hh => by omega) (fun k hh => by omega)
      · by_cases c : 13 ≤ p ∧ p ≤ 16
        · rw [hpv p i c.1 c.2]
          refine q2 p i c.1 c.2 (fun hh => ?_)
          rcases hp' with hp' | hp' | hp' | hp' | hp'
          · obtain ⟨_, _, d, d1, d2⟩ := hp'
            have d1 : d < Y.1 1 := d1
            omega
          · omega
          · omega
          · omega
          · omega
        · have : 13 ≤ p := by rcases hp' with hp' | hp' | hp' | hp' | hp' <;> omega
          rw [hp p (by omega) (by omega) (by omega)]
      · rw [t13, hpv 13 _ (by omega) (by omega)]; exact r10
      · rw [t14, hpv 14 _ (by omega) (by omega)]; exact r11
      · rw [t15, hpv 15 _ (by omega) (by omega)]; exact r12
      · rw [t16, hpv 16 _ (by omega) (by omega)]; exact r13
  · unfold M_tellDoor_B135
    rw [m1, Option.bind_some, if_pos m2]
    have h9o : ∀ p, p ≠ 0 → J9 p = J1 p := fun p hp => by
      rcases p_sign (Xp := Xp) (T := T1) hP (c := 59) (k := 4) (Or.inl ⟨rfl, rfl⟩) with ⟨Q4, J4, s1, s2, s3, s4, s5, s6, s7⟩ | ⟨Q4, J4, s1, s2, s3, s4, s5⟩
      · have : some J4 = some J9 := s2.symm.trans m1
        rw [← Option.some.inj this, s5.1 p hp]
      · have : some J4 = some J9 := s2.symm.trans m1
        rw [← Option.some.inj this, s5.1 p hp]
    have w19 : J9 0 19 = iN g := by
      rcases p_sign (Xp := Xp) (T := T1) hP (c := 59) (k := 4) (Or.inl ⟨rfl, rfl⟩) with ⟨Q4, J4, s1, s2, s3, s4, s5, s6, s7⟩ | ⟨Q4, J4, s1, s2, s3, s4, s5⟩
      · have : some J4 = some J9 := s2.symm.trans m1
        rw [← Option.some.inj this, s5.2 19 (by omega), q0 19 (by omega)]; exact j2
      · have : some J4 = some J9 := s2.symm.trans m1
        rw [← Option.some.inj this, s5.2 19 (by omega), q0 19 (by omega)]; exact j2
    rw [w19, ldI_n (by omega) (by omega), stI_n (by omega) (by omega), Option.bind_some, ldI_n (by omega) (by omega), stI_n (by omega) (by omega)]
  · unfold M_tellDoor_B135
    rw [m1, Option.bind_some, if_neg m2, Option.bind_some]
/-- a door, from its minutes on -/
theorem door_83 (hF : 2100 ≤ F) (hI : IV n0 g txa Xp N P E a Q J K T Y b ar e nl Nn sg id_ nm nb nc) (hx6 : Y.1 1 ≠ 12) (hP : PT N P E (a + 1 + 1 + 1) 0 Q1 J1 K) (hx : ExN T T1) (hk : T1.1 (tN T) = some (.inl 10)) (hN : tN T1 = tN T + 9) (hZ : tZ T1 ≤ tZ T + 68) (hq : qF Q Q1)
    (hfr : FrJ g J J1) (q0 : ∀ i, 16 < i → J1 0 i = J 0 i) (q1 : ∀ p, p ≠ 0 → p ≠ 13 → p ≠ 14 → p ≠ 15 → p ≠ 16 → J1 p = J p) (q2 : ∀ p i, 13 ≤ p → p ≤ 16 → i ≠ 12 * g + Y.1 1 → J1 p i = J p i)
    (hv : Q1 9 5 = iN 0 → Q 9 5 = iN 0 ∧ ∃ m k, m < Y.1 0 ∧ k < Y.1 0 ∧ m ≠ k ∧ T1.2.1 (tN T) 0 = iN m ∧ T1.2.1 (tN T) 1 = iN k ∧ J1 13 (12 * g + Y.1 1) = iN m ∧ J1 14 (12 * g + Y.1 1) = iN k) :
    StO n0 g txa Xp N P E a Q J K T (xb (R_door_B83 F Xp (tN T) Q1 T1) fun r => R_sign Xp 59 r.1 r.2) ((M_tellDoor_B82 F K (iN (12 * g + Y.1 1)) J1).bind fun r => some (r, K)) := by
  have hI0 := hI
  obtain ⟨h1, h2, h3, h4, h5, ⟨h6, h6b⟩, h7, h8, ⟨h9, h10⟩, h11⟩ := hI
  obtain ⟨l1, l2, l3, l4, l5⟩ := h3
  have hg := h7.1.1
  have hNN := h1.n
  have hx7 : Y.1 1 ≤ 12 := h4.2.2.2.2.2.2.1
  have hl1 : tL T1 = tL T := hx.2.1
  obtain ⟨ix_, hix⟩ : ∃ ix_, ix_ = 12 * g + Y.1 1 := ⟨_, rfl⟩
  rw [← hix]
  have hixl : ix_ < 24 := by omega
  have hw15 : wr_ g 15 ix_ = true := by simp [wr_, lv_]; omega
  have hw16 : wr_ g 16 ix_ = true := by simp [wr_, lv_]; omega
  rcases p_number (Xp := Xp) (T := T1) hF hP (lo := 1) (hi := 60) (by omega) (by omega) with ⟨w, Q4, J4, w1, w2, w3, w4, w5, w6, w7⟩ | ⟨Q4, J4, w1, ⟨w, w2⟩, w3, w4, w5⟩
  · have w1' : R_number F Xp 1 60 Q1 T1 = some (.inr (iN w, Q4, T1)) := w1
    have w2' : M_bounded 1 60 J1 = some (iN w, J4) := w2
    let T2 := tI T1 (tN T) 2 (iN w)
    have x2 : ExN T T2 := hx.wI (Nat.le_refl _)
    have k2 : T2.1 (tN T) = some (.inl 10) := hk
    have hpI : ∀ {α : Type} (f : Th → Option α), pI T1 (tN T) 10 2 (iN w) f = f T2 := fun f => pI_p hk (by rw [hl1]; omega)
    obtain ⟨J5, hJ5⟩ : ∃ J5, J5 = uJ J4 15 ix_ (iN w) := ⟨_, rfl⟩
    have hpt5 : PT N P E (a + 1 + 1 + 1 + 1) 0 Q4 J5 K := w4.mo (fun p p1 p2 => by rw [hJ5, uJ_o (by omega)]) (fun i _ _ => by rw [hJ5, uJ_o (by omega)]) (fun _ _ => rfl)
    have hf5 : FrJ g J J5 := by rw [hJ5]; exact (hfr.tr w6.w).tr (FrJ.u hw15)
    have o50 : ∀ i, 16 < i → J5 0 i = J 0 i := fun i hi => by rw [hJ5, uJ_o (by omega), w6.2 i (by omega), q0 i hi]
    have o51 : ∀ p, p ≠ 0 → p ≠ 13 → p ≠ 14 → p ≠ 15 → p ≠ 16 → J5 p = J p := fun p c0 c1 c2 c3 c4 => by rw [hJ5, uJ_o c3, w6.1 p c0, q1 p c0 c1 c2 c3 c4]
    have o52 : ∀ p i, 13 ≤ p → p ≤ 16 → i ≠ ix_ → J5 p i = J p i := fun p i c1 c2 hi => by rw [hJ5, uJ_ap, if_neg (by omega), w6.1 p (by omega)]; exact q2 p i c1 c2 (by omega)
    have o13 : J5 13 = J1 13 := by rw [hJ5, uJ_o (by omega), w6.1 13 (by omega)]
    have o14 : J5 14 = J1 14 := by rw [hJ5, uJ_o (by omega), w6.1 14 (by omega)]
    have o15 : J5 15 ix_ = iN w := by rw [hJ5, uJ_ss]
    have hM : (M_tellDoor_B82 F K (iN ix_) J1).bind (fun r => some (r, K)) = ((M_is J5 22).bind fun r14 => if r14 = 0 then M_tellDoor_B120 F K (iN ix_) (iN ix_) J5 else M_tellDoor_B121 F K (iN ix_) 1 (iN ix_) J5).bind (fun r => some (r, K)) := by
      unfold M_tellDoor_B82
      rw [w2', Option.bind_some]
      show (stI J4 15 24 (iN ix_) (iN w) fun J13 => if (J13 0 13) = 0 then (M_is J13 22).bind fun r14 => if r14 = 0 then M_tellDoor_B120 F K (iN ix_) (iN ix_) J13 else M_tellDoor_B121 F K (iN ix_) 1 (iN ix_) J13 else M_tellDoor_B120 F K (iN ix_) (iN ix_) J13).bind _ = _
      rw [stI_n (by omega) (by omega), ← hJ5, if_pos (show J5 0 13 = 0 from hpt5.2.2.2.2.1)]
    rw [hM]
    have hC : R_door_B83 F Xp (tN T) Q1 T1 = xb (R_isWord Xp 2 Q4 T2) fun r25 => (bz r25.1).bind fun z27 => pI r25.2.2 (tN T) 10 3 z27 fun T26 => dI T26 (tN T) 10 3 fun x28 => if x28 = 0 then R_door_B114 F Xp (tN T) r25.2.1 T26 else xb (R_pass Xp r25.2.1 T26) fun r29 => R_door_B114 F Xp (tN T) r29.1 r29.2 := by
      simp only [R_door_B83, xb, w1', Option.bind_some, hpI]
    rw [hC]
    have hdI : ∀ {α : Type} (z : Int32) (f : Int32 → Option α), (pI T2 (tN T) 10 3 z fun T26 => dI T26 (tN T) 10 3 f) = f z := fun z f => by
      rw [pI_p k2 (by show (tL T1).2.2.1 ≤ _; rw [hl1]; omega)]
      unfold dI
      rw [if_pos (show (tI T2 (tN T) 3 z).1 (tN T) = _ from k2), tI_2, if_pos ⟨rfl, rfl⟩]
    have hpI3 : ∀ {α : Type} (z : Int32) (f : Th → Option α), pI T2 (tN T) 10 3 z f = f (tI T2 (tN T) 3 z) := fun z f => pI_p k2 (by show (tL T1).2.2.1 ≤ _; rw [hl1]; omega)
    have hdI3 : ∀ {α : Type} (z : Int32) (f : Int32 → Option α), dI (tI T2 (tN T) 3 z) (tN T) 10 3 f = f z := fun z f => by
      unfold dI
      rw [if_pos (show (tI T2 (tN T) 3 z).1 (tN T) = _ from k2), tI_2, if_pos ⟨rfl, rfl⟩]
    have fin : ∀ (d : Nat) (a1 : Nat) (Q5 J6 : Ji), d ≤ 1 → a < a1 → a1 + 1 ≥ a + 1 + 1 + 1 + 1 + 1 → PT N P E a1 0 Q5 J6 K → qF Q4 Q5 → jF (uJ J5 16 ix_ (iN d)) J6 → (Q5 9 5 = iN 0 → Q4 9 5 = iN 0) → StO n0 g txa Xp N P E a Q J K T (xb (R_door_B114 F Xp (tN T) Q5 (tI T2 (tN T) 3 (iN d))) fun r => R_sign Xp 59 r.1 r.2) ((M_tellDoor_B135 F K J6).bind fun r => some (r, K)) := fun d a1 Q5 J6 hd ha1 ha2 hp hq5 hj6 hqq => by
      have hbud := bud_ (n1 := tN T1) (z1 := tZ T1) h9 h10 (Nat.le_of_eq hN) hZ (a1 := a1) (by have := hp.2.1; omega) (by omega) (by omega) (by omega)
      refine door_fin (F := F) hI0 hx6 ha1 hp (x2.wI (Nat.le_refl _)) k2 hbud.1 hbud.2 ((hq.tr w5).tr hq5) ((hf5.tr (FrJ.u hw16)).tr hj6.w) (fun i hi => ?_) (fun p c0 c1 c2 c3 c4 => ?_) (fun p i c1 c2 hi => ?_) (fun hh => ?_)
      · rw [hj6.2 i (by omega), uJ_o (by omega), o50 i hi]
      · rw [hj6.1 p c0, uJ_o c4, o51 p c0 c1 c2 c3 c4]
      · rw [hj6.1 p (by omega), uJ_ap, if_neg (by omega)]; exact o52 p i c1 c2 (by omega)
      · obtain ⟨r1, r2, r3⟩ := w7 (hqq hh)
        obtain ⟨r4, m, k, r5, r6, r7, r8, r9, r10, r11⟩ := hv r1
        refine ⟨r4, m, k, w, d, r5, r6, r7, r3, hd, ?_, ?_, ?_, ?_, ?_, ?_, ?_, ?_⟩
        · rw [tI_2, if_neg (by omega)]
          show (tI T1 (tN T) 2 (iN w)).2.1 (tN T) 0 = _
          rw [tI_2, if_neg (by omega)]; exact r8
        · rw [tI_2, if_neg (by omega)]
          show (tI T1 (tN T) 2 (iN w)).2.1 (tN T) 1 = _
          rw [tI_2, if_neg (by omega)]; exact r9
        · rw [tI_2, if_neg (by omega)]
          show (tI T1 (tN T) 2 (iN w)).2.1 (tN T) 2 = _
          rw [tI_2, if_pos ⟨rfl, rfl⟩]
        · rw [tI_2, if_pos ⟨rfl, rfl⟩]
        · rw [hj6.1 13 (by omega), uJ_o (by omega), o13]; exact r10
        · rw [hj6.1 14 (by omega), uJ_o (by omega), o14]; exact r11
        · rw [hj6.1 15 (by omega), uJ_o (by omega), ← hix, o15]
        · rw [hj6.1 16 (by omega), ← hix, uJ_ss]
    rcases p_isw (Xp := Xp) (T := T2) hpt5 (w := 2) (by omega) with ⟨z1, z2, z3⟩ | ⟨z1, z2⟩
    · have z1' : R_isWord Xp 2 Q4 T2 = some (.inr (1, Q4, T2)) := z1
      have z2' : M_is J5 22 = some 1 := z2
      have hb1 : bz 1 = some 1 := by decide
      have hpt6 : PT N P E (a + 1 + 1 + 1 + 1) 0 Q4 (uJ J5 16 ix_ (iN 1)) K := hpt5.mo (fun p p1 p2 => by rw [uJ_o (by omega)]) (fun i _ _ => by rw [uJ_o (by omega)]) (fun _ _ => rfl)
      have hM2 : ((M_is J5 22).bind fun r14 => if r14 = 0 then M_tellDoor_B120 F K (iN ix_) (iN ix_) J5 else M_tellDoor_B121 F K (iN ix_) 1 (iN ix_) J5) = (M_goesOn (uJ J5 16 ix_ (iN 1))).bind fun r17 => M_tellDoor_B135 F K r17 := by
        rw [z2', Option.bind_some, if_neg (show ¬ (1 : Int32) = 0 by decide)]
        unfold M_tellDoor_B121
        rw [show (1 &&& 1 : Int32) = iN 1 by decide, stI_n (by omega) (by omega), ldI_n (by omega) (by omega), uJ_ss, if_neg (show ¬ iN 1 = 0 by decide)]
      rw [hM2]
      rcases p_pass (Xp := Xp) (T := tI T2 (tN T) 3 (iN 1)) hpt6 ⟨by rw [z3]; decide, by rw [z3]; decide⟩ with ⟨Q5, J8, s1, s2, s3, s4, s5, s6, s7⟩ | ⟨Q5, J8, s1, s2, s3, s4, s5, s6⟩
      · have s1' : R_pass Xp Q4 (tI T2 (tN T) 3 1) = some (.inr (Q5, tI T2 (tN T) 3 1)) := s1
        rw [s2, Option.bind_some]
        have hC2 : (xb (R_isWord Xp 2 Q4 T2) fun r25 => (bz r25.1).bind fun z27 => pI r25.2.2 (tN T) 10 3 z27 fun T26 => dI T26 (tN T) 10 3 fun x28 => if x28 = 0 then R_door_B114 F Xp (tN T) r25.2.1 T26 else xb (R_pass Xp r25.2.1 T26) fun r29 => R_door_B114 F Xp (tN T) r29.1 r29.2) = R_door_B114 F Xp (tN T) Q5 (tI T2 (tN T) 3 (iN 1)) := by
          simp only [xb, z1', Option.bind_some, hb1, hpI3, hdI3, if_neg (show ¬ (1 : Int32) = 0 by decide), s1']
          rfl
        rw [hC2]
        exact fin 1 _ Q5 J8 (by omega) (by omega) (by omega) s3 s4 s5 (fun hh => by rw [s6, uJ_sn (by omega)] at hh; exact hh)
      · have s1' : R_pass Xp Q4 (tI T2 (tN T) 3 1) = some (.inl (Q5, Xp, tI T2 (tN T) 3 1)) := s1
        right
        have hf : FT Q5 J8 := ⟨_, _, s3⟩
        refine ⟨Q5, tI T2 (tN T) 3 1, J8, K, ?_, ?_, hf, (hq.tr w5).tr s4, (hf5.tr (FrJ.u hw16)).tr s5.w, fun _ _ => rfl, (x2.wI (Nat.le_refl _)).bl l3, hl1, (x2.wI (k := 3) (v := 1) (Nat.le_refl _)).1⟩
        · simp only [xb, z1', Option.bind_some, hb1, hpI3, hdI3, if_neg (show ¬ (1 : Int32) = 0 by decide), s1']
        · rw [s2, Option.bind_some, hf.fm.door135, Option.bind_some]
    · have z1' : R_isWord Xp 2 Q4 T2 = some (.inr (0, Q4, T2)) := z1
      have z2' : M_is J5 22 = some 0 := z2
      have hb1 : bz 0 = some 0 := by decide
      have hM2 : ((M_is J5 22).bind fun r14 => if r14 = 0 then M_tellDoor_B120 F K (iN ix_) (iN ix_) J5 else M_tellDoor_B121 F K (iN ix_) 1 (iN ix_) J5) = M_tellDoor_B135 F K (uJ J5 16 ix_ (iN 0)) := by
        rw [z2', Option.bind_some, if_pos rfl]
        unfold M_tellDoor_B120 M_tellDoor_B121
        rw [show (0 &&& 1 : Int32) = iN 0 by decide, stI_n (by omega) (by omega), ldI_n (by omega) (by omega), uJ_ss, if_pos (show iN 0 = 0 by decide)]
      rw [hM2]
      have hC2 : (xb (R_isWord Xp 2 Q4 T2) fun r25 => (bz r25.1).bind fun z27 => pI r25.2.2 (tN T) 10 3 z27 fun T26 => dI T26 (tN T) 10 3 fun x28 => if x28 = 0 then R_door_B114 F Xp (tN T) r25.2.1 T26 else xb (R_pass Xp r25.2.1 T26) fun r29 => R_door_B114 F Xp (tN T) r29.1 r29.2) = R_door_B114 F Xp (tN T) Q4 (tI T2 (tN T) 3 (iN 0)) := by
        simp only [xb, z1', Option.bind_some, hb1, hpI3, hdI3, if_true]
        rfl
      rw [hC2]
      exact fin 0 (a + 1 + 1 + 1 + 1) Q4 _ (by omega) (by omega) (by omega) (hpt5.mo (fun p p1 p2 => by rw [uJ_o (by omega)]) (fun i _ _ => by rw [uJ_o (by omega)]) (fun _ _ => rfl)) qF.rf jF.rf id
  · have w1' : R_number F Xp 1 60 Q1 T1 = some (.inl (Q4, Xp, T1)) := w1
    have w2' : M_bounded 1 60 J1 = some (w, J4) := w2
    right
    refine ⟨Q4, T1, uJ (uJ J4 15 ix_ w) 16 ix_ 0, K, ?_, ?_, (w3.u (by omega)).u (by omega), hq.tr w4, (hfr.tr w5.w).tr ((FrJ.u hw15).tr (FrJ.u hw16)), fun _ _ => rfl, hx.bl l3, hl1, hx.1⟩
    · simp only [R_door_B83, xb, w1', Option.bind_some]
    · rw [FT.door82 w3.fm hixl w2', Option.bind_some]
end DO1
