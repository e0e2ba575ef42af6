/-! PURE LAW 37: the night's length is told -/
set_option maxRecDepth 100000
theorem FT.u {Q J : Ji} {o i : Nat} {v : Int32} (h : FT Q J) (ho : o ≠ 0) : FT Q (uJ J o i v) := by
  obtain ⟨w, p, f1, f2, f3, f4, f5, f6, f7⟩ := h
  exact ⟨w, p, f1, f2, f3, f4, f5, by rw [uJ_o (Ne.symm ho)]; exact f6, by rw [uJ_o (Ne.symm ho)]; exact f7⟩
theorem NtM.cg {J : Ji} {K : Jl} {Nn : Nat} {sg id_ : Nat → Nat} {nm : Nat → Nat → List Int32} {cn cn1 : Nat → Nat} (h : NtM J K Nn sg id_ nm cn) (hc : ∀ s, s < 4 → cn1 s = cn s) : NtM J K Nn sg id_ nm cn1 := by
  obtain ⟨h1, h2, h3, h4, h5, h6⟩ := h
  refine ⟨h1, h2, fun q hq => ?_, h4, fun s i hs hi => h5 s i hs (by rw [hc s hs] at hi; exact hi), fun s i hs hi => h6 s i hs (by rw [hc s hs] at hi; exact hi)⟩
  obtain ⟨b1, b2, b3, b4, b5⟩ := h3 q hq
  exact ⟨b1, b2, b3, b4, by rw [hc _ b4]; exact b5⟩
section NT
variable {n0 g txa : Nat} {Xp : Jr} {F N : Nat} {P E : Nat → Nat} {a : Nat} {Q J : Ji} {K : Jl} {T : Th}
/-- a number of the text's own is written -/
theorem BdH.wt {nk nl k nl1 : Nat} {v : Int32} {Y Y1 : Xt} {b ar : Nat → Nat} {e : Nat → Nat → Nat} (h : BdH n0 T txa nk Y b ar e nl) (hY : ∀ q, q ≠ 5 → Y1.1 q = Y.1 q) (hk : (k = 5 ∧ nl1 = nl) ∨ (k = 6 ∧ v = iN nl1 ∧ nl1 ≤ 8)) : BdH n0 (tI T txa k v) txa nk Y1 b ar e nl1 := by
  obtain ⟨⟨h1, h2, h3, h4⟩, h5, h6, h7, h8, h9⟩ := h
  have hd : ∀ j, dm_ nk j → Y1.1 j = Y.1 j := fun j hj => hY j (by unfold dm_ at hj; omega)
  have y0 : Y1.1 0 = Y.1 0 := hY 0 (by omega)
  have y1 : Y1.1 1 = Y.1 1 := hY 1 (by omega)
  have y2 : Y1.1 2 = Y.1 2 := hY 2 (by omega)
  have y3 : Y1.1 3 = Y.1 3 := hY 3 (by omega)
  have y4 : Y1.1 4 = Y.1 4 := hY 4 (by omega)
  refine ⟨⟨h1, h2, h3, ?_⟩, fun j hj => ?_, fun j i hj hi => ?_, fun k hk => ?_, h8, ?_⟩
  · rw [tI_2]
    rcases hk with ⟨c1, c2⟩ | ⟨c1, c2, c3⟩
    · rw [if_neg (by omega), c2]; exact h4
    · rw [if_pos ⟨rfl, c1.symm⟩]; exact c2
  · obtain ⟨g1, g2, g3⟩ := h5 j hj
    rw [hd j hj]
    refine ⟨g1.fr rfl ⟨rfl, ?_, rfl⟩ ⟨rfl, rfl⟩, g2, g3⟩
    funext q
    rw [tI_2, if_neg (fun hh => by rw [← hh.1, g1.1] at h1; exact absurd h1 (by decide))]
  · rw [hd j hj] at hi
    exact h6 j i hj hi
  · exact h7 k (show k < Y.1 3 by rw [← y3]; exact hk)
  · obtain ⟨m1, m2, m3, m4, m5, m6, m7, m8⟩ := h9
    refine ⟨by show Y1.1 0 ≤ 8; rw [y0]; exact m1, by show Y1.1 1 ≤ 12; rw [y1]; exact m2, by show Y1.1 2 ≤ 6; rw [y2]; exact m3, by show Y1.1 3 ≤ 6; rw [y3]; exact m4, by show Y1.1 4 ≤ 6; rw [y4]; exact m5, ?_, fun k hk => by show Y1.1 (10 + k) ≤ 6; rw [hY _ (by omega)]; exact m7 k hk, by show Y1.1 3 ≤ nk; rw [y3]; exact m8⟩
    rcases hk with ⟨c1, c2⟩ | ⟨c1, c2, c3⟩
    · rw [c2]; exact m6
    · exact c3
theorem wt_sm {k : Nat} {v : Int32} {kk : Dk → Prop} (h1 : T.1 txa = some (.inl 4)) (hk : ¬ kk (.inl 4)) : SmK kk T (tI T txa k v) := fun c dk hc hd => by
  refine ⟨rfl, ?_, rfl⟩
  funext q
  rw [tI_2, if_neg (fun hh => by
    rw [hh.1, h1] at hc
    rw [← Option.some.inj hc] at hd
    exact hk hd)]
theorem kL_4 : ¬ kL (.inl 4) := by
  rintro (h | h | h | h | ⟨n, h⟩)
  · exact absurd h (by decide)
  · exact absurd h (by decide)
  · exact absurd h (by decide)
  · exact absurd h (by decide)
  · cases h
theorem kE_4 : ¬ kE (.inl 4) := by
  rintro (h | h | h | h | h | h) <;> exact absurd h (by decide)
theorem NmT.wt {k : Nat} {v : Int32} {Y Y1 : Xt} {e : Nat → Nat → Nat} {nm : Nat → Nat → List Int32} (h : NmT T Y e nm) (h1 : T.1 txa = some (.inl 4)) (hY : ∀ q, q ≠ 5 → Y1.1 q = Y.1 q) : NmT (tI T txa k v) Y1 e nm := fun s i hs hi => by
  rw [hY _ (by have := rw_5 hs; omega)] at hi
  obtain ⟨a1, t, a2, u1, u2, aa, u3, u4, u5⟩ := h s i hs hi
  refine ⟨a1, t, a2, u1, ?_, aa, u3, u4, fun i c hc => ?_⟩
  · rw [tI_2, if_neg (fun hh => by rw [hh.1, h1] at u1; exact absurd u1 (by decide))]
    exact u2
  · rw [tI_2, if_neg (fun hh => by rw [hh.1, h1] at u4; cases u4)]
    exact u5 i c hc
theorem LmT.wt {k : Nat} {v : Int32} (h : LmT n0 T) : LmT n0 (tI T txa k v) := h
/-- "night" number ";" -/
theorem p_night (hF : 2100 ≤ F) (h : IVx n0 g txa Xp N P E a Q J K T) (hk : Q 5 a = iN 3) : StO n0 g txa Xp N P E a Q J K T (xb (R_told_B24 F Xp 14 Q T) fun r => R_sign Xp 59 r.1 r.2) ((M_goesOn J).bind fun r22 => (M_bounded 1 600 r22).bind fun r23 => stI r23.2 41 2 (r22 0 19) r23.1 fun J24 => (M_must 4 J24).bind fun r25 => some (r25, K)) := by
  obtain ⟨Y, b, ar, e, nl, Nn, sg, id_, nm, nb, nc, h1, h2, h3, h4, h5, ⟨h6, h6b⟩, h7, h8, ⟨h9, h10⟩, h11⟩ := h
  have hNN := h1.n
  have ha := h1.2.1
  obtain ⟨l1, l2, l3, l4, l5⟩ := h3
  obtain ⟨⟨j1, j2⟩, ⟨j3, j4⟩, j5, j6, j7⟩ := h7
  have hxC : R_told_B24 F Xp 14 Q T = xb (R_pass Xp Q T) fun r58 => xb (R_number F Xp (iN 1) (iN 600) r58.1 r58.2) fun r59 => pI r59.2.2 txa 4 5 r59.1 fun T61 => some (.inr (r59.2.1, T61)) := by
    unfold R_told_B24
    rw [if_neg (by decide), if_neg (by decide), if_neg (by decide), if_neg (by decide), if_neg (by decide), if_neg (by decide), if_neg (by decide), if_pos rfl, h2]
    rfl
  rw [hxC]
  have hyM : ((M_goesOn J).bind fun r22 => (M_bounded 1 600 r22).bind fun r23 => stI r23.2 41 2 (r22 0 19) r23.1 fun J24 => (M_must 4 J24).bind fun r25 => some (r25, K)) = (M_goesOn J).bind fun r22 => (M_bounded (iN 1) (iN 600) r22).bind fun r23 => stI r23.2 41 2 (r22 0 19) r23.1 fun J24 => (M_must 4 J24).bind fun r25 => some (r25, K) := rfl
  rw [hyM]
  have hw41 : wr_ g 41 g = true := by simp [wr_, lv_]
  have hne : Q 5 a ≠ iN 4 ∧ Q 5 a ≠ iN 5 := by rw [hk]; decide
  rcases p_pass (Xp := Xp) (T := T) h1 hne with ⟨Q1, J1, a1, a2, a3, a4, a5, a6, a7⟩ | ⟨Q1, J1, a1, a2, a3, a4, a5, a6⟩
  · have q19 : J1 0 19 = iN g := by rw [a5.2 19 (by omega)]; exact j2
    rcases p_number (Xp := Xp) (T := T) hF a3 (lo := 1) (hi := 600) (by omega) (by omega) with ⟨v, Q2, J2, n1, n2, n3, n4, n5, n6, n7⟩ | ⟨Q2, J2, n1, ⟨v, n2⟩, n3, n4, n5⟩
    · let Y1 : Xt := (fun q => if q = 5 then v else Y.1 q, Y.2)
      have hY : ∀ q, q ≠ 5 → Y1.1 q = Y.1 q := fun q hq => if_neg hq
      have hpt : PT N P E (a + 1 + 1) 0 Q2 (uJ J2 41 g (iN v)) K := n4.mo (fun p p1 p2 => uJ_o (by omega)) (fun i _ _ => by rw [uJ_o (by omega)]) (fun _ _ => rfl)
      have hC : (xb (R_pass Xp Q T) fun r58 => xb (R_number F Xp (iN 1) (iN 600) r58.1 r58.2) fun r59 => pI r59.2.2 txa 4 5 r59.1 fun T61 => some (.inr (r59.2.1, T61))) = (some (.inr (Q2, tI T txa 5 (iN v))) : Option ((Ji × Jr × Th) ⊕ (Ji × Th))) := by
        simp only [xb, a1, Option.bind_some, n1, pI_p h4.1.1 (show (tL T).2.2.1 ≤ txa by have := h4.1.2.1; omega)]
      have hM : ((M_goesOn J).bind fun r22 => (M_bounded (iN 1) (iN 600) r22).bind fun r23 => stI r23.2 41 2 (r22 0 19) r23.1 fun J24 => (M_must 4 J24).bind fun r25 => some (r25, K)) = (M_must 4 (uJ J2 41 g (iN v))).bind fun r25 => some (r25, K) := by
        rw [a2, Option.bind_some, n2, Option.bind_some, q19]
        exact stI_n (by omega) (by omega)
      rw [hC, hM]
      have hx : ∀ (f : Ji × Th → Option ((Ji × Jr × Th) ⊕ (Ji × Th))), xb (some (.inr (Q2, tI T txa 5 (iN v)))) f = f (Q2, tI T txa 5 (iN v)) := fun f => rfl
      rw [hx]
      have hfr : ∀ c, c < n0 → At_ T (tI T txa 5 (iN v)) c := fun c hc => ⟨rfl, by funext q; rw [tI_2, if_neg (by have := h4.1.2.1; omega)], rfl⟩
      have hjt : FrJ g J (uJ J2 41 g (iN v)) := (a5.tr n6).w.tr (FrJ.u hw41)
      rcases p_sign (Xp := Xp) (T := tI T txa 5 (iN v)) hpt (c := 59) (k := 4) (Or.inl ⟨rfl, rfl⟩) with ⟨Q4, J4, s1, s2, s3, s4, s5, s6, s7⟩ | ⟨Q4, J4, s1, s2, s3, s4, s5⟩
      · have s2' : M_must 4 (uJ J2 41 g (iN v)) = some J4 := s2
        have hJo : ∀ p, p ≠ 0 → p ≠ 41 → J4 p = J p := fun p p0 p1 => by rw [s5.1 p p0, uJ_o p1, n6.1 p p0, a5.1 p p0]
        have hJ0 : ∀ i, (i < 11 ∨ 16 < i) → J4 0 i = J 0 i := fun i hi => by rw [s5.2 i hi, uJ_o (by omega), n6.2 i hi, a5.2 i hi]
        have h41 : J4 41 g = iN v := by rw [s5.1 41 (by omega), uJ_ss]
        left
        refine ⟨a + 1 + 1 + 1, Q4, _, J4, K, s1, by rw [s2', Option.bind_some], ⟨Y1, b, ar, e, nl, Nn, sg, id_, nm, nb, nc, s3, h2, ⟨l1, l2, l3, l4, l5⟩, h4.wt hY (Or.inl ⟨rfl, rfl⟩), h5.wt h4.1.1 hY, ⟨(h6.fr (hJo 9 (by omega) (by omega)) (hJo 10 (by omega) (by omega)) (hJ0 20 (by omega))).cg (fun s hs => hY _ (by have := rw_5 hs; omega)), h6b⟩, ?_, ⟨by omega, fun i i' h1 h2 => h8.2 i i' h1 (by rw [show xm Y1 = xm Y from hY 4 (by omega)] at h2; exact h2)⟩, ⟨show tN T + 16 * (402 - (a + 1 + 1 + 1)) ≤ (tL T).1 by omega, show tZ T + 120 * (402 - (a + 1 + 1 + 1)) ≤ (tL T).2.1 by omega⟩, fun hq => ?_⟩, by omega, (a4.tr n5).tr s4, hjt.tr s5.w, fun _ _ => rfl, hfr, rfl, Nat.le_refl _⟩
        · refine ⟨⟨j1, by rw [hJ0 19 (by omega)]; exact j2⟩, ⟨?_, ?_, ?_, ?_, ?_, ?_⟩, fun k hk => ?_, ⟨by rw [hJ0 49 (by omega)]; exact j6.1, j6.2⟩, by rw [hJ0 56 (by omega)]; exact j7⟩
          · rw [hJo 11 (by omega) (by omega)]; exact j3
          · rw [hJo 12 (by omega) (by omega)]; exact j4.1
          · rw [hJo 17 (by omega) (by omega)]; exact j4.2.1
          · rw [hJo 19 (by omega) (by omega)]; exact j4.2.2.1
          · rw [hJo 29 (by omega) (by omega)]; exact j4.2.2.2.1
          · rw [hJo 33 (by omega) (by omega)]; exact j4.2.2.2.2
          · rw [hJo 22 (by omega) (by omega), show xs Y1 k = xs Y k from hY _ (by omega)]; exact j5 k hk
        · have hxs : ∀ k, xs Y1 k = xs Y k := fun k => hY _ (by omega)
          rw [s6, uJ_sn (by omega)] at hq
          obtain ⟨hq1, hv1, hv2⟩ := n7 hq
          have hq0 : Q 9 5 = iN 0 := by
            rw [a6, uJ_sn (by omega)] at hq1
            exact hq1
          obtain ⟨v1, v2, v3, v4⟩ := h11 hq0
          have v1' : VTx (tI T txa 5 (iN v)) Y e := v1.sm h4 (wt_sm h4.1.1 kL_4) (wt_sm h4.1.1 kE_4)
          obtain ⟨w1, w2, w3, w4, w5, w6, w7⟩ := v2
          refine ⟨⟨v1'.1, v1'.2.1, v1'.2.2.1, fun k s hk hs => v1'.2.2.2.1 k s hk (by rw [hxs] at hs; exact hs), v1'.2.2.2.2⟩, ⟨fun d hd => ?_, fun t ht => ?_, fun k hk => ?_, fun k s hk hs => ?_, fun m hm => ?_, h41, fun m hm hm2 => ?_⟩, ?_, ?_⟩
          · rw [hJo 13 (by omega) (by omega), hJo 14 (by omega) (by omega), hJo 15 (by omega) (by omega), hJo 16 (by omega) (by omega)]; exact w1 d hd
          · rw [hJo 18 (by omega) (by omega)]; exact w2 t ht
          · rw [hJo 20 (by omega) (by omega), hJo 21 (by omega) (by omega)]; exact w3 k hk
          · rw [hxs] at hs
            rw [hJo 23 (by omega) (by omega), hJo 24 (by omega) (by omega), hJo 25 (by omega) (by omega), hJo 26 (by omega) (by omega), hJo 27 (by omega) (by omega), hJo 28 (by omega) (by omega)]; exact w4 k s hk hs
          · rw [hJo 30 (by omega) (by omega), hJo 31 (by omega) (by omega), hJo 32 (by omega) (by omega), hJo 34 (by omega) (by omega), hJo 35 (by omega) (by omega)]
            obtain ⟨z1, z2, z3, z4⟩ := w5 m hm
            exact ⟨z1, z2, z3, z4.mo ⟨fun p i p1 p2 _ => by rw [hJo p (by omega) (by omega)], fun p i p1 _ => by rw [hJo p (by omega) (by omega)]⟩ (Nat.le_refl _) (Nat.le_refl _)⟩
          · rw [hJo 34 (by omega) (by omega), hJo 35 (by omega) (by omega)]; exact w7 m hm hm2
          · obtain ⟨⟨t0, t1, t2, t3, t4, t5, t6⟩, td, tt, tk, ts, tm⟩ := v3
            refine ⟨⟨t0, t1, t2, t3, t4, hv1, hv2⟩, td, tt, fun k hk => ?_, fun k s hk hs => ?_, fun m hm => ?_⟩
            · obtain ⟨y1, y2, y3⟩ := tk k hk
              exact ⟨y1, y2, by rw [hxs]; exact y3⟩
            · rw [hxs] at hs ⊢
              exact ts k s hk hs
            · obtain ⟨y1, y2⟩ := tm m hm
              refine ⟨y1, ?_⟩
              rcases y2 with y2 | ⟨k, s, z1, z2, z3, z4⟩
              · exact Or.inl y2
              · exact Or.inr ⟨k, s, z1, z2, z3, by rw [hxs]; exact z4⟩
          · rw [tI_2, if_pos ⟨rfl, rfl⟩]
            rfl
      · have s2' : M_must 4 (uJ J2 41 g (iN v)) = some J4 := s2
        right
        exact ⟨Q4, _, J4, K, s1, by rw [s2', Option.bind_some], s3, (a4.tr n5).tr s4, hjt.tr s5.w, fun _ _ => rfl, hfr, rfl, Nat.le_refl _⟩
    · right
      have hft := n3.u (o := 41) (i := g) (v := v) (by omega)
      refine ⟨Q2, T, uJ J2 41 g v, K, ?_, ?_, hft, a4.tr n4, (a5.tr n5).w.tr (FrJ.u hw41), fun _ _ => rfl, fun c hc => ⟨rfl, rfl, rfl⟩, rfl, Nat.le_refl _⟩
      · simp only [xb, a1, Option.bind_some, n1]
      · rw [a2, Option.bind_some, n2, Option.bind_some, q19]
        show (stI J2 41 2 (iN g) v fun J24 => (M_must 4 J24).bind fun r25 => some (r25, K)) = _
        rw [stI_n (by omega) (by omega), hft.fm.must, Option.bind_some]
  · have q19 : J1 0 19 = iN g := by rw [a5.2 19 (by omega)]; exact j2
    have hf0 : FT Q1 J1 := ⟨_, _, a3⟩
    have hft := hf0.u (o := 41) (i := g) (v := iN 1) (by omega)
    right
    refine ⟨Q1, T, uJ J1 41 g (iN 1), K, ?_, ?_, hft, a4, a5.w.tr (FrJ.u hw41), fun _ _ => rfl, fun c hc => ⟨rfl, rfl, rfl⟩, rfl, Nat.le_refl _⟩
    · simp only [xb, a1, Option.bind_some]
    · rw [a2, Option.bind_some, hf0.fm.bounded, Option.bind_some, q19]
      show (stI J1 41 2 (iN g) (iN 1) fun J24 => (M_must 4 J24).bind fun r25 => some (r25, K)) = _
      rw [stI_n (by omega) (by omega), hft.fm.must, Option.bind_some]
end NT
