/-! PURE LAW 43: the end of a statement that tells of one more -/
set_option maxRecDepth 100000
section FA
variable {n0 g txa nk a0 a nl nb nc j x : Nat} {Xp : Jr} {N : Nat} {P E : Nat → Nat} {Q0 Q J0 J : Ji} {K : Jl} {T0 T : Th} {Y Y1 : Xt} {b ar : Nat → Nat} {e : Nat → Nat → Nat} {nm1 : Nat → Nat → List Int32}
theorem bud_ {n z L1 L2 a a1 n1 z1 c d : Nat} (h9 : n + 16 * (402 - a) ≤ L1) (h10 : z + 120 * (402 - a) ≤ L2) (hn : n1 ≤ n + c) (hz : z1 ≤ z + d) (ha : a1 ≤ 401) (haa : a ≤ a1) (hc : c + 1 ≤ 16 * (a1 + 1 - a)) (hd : d + 15 ≤ 120 * (a1 + 1 - a)) : n1 + 1 + 16 * (401 - a1) ≤ L1 ∧ z1 + 15 + 120 * (401 - a1) ≤ L2 := by omega
theorem VTx.sm2 {T1 : Th} (h : VTx T Y e) (q : ∀ j i, (j < 5 ∨ (10 ≤ j ∧ j < 10 + xk Y)) → i < Y.1 j → At_ T T1 (e j i)) (hL : SmK kL T T1) : VTx T1 Y e := by
  obtain ⟨v1, v2, v3, v4, v5⟩ := h
  refine ⟨fun d hd => by rw [(q 1 d (Or.inl (by omega)) hd).2.1]; exact v1 d hd, fun t ht => by rw [(q 2 t (Or.inl (by omega)) ht).2.1]; exact v2 t ht, fun k hk => by rw [(q 3 k (Or.inl (by omega)) hk).2.1]; exact v3 k hk, fun k s hk hs => by rw [(q (10 + k) s (Or.inr ⟨by omega, by omega⟩) hs).2.1]; exact v4 k s hk hs, fun m hm => ?_⟩
  rw [(q 4 m (Or.inl (by omega)) hm).2.1, (q 4 m (Or.inl (by omega)) hm).2.2]
  obtain ⟨w1, w2, w3, w4⟩ := v5 m hm
  exact ⟨w1, w2, w3, w4.sm hL⟩
theorem fin_add {y : Option (Ji × Jl)} {f : Ji → Option (Ji × Jl)} (hP : PT N P E a 0 Q J K) (hX : Xp 9 2 = some txa) (hl : LmT n0 T) (hb : BdH n0 T txa nk Y b ar e nl) (hj : dm_ nk j) (hx : T.1 x = some (.inl (kd_ j))) (hxn : n0 ≤ x) (hY : Y1.1 = inc_ Y j)
    (hm : xr Y1 ≤ 8 ∧ xd Y1 ≤ 12 ∧ xt Y1 ≤ 6 ∧ xk Y1 ≤ 6 ∧ xm Y1 ≤ 6 ∧ (∀ k, k < nk → xs Y1 k ≤ 6)) (hnk : xk Y1 = nk) (hk3 : j = 3 → T.2.2.1 x 3 = some (b (10 + xk Y)))
    (hN : NmT T Y1 (fun q i => if q = j ∧ i = Y.1 j then x else e q i) nm1) (hI4 : (∀ i i', i < i' → i' < Y.1 4 → e 4 i ≠ e 4 i') ∧ (j = 4 → ∀ i, i < Y.1 4 → e 4 i ≠ x)) (ha : a0 < a) (hnc : nc ≤ a) (hz : tN T + 1 + 16 * (401 - a) ≤ (tL T).1 ∧ tZ T + 15 + 120 * (401 - a) ≤ (tL T).2.1)
    (hf : StF n0 g Q0 Q J0 J K K T0 T) (hv : Q 9 5 = iN 0 → VTx T Y1 (fun q i => if q = j ∧ i = Y.1 j then x else e q i) ∧ TxV Y1 ∧ T.2.1 txa 5 = iN (xn Y1))
    (hM : ∀ J4, J4 = uJ J 0 11 (iN (a + 1)) → ∃ J6 K1 Nn1 sg1 id1, f J4 = some (J6, K1) ∧ (∀ p, 3 ≤ p → p ≤ 5 → J6 p = J4 p) ∧ (∀ i, 11 ≤ i → i ≤ 16 → J6 0 i = J4 0 i) ∧ (∀ o, o ≠ 8 → K1 o = K o) ∧ NtM J6 K1 Nn1 sg1 id1 nm1 (fun s => Y1.1 (rw_ s)) ∧ Nn1 = xr Y1 + xt Y1 + xk Y1 + xm Y1 ∧ BdJ J6 g Y1 nl nb nc ∧ FrJ g J4 J6 ∧ (Q 9 5 = iN 0 → VJx J6 g nb nc Y1))
    (hy1 : ∀ J4, M_must 4 J = some J4 → J4 0 13 = 0 → y = f J4) (hy2 : ∀ J4, M_must 4 J = some J4 → ¬ J4 0 13 = 0 → ¬ J4 0 13 ≤ 0 → 0 < J4 0 13 → y = some (J4, K)) :
    StO n0 g txa Xp N P E a0 Q0 J0 K T0 (xb ((A_L_add (b j) x T).bind fun r => some (.inr (Q, r.2))) fun r => R_sign Xp 59 r.1 r.2) y := by
  obtain ⟨u0, u1, u2, u3, u4, u5⟩ := hm
  have hNN := hP.n
  have haN := hP.2.1
  have hYf : ∀ q, Y1.1 q = if q = j then Y.1 j + 1 else Y.1 q := fun q => by rw [hY]; rfl
  obtain ⟨T7, ar1, c1, c2, c3, c4, c5, c6, c7, c8, c9⟩ := hb.add (Y1 := Y1) hl hj hx hxn hYf ⟨u0, u1, u2, u3, u4, u5, by omega⟩ hk3 (by omega) (by omega)
  rw [c1, Option.bind_some]
  have hx0 : ∀ (f : Ji × Th → Option ((Ji × Jr × Th) ⊕ (Ji × Th))), xb (some (.inr (Q, T7))) f = f (Q, T7) := fun f => rfl
  rw [hx0]
  obtain ⟨f1, f2, f3, f4, f5, f6⟩ := hf
  have hfr : ∀ c, c < n0 → At_ T0 T7 c := fun c hc => by
    obtain ⟨y1, y2, y3⟩ := f4 c hc
    obtain ⟨z1, z2, z3⟩ := c9 c hc
    exact ⟨z1.trans y1, z2.trans y2, z3.trans y3⟩
  have kd6 : ∀ q i, dm_ nk q → i < Y1.1 q → At_ T T7 (if q = j ∧ i = Y.1 j then x else e q i) := fun q i hq hi => by
    rcases inc_lt hY hi with ⟨d1, d2⟩ | ⟨d1, d2⟩
    · rw [if_pos ⟨d1, d2⟩]; exact c3 _ _ hx (kd_E j).a
    · rw [if_neg d1]; exact c3 _ _ (hb.2.2.1 q i hq d2).1 (kd_E q).a
  have hI5 : ∀ i i', i < i' → i' < xm Y1 → (if 4 = j ∧ i = Y.1 j then x else e 4 i) ≠ (if 4 = j ∧ i' = Y.1 j then x else e 4 i') := fun i i' h1 h2 => by
    rcases inc_lt hY h2 with ⟨d1, d2⟩ | ⟨d1, d2⟩
    · rw [if_neg (show ¬ (4 = j ∧ i = Y.1 j) from fun hh => by omega), if_pos ⟨d1, d2⟩]
      subst d1
      exact hI4.2 rfl i (by omega)
    · rw [if_neg (show ¬ (4 = j ∧ i = Y.1 j) from fun hh => by have := hh.1; subst this; omega), if_neg d1]
      exact hI4.1 i i' h1 d2
  rcases p_sign (Xp := Xp) (T := T7) hP (c := 59) (k := 4) (Or.inl ⟨rfl, rfl⟩) with ⟨Q4, J4, s1, s2, s3, s4, s5, s6, s7⟩ | ⟨Q4, J4, s1, s2, s3, s4, s5⟩
  · have s2' : M_must 4 J = some J4 := s2
    have hj4 : J4 0 13 = 0 := s3.2.2.2.2.1
    obtain ⟨J6, K1, Nn1, sg1, id1, m1, m2, m3, m4, m5, m6, m7, m8, m9⟩ := hM J4 s7
    have hNt : NmT T7 Y1 (fun q i => if q = j ∧ i = Y.1 j then x else e q i) nm1 := fun s i h1 h2 => by
      obtain ⟨a1, t, a2, a3⟩ := hN s i h1 h2
      exact ⟨a1, t, by rw [(kd6 (rw_ s) i (Or.inl (rw_5 h1)) h2).2.2]; exact a2, a3.sm c3⟩
    subst hnk
    left
    refine ⟨a + 1, Q4, T7, J6, K1, s1, by rw [hy1 J4 s2' hj4, m1], ⟨Y1, b, ar1, _, nl, Nn1, sg1, id1, nm1, nb, nc, s3.mo m2 m3 m4, hX, c4, c2, hNt, ⟨m5, m6⟩, m7, ⟨by omega, hI5⟩, ⟨by rw [c5]; have := s3.2.1; omega, by rw [c5]; have := s3.2.1; omega⟩, fun hq => ?_⟩, by omega, f1.tr s4, (f2.tr s5.w).tr m8, m4, hfr, c5.trans f5, by omega⟩
    rw [s6, uJ_sn (by omega)] at hq
    obtain ⟨v1, v2, v3⟩ := hv hq
    refine ⟨v1.sm2 kd6 c3.l, m9 hq, v2, ?_⟩
    have ht7 : At_ T T7 txa := c3 _ _ hb.1.1 ⟨by decide, fun n hh => by cases hh⟩
    rw [ht7.2.1]
    exact v3
  · have s2' : M_must 4 J = some J4 := s2
    right
    exact ⟨Q4, T7, J4, K, s1, hy2 J4 s2' s3.n0.1 s3.n0.2.1 s3.n0.2.2, s3, f1.tr s4, f2.tr s5.w, fun _ _ => rfl, hfr, c5.trans f5, by omega⟩
/-- the end of a statement that tells of nothing more -/
theorem fin_no {y : Option (Ji × Jl)} {ar : Nat → Nat} {Nn : Nat} {sg id_ : Nat → Nat} {nm : Nat → Nat → List Int32} (hP : PT N P E a 0 Q J K) (hX : Xp 9 2 = some txa) (hl : LmT n0 T) (hb : BdH n0 T txa (xk Y) Y b ar e nl) (hN : NmT T Y e nm) (hNt : NtM J K Nn sg id_ nm (fun s => Y.1 (rw_ s))) (hNn : Nn = xr Y + xt Y + xk Y + xm Y) (hJ : BdJ J g Y nl nb nc) (hI4 : ∀ i i', i < i' → i' < Y.1 4 → e 4 i ≠ e 4 i') (ha : a0 < a) (hnc : nc ≤ a) (hz : tN T + 16 * (401 - a) ≤ (tL T).1 ∧ tZ T + 120 * (401 - a) ≤ (tL T).2.1) (hf : StF n0 g Q0 Q J0 J K K T0 T) (hv : Q 9 5 ≠ iN 0)
    (hy1 : ∀ J4, M_must 4 J = some J4 → y = some (J4, K)) : StO n0 g txa Xp N P E a0 Q0 J0 K T0 (R_sign Xp 59 Q T) y := by
  have hNN := hP.n
  have haN := hP.2.1
  obtain ⟨f1, f2, f3, f4, f5, f6⟩ := hf
  rcases p_sign (Xp := Xp) (T := T) hP (c := 59) (k := 4) (Or.inl ⟨rfl, rfl⟩) with ⟨Q4, J4, s1, s2, s3, s4, s5, s6, s7⟩ | ⟨Q4, J4, s1, s2, s3, s4, s5⟩
  · left
    obtain ⟨⟨j1, j2⟩, ⟨j3, j4⟩, j5, j6, j7⟩ := hJ
    have q : ∀ p, p ≠ 0 → J4 p = J p := s5.1
    have q0 : ∀ i, 16 < i → J4 0 i = J 0 i := fun i hi => s5.2 i (Or.inr hi)
    refine ⟨a + 1, Q4, T, J4, K, s1, hy1 J4 s2, ⟨Y, b, ar, e, nl, Nn, sg, id_, nm, nb, nc, s3, hX, hl, hb, hN, ⟨hNt.fr (q 9 (by omega)) (q 10 (by omega)) (q0 20 (by omega)), hNn⟩, ⟨⟨j1, by rw [q0 19 (by omega)]; exact j2⟩, ⟨by rw [q 11 (by omega)]; exact j3, by rw [q 12 (by omega), q 17 (by omega), q 19 (by omega), q 29 (by omega), q 33 (by omega)]; exact j4⟩, by rw [q 22 (by omega)]; exact j5, by rw [q0 49 (by omega)]; exact j6, by rw [q0 56 (by omega)]; exact j7⟩, ⟨by omega, hI4⟩, ⟨by have := s3.2.1; omega, by have := s3.2.1; omega⟩, fun hq => ?_⟩, by omega, f1.tr s4, f2.tr s5.w, fun _ _ => rfl, f4, f5, f6⟩
    rw [s6, uJ_sn (by omega)] at hq
    exact absurd hq hv
  · right
    exact ⟨Q4, T, J4, K, s1, hy1 J4 s2, s3, f1.tr s4, f2.tr s5.w, fun _ _ => rfl, f4, f5, f6⟩
end FA
