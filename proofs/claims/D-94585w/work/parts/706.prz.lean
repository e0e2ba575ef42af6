/-! PURE LAW 67: a text is read -/
set_option maxRecDepth 100000
section RZ
variable {T : Th} {F n g : Nat} {Q J : Ji} {K : Jl} {Xp : Jr}
theorem IVx.tx {n0 g txa N a : Nat} {P E : Nat → Nat} {Xp : Jr} (h : IVx n0 g txa Xp N P E a Q J K T) (hw : Q 9 5 = iN 0) : ∃ Y b e, TxV Y ∧ TxT T txa Y b e ∧ (∀ J1 : Ji, (∀ p, p ≠ 0 → J1 p = J p) → J1 0 18 = iN g → TxJ J1 g Y) ∧ LmT n0 T ∧ J 0 19 = iN g := by
  obtain ⟨Y, b, ar, e, nl, Nn, sg, id_, nm, nb, nc, h1, h2, h3, h4, h5, ⟨h6, h6b⟩, h7, h8, ⟨h9, h10⟩, h11⟩ := h
  obtain ⟨v1, v2, v3, v4⟩ := h11 hw
  obtain ⟨⟨b1, b2, b3, b4⟩, b5, b6, b7, b8, b9⟩ := h4
  obtain ⟨c1, c2, c3, c4, c5⟩ := v1
  obtain ⟨d1, d2, d3, d4, d5, d6, d7⟩ := v2
  obtain ⟨⟨j1, j2⟩, ⟨j3, j4, j5, j6, j7, j8⟩, j9, j10, j11⟩ := h7
  have hx : ∀ k, k < xk Y → dm_ (xk Y) (10 + k) := fun k hk => Or.inr ⟨by omega, by omega⟩
  refine ⟨Y, b, e, v3, ⟨⟨b1, v4, fun j hj => ⟨b3 j hj, (b5 j (Or.inl hj)).1.ls⟩⟩, fun d hd => ⟨(b6 1 d (Or.inl (by omega)) hd).1, c1 d hd⟩, fun t ht => ⟨(b6 2 t (Or.inl (by omega)) ht).1, c2 t ht⟩, fun k hk => ⟨(b6 3 k (Or.inl (by omega)) hk).1, (c3 k hk).1, (c3 k hk).2, b7 k hk, (b5 (10 + k) (hx k hk)).1.ls⟩, fun k s hk hs => ⟨?_, c4 k s hk hs⟩, fun m hm => ⟨(b6 4 m (Or.inl (by omega)) hm).1, c5 m hm⟩⟩, fun J1 hp h18 => ⟨⟨j1, h18, by rw [hp 11 (by omega)]; exact j3, by rw [hp 12 (by omega)]; exact j4, by rw [hp 17 (by omega)]; exact j5, by rw [hp 19 (by omega)]; exact j6, by rw [hp 29 (by omega)]; exact j7, by rw [hp 41 (by omega)]; exact d6⟩, fun d hd => by rw [hp 13 (by omega), hp 14 (by omega), hp 15 (by omega), hp 16 (by omega)]; exact d1 d hd, fun t ht => by rw [hp 18 (by omega)]; exact d2 t ht, fun k hk => by rw [hp 20 (by omega), hp 21 (by omega), hp 22 (by omega)]; exact ⟨(d3 k hk).1, (d3 k hk).2, j9 k hk⟩, fun k s hk hs => by rw [hp 23 (by omega), hp 24 (by omega), hp 25 (by omega), hp 26 (by omega), hp 27 (by omega), hp 28 (by omega)]; exact d4 k s hk hs, fun m hm => ?_⟩, h3, j2⟩
  · have := (b6 (10 + k) s (hx k hk) hs).1
    rw [kd_10] at this
    exact this
  · rw [hp 30 (by omega), hp 31 (by omega), hp 32 (by omega), hp 34 (by omega), hp 35 (by omega)]
    obtain ⟨w1, w2, w3, w4⟩ := d5 m hm
    exact ⟨w1, w2, w3, w4 J1 ⟨fun o i o1 o2 _ => by rw [hp o (by omega)], fun o i ho _ => by rw [hp o (by omega)]⟩⟩
/-- a text is read, by both -/
theorem rd_ok (hF : 2100 ≤ F) (hg : g < 2) (hT : Tpe Q J) (hK : KyM K) (hW : WdT T Xp) (h18 : J 0 18 = iN (1 - g)) (hH : HB T) (hB : (tL T).2.2.1 ≤ tN T) (hE : tE T < tN T) (hE2 : T.1 (tE T) = some (.inr (.object "java/lang/Object", 0))) (hN : tN T + 6500 ≤ (tL T).1) (hZ : tZ T + 49000 ≤ (tL T).2.1) :
    (∃ Q1 T1 J1 K1 Y b e, R_read F Q Xp T = some (.inr (some (tN T), Q1, uR Xp 9 2 (some (tN T)), T1)) ∧ M_read F J K = M_read_B241 F J1 K1 ∧ J1 0 13 = iN 0 ∧ J1 0 15 = iN 0 ∧ J1 0 19 = iN g ∧ TxV Y ∧ TxT T1 (tN T) Y b e ∧ (∀ J2 : Ji, (∀ p, p ≠ 0 → J2 p = J1 p) → J2 0 18 = iN g → TxJ J2 g Y) ∧ LmT (tN T) T1 ∧ FrR g J J1 ∧ J1 0 2 = 0 ∧ (∀ o, o ≠ 6 → o ≠ 8 → K1 o = K o) ∧ (∀ c, c < tN T → At_ T T1 c) ∧ tL T1 = tL T ∧ tN T ≤ tN T1) ∨
    (∃ Q1 T1 J1 K1 w p, R_read F Q Xp T = some (.inl (Q1, uR Xp 9 2 (some (tN T)), T1)) ∧ 1 ≤ w ∧ w ≤ 5 ∧ p ≤ 2000 ∧ Q1 1 6 = iN w ∧ Q1 1 7 = iN p ∧ M_read F J K = some (iN w, uJ J1 0 17 (iN p), K1) ∧ FrR g J J1 ∧ J1 0 2 = 0 ∧ (∀ o, o ≠ 6 → o ≠ 8 → K1 o = K o) ∧ tL T1 = tL T ∧ tN T ≤ tN T1) := by
  obtain ⟨n, t1, t2, t3, t4⟩ := hT
  obtain ⟨J1, a1, a2, a3⟩ := cp_10 (F := F) (K := K) t1 n F 0 (uJ J 0 4 (iN n)) (by omega) (by omega) uJ_ss (fun k hk => by rw [uJ_o (by omega)]; exact (t4 k hk).2)
  have hM : M_read F J K = rdP F J1 K := by
    unfold M_read
    rw [lt_e, t3, ← a1]; rfl
  have hTp : TpR n Q (uJ J1 0 2 0) := ⟨t1, t2, by rw [uJ_sn (by omega), a2 0 (by omega), uJ_ss], fun i hi => by
    rw [uJ_o (by omega), a3, if_pos ⟨by omega, hi⟩, uJ_o (by omega)]
    refine ⟨(t4 i hi).1, ?_⟩
    rw [(t4 i hi).1]
    exact (t4 i hi).2⟩
  obtain ⟨Qa, Ja, Ka, N, P, E, b1, b2, b3, b4, b5⟩ := tk_all (F := F) (T := T) (Xp := Xp) hF hW hTp hK
  have ja : ∀ i, i ≠ 10 → Ja 0 i = (uJ J1 0 2 0) 0 i := b5.2.1
  have h18a : Ja 0 18 = iN (1 - g) := by rw [ja 18 (by omega), uJ_sn (by omega), a2 0 (by omega), uJ_sn (by omega)]; exact h18
  obtain ⟨JF, c1, ⟨c2, c3, c4, c5, c6, c7, c8, c9⟩, ⟨d1, d2, d3, d4, d5, d6, d7⟩, e1, e2, e3, e4⟩ := pr_ok hF hg b2 h18a
  rw [hM, c1]
  obtain ⟨T1, n1, n2, n3, n4, n5, n6⟩ := tx_new hH hB hE hE2 (by omega) (by omega)
  obtain ⟨Q7, hQ7⟩ : ∃ Q7, Q7 = uJ (uJ (uJ Qa 9 3 0) 9 4 0) 9 5 0 := ⟨_, rfl⟩
  have hC : R_read F Q Xp T = R_read_L33 F F Q7 (uR Xp 9 2 (some (tN T))) T1 := by
    have hnO : ∀ {α : Type} (f : Th → Option α), nO T 4 7 f = f (tNew T (.inl 4) 7) := fun f => nO_p (by omega) (by omega)
    simp only [R_read, b1, Option.bind_some, hnO, n1, lt_e, ← hQ7]
  rw [hC]
  have q7 : ∀ p, p ≠ 9 → Q7 p = Qa p := fun p hp => by rw [hQ7, uJ_o hp, uJ_o hp, uJ_o hp]
  have hPT : PT N P E 0 0 Q7 JF Ka := by
    refine ⟨b3.fr (fun o o1 o2 => q7 o (by omega)) e2, by have := b3.2.2.2.1; omega, ?_, c2, c4, ⟨by omega, ?_, c3⟩, Or.inl ⟨?_, c5⟩⟩
    · rw [hQ7, uJ_sn (by omega), uJ_sn (by omega), uJ_ss]; rfl
    · rw [hQ7, uJ_sn (by omega), uJ_ss]; rfl
    · rw [hQ7, uJ_ss]; rfl
  have hl1 : tL T1 = tL T := n2.2.1
  have eE1 : tE T1 = tE T := by show (tL T1).2.2.2 = _; rw [hl1]
  have hLm : LmT (tN T) T1 := ⟨n2.2.2.2 hH, by rw [hl1]; exact hB, n2.1, by rw [eE1]; exact hE, by rw [eE1, (n2.2.2.1 (tE T) hE).1]; exact hE2⟩
  have y5 : ∀ q, q ≠ 5 → Y0.1 q = 0 := fun q hq => if_neg hq
  have hIV : IVx (tN T) g (tN T) (uR Xp 9 2 (some (tN T))) N P E 0 Q7 JF Ka T1 := by
    refine ⟨Y0, (fun j => tN T + 1 + j), (fun _ => tE T1), (fun _ _ => 0), 0, 0, (fun _ => 0), (fun _ => 0), (fun _ _ => []), 0, 0, hPT, by rw [uR_ap, if_pos ⟨rfl, rfl⟩], hLm, n3, fun s i hs hi => ?_, ⟨⟨c7, by omega, fun q hq => by omega, fun q r _ hr => by omega, fun s i hs hi => ?_, fun s i hs hi => ?_⟩, rfl⟩, ⟨⟨hg, c6⟩, ⟨d1, d2, d3, d4, d5, d6⟩, (fun k hk => absurd hk (Nat.not_lt_zero k)), ⟨by rw [c8]; rfl, by omega⟩, by rw [c9]; rfl⟩, ⟨by omega, fun i i' _ h2 => absurd h2 (Nat.not_lt_zero i')⟩, ⟨by rw [hl1]; omega, by rw [hl1]; omega⟩, fun _ => ⟨⟨fun d hd => absurd hd (Nat.not_lt_zero d), fun d hd => absurd hd (Nat.not_lt_zero d), fun d hd => absurd hd (Nat.not_lt_zero d), fun k s hk => absurd hk (Nat.not_lt_zero k), fun d hd => absurd hd (Nat.not_lt_zero d)⟩, ⟨fun d hd => absurd hd (Nat.not_lt_zero d), fun d hd => absurd hd (Nat.not_lt_zero d), fun d hd => absurd hd (Nat.not_lt_zero d), fun k s hk => absurd hk (Nat.not_lt_zero k), fun d hd => absurd hd (Nat.not_lt_zero d), d7, fun m _ hm => e1 m hm⟩, ⟨by decide, fun d hd => absurd hd (Nat.not_lt_zero d), fun d hd => absurd hd (Nat.not_lt_zero d), fun d hd => absurd hd (Nat.not_lt_zero d), fun k s hk => absurd hk (Nat.not_lt_zero k), fun d hd => absurd hd (Nat.not_lt_zero d)⟩, n4⟩⟩
    · rw [y5 _ (by have := rw_5 hs; omega)] at hi; omega
    · have hi : i < Y0.1 (rw_ s) := hi
      rw [y5 _ (by have := rw_5 hs; omega)] at hi; omega
    · have hi : i < Y0.1 (rw_ s) := hi
      rw [y5 _ (by have := rw_5 hs; omega)] at hi; omega
  have hf1 : FrR g J (uJ J1 0 2 0) := fun o i hw => by
    by_cases c0 : o = 0
    · subst c0
      have hi2 : i ≠ 2 := fun hh => by subst hh; simp [rr_] at hw
      have hi4 : i ≠ 4 := fun hh => by subst hh; simp [rr_] at hw
      rw [uJ_sn hi2, a2 0 (by omega), uJ_sn hi4]
    · have h2 : o ≠ 2 := fun hh => by subst hh; simp [rr_] at hw
      rw [uJ_o c0, a2 o h2, uJ_o c0]
  have hf2 : FrR g (uJ J1 0 2 0) Ja := fun o i hw => by
    by_cases c0 : o = 0
    · subst c0
      have hi2 : i ≠ 10 := fun hh => by subst hh; simp [rr_] at hw
      exact ja i hi2
    · have h2 : o < 3 ∨ 5 < o := by
        rcases Nat.lt_or_ge o 3 with h | h
        · exact Or.inl h
        · rcases Nat.lt_or_ge 5 o with h' | h'
          · exact Or.inr h'
          · exfalso
            have : o = 3 ∨ o = 4 ∨ o = 5 := by omega
            rcases this with rfl | rfl | rfl <;> simp [rr_] at hw
      rw [b5.1 o c0 h2]
  have hfF := (hf1.tr hf2).tr e3
  have h02 : JF 0 2 = 0 := by rw [e4, ja 2 (by omega), uJ_ss]
  have hKa : ∀ o, o ≠ 6 → Ka o = K o := b5.2.2.2.1
  rcases rd_L (n0 := tN T) (g := g) (txa := tN T) (Xp := uR Xp 9 2 (some (tN T))) (N := N) (P := P) (E := E) hF 402 F F 0 Q7 JF Ka T1 (by omega) (by omega) (by omega) hIV with ⟨a9, Q1, T2, J2, K2, u1, u2, u3, u4, u5, u6, u7⟩ | ⟨Q1, T2, J2, K2, w, p, u1, u2, u3, u4, u5, u6, u7, u8⟩
  · left
    obtain ⟨Y, b, e, v1, v2, v3, v4, v5⟩ := u3.tx u4
    obtain ⟨f1, f2, f3, f4, f5, f6⟩ := u7
    refine ⟨Q1, T2, J2, K2, Y, b, e, u1, u2, u5, u6, v5, v1, v2, v3, v4, hfF.tr f2.r, ?_, fun o h6 h8 => by rw [f3 o h8, hKa o h6], fun c hc => ?_, f5.trans hl1, Nat.le_trans n2.1 f6⟩
    · rw [f2 0 2 (by simp [wr_])]; exact h02
    · obtain ⟨y1, y2, y3⟩ := n2.2.2.1 c hc
      obtain ⟨z1, z2, z3⟩ := f4 c hc
      exact ⟨z1.trans y1, z2.trans y2, z3.trans y3⟩
  · right
    obtain ⟨f1, f2, f3, f4, f5, f6⟩ := u8
    refine ⟨Q1, T2, J2, K2, w, p, u1, u2, u3, u4, u5, u6, u7, hfF.tr f2.r, ?_, fun o h6 h8 => by rw [f3 o h8, hKa o h6], f5.trans hl1, Nat.le_trans n2.1 f6⟩
    rw [f2 0 2 (by simp [wr_])]; exact h02
end RZ
