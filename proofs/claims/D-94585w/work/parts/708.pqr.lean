/-! PURE LAW 68: read -/
set_option maxRecDepth 100000
/-- room for one reading -/
def rl (T : Th) : Th := (T.1, T.2.1, T.2.2.1, tN T, tZ T, tN T + 6500, tZ T + 49000, (tL T).2.2.1, tE T)
/-- what was made by a reading that failed is forgotten -/
def fg (T T1 : Th) : Th := (T.1, T.2.1, T.2.2.1, tN T1, tZ T1, tL T)
def S_read (F : Nat) (T : Th) (tx : Nat) (S Q : Ji) (Xp : Jr) (V : Nat → Ji) : Option (Int32 × Nat × Ji × Ji × Jr × (Nat → Ji) × Th) :=
  (R_read F Q Xp (rl T)).bind fun r => match r with
  | .inr (o, Q1, X1, T1) => o.bind fun tx1 => (V_begins F T1 tx1 (V 0)).bind fun C => some (0, tx1, uJ (uJ (uJ (uJ (uJ (uJ S 0 4 (-1)) 0 5 0) 0 15 0) 183 0 0) 183 1 0) 183 2 0, uJ Q1 2 2 0, X1, vf_upd V 0 C, T1)
  | .inl (Q1, X1, T1) => some (Q1 1 6, tx, uJ (uJ S 0 4 (-1)) 0 4 (Q1 1 7), uJ Q1 2 2 0, X1, V, fg T T1)
/-- what a reading wants of the heap and of the model's keys -/
def RI (T : Th) (Xp : Jr) (K : Jl) : Prop := HB T ∧ (tE T < tN T ∧ (tL T).2.2.1 ≤ tN T) ∧ T.1 (tE T) = some (.inr (.object "java/lang/Object", 0)) ∧ WdT T Xp ∧ KyM K
theorem lv_c {l o i : Nat} (h : lv_ l o i = true) : (o = 0 ∧ i = 18) ∨ ((o = 11 ∨ o = 12 ∨ o = 17 ∨ o = 19 ∨ o = 29 ∨ o = 41) ∧ i = l) ∨ (13 ≤ o ∧ o ≤ 16 ∧ 12 * l ≤ i ∧ i < 12 * l + 12) ∨ ((o = 18 ∨ o = 20 ∨ o = 21 ∨ o = 22 ∨ o = 30 ∨ o = 31 ∨ o = 32 ∨ o = 34 ∨ o = 35) ∧ 6 * l ≤ i ∧ i < 6 * l + 6) ∨ (23 ≤ o ∧ o ≤ 28 ∧ 36 * l ≤ i ∧ i < 36 * l + 36) ∨ (36 ≤ o ∧ o ≤ 40 ∧ 50 * l ≤ i ∧ i < 50 * l + 50) ∨ ((o = 42 ∨ o = 43) ∧ 420 * l ≤ i ∧ i < 420 * l + 420) := by
  unfold lv_ at h
  split at h <;> first | (have h := of_decide_eq_true h; omega) | (have h := eq_of_beq h; omega) | (exact absurd h (by decide))
theorem rr_lv {l o i : Nat} (hl : l < 2) (h : lv_ l o i = true) : rr_ (1 - l) o i = false ∨ (o = 0) := by
  by_cases c0 : o = 0
  · exact Or.inr c0
  left
  have h1 := lv_c h
  have h2 : lv_ (1 - l) o i = false := by
    cases hh : lv_ (1 - l) o i with
    | false => rfl
    | true =>
      have := lv_c hh
      omega
  unfold rr_ wr_
  rw [h2]
  simp only [Bool.and_false, Bool.false_or, Bool.or_eq_false_iff, decide_eq_false_iff_not]
  omega
theorem rr_big {g o i : Nat} (h : 44 < o) : rr_ g o i = false := by
  have h2 : lv_ g o i = false := by
    cases hh : lv_ g o i with
    | false => rfl
    | true =>
      have := lv_c hh
      omega
  unfold rr_ wr_
  rw [h2]
  simp only [Bool.and_false, Bool.false_or, Bool.or_eq_false_iff, decide_eq_false_iff_not]
  omega
theorem WdT.at_ {T T1 : Th} {Xp X1 : Jr} (h : WdT T Xp) (hH : HB T) (hx : ∀ c, c < tN T → At_ T T1 c) (hX : X1 2 0 = Xp 2 0) : WdT T1 X1 := by
  obtain ⟨wa, h1, h2, h3⟩ := h
  have q : ∀ c dk, T.1 c = some dk → At_ T T1 c := fun c dk hc => hx c (hH c (by rw [hc]; exact fun hh => by cases hh))
  refine ⟨wa, by rw [hX]; exact h1, by rw [(q wa _ h2).1]; exact h2, fun w L hL => ?_⟩
  obtain ⟨s, s1, u1, u2, a, u3, u4, u5⟩ := h3 w L hL
  exact ⟨s, by rw [(q wa _ h2).2.2]; exact s1, by rw [(q s _ u1).1]; exact u1, by rw [(q s _ u1).2.1]; exact u2, a, by rw [(q s _ u1).2.2]; exact u3, by rw [(q a _ u4).1]; exact u4, fun i c hc => by rw [(q a _ u4).2.1]; exact u5 i c hc⟩
theorem LsT.cg {T T1 : Th} {b n : Nat} {f : Nat → Nat} (h : LsT T b n f) (h1 : T1.1 = T.1) (h2 : T1.2.1 = T.2.1) (h3 : T1.2.2.1 = T.2.2.1) : LsT T1 b n f := by
  unfold LsT at h ⊢
  rw [h1, h2, h3]
  exact h
theorem TxT.cg {T T1 : Th} {tx : Nat} {X : Xt} {b : Nat → Nat} {e : Nat → Nat → Nat} (h : TxT T tx X b e) (h1 : T1.1 = T.1) (h2 : T1.2.1 = T.2.1) (h3 : T1.2.2.1 = T.2.2.1) : TxT T1 tx X b e := by
  have hs : SmK kL T T1 := fun a _ _ _ => ⟨by rw [h1], by rw [h2], by rw [h3]⟩
  obtain ⟨⟨a1, a2, a3⟩, b1, c1, d1, e1, f1⟩ := h
  refine ⟨⟨by rw [h1]; exact a1, by rw [h2]; exact a2, fun j hj => ⟨by rw [h3]; exact (a3 j hj).1, (a3 j hj).2.cg h1 h2 h3⟩⟩, by rw [h1, h2]; exact b1, by rw [h1, h2]; exact c1, fun k hk => ?_, by rw [h1, h2]; exact e1, fun m hm => ?_⟩
  · obtain ⟨q1, q2, q3, q4, q5⟩ := d1 k hk
    exact ⟨by rw [h1]; exact q1, by rw [h2]; exact q2, by rw [h2]; exact q3, by rw [h3]; exact q4, q5.cg h1 h2 h3⟩
  · obtain ⟨q1, q2, q3, q4, q5⟩ := f1 m hm
    exact ⟨by rw [h1]; exact q1, by rw [h2]; exact q2, by rw [h2]; exact q3, by rw [h2]; exact q4, by rw [h3]; exact q5.sm hs⟩
section QR
variable {T : Th} {tx : Nat} {X : Xt} {b : Nat → Nat} {e : Nat → Nat → Nat} {l F : Nat} {S Q J : Ji} {V : Nat → Ji} {K : Jl} {Xp : Jr}
theorem l322 {J : Ji} {K : Jl} (hF : 10 ≤ F) : ∃ J1, M_read_L322 F F 0 J K = some (0, J1, K) ∧ (∀ p, p ≠ 61 → J1 p = J p) ∧ ∀ s, s < 3 → J1 61 s = 0 := by
  have key : ∀ d m i (J : Ji), i + d = 3 → d < m → ∃ J1, M_read_L322 F m (iN i) J K = some (0, J1, K) ∧ (∀ p, p ≠ 61 → J1 p = J p) ∧ (∀ s, i ≤ s → s < 3 → J1 61 s = 0) ∧ ∀ s, s < i → J1 61 s = J 61 s := by
    intro d
    induction d with
    | zero =>
      intro m i J hd hm
      obtain ⟨m, rfl⟩ : ∃ m', m = m' + 1 := ⟨m - 1, by omega⟩
      refine ⟨J, ?_, fun _ _ => rfl, fun s h1 h2 => by omega, fun _ _ => rfl⟩
      show M_read_B322 F (M_read_L322 F m) (iN i) J K = _
      unfold M_read_B322
      rw [if_pos (by rw [i_3, iN_le (by omega) (by omega)]; omega)]
    | succ d ih =>
      intro m i J hd hm
      obtain ⟨m, rfl⟩ : ∃ m', m = m' + 1 := ⟨m - 1, by omega⟩
      obtain ⟨J1, q1, q2, q3, q4⟩ := ih m (i + 1) (uJ J 61 i 0) (by omega) (by omega)
      refine ⟨J1, ?_, fun p hp => by rw [q2 p hp, uJ_o hp], fun s h1 h2 => ?_, fun s hs => by rw [q4 s (by omega), uJ_ap, if_neg (by omega)]⟩
      · rw [← q1]
        show M_read_B322 F (M_read_L322 F m) (iN i) J K = _
        unfold M_read_B322
        rw [if_neg (by rw [i_3, iN_le (by omega) (by omega)]; omega), show ((0 : Int32) &&& 1) = 0 by decide, stI_n (by omega) (by omega), lt_e, i_1, iN_add]
      · by_cases c : s = i
        · rw [q4 s (by omega), c, uJ_ss]
        · exact q3 s (by omega) h2
  obtain ⟨J1, q1, q2, q3, q4⟩ := key 3 F 0 J (by omega) (by omega)
  exact ⟨J1, q1, q2, fun s hs => q3 s (by omega) hs⟩
/-- read, by both -/
theorem q_read (hF : 2100 ≤ F) (h : Cpl X b e l T tx S Q V J) (hR : RI T Xp K) : ∃ r tx1 S1 Q1 X1 V1 T1 J1 K1 Y b1 e1 l1, S_read F T tx S Q Xp V = some (r, tx1, S1, Q1, X1, V1, T1) ∧ M_read F J K = some (r, J1, K1) ∧ Cpl Y b1 e1 l1 T1 tx1 S1 Q1 V1 J1 ∧ RI T1 X1 K1 := by
  obtain ⟨h1, h2, h3, ⟨h4, h5⟩, h6, h7, h8, h9, h10⟩ := h
  obtain ⟨r1, r2, r3, r4, r5⟩ := hR
  have hl := h3.l2
  obtain ⟨g, hg⟩ : ∃ g, g = 1 - l := ⟨_, rfl⟩
  have hgl : l = 1 - g := by omega
  have hW : WdT (rl T) Xp := r4
  rcases rd_ok (T := rl T) (F := F) (g := g) (Q := Q) (J := J) (K := K) (Xp := Xp) hF (by omega) h9 r5 hW (by rw [h3.lv, ← hgl]) r1 r2.2 r2.1 r3 (Nat.le_refl _) (Nat.le_refl _) with ⟨Q1, T1, J1, K1, Y, b1, e1, a1, a2, a3, a4, a5, a6, a7, a8, a9, a10, a11, a12, a13, a14, a15⟩ | ⟨Q1, T1, J1, K1, w, p, a1, a2, a3, a4, a5, a6, a7, a8, a9, a10, a11, a12⟩
  · have a1' : R_read F Q Xp (rl T) = some (.inr (some (tN T), Q1, uR Xp 9 2 (some (tN T)), T1)) := a1
    obtain ⟨J2, hJ2⟩ : ∃ J2, J2 = uJ (uJ J1 0 17 (-1)) 0 18 (iN g) := ⟨_, rfl⟩
    have j2 : ∀ p, p ≠ 0 → J2 p = J1 p := fun p hp => by rw [hJ2, uJ_o hp, uJ_o hp]
    have hTJ : TxJ J2 g Y := a8 J2 j2 (by rw [hJ2, uJ_ss])
    have a7' : TxT T1 (tN T) Y b1 e1 := a7
    obtain ⟨C1, J3, c1, c2, c3, c4, c5⟩ := bn_ok hF a6 a7' hTJ (V 0)
    obtain ⟨J4, hJ4⟩ : ∃ J4, J4 = uJ (uJ J3 0 74 0) 0 77 0 := ⟨_, rfl⟩
    obtain ⟨J5, d1, d2, d3⟩ := l322 (F := F) (J := J4) (K := K1) (by omega)
    have q5 : ∀ p, p ≠ 0 → p ≠ 47 → p ≠ 61 → J5 p = J1 p := fun p p0 p1 p2 => by rw [d2 p p2, hJ4, uJ_o p0, uJ_o p0, c5 p p1, j2 p p0]
    have q50 : ∀ i, i ≠ 74 → i ≠ 77 → J5 0 i = J2 0 i := fun i h1 h2 => by rw [d2 0 (by omega), hJ4, uJ_sn h2, uJ_sn h1, c5 0 (by omega)]
    have q547 : J5 47 = J3 47 := by rw [d2 47 (by omega), hJ4, uJ_o (by omega), uJ_o (by omega)]
    have hM : M_read F J K = some (0, J5, K1) := by
      rw [a2]
      unfold M_read_B241
      rw [if_pos (by rw [a3]; decide), if_pos (by rw [a4]; decide)]
      unfold M_read_B271
      rw [lt_e, uJ_sn (by omega), if_pos (by rw [a3]; decide), uJ_sn (by omega), if_pos (by rw [a4]; decide), lt_e, uJ_sn (by omega), a5, ← hJ2, c2, Option.bind_some, lt_e, lt_e, ← hJ4, d1]
    refine ⟨0, tN T, uJ (uJ (uJ (uJ (uJ (uJ S 0 4 (-1)) 0 5 0) 0 15 0) 183 0 0) 183 1 0) 183 2 0, uJ Q1 2 2 0, uR Xp 9 2 (some (tN T)), vf_upd V 0 C1, T1, J5, K1, Y, b1, e1, g, ?_, hM, ⟨a6, a7', ?_, ⟨?_, ?_⟩, ?_, ?_, ?_, ?_, ?_⟩, ?_⟩
    · simp only [S_read, a1', Option.bind_some, c1]
    · exact hTJ.fr a6 (fun o i hw => by
        by_cases c0 : o = 0
        · subst c0
          have : i = 18 := by simp [lv_] at hw; exact hw
          subst this
          exact q50 18 (by omega) (by omega)
        · have : o ≠ 47 ∧ o ≠ 61 := ⟨fun hh => by subst hh; simp [lv_] at hw, fun hh => by subst hh; simp [lv_] at hw⟩
          rw [q5 o c0 this.1 this.2, j2 o c0])
    · rw [q547]; exact c3
    · rw [q547]; exact c4
    · obtain ⟨u, p, p1, p2, p3, p4, p5, p6⟩ := h6
      refine ⟨0, p, by omega, p2, ?_, ?_, ?_, fun i hi => by omega⟩
      · rw [uJ_o (by omega), uJ_o (by omega), uJ_o (by omega), uJ_sn (by omega), uJ_ss]; rfl
      · rw [d2 0 (by omega), hJ4, uJ_sn (by omega), uJ_ss]; rfl
      · rw [uJ_o (by omega), uJ_o (by omega), uJ_o (by omega), uJ_sn (by omega), uJ_sn (by omega), uJ_sn (by omega)]; exact p5
    · intro s hs
      have z : (uJ (uJ (uJ (uJ (uJ (uJ S 0 4 (-1)) 0 5 0) 0 15 0) 183 0 0) 183 1 0) 183 2 0) 183 s = 0 := by
        rw [uJ_ap]
        by_cases c2 : s = 2
        · rw [if_pos ⟨rfl, c2⟩]
        · rw [if_neg (fun hh => c2 hh.2), uJ_ap]
          by_cases c1 : s = 1
          · rw [if_pos ⟨rfl, c1⟩]
          · rw [if_neg (fun hh => c1 hh.2), uJ_ap, if_pos ⟨rfl, by omega⟩]
      rw [z, d3 s hs]
      exact ⟨rfl, Or.inl rfl, fun hh => absurd hh (by decide)⟩
    · refine ⟨0, by omega, ?_, ?_, fun i hi => by omega⟩
      · rw [uJ_o (by omega), uJ_o (by omega), uJ_o (by omega), uJ_ss]; rfl
      · rw [d2 0 (by omega), hJ4, uJ_ss]; rfl
    · refine ⟨0, by omega, uJ_ss, ?_, fun i hi => by omega⟩
      rw [q50 2 (by omega) (by omega), hJ2, uJ_sn (by omega), uJ_sn (by omega), a11]; rfl
    · rw [uJ_o (by omega), uJ_o (by omega), uJ_o (by omega), uJ_sn (by omega), uJ_sn (by omega), uJ_ss, q50 17 (by omega) (by omega), hJ2, uJ_sn (by omega), uJ_ss]
    · obtain ⟨m1, m2, m3, m4, m5⟩ := a9
      have eE : tE T1 = tE T := by show (tL T1).2.2.2 = _; rw [a14]; rfl
      have m3' : tN T ≤ tN T1 := m3
      refine ⟨m1, ⟨by rw [eE]; omega, by rw [a14]; show (tL T).2.2.1 ≤ _; omega⟩, m5, r4.at_ r1 a13 (by rw [uR_ap, if_neg (by omega)]), fun w L hL => ?_⟩
      rw [a12 7 (by omega) (by omega)]; exact r5 w L hL
  · have a1' : R_read F Q Xp (rl T) = some (.inl (Q1, uR Xp 9 2 (some (tN T)), T1)) := a1
    have a12' : tN T ≤ tN T1 := a12
    obtain ⟨J2, hJ2⟩ : ∃ J2, J2 = uJ J1 0 17 (iN p) := ⟨_, rfl⟩
    have hM : M_read F J K = some (iN w, J2, K1) := by rw [a7, hJ2]
    have k : ∀ o i, rr_ g o i = false → J2 o i = J o i := fun o i hw => by
      rw [hJ2, uJ_ap, if_neg (fun hh => by rw [hh.1, hh.2] at hw; simp [rr_] at hw)]
      exact a8 o i hw
    have kp : ∀ o, o ≠ 0 → (44 < o) → J2 o = J o := fun o o0 ho => by
      funext i
      exact k o i (rr_big ho)
    have k0 : ∀ i, 60 < i → J2 0 i = J 0 i := fun i hi => k 0 i (by simp [rr_, wr_]; omega)
    have hx2 : (uR Xp 9 2 (some (tN T))) 2 0 = Xp 2 0 := by rw [uR_ap, if_neg (by omega)]
    have hfg : ∀ c, c < tN T → At_ T (fg T T1) c := fun c _ => ⟨rfl, rfl, rfl⟩
    have hw : WdT (fg T T1) (uR Xp 9 2 (some (tN T))) := WdT.at_ r4 r1 hfg hx2
    refine ⟨iN w, tx, uJ (uJ S 0 4 (-1)) 0 4 (Q1 1 7), uJ Q1 2 2 0, uR Xp 9 2 (some (tN T)), V, fg T T1, J2, K1, X, b, e, l, ?_, hM, ⟨h1, h2.cg (T1 := fg T T1) rfl rfl rfl, ?_, ⟨?_, ?_⟩, ?_, ?_, ?_, ?_, ?_⟩, ?_⟩
    · simp only [S_read, a1', Option.bind_some, a5]
    · exact h3.fr h1 (fun o i hw => by
        rcases rr_lv hl hw with c | c
        · rw [← hg] at c; exact k o i c
        · subst c
          have : i = 18 := by simp [lv_] at hw; exact hw
          subst this
          exact k 0 18 (by simp [rr_, wr_]))
    · rw [kp 47 (by omega) (by omega)]; exact h4
    · rw [kp 47 (by omega) (by omega)]; exact h5
    · obtain ⟨u, p', p1, p2, p3, p4, p5, p6⟩ := h6
      refine ⟨u, p', p1, p2, by rw [uJ_sn (by omega), uJ_sn (by omega)]; exact p3, by rw [k0 74 (by omega)]; exact p4, by rw [uJ_sn (by omega), uJ_sn (by omega)]; exact p5, fun i hi => ?_⟩
      rw [kp 57 (by omega) (by omega)]; exact p6 i hi
    · intro s hs
      rw [kp 61 (by omega) (by omega), kp 62 (by omega) (by omega), uJ_o (by omega), uJ_o (by omega)]
      exact h7 s hs
    · obtain ⟨n, n1, n2, n3, n4⟩ := h8
      refine ⟨n, n1, by rw [uJ_sn (by omega), uJ_sn (by omega)]; exact n2, by rw [k0 77 (by omega)]; exact n3, fun i hi => ?_⟩
      rw [kp 58 (by omega) (by omega), kp 59 (by omega) (by omega), kp 60 (by omega) (by omega), uJ_o (by omega), uJ_o (by omega)]
      exact n4 i hi
    · refine ⟨0, by omega, uJ_ss, ?_, fun i hi => by omega⟩
      rw [hJ2, uJ_sn (by omega), a9]; rfl
    · rw [uJ_ss, hJ2, uJ_ss, a6]
    · refine ⟨fun a ha => ?_, ?_, r3, hw, fun w L hL => ?_⟩
      · have := r1 a ha
        show a < tN T1
        omega
      · exact ⟨by show tE T < tN T1; omega, by show (tL T).2.2.1 ≤ tN T1; omega⟩
      · rw [a10 7 (by omega) (by omega)]; exact r5 w L hL
end QR
