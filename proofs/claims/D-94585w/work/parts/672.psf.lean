/-! PURE LAW 50: the end of a step -/
set_option maxRecDepth 100000
theorem kd_10 {k : Nat} : kd_ (10 + k) = 13 := by
  unfold kd_
  rw [if_neg (by omega), if_neg (by omega), if_neg (by omega), if_neg (by omega), if_neg (by omega)]
/-- what a step is told to be, on both sides -/
def SV (Y : Xt) (T : Th) (x : Nat) (a5 a6 a7 a8 a9 : Int32) (m1 m2 m3 m4 tl : Nat) : Prop := (1 ≤ m1 ∧ m1 ≤ 120 ∧ m2 ≤ 99 ∧ m3 ≤ 99 ∧ m4 ≤ 99 ∧ tl ≤ xt Y) ∧ (T.2.1 x 0 = iN m1 ∧ T.2.1 x 1 = iN m2 ∧ T.2.1 x 2 = iN m3 ∧ T.2.1 x 3 = iN m4 ∧ T.2.1 x 4 = oC tl) ∧ a5 = iN m1 ∧ a6 = iN m2 ∧ a7 = iN m3 ∧ a8 = iN m4 ∧ a9 = oM tl
section ST1
variable {n0 g txa nl Nn nb nc a a1 : Nat} {Xp : Jr} {F N : Nat} {P E : Nat → Nat} {Q Q1 J J1 : Ji} {K : Jl} {T T1 : Th} {Y : Xt} {b ar : Nat → Nat} {e : Nat → Nat → Nat} {sg id_ : Nat → Nat} {nm : Nat → Nat → List Int32}
theorem FM.s174 {x2 x4 x5 x6 x7 x8 x9 x10 : Int32} (h : FM J) : M_tellStep_B174 F K x2 x4 x5 x6 x7 x8 x9 x10 J = some J := by
  unfold M_tellStep_B174
  rw [h.must, Option.bind_some, if_pos h.n0.2.2]
theorem FM.s134 {x2 x3 x4 x5 x6 x7 x8 x9 x10 : Int32} (h : FM J) : M_tellStep_B134 F K x2 x3 x4 x5 x6 x7 x8 x9 x10 J = some J := by
  unfold M_tellStep_B134
  rw [if_neg h.n0.1, h.s174]
theorem FM.s59 {x2 x3 s0 s1 s2 : Int32} (h : FM J) : M_tellStep_B59 F K x2 x3 s0 s1 s2 J = some J := by
  simp only [M_tellStep_B59, lt_e, h.bounded, Option.bind_some, if_neg h.n0.1, h.s134]
theorem FM.s41 {x2 x3 : Int32} (h : FM J) : M_tellStep_B41 F K x2 x3 J = some J := by
  unfold M_tellStep_B41
  by_cases c : (0 : Int32) ≤ x2
  · rw [if_pos c, h.s59]
  · rw [if_neg c, h.s59]
/-- the end of a step of the task k -/
theorem step_fin {k x u : Nat} {a5 a6 a7 a8 a9 a10 : Int32} (hI : IV n0 g txa Xp N P E a Q J K T Y b ar e nl Nn sg id_ nm nb nc) (hk : k < xk Y) (hx6 : xs Y k < 6) (ha1 : a < a1) (hP : PT N P E a1 0 Q1 J1 K) (hx : ExN T T1) (hxn : tN T ≤ x) (hkk : T1.1 x = some (.inl 13)) (hN : tN T1 + 1 + 16 * (401 - a1) ≤ (tL T).1) (hZ : tZ T1 + 15 + 120 * (401 - a1) ≤ (tL T).2.1) (hq : qF Q Q1) (hj : jF J J1)
    (hv : Q1 9 5 = iN 0 → Q 9 5 = iN 0 ∧ ∃ m1 m2 m3 m4 tl, SV Y T1 x a5 a6 a7 a8 a9 m1 m2 m3 m4 tl ∧ u ≤ xs Y k ∧ T1.2.1 x 5 = oC u ∧ a10 = oM u) :
    StO n0 g txa Xp N P E a Q J K T (xb (R_step_B176 F Xp (some (e 3 k)) x Q1 T1) fun r => R_sign Xp 59 r.1 r.2) ((M_tellStep_B174 F K (iN k) (iN (6 * (6 * g + k) + xs Y k)) a5 a6 a7 a8 a9 a10 J1).bind fun r => some (r, K)) := by
  obtain ⟨h1, h2, h3, h4, h5, ⟨h6, h6b⟩, h7, h8, ⟨h9, h10⟩, h11⟩ := hI
  have hNN := h1.n
  have ha := h1.2.1
  have haN := hP.2.1
  have hl0 := h3
  obtain ⟨l1, l2, l3, l4, l5⟩ := h3
  obtain ⟨⟨j1, j2⟩, ⟨j3, j4⟩, j5, j6, j7⟩ := h7
  have hm9 := h4.2.2.2.2.2
  have hk3 : k < Y.1 3 := hk
  have hxk : Y.1 3 ≤ 6 := hm9.2.2.2.1
  have hl1 : tL T1 = tL T := hx.2.1
  have hb7 := h4.ex l1 hx
  have hdm : dm_ (xk Y) (10 + k) := Or.inr ⟨by omega, by omega⟩
  have hk2 : T1.1 (b (10 + k)) = some (.inl 19) := (hb7.2.1 (10 + k) hdm).1.1
  have hke : T1.1 (e 3 k) = some (.inl 12) := (hb7.2.2.1 3 k (Or.inl (by omega)) hk).1
  have hC : R_step_B176 F Xp (some (e 3 k)) x Q1 T1 = ((A_L_add (b (10 + k)) x T1).bind fun r => some (.inr (Q1, r.2)) : Option ((Ji × Jr × Th) ⊕ (Ji × Th))) := by
    simp only [R_step_B176, rC, dR_p hke, hb7.2.2.2.1 k hk, Option.bind_some, dC_p hk2]
  rw [hC]
  obtain ⟨m1, m2, m3, m4, tl, hval⟩ : ∃ m1 m2 m3 m4 tl, Q1 9 5 = iN 0 → Q 9 5 = iN 0 ∧ SV Y T1 x a5 a6 a7 a8 a9 m1 m2 m3 m4 tl ∧ u ≤ xs Y k ∧ T1.2.1 x 5 = oC u ∧ a10 = oM u := by
    by_cases c : Q1 9 5 = iN 0
    · obtain ⟨r1, m1, m2, m3, m4, tl, r2⟩ := hv c
      exact ⟨m1, m2, m3, m4, tl, fun _ => ⟨r1, r2⟩⟩
    · exact ⟨0, 0, 0, 0, 0, fun hh => absurd hh c⟩
  obtain ⟨n, hn⟩ : ∃ n, n = xs Y k := ⟨_, rfl⟩
  have hn' : n = Y.1 (10 + k) := hn
  obtain ⟨iy, hiy⟩ : ∃ iy, iy = 6 * k + n := ⟨_, rfl⟩
  obtain ⟨ip, hip⟩ : ∃ ip, ip = 6 * (6 * g + k) + n := ⟨_, rfl⟩
  rw [← hn] at hx6
  rw [← hn, ← hip]
  have hipl : ip < 72 := by omega
  let nv : Nat → Nat := fun c => if c = 23 then m1 else if c = 24 then m2 else if c = 25 then m3 else if c = 26 then m4 else if c = 27 then tl else u
  let Y1 : Xt := (inc_ Y (10 + k), (fun c i => if (23 ≤ c ∧ c ≤ 28) ∧ i = iy then nv c else tb Y c i), Y.2.2)
  have hY1 : Y1.1 = inc_ Y (10 + k) := rfl
  have y14 : Y1.1 (10 + k) = Y.1 (10 + k) + 1 := inc_s hY1
  have y1o : ∀ r, r ≠ 10 + k → Y1.1 r = Y.1 r := fun r hr => inc_o hY1 hr
  have hms : ∀ q, q < xk Y → xs Y1 q ≤ 6 := fun q hq => by
    show Y1.1 (10 + q) ≤ 6
    by_cases c : q = k
    · rw [c, y14]; omega
    · rw [y1o _ (by omega)]; exact hm9.2.2.2.2.2.2.1 q hq
  have hmx : xr Y1 ≤ 8 ∧ xd Y1 ≤ 12 ∧ xt Y1 ≤ 6 ∧ xk Y1 ≤ 6 ∧ xm Y1 ≤ 6 := ⟨by show Y1.1 0 ≤ 8; rw [y1o 0 (by omega)]; exact hm9.1, by show Y1.1 1 ≤ 12; rw [y1o 1 (by omega)]; exact hm9.2.1, by show Y1.1 2 ≤ 6; rw [y1o 2 (by omega)]; exact hm9.2.2.1, by show Y1.1 3 ≤ 6; rw [y1o 3 (by omega)]; exact hm9.2.2.2.1, by show Y1.1 4 ≤ 6; rw [y1o 4 (by omega)]; exact hm9.2.2.2.2.1⟩
  have y13 : xk Y1 = xk Y := y1o 3 (by omega)
  have ho : ∀ c i, OldC Y c i → tb Y1 c i = tb Y c i := fun c i hc => by
    show (if (23 ≤ c ∧ c ≤ 28) ∧ i = iy then nv c else tb Y c i) = tb Y c i
    have : ¬ ((23 ≤ c ∧ c ≤ 28) ∧ i = iy) := fun hh => by
      rcases hc with hc | hc | hc | hc | hc
      · omega
      · omega
      · omega
      · omega
      · obtain ⟨_, _, k', s, d1, d2, d3⟩ := hc
        have d4 : xs Y k' ≤ 6 := hm9.2.2.2.2.2.2.1 k' d2
        have : k' = k := by omega
        subst this
        rw [← hn] at d3
        omega
    rw [if_neg this]
  have tv : ∀ c, 23 ≤ c → c ≤ 28 → tb Y1 c (6 * k + xs Y k) = nv c := fun c c1 c2 => by
    show (if (23 ≤ c ∧ c ≤ 28) ∧ 6 * k + xs Y k = iy then nv c else _) = _
    rw [if_pos ⟨⟨c1, c2⟩, by rw [← hn]; exact hiy.symm⟩]
  have hNm : NmT T1 Y1 (fun q i => if q = 10 + k ∧ i = Y.1 (10 + k) then x else e q i) nm := fun s i hs hi => by
    have hr : rw_ s ≠ 10 + k := by have := rw_5 hs; omega
    rw [y1o _ hr] at hi
    have := (h5.sm h4 (ExN.sm l1 hx)) s i hs hi
    simp only [if_neg (show ¬ (rw_ s = 10 + k ∧ i = Y.1 (10 + k)) from fun hh => hr hh.1)]
    exact this
  have hW : ∀ J9 : Ji, J9 0 19 = iN g → J9 22 (6 * g + k) = iN n → (stI J9 23 72 (iN ip) a5 fun J16 => stI J16 24 72 (iN ip) a6 fun J17 => stI J17 25 72 (iN ip) a7 fun J18 => stI J18 26 72 (iN ip) a8 fun J19 => stI J19 27 72 (iN ip) a9 fun J20 => stI J20 28 72 (iN ip) a10 fun J21 => ldI J21 22 12 ((6 * (J21 0 19)) + iN k) fun x22 => stI J21 22 12 ((6 * (J21 0 19)) + iN k) (x22 + 1) fun J23 => some J23) = some (uJ (uJ (uJ (uJ (uJ (uJ (uJ J9 23 ip a5) 24 ip a6) 25 ip a7) 26 ip a8) 27 ip a9) 28 ip a10) 22 (6 * g + k) (iN (n + 1))) := fun J9 w19 w22 => by
    have e1 : iN n + 1 = iN (n + 1) := by rw [i_1, iN_add]
    rw [stI_n (by omega) (by omega), stI_n (by omega) (by omega), stI_n (by omega) (by omega), stI_n (by omega) (by omega), stI_n (by omega) (by omega), stI_n (by omega) (by omega)]
    have w19' : (uJ (uJ (uJ (uJ (uJ (uJ J9 23 ip a5) 24 ip a6) 25 ip a7) 26 ip a8) 27 ip a9) 28 ip a10) 0 19 = iN g := by
      rw [uJ_o (by omega), uJ_o (by omega), uJ_o (by omega), uJ_o (by omega), uJ_o (by omega), uJ_o (by omega)]; exact w19
    have w22' : (uJ (uJ (uJ (uJ (uJ (uJ J9 23 ip a5) 24 ip a6) 25 ip a7) 26 ip a8) 27 ip a9) 28 ip a10) 22 (6 * g + k) = iN n := by
      rw [uJ_o (by omega), uJ_o (by omega), uJ_o (by omega), uJ_o (by omega), uJ_o (by omega), uJ_o (by omega)]; exact w22
    rw [w19', show 6 * iN g + iN k = iN (6 * g + k) by rw [i_6, iN_mul, iN_add], ldI_n (by omega) (by omega), w22', e1, stI_n (by omega) (by omega)]
  refine fin_add (Y := Y) (Y1 := Y1) (a0 := a) (Q0 := Q) (J0 := J) (T0 := T) (nc := nc) (nb := nb) (g := g) (Xp := Xp) (nk := xk Y)
    (f := fun r15 => some (uJ (uJ (uJ (uJ (uJ (uJ (uJ r15 23 ip a5) 24 ip a6) 25 ip a7) 26 ip a8) 27 ip a9) 28 ip a10) 22 (6 * g + k) (iN (n + 1)), K))
    hP h2 (hl0.ex hx) hb7 (j := 10 + k) hdm (by rw [kd_10]; exact hkk) (by omega) hY1 ⟨hmx.1, hmx.2.1, hmx.2.2.1, hmx.2.2.2.1, hmx.2.2.2.2, hms⟩ y13 (fun hh => by omega) hNm ⟨h8.2, fun hh => by omega⟩ (by omega) (by omega) ⟨by rw [hl1]; exact hN, by rw [hl1]; exact hZ⟩ ⟨hq, hj.w, fun _ _ => rfl, hx.bl l3, hl1, hx.1⟩ (fun hq => ?_) (fun J9 hJ9 => ?_) (fun J9 m1 m2 => ?_) (fun J9 m1 m2 m3 m4 => ?_)
  · obtain ⟨r0, ⟨⟨b1, b2, b3, b4, b5, b6⟩, ⟨c1, c2, c3, c4, c5⟩, d1, d2, d3, d4, d5⟩, r2, r3, r4⟩ := hval hq
    obtain ⟨v1, v2, v3, v4⟩ := h11 r0
    refine ⟨(v1.sm h4 (ExN.sm l1 hx) (ExN.sm l1 hx)).add hY1 (fun hh => by omega) ho (fun m hm => rfl) (fun hh => by omega) (fun hh => by omega) (fun hh => by omega) (fun hh => by omega) (fun k' hh => ?_), v3.add hY1 (fun hh => by omega) (by omega) ho ⟨hmx.1, hmx.2.1, hmx.2.2.1, hmx.2.2.2.1, hmx.2.2.2.2, fun q hq => hms q (by rw [y13] at hq; exact hq)⟩ (fun hh => by omega) (fun hh => by omega) (fun hh => by omega) (fun hh => by omega) (fun k' hh => ?_), ?_⟩
    · have : k' = k := by omega
      subst this
      rw [tv 23 (by omega) (by omega), tv 24 (by omega) (by omega), tv 25 (by omega) (by omega), tv 26 (by omega) (by omega), tv 27 (by omega) (by omega), tv 28 (by omega) (by omega)]
      exact ⟨c1, c2, c3, c4, c5, r3⟩
    · have : k' = k := by omega
      subst this
      rw [tv 23 (by omega) (by omega), tv 24 (by omega) (by omega), tv 25 (by omega) (by omega), tv 26 (by omega) (by omega), tv 27 (by omega) (by omega), tv 28 (by omega) (by omega)]
      exact ⟨b2, b1, b3, b4, b5, b6, r2⟩
    · have ht7 := l1.at_ hx h4.1.1
      rw [ht7.2.1, v4]
      show iN (Y.1 5) = iN (Y1.1 5)
      rw [y1o 5 (by omega)]
  · have h9o : ∀ p, p ≠ 0 → J9 p = J p := fun p hp => by rw [hJ9, uJ_o hp, hj.1 p hp]
    have h90 : ∀ i, (i < 11 ∨ 16 < i) → J9 0 i = J 0 i := fun i hi => by rw [hJ9, uJ_sn (by omega), hj.2 i hi]
    obtain ⟨J6, hJ6⟩ : ∃ J6, J6 = uJ (uJ (uJ (uJ (uJ (uJ (uJ J9 23 ip a5) 24 ip a6) 25 ip a7) 26 ip a8) 27 ip a9) 28 ip a10) 22 (6 * g + k) (iN (n + 1)) := ⟨_, rfl⟩
    have hp : ∀ p, (p < 22 ∨ 28 < p) → J6 p = J9 p := fun p c => by rw [hJ6, uJ_o (by omega), uJ_o (by omega), uJ_o (by omega), uJ_o (by omega), uJ_o (by omega), uJ_o (by omega), uJ_o (by omega)]
    have hp0 : ∀ i, 16 < i → J6 0 i = J 0 i := fun i hi => by rw [hp 0 (by omega), h90 i (by omega)]
    have hpo : ∀ p, p ≠ 0 → (p < 22 ∨ 28 < p) → J6 p = J p := fun p c0 c => by rw [hp p c, h9o p c0]
    have h22 : ∀ i, J6 22 i = if i = 6 * g + k then iN (n + 1) else J 22 i := fun i => by
      rw [hJ6, uJ_ap]
      by_cases c : i = 6 * g + k
      · rw [if_pos ⟨rfl, c⟩, if_pos c]
      · rw [if_neg (fun hh => c hh.2), if_neg c, uJ_o (by omega), uJ_o (by omega), uJ_o (by omega), uJ_o (by omega), uJ_o (by omega), uJ_o (by omega), h9o 22 (by omega)]
    have h23 : ∀ p i, 23 ≤ p → p ≤ 28 → i ≠ ip → J6 p i = J p i := fun p i c1 c2 hi => by
      rw [hJ6, uJ_ap, if_neg (by omega), uJ_ap, if_neg (by omega), uJ_ap, if_neg (by omega), uJ_ap, if_neg (by omega), uJ_ap, if_neg (by omega), uJ_ap, if_neg (by omega), uJ_ap, if_neg (by omega), h9o p (by omega)]
    have z23 : J6 23 ip = a5 := by rw [hJ6, uJ_o (by omega), uJ_o (by omega), uJ_o (by omega), uJ_o (by omega), uJ_o (by omega), uJ_o (by omega), uJ_ss]
    have z24 : J6 24 ip = a6 := by rw [hJ6, uJ_o (by omega), uJ_o (by omega), uJ_o (by omega), uJ_o (by omega), uJ_o (by omega), uJ_ss]
    have z25 : J6 25 ip = a7 := by rw [hJ6, uJ_o (by omega), uJ_o (by omega), uJ_o (by omega), uJ_o (by omega), uJ_ss]
    have z26 : J6 26 ip = a8 := by rw [hJ6, uJ_o (by omega), uJ_o (by omega), uJ_o (by omega), uJ_ss]
    have z27 : J6 27 ip = a9 := by rw [hJ6, uJ_o (by omega), uJ_o (by omega), uJ_ss]
    have z28 : J6 28 ip = a10 := by rw [hJ6, uJ_o (by omega), uJ_ss]
    have hw : ∀ p, 23 ≤ p → p ≤ 28 → wr_ g p ip = true := fun p c1 c2 => by
      have : p = 23 ∨ p = 24 ∨ p = 25 ∨ p = 26 ∨ p = 27 ∨ p = 28 := by omega
      rcases this with rfl | rfl | rfl | rfl | rfl | rfl <;> (simp [wr_, lv_]; omega)
    refine ⟨J6, K, Nn, sg, id_, by rw [hJ6], fun p p1 p2 => hp p (by omega), fun i i1 i2 => by rw [hp 0 (by omega)], fun _ _ => rfl, (h6.fr (hpo 9 (by omega) (by omega)) (hpo 10 (by omega) (by omega)) (hp0 20 (by omega))).cg (fun s hs => y1o _ (by have := rw_5 hs; omega)), ?_, ⟨⟨j1, by rw [hp0 19 (by omega)]; exact j2⟩, ?_, fun q hq => ?_, ⟨by rw [hp0 49 (by omega)]; exact j6.1, j6.2⟩, by rw [hp0 56 (by omega)]; exact j7⟩, ?_, fun hq => ?_⟩
    · show Nn = Y1.1 0 + Y1.1 2 + Y1.1 3 + Y1.1 4
      rw [y1o 0 (by omega), y1o 2 (by omega), y1o 3 (by omega), y1o 4 (by omega)]
      exact h6b
    · show J6 11 g = iN (Y1.1 0) ∧ J6 12 g = iN (Y1.1 1) ∧ J6 17 g = iN (Y1.1 2) ∧ J6 19 g = iN (Y1.1 3) ∧ J6 29 g = iN (Y1.1 4) ∧ J6 33 g = iN nl
      rw [y1o 0 (by omega), y1o 1 (by omega), y1o 2 (by omega), y1o 3 (by omega), y1o 4 (by omega), hpo 11 (by omega) (by omega), hpo 12 (by omega) (by omega), hpo 17 (by omega) (by omega), hpo 19 (by omega) (by omega), hpo 29 (by omega) (by omega), hpo 33 (by omega) (by omega)]
      exact ⟨j3, j4⟩
    · rw [y13] at hq
      rw [h22]
      show _ = iN (Y1.1 (10 + q))
      by_cases c : q = k
      · rw [if_pos (by omega), c, y14, ← hn']
      · rw [if_neg (by omega), y1o _ (by omega)]; exact j5 q hq
    · rw [hJ6]
      exact (FrJ.u (hw 23 (by omega) (by omega))).tr ((FrJ.u (hw 24 (by omega) (by omega))).tr ((FrJ.u (hw 25 (by omega) (by omega))).tr ((FrJ.u (hw 26 (by omega) (by omega))).tr ((FrJ.u (hw 27 (by omega) (by omega))).tr ((FrJ.u (hw 28 (by omega) (by omega))).tr (FrJ.u (by simp [wr_, lv_]; omega)))))))
    · obtain ⟨r0, ⟨⟨b1, b2, b3, b4, b5, b6⟩, ⟨c1, c2, c3, c4, c5⟩, d1, d2, d3, d4, d5⟩, r2, r3, r4⟩ := hval hq
      obtain ⟨v1, v2, v3, v4⟩ := h11 r0
      refine v2.add hY1 (fun hh => by omega) (by omega) ho (fun m hm => rfl) (fun p i hp' => ?_) (hpo 34 (by omega) (by omega)) (hpo 35 (by omega) (by omega)) (hpo 41 (by omega) (by omega)) ⟨fun p i p1 p2 _ => by rw [hpo p (by omega) (by omega)], fun p i p1 _ => by rw [hpo p (by omega) (by omega)]⟩ (fun hh => by omega) (fun hh => by omega) (fun hh => by omega) (fun hh => by omega) (fun k' hh => ?_)
      · by_cases c : 23 ≤ p ∧ p ≤ 28
        · refine h23 p i c.1 c.2 (fun hh => ?_)
          rcases hp' with hp' | hp' | hp' | hp' | hp'
          · omega
          · omega
          · omega
          · omega
          · obtain ⟨_, _, k', s, d1, d2, d3⟩ := hp'
            have d4 : xs Y k' ≤ 6 := hm9.2.2.2.2.2.2.1 k' d2
            have : k' = k := by omega
            subst this
            rw [← hn] at d3
            omega
        · have : 13 ≤ p ∧ p ≠ 22 := by rcases hp' with hp' | hp' | hp' | hp' | hp' <;> omega
          rw [hpo p (by omega) (by omega)]
      · have : k' = k := by omega
        subst this
        rw [tv 23 (by omega) (by omega), tv 24 (by omega) (by omega), tv 25 (by omega) (by omega), tv 26 (by omega) (by omega), tv 27 (by omega) (by omega), tv 28 (by omega) (by omega), ← hn, ← hip, z23, z24, z25, z26, z27, z28]
        exact ⟨d1, d2, d3, d4, d5, r4⟩
  · have hw0 : ∀ p, p ≠ 0 → J9 p = J1 p := fun p hp => by
      rcases p_sign (Xp := Xp) (T := T1) hP (c := 59) (k := 4) (Or.inl ⟨rfl, rfl⟩) with ⟨Q4, J4, s1, s2, s3, s4, s5, s6, s7⟩ | ⟨Q4, J4, s1, s2, s3, s4, s5⟩
      · have : some J4 = some J9 := s2.symm.trans m1
        rw [← Option.some.inj this, s5.1 p hp]
      · have : some J4 = some J9 := s2.symm.trans m1
        rw [← Option.some.inj this, s5.1 p hp]
    have w19 : J9 0 19 = iN g := by
      rcases p_sign (Xp := Xp) (T := T1) hP (c := 59) (k := 4) (Or.inl ⟨rfl, rfl⟩) with ⟨Q4, J4, s1, s2, s3, s4, s5, s6, s7⟩ | ⟨Q4, J4, s1, s2, s3, s4, s5⟩
      · have : some J4 = some J9 := s2.symm.trans m1
        rw [← Option.some.inj this, s5.2 19 (by omega), hj.2 19 (by omega)]; exact j2
      · have : some J4 = some J9 := s2.symm.trans m1
        rw [← Option.some.inj this, s5.2 19 (by omega), hj.2 19 (by omega)]; exact j2
    unfold M_tellStep_B174
    rw [m1, Option.bind_some, if_neg (by rw [m2]; decide), if_pos (by rw [i_0, iN_le (by omega) (by omega)]; omega), hW J9 w19 (by rw [hw0 22 (by omega), hj.1 22 (by omega), j5 k hk, ← hn]), Option.bind_some]
  · unfold M_tellStep_B174
    rw [m1, Option.bind_some, if_pos m4, Option.bind_some]
end ST1
