/-! PURE LAW 66: a text is read, on both sides -/
set_option maxRecDepth 100000
/-- what of the model a reading may change, in all -/
def rr_ (g o i : Nat) : Bool := wr_ g o i || decide ((o = 0 ∧ (i = 2 ∨ i = 4 ∨ i = 10 ∨ i = 17 ∨ i = 19)) ∨ (2 ≤ o ∧ o ≤ 5))
def FrR (g : Nat) (J J1 : Ji) : Prop := ∀ o i, rr_ g o i = false → J1 o i = J o i
theorem FrR.rf {g : Nat} {J : Ji} : FrR g J J := fun _ _ _ => rfl
theorem FrR.tr {g : Nat} {J J1 J2 : Ji} (h : FrR g J J1) (h2 : FrR g J1 J2) : FrR g J J2 := fun o i hw => by rw [h2 o i hw, h o i hw]
theorem FrR.u {g : Nat} {J : Ji} {o i : Nat} {v : Int32} (h : rr_ g o i = true) : FrR g J (uJ J o i v) := fun p q hw => by
  rw [uJ_ap]
  by_cases c : p = o ∧ q = i
  · rw [c.1, c.2, h] at hw
    cases hw
  · rw [if_neg c]
theorem FrJ.r {g : Nat} {J J1 : Ji} (h : FrJ g J J1) : FrR g J J1 := fun o i hw => h o i (by unfold rr_ at hw; simp only [Bool.or_eq_false_iff] at hw; exact hw.1)
section RY
variable {F g n : Nat} {K : Jl}
/-- the model, once its tape is copied -/
def rdP (F : Nat) (J : Ji) (K : Jl) : Option (Int32 × Ji × Jl) := lt_ (uJ J 0 2 0) fun J2 => (M_cut F J2 K).bind fun r3 => lt_ (uJ r3.1 0 11 0) fun J4 => lt_ (uJ J4 0 12 0) fun J5 => lt_ (uJ J5 0 13 0) fun J6 => lt_ (uJ J6 0 15 0) fun J7 => lt_ (uJ J7 0 19 (1 - (J7 0 18))) fun J8 => lt_ (uJ J8 0 20 0) fun J9 => stI J9 11 2 (J9 0 19) 0 fun J10 => stI J10 12 2 (J10 0 19) 0 fun J11 => stI J11 17 2 (J11 0 19) 0 fun J12 => stI J12 19 2 (J12 0 19) 0 fun J13 => stI J13 29 2 (J13 0 19) 0 fun J14 => stI J14 33 2 (J14 0 19) 0 fun J15 => stI J15 41 2 (J15 0 19) 480 fun J16 => lt_ (uJ J16 0 49 (50 * (J16 0 19))) fun J17 => lt_ (uJ J17 0 56 (420 * (J17 0 19))) fun J18 => M_read_L177 F F 0 J18 r3.2
theorem cp_10 (hn : n ≤ 2000) : ∀ d m i (J : Ji), i + d = n → d < m → J 0 4 = iN n → (∀ k, k < n → byt (J 1 k)) → ∃ J1, M_read_L10 F m (iN i) J K = rdP F J1 K ∧ (∀ p, p ≠ 2 → J1 p = J p) ∧ ∀ k, J1 2 k = if i ≤ k ∧ k < n then J 1 k else J 2 k := by
  intro d
  induction d with
  | zero =>
    intro m i J hd hm h4 hb
    obtain ⟨m, rfl⟩ : ∃ m', m = m' + 1 := ⟨m - 1, by omega⟩
    refine ⟨J, ?_, fun _ _ => rfl, fun k => by rw [if_neg (by omega)]⟩
    show M_read_B10 F (M_read_L10 F m) (iN i) J K = _
    unfold M_read_B10
    rw [if_pos (by rw [h4, iN_le (by omega) (by omega)]; omega)]
    rfl
  | succ d ih =>
    intro m i J hd hm h4 hb
    obtain ⟨m, rfl⟩ : ∃ m', m = m' + 1 := ⟨m - 1, by omega⟩
    obtain ⟨J1, q1, q2, q3⟩ := ih m (i + 1) (uJ J 2 i (J 1 i)) (by omega) (by omega) (by rw [uJ_o (by omega)]; exact h4) (fun k hk => by rw [uJ_o (by omega)]; exact hb k hk)
    refine ⟨J1, ?_, fun p hp => by rw [q2 p hp, uJ_o hp], fun k => ?_⟩
    · rw [← q1]
      show M_read_B10 F (M_read_L10 F m) (iN i) J K = _
      unfold M_read_B10
      rw [if_neg (by rw [h4, iN_le (by omega) (by omega)]; omega), ldI_n (by omega) (by omega), stI_n (by omega) (by omega), lt_e, i_1, iN_add, hb i (by omega)]
    · rw [q3, uJ_o (by omega), uJ_ap]
      by_cases c : i ≤ k ∧ k < n
      · rw [if_pos c]
        by_cases c2 : k = i
        · rw [if_neg (by omega), if_pos ⟨rfl, c2⟩, c2]
        · rw [if_pos (by omega)]
      · rw [if_neg c, if_neg (by omega), if_neg (by omega)]
theorem cp_177 (hg : g < 2) : ∀ d m i (J : Ji), i + d = 6 → d < m → J 0 19 = iN g → ∃ J1, M_read_L177 F m (iN i) J K = M_read_L219 F F J1 K ∧ (∀ p, p ≠ 34 → p ≠ 35 → J1 p = J p) ∧ (∀ k, i ≤ k → k < 6 → J1 34 (6 * g + k) = 0 ∧ J1 35 (6 * g + k) = 0) ∧ (∀ k, k < 6 * g + i → J1 34 k = J 34 k ∧ J1 35 k = J 35 k) ∧ FrJ g J J1 := by
  intro d
  induction d with
  | zero =>
    intro m i J hd hm h4
    obtain ⟨m, rfl⟩ : ∃ m', m = m' + 1 := ⟨m - 1, by omega⟩
    refine ⟨J, ?_, fun _ _ _ => rfl, fun k h1 h2 => by omega, fun _ _ => ⟨rfl, rfl⟩, FrJ.rf⟩
    show M_read_B177 F (M_read_L177 F m) (iN i) J K = _
    unfold M_read_B177
    rw [if_pos (by rw [i_6, iN_le (by omega) (by omega)]; omega)]
  | succ d ih =>
    intro m i J hd hm h4
    obtain ⟨m, rfl⟩ : ∃ m', m = m' + 1 := ⟨m - 1, by omega⟩
    obtain ⟨J1, q1, q2, q3, q4, q5⟩ := ih m (i + 1) (uJ (uJ J 34 (6 * g + i) 0) 35 (6 * g + i) 0) (by omega) (by omega) (by rw [uJ_o (by omega), uJ_o (by omega)]; exact h4)
    refine ⟨J1, ?_, fun p h1 h2 => by rw [q2 p h1 h2, uJ_o h2, uJ_o h1], fun k h1 h2 => ?_, fun k hk => ?_, ((FrJ.u (by simp [wr_, lv_]; omega)).tr (FrJ.u (by simp [wr_, lv_]; omega))).tr q5⟩
    · rw [← q1]
      show M_read_B177 F (M_read_L177 F m) (iN i) J K = _
      unfold M_read_B177
      rw [if_neg (by rw [i_6, iN_le (by omega) (by omega)]; omega), h4, i_6, iN_mul, iN_add, stI_n (by omega) (by omega), uJ_o (by omega), h4, iN_mul, iN_add, stI_n (by omega) (by omega), lt_e, i_1, iN_add]
    · by_cases c : k = i
      · obtain ⟨r1, r2⟩ := q4 (6 * g + k) (by omega)
        rw [r1, r2, c, uJ_ss, uJ_o (by omega), uJ_ss]
        exact ⟨rfl, rfl⟩
      · exact q3 k (by omega) h2
    · obtain ⟨r1, r2⟩ := q4 k (by omega)
      rw [r1, r2, uJ_o (by omega), uJ_ap, if_neg (by omega), uJ_ap, if_neg (by omega), uJ_o (by omega)]
      exact ⟨rfl, rfl⟩
/-- the model as it begins to tell -/
theorem pr_ok (hF : 2100 ≤ F) (hg : g < 2) {J Ja : Ji} {Ka : Jl} (hc : M_cut F (uJ J 0 2 0) K = some (Ja, Ka)) (h18 : Ja 0 18 = iN (1 - g)) : ∃ JF, rdP F J K = M_read_L219 F F JF Ka ∧ (JF 0 11 = iN 0 ∧ JF 0 12 = iN 0 ∧ JF 0 13 = iN 0 ∧ JF 0 15 = iN 0 ∧ JF 0 19 = iN g ∧ JF 0 20 = iN 0 ∧ JF 0 49 = iN (50 * g) ∧ JF 0 56 = iN (420 * g)) ∧ (JF 11 g = iN 0 ∧ JF 12 g = iN 0 ∧ JF 17 g = iN 0 ∧ JF 19 g = iN 0 ∧ JF 29 g = iN 0 ∧ JF 33 g = iN 0 ∧ JF 41 g = iN 480) ∧ (∀ k, k < 6 → JF 34 (6 * g + k) = JF 35 (6 * g + k)) ∧ (∀ p, 3 ≤ p → p ≤ 5 → JF p = Ja p) ∧ FrR g Ja JF ∧ JF 0 2 = Ja 0 2 := by
  have e19 : (1 : Int32) - iN (1 - g) = iN g := by rw [i_1, iN_sub (by omega)]; congr 1; omega
  obtain ⟨J8, hJ8⟩ : ∃ J8, J8 = uJ (uJ (uJ (uJ (uJ (uJ Ja 0 11 0) 0 12 0) 0 13 0) 0 15 0) 0 19 (iN g)) 0 20 0 := ⟨_, rfl⟩
  obtain ⟨J16, hJ16⟩ : ∃ J16, J16 = uJ (uJ (uJ (uJ (uJ (uJ (uJ J8 11 g 0) 12 g 0) 17 g 0) 19 g 0) 29 g 0) 33 g 0) 41 g 480 := ⟨_, rfl⟩
  obtain ⟨J18, hJ18⟩ : ∃ J18, J18 = uJ (uJ J16 0 49 (iN (50 * g))) 0 56 (iN (420 * g)) := ⟨_, rfl⟩
  have a8 : ∀ i, J8 0 i = if i = 20 then 0 else if i = 19 then iN g else if i = 15 then 0 else if i = 13 then 0 else if i = 12 then 0 else if i = 11 then 0 else Ja 0 i := fun i => by
    rw [hJ8, uJ_ap, uJ_ap, uJ_ap, uJ_ap, uJ_ap, uJ_ap]
    simp only [true_and]
  have b8 : ∀ p, p ≠ 0 → J8 p = Ja p := fun p hp => by rw [hJ8, uJ_o hp, uJ_o hp, uJ_o hp, uJ_o hp, uJ_o hp, uJ_o hp]
  have a16 : ∀ i, J16 0 i = J8 0 i := fun i => by rw [hJ16, uJ_o (by omega), uJ_o (by omega), uJ_o (by omega), uJ_o (by omega), uJ_o (by omega), uJ_o (by omega), uJ_o (by omega)]
  have z19 : J8 0 19 = iN g := by rw [a8, if_neg (by omega), if_pos rfl]
  have z16 : J16 0 19 = iN g := by rw [a16]; exact z19
  have hR : rdP F J K = M_read_L177 F F (iN 0) J18 Ka := by
    unfold rdP
    rw [lt_e, hc, Option.bind_some]
    simp only [lt_e]
    rw [uJ_sn (show 18 ≠ 15 by omega), uJ_sn (show 18 ≠ 13 by omega), uJ_sn (show 18 ≠ 12 by omega), uJ_sn (show 18 ≠ 11 by omega), h18, e19, ← hJ8, z19, stI_n (by omega) (by omega), uJ_o (by omega), z19, stI_n (by omega) (by omega), uJ_o (by omega), uJ_o (by omega), z19, stI_n (by omega) (by omega), uJ_o (by omega), uJ_o (by omega), uJ_o (by omega), z19, stI_n (by omega) (by omega), uJ_o (by omega), uJ_o (by omega), uJ_o (by omega), uJ_o (by omega), z19, stI_n (by omega) (by omega), uJ_o (by omega), uJ_o (by omega), uJ_o (by omega), uJ_o (by omega), uJ_o (by omega), z19, stI_n (by omega) (by omega), uJ_o (by omega), uJ_o (by omega), uJ_o (by omega), uJ_o (by omega), uJ_o (by omega), uJ_o (by omega), z19, stI_n (by omega) (by omega), ← hJ16, z16, show (50 : Int32) * iN g = iN (50 * g) by rw [show (50 : Int32) = iN 50 from rfl, iN_mul], uJ_sn (by omega), z16, show (420 : Int32) * iN g = iN (420 * g) by rw [show (420 : Int32) = iN 420 from rfl, iN_mul], ← hJ18]
    rfl
  have a18 : ∀ i, J18 0 i = if i = 56 then iN (420 * g) else if i = 49 then iN (50 * g) else J8 0 i := fun i => by
    rw [hJ18, uJ_ap, uJ_ap, a16]
    simp only [true_and]
  have b18 : ∀ p, p ≠ 0 → J18 p = J16 p := fun p hp => by rw [hJ18, uJ_o hp, uJ_o hp]
  have c18 : ∀ p, p ≠ 0 → p ≠ 11 → p ≠ 12 → p ≠ 17 → p ≠ 19 → p ≠ 29 → p ≠ 33 → p ≠ 41 → J18 p = Ja p := fun p p0 p1 p2 p3 p4 p5 p6 p7 => by rw [b18 p p0, hJ16, uJ_o p7, uJ_o p6, uJ_o p5, uJ_o p4, uJ_o p3, uJ_o p2, uJ_o p1, b8 p p0]
  obtain ⟨JF, q1, q2, q3, q4, q5⟩ := cp_177 (F := F) (K := Ka) hg 6 F 0 J18 (by omega) (by omega) (by rw [a18, if_neg (by omega), if_neg (by omega)]; exact z19)
  have y0 : ∀ i, JF 0 i = J18 0 i := fun i => by rw [q2 0 (by omega) (by omega)]
  have hfr : FrR g Ja JF := by
    have f1 : FrR g Ja J8 := by
      rw [hJ8]
      exact (((((FrR.u (by simp [rr_, wr_])).tr (FrR.u (by simp [rr_, wr_]))).tr (FrR.u (by simp [rr_, wr_]))).tr (FrR.u (by simp [rr_, wr_]))).tr (FrR.u (by simp [rr_, wr_]))).tr (FrR.u (by simp [rr_, wr_]))
    have f2 : FrR g J8 J16 := by
      rw [hJ16]
      exact ((((((FrR.u (by simp [rr_, wr_, lv_])).tr (FrR.u (by simp [rr_, wr_, lv_]))).tr (FrR.u (by simp [rr_, wr_, lv_]))).tr (FrR.u (by simp [rr_, wr_, lv_]))).tr (FrR.u (by simp [rr_, wr_, lv_]))).tr (FrR.u (by simp [rr_, wr_]))).tr (FrR.u (by simp [rr_, wr_, lv_]))
    have f3 : FrR g J16 J18 := by
      rw [hJ18]
      exact (FrR.u (by simp [rr_, wr_])).tr (FrR.u (by simp [rr_, wr_]))
    exact ((f1.tr f2).tr f3).tr q5.r
  refine ⟨JF, by rw [hR, q1], ⟨?_, ?_, ?_, ?_, ?_, ?_, ?_, ?_⟩, ⟨?_, ?_, ?_, ?_, ?_, ?_, ?_⟩, fun k hk => ?_, fun p p1 p2 => by rw [q2 p (by omega) (by omega), c18 p (by omega) (by omega) (by omega) (by omega) (by omega) (by omega) (by omega) (by omega)], hfr, by rw [y0, a18, if_neg (by omega), if_neg (by omega), a8]; rfl⟩
  · rw [y0, a18, if_neg (by omega), if_neg (by omega), a8]; rfl
  · rw [y0, a18, if_neg (by omega), if_neg (by omega), a8]; rfl
  · rw [y0, a18, if_neg (by omega), if_neg (by omega), a8]; rfl
  · rw [y0, a18, if_neg (by omega), if_neg (by omega), a8]; rfl
  · rw [y0, a18, if_neg (by omega), if_neg (by omega), a8]; rfl
  · rw [y0, a18, if_neg (by omega), if_neg (by omega), a8]; rfl
  · rw [y0, a18, if_neg (by omega), if_pos rfl]
  · rw [y0, a18, if_pos rfl]
  · rw [q2 11 (by omega) (by omega), b18 11 (by omega), hJ16, uJ_o (by omega), uJ_o (by omega), uJ_o (by omega), uJ_o (by omega), uJ_o (by omega), uJ_o (by omega), uJ_ss]; rfl
  · rw [q2 12 (by omega) (by omega), b18 12 (by omega), hJ16, uJ_o (by omega), uJ_o (by omega), uJ_o (by omega), uJ_o (by omega), uJ_o (by omega), uJ_ss]; rfl
  · rw [q2 17 (by omega) (by omega), b18 17 (by omega), hJ16, uJ_o (by omega), uJ_o (by omega), uJ_o (by omega), uJ_o (by omega), uJ_ss]; rfl
  · rw [q2 19 (by omega) (by omega), b18 19 (by omega), hJ16, uJ_o (by omega), uJ_o (by omega), uJ_o (by omega), uJ_ss]; rfl
  · rw [q2 29 (by omega) (by omega), b18 29 (by omega), hJ16, uJ_o (by omega), uJ_o (by omega), uJ_ss]; rfl
  · rw [q2 33 (by omega) (by omega), b18 33 (by omega), hJ16, uJ_o (by omega), uJ_ss]; rfl
  · rw [q2 41 (by omega) (by omega), b18 41 (by omega), hJ16, uJ_ss]; rfl
  · obtain ⟨r1, r2⟩ := q3 k (by omega) hk
    rw [r1, r2]
end RY
