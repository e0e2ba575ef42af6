/-! PURE LAW 53: what is read of an expression, on both sides -/
set_option maxRecDepth 100000
abbrev Ro : Type := Option ((Ji × Jr × Th) ⊕ (Option Nat × Ji × Th))
def gB87 (sm : Ji → Th → Ro) (Xp : Jr) (Q : Ji) (T : Th) : Ro :=
  xb (R_isSign Xp 40 Q T) fun r12 => if r12.1 = 0 then
    (R_wrong r12.2.2 1 r12.2.1).bind fun r13 => some (.inl (r13, Xp, r12.2.2))
  else
    if (r12.2.1 9 4) = 6 then
      (R_wrong r12.2.2 2 r12.2.1).bind fun r14 => some (.inl (r14, Xp, r12.2.2))
    else
      lt_ (uJ r12.2.1 9 4 ((r12.2.1 9 4) + 1)) fun Q15 => xb (R_pass Xp Q15 r12.2.2) fun r16 => xb (sm r16.1 r16.2) fun r17 => xb (R_sign Xp 41 r17.2.1 r17.2.2) fun r18 => lt_ (uJ r18.1 9 4 ((r18.1 9 4) - 1)) fun Q19 => some (.inr (r17.1, Q19, r18.2))
def gU (F : Nat) (sm : Ji → Th → Ro) (Xp : Jr) (Q : Ji) (T : Th) : Ro :=
  xb (R_sort Xp Q T) fun r1 => if r1.1 = 1 then
    xb (R_pass Xp r1.2.1 r1.2.2) fun r2 => nO r2.2 16 1 fun T3 => (T_number F r2.1 T3 ((r2.1 9 3) - 1)).bind fun r4 => (A_Number (tN r2.2) r4 T3).bind fun r5 => some (.inr ((some (tN r2.2)), r2.1, r5))
  else
    xb (R_sort Xp r1.2.1 r1.2.2) fun r6 => if r6.1 = 3 then
      ldI r6.2.1 8 2001 (r6.2.1 9 3) fun x7 => if x7 < 15 then
        gB87 sm Xp r6.2.1 r6.2.2
      else
        xb (R_pass Xp r6.2.1 r6.2.2) fun r8 => nO r8.2 17 1 fun T9 => ldI r8.1 8 2001 ((r8.1 9 3) - 1) fun x10 => (A_Var (tN r8.2) (x10 - 15) T9).bind fun r11 => some (.inr ((some (tN r8.2)), r8.1, r11))
    else
      gB87 sm Xp r6.2.1 r6.2.2
def gB23 (un : Ji → Th → Ro) (k5 : Option Nat → Ji → Th → Ro) (Xp : Jr) (a1 : Option Nat) (Q : Ji) (T : Th) : Ro :=
  ldI Q 8 2001 (Q 9 3) fun x4 => xb (R_pass Xp Q T) fun r5 => nO r5.2 18 3 fun T6 => xb (un r5.1 T6) fun r7 => (r7.1).bind fun b8 => (a1).bind fun b9 => (A_Joined (tN r5.2) x4 b9 b8 r7.2.2).bind fun r10 => k5 (some (tN r5.2)) r7.2.1 r10
def gB5 (c1 c2 : Int32) (un : Ji → Th → Ro) (k5 : Option Nat → Ji → Th → Ro) (Xp : Jr) (a1 : Option Nat) (Q : Ji) (T : Th) : Ro :=
  xb (R_isSign Xp c1 Q T) fun r2 => if r2.1 = 0 then
    xb (R_isSign Xp c2 r2.2.1 r2.2.2) fun r3 => if r3.1 = 0 then
      some (.inr (a1, r3.2.1, r3.2.2))
    else
      gB23 un k5 Xp a1 r3.2.1 r3.2.2
  else
    gB23 un k5 Xp a1 r2.2.1 r2.2.2
def gL5 (c1 c2 : Int32) (un : Ji → Th → Ro) (Xp : Jr) : Nat → Option Nat → Ji → Th → Ro
  | 0, _, _, _ => none
  | n + 1, a1, Q, T => gB5 c1 c2 un (gL5 c1 c2 un Xp n) Xp a1 Q T
def gG (F : Nat) (c1 c2 : Int32) (un : Ji → Th → Ro) (Xp : Jr) (Q : Ji) (T : Th) : Ro :=
  xb (un Q T) fun r1 => gL5 c1 c2 un Xp F r1.1 r1.2.1 r1.2.2
def gS (F : Nat) (Xp : Jr) : Nat → Ji → Th → Ro
  | 0 => fun _ _ => none
  | d + 1 => gG F 43 45 (gG F 42 47 (gU F (gS F Xp d) Xp) Xp) Xp
theorem r_u0 (F : Nat) (Xp : Jr) : R_unit_0 F Xp = gU F (gS F Xp 0) Xp := by
  funext Q T
  rfl
theorem r_p0L (F : Nat) (Xp : Jr) : ∀ n, R_part_0_L5 F Xp n = gL5 42 47 (gU F (gS F Xp 0) Xp) Xp n := by
  intro n
  induction n with
  | zero => rfl
  | succ n ih =>
    funext a Q T
    show R_part_0_B5 F (R_part_0_L5 F Xp n) Xp a Q T = gB5 42 47 _ (gL5 42 47 _ Xp n) Xp a Q T
    rw [ih]
    unfold R_part_0_B5 R_part_0_B23 gB5 gB23
    rw [r_u0]
theorem r_p0 (F : Nat) (Xp : Jr) : R_part_0 F Xp = gG F 42 47 (gU F (gS F Xp 0) Xp) Xp := by
  funext Q T
  show R_part_0 F Xp Q T = gG F 42 47 (gU F (gS F Xp 0) Xp) Xp Q T
  unfold R_part_0
  rw [r_u0, r_p0L]
  rfl
theorem r_s0L (F : Nat) (Xp : Jr) : ∀ n, R_sum_0_L5 F Xp n = gL5 43 45 (gG F 42 47 (gU F (gS F Xp 0) Xp) Xp) Xp n := by
  intro n
  induction n with
  | zero => rfl
  | succ n ih =>
    funext a Q T
    show R_sum_0_B5 F (R_sum_0_L5 F Xp n) Xp a Q T = gB5 43 45 _ (gL5 43 45 _ Xp n) Xp a Q T
    rw [ih]
    unfold R_sum_0_B5 R_sum_0_B23 gB5 gB23
    rw [r_p0]
theorem r_s0 (F : Nat) (Xp : Jr) : R_sum_0 F Xp = gS F Xp 1 := by
  funext Q T
  show R_sum_0 F Xp Q T = gG F 43 45 (gG F 42 47 (gU F (gS F Xp 0) Xp) Xp) Xp Q T
  unfold R_sum_0
  rw [r_p0, r_s0L]
  rfl
theorem r_u1 (F : Nat) (Xp : Jr) : R_unit_1 F Xp = gU F (gS F Xp 1) Xp := by
  funext Q T
  unfold R_unit_1 gU
  simp only [R_unit_1_B87, gB87, r_s0]
theorem r_p1L (F : Nat) (Xp : Jr) : ∀ n, R_part_1_L5 F Xp n = gL5 42 47 (gU F (gS F Xp 1) Xp) Xp n := by
  intro n
  induction n with
  | zero => rfl
  | succ n ih =>
    funext a Q T
    show R_part_1_B5 F (R_part_1_L5 F Xp n) Xp a Q T = gB5 42 47 _ (gL5 42 47 _ Xp n) Xp a Q T
    rw [ih]
    unfold R_part_1_B5 R_part_1_B23 gB5 gB23
    rw [r_u1]
theorem r_p1 (F : Nat) (Xp : Jr) : R_part_1 F Xp = gG F 42 47 (gU F (gS F Xp 1) Xp) Xp := by
  funext Q T
  show R_part_1 F Xp Q T = gG F 42 47 (gU F (gS F Xp 1) Xp) Xp Q T
  unfold R_part_1
  rw [r_u1, r_p1L]
  rfl
theorem r_s1L (F : Nat) (Xp : Jr) : ∀ n, R_sum_1_L5 F Xp n = gL5 43 45 (gG F 42 47 (gU F (gS F Xp 1) Xp) Xp) Xp n := by
  intro n
  induction n with
  | zero => rfl
  | succ n ih =>
    funext a Q T
    show R_sum_1_B5 F (R_sum_1_L5 F Xp n) Xp a Q T = gB5 43 45 _ (gL5 43 45 _ Xp n) Xp a Q T
    rw [ih]
    unfold R_sum_1_B5 R_sum_1_B23 gB5 gB23
    rw [r_p1]
theorem r_s1 (F : Nat) (Xp : Jr) : R_sum_1 F Xp = gS F Xp 2 := by
  funext Q T
  show R_sum_1 F Xp Q T = gG F 43 45 (gG F 42 47 (gU F (gS F Xp 1) Xp) Xp) Xp Q T
  unfold R_sum_1
  rw [r_p1, r_s1L]
  rfl
theorem r_u2 (F : Nat) (Xp : Jr) : R_unit_2 F Xp = gU F (gS F Xp 2) Xp := by
  funext Q T
  unfold R_unit_2 gU
  simp only [R_unit_2_B87, gB87, r_s1]
theorem r_p2L (F : Nat) (Xp : Jr) : ∀ n, R_part_2_L5 F Xp n = gL5 42 47 (gU F (gS F Xp 2) Xp) Xp n := by
  intro n
  induction n with
  | zero => rfl
  | succ n ih =>
    funext a Q T
    show R_part_2_B5 F (R_part_2_L5 F Xp n) Xp a Q T = gB5 42 47 _ (gL5 42 47 _ Xp n) Xp a Q T
    rw [ih]
    unfold R_part_2_B5 R_part_2_B23 gB5 gB23
    rw [r_u2]
theorem r_p2 (F : Nat) (Xp : Jr) : R_part_2 F Xp = gG F 42 47 (gU F (gS F Xp 2) Xp) Xp := by
  funext Q T
  show R_part_2 F Xp Q T = gG F 42 47 (gU F (gS F Xp 2) Xp) Xp Q T
  unfold R_part_2
  rw [r_u2, r_p2L]
  rfl
theorem r_s2L (F : Nat) (Xp : Jr) : ∀ n, R_sum_2_L5 F Xp n = gL5 43 45 (gG F 42 47 (gU F (gS F Xp 2) Xp) Xp) Xp n := by
  intro n
  induction n with
  | zero => rfl
  | succ n ih =>
    funext a Q T
    show R_sum_2_B5 F (R_sum_2_L5 F Xp n) Xp a Q T = gB5 43 45 _ (gL5 43 45 _ Xp n) Xp a Q T
    rw [ih]
    unfold R_sum_2_B5 R_sum_2_B23 gB5 gB23
    rw [r_p2]
theorem r_s2 (F : Nat) (Xp : Jr) : R_sum_2 F Xp = gS F Xp 3 := by
  funext Q T
  show R_sum_2 F Xp Q T = gG F 43 45 (gG F 42 47 (gU F (gS F Xp 2) Xp) Xp) Xp Q T
  unfold R_sum_2
  rw [r_p2, r_s2L]
  rfl
theorem r_u3 (F : Nat) (Xp : Jr) : R_unit_3 F Xp = gU F (gS F Xp 3) Xp := by
  funext Q T
  unfold R_unit_3 gU
  simp only [R_unit_3_B87, gB87, r_s2]
theorem r_p3L (F : Nat) (Xp : Jr) : ∀ n, R_part_3_L5 F Xp n = gL5 42 47 (gU F (gS F Xp 3) Xp) Xp n := by
  intro n
  induction n with
  | zero => rfl
  | succ n ih =>
    funext a Q T
    show R_part_3_B5 F (R_part_3_L5 F Xp n) Xp a Q T = gB5 42 47 _ (gL5 42 47 _ Xp n) Xp a Q T
    rw [ih]
    unfold R_part_3_B5 R_part_3_B23 gB5 gB23
    rw [r_u3]
theorem r_p3 (F : Nat) (Xp : Jr) : R_part_3 F Xp = gG F 42 47 (gU F (gS F Xp 3) Xp) Xp := by
  funext Q T
  show R_part_3 F Xp Q T = gG F 42 47 (gU F (gS F Xp 3) Xp) Xp Q T
  unfold R_part_3
  rw [r_u3, r_p3L]
  rfl
theorem r_s3L (F : Nat) (Xp : Jr) : ∀ n, R_sum_3_L5 F Xp n = gL5 43 45 (gG F 42 47 (gU F (gS F Xp 3) Xp) Xp) Xp n := by
  intro n
  induction n with
  | zero => rfl
  | succ n ih =>
    funext a Q T
    show R_sum_3_B5 F (R_sum_3_L5 F Xp n) Xp a Q T = gB5 43 45 _ (gL5 43 45 _ Xp n) Xp a Q T
    rw [ih]
    unfold R_sum_3_B5 R_sum_3_B23 gB5 gB23
    rw [r_p3]
theorem r_s3 (F : Nat) (Xp : Jr) : R_sum_3 F Xp = gS F Xp 4 := by
  funext Q T
  show R_sum_3 F Xp Q T = gG F 43 45 (gG F 42 47 (gU F (gS F Xp 3) Xp) Xp) Xp Q T
  unfold R_sum_3
  rw [r_p3, r_s3L]
  rfl
theorem r_u4 (F : Nat) (Xp : Jr) : R_unit_4 F Xp = gU F (gS F Xp 4) Xp := by
  funext Q T
  unfold R_unit_4 gU
  simp only [R_unit_4_B87, gB87, r_s3]
theorem r_p4L (F : Nat) (Xp : Jr) : ∀ n, R_part_4_L5 F Xp n = gL5 42 47 (gU F (gS F Xp 4) Xp) Xp n := by
  intro n
  induction n with
  | zero => rfl
  | succ n ih =>
    funext a Q T
    show R_part_4_B5 F (R_part_4_L5 F Xp n) Xp a Q T = gB5 42 47 _ (gL5 42 47 _ Xp n) Xp a Q T
    rw [ih]
    unfold R_part_4_B5 R_part_4_B23 gB5 gB23
    rw [r_u4]
theorem r_p4 (F : Nat) (Xp : Jr) : R_part_4 F Xp = gG F 42 47 (gU F (gS F Xp 4) Xp) Xp := by
  funext Q T
  show R_part_4 F Xp Q T = gG F 42 47 (gU F (gS F Xp 4) Xp) Xp Q T
  unfold R_part_4
  rw [r_u4, r_p4L]
  rfl
theorem r_s4L (F : Nat) (Xp : Jr) : ∀ n, R_sum_4_L5 F Xp n = gL5 43 45 (gG F 42 47 (gU F (gS F Xp 4) Xp) Xp) Xp n := by
  intro n
  induction n with
  | zero => rfl
  | succ n ih =>
    funext a Q T
    show R_sum_4_B5 F (R_sum_4_L5 F Xp n) Xp a Q T = gB5 43 45 _ (gL5 43 45 _ Xp n) Xp a Q T
    rw [ih]
    unfold R_sum_4_B5 R_sum_4_B23 gB5 gB23
    rw [r_p4]
theorem r_s4 (F : Nat) (Xp : Jr) : R_sum_4 F Xp = gS F Xp 5 := by
  funext Q T
  show R_sum_4 F Xp Q T = gG F 43 45 (gG F 42 47 (gU F (gS F Xp 4) Xp) Xp) Xp Q T
  unfold R_sum_4
  rw [r_p4, r_s4L]
  rfl
theorem r_u5 (F : Nat) (Xp : Jr) : R_unit_5 F Xp = gU F (gS F Xp 5) Xp := by
  funext Q T
  unfold R_unit_5 gU
  simp only [R_unit_5_B87, gB87, r_s4]
theorem r_p5L (F : Nat) (Xp : Jr) : ∀ n, R_part_5_L5 F Xp n = gL5 42 47 (gU F (gS F Xp 5) Xp) Xp n := by
  intro n
  induction n with
  | zero => rfl
  | succ n ih =>
    funext a Q T
    show R_part_5_B5 F (R_part_5_L5 F Xp n) Xp a Q T = gB5 42 47 _ (gL5 42 47 _ Xp n) Xp a Q T
    rw [ih]
    unfold R_part_5_B5 R_part_5_B23 gB5 gB23
    rw [r_u5]
theorem r_p5 (F : Nat) (Xp : Jr) : R_part_5 F Xp = gG F 42 47 (gU F (gS F Xp 5) Xp) Xp := by
  funext Q T
  show R_part_5 F Xp Q T = gG F 42 47 (gU F (gS F Xp 5) Xp) Xp Q T
  unfold R_part_5
  rw [r_u5, r_p5L]
  rfl
theorem r_s5L (F : Nat) (Xp : Jr) : ∀ n, R_sum_5_L5 F Xp n = gL5 43 45 (gG F 42 47 (gU F (gS F Xp 5) Xp) Xp) Xp n := by
  intro n
  induction n with
  | zero => rfl
  | succ n ih =>
    funext a Q T
    show R_sum_5_B5 F (R_sum_5_L5 F Xp n) Xp a Q T = gB5 43 45 _ (gL5 43 45 _ Xp n) Xp a Q T
    rw [ih]
    unfold R_sum_5_B5 R_sum_5_B23 gB5 gB23
    rw [r_p5]
theorem r_s5 (F : Nat) (Xp : Jr) : R_sum_5 F Xp = gS F Xp 6 := by
  funext Q T
  show R_sum_5 F Xp Q T = gG F 43 45 (gG F 42 47 (gU F (gS F Xp 5) Xp) Xp) Xp Q T
  unfold R_sum_5
  rw [r_p5, r_s5L]
  rfl
theorem r_u6 (F : Nat) (Xp : Jr) : R_unit_6 F Xp = gU F (gS F Xp 6) Xp := by
  funext Q T
  unfold R_unit_6 gU
  simp only [R_unit_6_B87, gB87, r_s5]
theorem r_p6L (F : Nat) (Xp : Jr) : ∀ n, R_part_6_L5 F Xp n = gL5 42 47 (gU F (gS F Xp 6) Xp) Xp n := by
  intro n
  induction n with
  | zero => rfl
  | succ n ih =>
    funext a Q T
    show R_part_6_B5 F (R_part_6_L5 F Xp n) Xp a Q T = gB5 42 47 _ (gL5 42 47 _ Xp n) Xp a Q T
    rw [ih]
    unfold R_part_6_B5 R_part_6_B23 gB5 gB23
    rw [r_u6]
theorem r_p6 (F : Nat) (Xp : Jr) : R_part_6 F Xp = gG F 42 47 (gU F (gS F Xp 6) Xp) Xp := by
  funext Q T
  show R_part_6 F Xp Q T = gG F 42 47 (gU F (gS F Xp 6) Xp) Xp Q T
  unfold R_part_6
  rw [r_u6, r_p6L]
  rfl
theorem r_s6L (F : Nat) (Xp : Jr) : ∀ n, R_sum_6_L5 F Xp n = gL5 43 45 (gG F 42 47 (gU F (gS F Xp 6) Xp) Xp) Xp n := by
  intro n
  induction n with
  | zero => rfl
  | succ n ih =>
    funext a Q T
    show R_sum_6_B5 F (R_sum_6_L5 F Xp n) Xp a Q T = gB5 43 45 _ (gL5 43 45 _ Xp n) Xp a Q T
    rw [ih]
    unfold R_sum_6_B5 R_sum_6_B23 gB5 gB23
    rw [r_p6]
theorem r_s6 (F : Nat) (Xp : Jr) : R_sum_6 F Xp = gS F Xp 7 := by
  funext Q T
  show R_sum_6 F Xp Q T = gG F 43 45 (gG F 42 47 (gU F (gS F Xp 6) Xp) Xp) Xp Q T
  unfold R_sum_6
  rw [r_p6, r_s6L]
  rfl
theorem r_u7 (F : Nat) (Xp : Jr) : R_unit_7 F Xp = gU F (gS F Xp 7) Xp := by
  funext Q T
  unfold R_unit_7 gU
  simp only [R_unit_7_B87, gB87, r_s6]
theorem r_p7L (F : Nat) (Xp : Jr) : ∀ n, R_part_7_L5 F Xp n = gL5 42 47 (gU F (gS F Xp 7) Xp) Xp n := by
  intro n
  induction n with
  | zero => rfl
  | succ n ih =>
    funext a Q T
    show R_part_7_B5 F (R_part_7_L5 F Xp n) Xp a Q T = gB5 42 47 _ (gL5 42 47 _ Xp n) Xp a Q T
    rw [ih]
    unfold R_part_7_B5 R_part_7_B23 gB5 gB23
    rw [r_u7]
theorem r_p7 (F : Nat) (Xp : Jr) : R_part_7 F Xp = gG F 42 47 (gU F (gS F Xp 7) Xp) Xp := by
  funext Q T
  show R_part_7 F Xp Q T = gG F 42 47 (gU F (gS F Xp 7) Xp) Xp Q T
  unfold R_part_7
  rw [r_u7, r_p7L]
  rfl
theorem r_s7L (F : Nat) (Xp : Jr) : ∀ n, R_sum_7_L5 F Xp n = gL5 43 45 (gG F 42 47 (gU F (gS F Xp 7) Xp) Xp) Xp n := by
  intro n
  induction n with
  | zero => rfl
  | succ n ih =>
    funext a Q T
    show R_sum_7_B5 F (R_sum_7_L5 F Xp n) Xp a Q T = gB5 43 45 _ (gL5 43 45 _ Xp n) Xp a Q T
    rw [ih]
    unfold R_sum_7_B5 R_sum_7_B23 gB5 gB23
    rw [r_p7]
theorem r_s7 (F : Nat) (Xp : Jr) : R_sum_7 F Xp = gS F Xp 8 := by
  funext Q T
  show R_sum_7 F Xp Q T = gG F 43 45 (gG F 42 47 (gU F (gS F Xp 7) Xp) Xp) Xp Q T
  unfold R_sum_7
  rw [r_p7, r_s7L]
  rfl
theorem Nd.mo {T : Th} : ∀ n m a c, n ≤ m → Nd T n a c → Nd T m a c := by
  intro n
  induction n with
  | zero => intro m a c _ h; exact h.elim
  | succ n ih =>
    intro m a c hm h
    obtain ⟨m, rfl⟩ : ∃ m', m = m' + 1 := ⟨m - 1, by omega⟩
    rcases h with h | h | ⟨h0, a1, a2, c1, c2, op, b1, b2, b3, b4, b5, b6⟩
    · exact Or.inl h
    · exact Or.inr (Or.inl h)
    · exact Or.inr (Or.inr ⟨h0, a1, a2, c1, c2, op, b1, b2, ih m _ _ (by omega) b3, ih m _ _ (by omega) b4, b5, b6⟩)
/-- what a tree can't reach may be written -/
theorem Nd.wr {T T1 : Th} {x : Nat} (h0 : T.2.2.1 x 1 = none) (h1 : T1.1 = T.1) (h2 : ∀ a, a ≠ x → T1.2.1 a = T.2.1 a ∧ T1.2.2.1 a = T.2.2.1 a) (hk : T.1 x = some (.inl 18)) : ∀ n a c, Nd T n a c → Nd T1 n a c := by
  intro n
  induction n with
  | zero => intro a c h; exact h.elim
  | succ n ih =>
    intro a c h
    rcases h with ⟨a1, a2⟩ | ⟨k, a1, a2, a3, a4⟩ | ⟨a0, a1, a2, c1, c2, op, b1, b2, b3, b4, b5, b6⟩
    · have hax : a ≠ x := fun hh => by rw [hh, hk] at a1; exact absurd a1 (by decide)
      exact Or.inl ⟨by rw [h1]; exact a1, by rw [(h2 a hax).1]; exact a2⟩
    · have hax : a ≠ x := fun hh => by rw [hh, hk] at a2; exact absurd a2 (by decide)
      exact Or.inr (Or.inl ⟨k, a1, by rw [h1]; exact a2, by rw [(h2 a hax).1]; exact a3, a4⟩)
    · have hax : a ≠ x := fun hh => by rw [hh, h0] at b1; cases b1
      exact Or.inr (Or.inr ⟨by rw [h1]; exact a0, a1, a2, c1, c2, op, by rw [(h2 a hax).2]; exact b1, by rw [(h2 a hax).2]; exact b2, ih _ _ b3, ih _ _ b4, b5, by rw [(h2 a hax).1]; exact b6⟩)
/-- room for what is read from the token a on -/
def HpB (T : Th) (a : Nat) : Prop := HB T ∧ (tL T).2.2.1 ≤ tN T ∧ tN T + (402 - a) ≤ (tL T).1 ∧ tZ T + 3 * (402 - a) ≤ (tL T).2.1
def ExT (T T1 : Th) (a a1 : Nat) : Prop := ExN T T1 ∧ tN T1 ≤ tN T + (a1 - a) ∧ tZ T1 ≤ tZ T + 3 * (a1 - a)
theorem HpB.ex {T T1 : Th} {a a1 : Nat} (h : HpB T a) (hx : ExT T T1 a a1) (ha : a ≤ a1) (h4 : a1 ≤ 402) : HpB T1 a1 := by
  obtain ⟨h1, h2, h3, h5⟩ := h
  obtain ⟨x1, x2, x3⟩ := hx
  have := x1.1
  refine ⟨x1.2.2.2 h1, by rw [x1.2.1]; omega, by rw [x1.2.1]; omega, by rw [x1.2.1]; omega⟩
/-- both readers read one operand: from the model's state ahead of an operand to the one behind it -/
def OpS (g nc F N : Nat) (P E : Nat → Nat) (K : Jl) (J0 : Ji) (Xp : Jr) (o : Nat) (tp : List Nat → Prop) (ln pl : Nat) (pk ex : Nat → Prop) (un : Ji → Th → Ro) : Prop := ∀ a Q J T W c n m, PT N P E a o Q J K → ES g nc J0 J c W → tp W → W.length ≤ ln → nc + c.length + W.length ≤ a → 402 ≤ n + a → 8 ≤ m + o → HpB T a →
  (∃ x a1 Q1 T1 J1 ce pe n1 m1, un Q T = some (.inr (some x, Q1, T1)) ∧ M_expression_L23 F (M_expression_L12 F n) m (iN 0) J = M_expression_L96 F (M_expression_L12 F n1) m1 (iN 0) J1 ∧ a < a1 ∧ PT N P E a1 o Q1 J1 K ∧ ES g nc J0 J1 (c ++ ce) (W ++ pe) ∧ (pe.length ≤ pl ∧ ∀ w, w ∈ pe → pk w) ∧ (∀ k, ex k → J1 3 a1 ≠ iN k) ∧ Nd T1 (a1 - a) x (ce ++ emis pe) ∧ ExT T T1 a a1 ∧ 402 ≤ n1 + a1 ∧ F + o ≤ m1 + 6 ∧ (qF Q Q1 ∧ Q1 9 5 = Q 9 5) ∧ nc + (c ++ ce).length + (W ++ pe).length ≤ a1) ∨
  (∃ Q1 T1 J1, un Q T = some (.inl (Q1, Xp, T1)) ∧ M_expression_L23 F (M_expression_L12 F n) m (iN 0) J = some J1 ∧ FT Q1 J1 ∧ (FrJ g J0 J1 ∧ J1 0 49 = J0 0 49) ∧ qF Q Q1 ∧ ExN T T1)
