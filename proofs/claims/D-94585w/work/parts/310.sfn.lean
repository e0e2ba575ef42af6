/-! SleepWork's methods as pure functions (printed by gen/sgen.py) -/
set_option maxRecDepth 100000
def S_typed_B3 (F : Nat) (k3 : Int32 → Int32 → (Ji) → Option (Ji)) (T : Th) (tx : Nat) (a1 : Int32) (a2 : Int32) (Q : Ji) : Option (Ji) :=
  if a2 < 0 then
    some Q
  else
    stI Q 4 2000 (Q 2 2) (((a1 >>> (a2 &&& 31)).toInt8.toInt32).toInt8.toInt32) fun Q1 => lt_ (uJ Q1 2 2 ((Q1 2 2) + 1)) fun Q2 => lt_ (a2 + (-8)) fun x3 => k3 a1 x3 Q2
def S_typed_L3 (F : Nat) (T : Th) (tx : Nat) : Nat → Int32 → Int32 → (Ji) → Option (Ji)
  | 0, _, _, _ => none
  | n + 1, a1, a2, Q => S_typed_B3 F (S_typed_L3 F T tx n) T tx a1 a2 Q
def S_typed (F : Nat) (T : Th) (tx : Nat) (a1 : Int32) (Q : Ji) : Option (Ji) :=
  S_typed_L3 F T tx F a1 24 Q
def S_feed (F : Nat) (T : Th) (tx : Nat) (a1 : Int32) (a2 : Int32) (a3 : Int32) (a4 : Int32) (a5 : Int32) (Q : Ji) : Option (Int32 × Ji) :=
  if ((Q 2 2) + 20) ≤ 2000 then
    (S_typed F T tx a1 Q).bind fun r1 => (S_typed F T tx a2 r1).bind fun r2 => (S_typed F T tx a3 r2).bind fun r3 => (S_typed F T tx a4 r3).bind fun r4 => (S_typed F T tx a5 r4).bind fun r5 => some (r5 2 2, r5)
  else
    some ((-1), Q)
def S_back (T : Th) (tx : Nat) (a1 : Int32) (Q : Ji) : Option (Int32 × Ji) :=
  if a1 < 0 then
    some ((-1), Q)
  else
    if a1 ≤ (Q 2 2) then
      lt_ (uJ Q 2 2 ((Q 2 2) - a1)) fun Q1 => some (Q1 2 2, Q1)
    else
      some ((-1), Q)
def S_place (T : Th) (tx : Nat) (S : Ji) : Option (Int32) :=
  some (S 0 4)
def S_isIn (a0 : Int32) (a1 : Int32) (a2 : Int32) : Option (Int32) :=
  if a0 < a1 then
    some 0
  else
    if a2 < a0 then
      some 0
    else
      some 1
def S_isOne (a0 : Int32) (a1 : Int32) : Option (Int32) :=
  (S_isIn a0 0 (a1 - 1)).bind fun r1 => (bz r1).bind fun r2 => some r2
def S_isTask (T : Th) (tx : Nat) (a1 : Int32) : Option (Int32) :=
  dR T tx 4 3 fun x1 => (x1).bind fun b2 => dC T b2 19 <| (L_size T b2).bind fun r3 => (S_isOne a1 r3).bind fun r4 => (bz r4).bind fun r5 => some r5
def S_task (F : Nat) (T : Th) (tx : Nat) (V : Nat → Ji) (a1 : Int32) (a2 : Int32) : Option (Int32) :=
  (S_isTask T tx a1).bind fun r1 => if r1 = 0 then
    some ((-1))
  else
    if a2 = 0 then
      dR T tx 4 3 fun x2 => (x2).bind fun b3 => dC T b3 19 <| (L_get T b3 a1).bind fun r4 => (r4).bind fun b5 => dC T b5 12 <| dI T b5 12 1 fun x6 => some x6
    else if a2 = 1 then
      dR T tx 4 3 fun x7 => (x7).bind fun b8 => dC T b8 19 <| (L_get T b8 a1).bind fun r9 => (r9).bind fun b10 => dC T b10 12 <| dR T b10 12 3 fun x11 => (x11).bind fun b12 => dC T b12 19 <| (L_size T b12).bind fun r13 => some r13
    else if a2 = 2 then
      ldI (V 0) 8 6 a1 fun x14 => some x14
    else if a2 = 3 then
      (V_worth F T (V 0) tx a1).bind fun r15 => some r15
    else if a2 = 4 then
      (V_isEnded F T (V 0) tx a1).bind fun r16 => if r16 = 0 then
        some 0
      else
        some 1
    else 
      some ((-1))
def S_isStep (T : Th) (tx : Nat) (a1 : Int32) (a2 : Int32) : Option (Int32) :=
  (S_isTask T tx a1).bind fun r1 => if r1 = 0 then
    some 0
  else
    dR T tx 4 3 fun x2 => (x2).bind fun b3 => dC T b3 19 <| (L_get T b3 a1).bind fun r4 => (r4).bind fun b5 => dC T b5 12 <| dC T b5 12 <| (C_isStep T b5 a2).bind fun r6 => if r6 = 0 then
      some 0
    else
      some 1
def S_step (T : Th) (tx : Nat) (V : Nat → Ji) (a1 : Int32) (a2 : Int32) (a3 : Int32) : Option (Int32) :=
  (S_isStep T tx a1 a2).bind fun r1 => if r1 = 0 then
    some ((-1))
  else
    dR T tx 4 3 fun x2 => (x2).bind fun b3 => dC T b3 19 <| (L_get T b3 a1).bind fun r4 => (r4).bind fun b5 => dC T b5 12 <| dR T b5 12 3 fun x6 => (x6).bind fun b7 => dC T b7 19 <| (L_get T b7 a2).bind fun r8 => (r8).bind fun b9 => dC T b9 13 <| if a3 = 0 then
      (ix a1 6).bind fun q10 => ldI (V 0) (2 + q10) 6 a2 fun x11 => some x11
    else if a3 = 1 then
      dI T b9 13 0 fun x12 => some x12
    else if a3 = 2 then
      dI T b9 13 1 fun x13 => some x13
    else if a3 = 3 then
      dI T b9 13 2 fun x14 => some x14
    else if a3 = 4 then
      dI T b9 13 3 fun x15 => some x15
    else if a3 = 5 then
      dI T b9 13 4 fun x16 => some x16
    else if a3 = 6 then
      dI T b9 13 5 fun x17 => some x17
    else 
      some ((-1))
def S_isMan (T : Th) (tx : Nat) (a1 : Int32) : Option (Int32) :=
  dR T tx 4 4 fun x1 => (x1).bind fun b2 => dC T b2 19 <| (L_size T b2).bind fun r3 => (S_isOne a1 r3).bind fun r4 => (bz r4).bind fun r5 => some r5
def S_man (T : Th) (tx : Nat) (V : Nat → Ji) (a1 : Int32) (a2 : Int32) : Option (Int32) :=
  (S_isMan T tx a1).bind fun r1 => if r1 = 0 then
    some ((-1))
  else
    if a2 = 0 then
      dR T tx 4 4 fun x2 => (x2).bind fun b3 => dC T b3 19 <| (L_get T b3 a1).bind fun r4 => (r4).bind fun b5 => dC T b5 14 <| dI T b5 14 1 fun x6 => some x6
    else if a2 = 1 then
      ldI (V 0) 9 6 a1 fun x7 => some x7
    else if a2 = 2 then
      ldI (V 0) 10 6 a1 fun x8 => some x8
    else if a2 = 3 then
      ldI (V 0) 12 6 a1 fun x9 => some x9
    else if a2 = 4 then
      ldI (V 0) 13 6 a1 fun x10 => some x10
    else if a2 = 5 then
      ldI (V 0) 14 6 a1 fun x11 => some x11
    else 
      some ((-1))
def S_tool (T : Th) (tx : Nat) (V : Nat → Ji) (a1 : Int32) : Option (Int32) :=
  dR T tx 4 2 fun x1 => (x1).bind fun b2 => dC T b2 19 <| (L_size T b2).bind fun r3 => (S_isOne a1 r3).bind fun r4 => if r4 = 0 then
    some ((-1))
  else
    ldI (V 0) 11 6 a1 fun x5 => some x5
def S_isRoom (T : Th) (tx : Nat) (a1 : Int32) : Option (Int32) :=
  dR T tx 4 0 fun x1 => (x1).bind fun b2 => dC T b2 19 <| (L_size T b2).bind fun r3 => (S_isOne a1 r3).bind fun r4 => (bz r4).bind fun r5 => some r5
def S_way (F : Nat) (T : Th) (tx : Nat) (a1 : Int32) (a2 : Int32) (V : Nat → Ji) : Option (Int32 × (Nat → Ji)) :=
  (S_isRoom T tx a1).bind fun r1 => if r1 = 0 then
    some ((-1), V)
  else
    (S_isRoom T tx a2).bind fun r2 => if r2 = 0 then
      some ((-1), V)
    else
      (V_laysWays F T tx (V 0)).bind fun r3 => (ix a1 8).bind fun q4 => ldI ((vf_upd V 0 r3) 0) (16 + q4) 8 a2 fun x5 => if x5 < 1000000 then
        some (x5, vf_upd V 0 r3)
      else
        some ((-2), vf_upd V 0 r3)
def S_leave_B80 (T : Th) (tx : Nat) (s0 : Int32) (s1 : Int32) (V : Nat → Ji) : Option (Int32 × (Nat → Ji)) :=
  stV V 0 10 6 s1 s0 fun V4 => some (1, V4)
def S_leave_B60 (T : Th) (tx : Nat) (a1 : Int32) (a3 : Int32) (a4 : Int32) (s0 : Int32) (s1 : Int32) (V : Nat → Ji) : Option (Int32 × (Nat → Ji)) :=
  stV V 0 9 6 s1 s0 fun V3 => if a4 = 0 then
    S_leave_B80 T tx a3 a1 V3
  else
    S_leave_B80 T tx ((-2)) a1 V3
def S_leave_B41 (T : Th) (tx : Nat) (a1 : Int32) (a2 : Int32) (a3 : Int32) (a4 : Int32) (V : Nat → Ji) : Option (Int32 × (Nat → Ji)) :=
  if a4 = 0 then
    S_leave_B60 T tx a1 a3 a4 a2 a1 V
  else
    S_leave_B60 T tx a1 a3 a4 ((-2)) a1 V
def S_leave_B15 (T : Th) (tx : Nat) (a1 : Int32) (a2 : Int32) (a3 : Int32) (s0 : Int32) (V : Nat → Ji) : Option (Int32 × (Nat → Ji)) :=
  (S_isMan T tx a1).bind fun r1 => if r1 = 0 then
    some (0, V)
  else
    if s0 = 0 then
      (S_isStep T tx a2 a3).bind fun r2 => if r2 = 0 then
        some (0, V)
      else
        S_leave_B41 T tx a1 a2 a3 s0 V
    else
      S_leave_B41 T tx a1 a2 a3 s0 V
def S_leave_B14 (T : Th) (tx : Nat) (a1 : Int32) (a2 : Int32) (a3 : Int32) (V : Nat → Ji) : Option (Int32 × (Nat → Ji)) :=
  S_leave_B15 T tx a1 a2 a3 0 V
def S_leave (T : Th) (tx : Nat) (a1 : Int32) (a2 : Int32) (a3 : Int32) (V : Nat → Ji) : Option (Int32 × (Nat → Ji)) :=
  if a2 = ((-1)) then
    if a3 = ((-1)) then
      S_leave_B15 T tx a1 a2 a3 1 V
    else
      S_leave_B14 T tx a1 a2 a3 V
  else
    S_leave_B14 T tx a1 a2 a3 V
def S_work (T : Th) (tx : Nat) (a1 : Int32) (a2 : Int32) (V : Nat → Ji) : Option (Int32 × (Nat → Ji)) :=
  (S_isStep T tx a1 a2).bind fun r1 => if r1 = 0 then
    some (0, V)
  else
    ldI (V 0) 8 6 a1 fun x2 => if x2 = 0 then
      some (0, V)
    else
      ldI (V 0) 8 6 a1 fun x3 => stV V 0 8 6 a1 (x3 - 1) fun V4 => (V_does T tx a1 a2 (V4 0)).bind fun r5 => some (1, vf_upd V4 0 r5)
def S_lay (T : Th) (tx : Nat) (a1 : Int32) (a2 : Int32) (V : Nat → Ji) : Option (Int32 × (Nat → Ji)) :=
  dR T tx 4 2 fun x1 => (x1).bind fun b2 => dC T b2 19 <| (L_size T b2).bind fun r3 => (S_isOne a1 r3).bind fun r4 => if r4 = 0 then
    some (0, V)
  else
    (S_isRoom T tx a2).bind fun r5 => if r5 = 0 then
      some (0, V)
    else
      stV V 0 11 6 a1 a2 fun V6 => some (1, V6)
def S_give (T : Th) (tx : Nat) (a1 : Int32) (a2 : Int32) (V : Nat → Ji) : Option (Int32 × (Nat → Ji)) :=
  dR T tx 4 2 fun x1 => (x1).bind fun b2 => dC T b2 19 <| (L_size T b2).bind fun r3 => (S_isOne a1 r3).bind fun r4 => if r4 = 0 then
    some (0, V)
  else
    (S_isMan T tx a2).bind fun r5 => if r5 = 0 then
      some (0, V)
    else
      stV V 0 11 6 a1 (100 + a2) fun V6 => some (1, V6)
def S_bar_B54 (T : Th) (tx : Nat) (s0 : Int32) (V : Nat → Ji) : Option (Int32 × (Nat → Ji)) :=
  lt_ (vf_upd V 0 (uJ (V 0) 0 8 s0)) fun V5 => some (1, V5)
def S_bar (T : Th) (tx : Nat) (a1 : Int32) (a2 : Int32) (V : Nat → Ji) : Option (Int32 × (Nat → Ji)) :=
  dR T tx 4 1 fun x1 => (x1).bind fun b2 => dC T b2 19 <| (L_size T b2).bind fun r3 => (S_isOne a1 r3).bind fun r4 => if r4 = 0 then
    some (0, V)
  else
    if a2 = 0 then
      S_bar_B54 T tx ((V 0 0 8) &&& ((1 <<< (a1 &&& 31)) ^^^ ((-1)))) V
    else
      S_bar_B54 T tx ((V 0 0 8) ||| (1 <<< (a1 &&& 31))) V
def S_night (F : Nat) (T : Th) (tx : Nat) (S : Ji) (V : Nat → Ji) : Option (Int32 × Ji × (Nat → Ji)) :=
  (ix (S 0 6) 20).bind fun q1 => lt_ (vf_upd V (2 + q1) (V_takes (V 0) (V (2 + q1)))) fun V2 => lt_ (uJ S 0 6 (((S 0 6) + 1) - ((S 0 6) + 1) / 20 * 20)) fun S3 => lt_ (uJ S3 0 5 (if ((S3 0 5) + 1) < 20 then (S3 0 5) + 1 else 20)) fun S4 => (V_worthOfAll F T (V2 0) tx).bind fun r5 => (V_night F T tx (V2 0)).bind fun r6 => (V_worthOfAll F T ((vf_upd V2 0 r6) 0) tx).bind fun r7 => some (r7 - r5, S4, vf_upd V2 0 r6)
def S_undo (T : Th) (tx : Nat) (S : Ji) (V : Nat → Ji) : Option (Int32 × Ji × (Nat → Ji)) :=
  if (S 0 5) = 0 then
    some (0, S, V)
  else
    lt_ (uJ S 0 5 ((S 0 5) - 1)) fun S1 => lt_ (uJ S1 0 6 ((((S1 0 6) + 20) - 1) - (((S1 0 6) + 20) - 1) / 20 * 20)) fun S2 => (ix (S2 0 6) 20).bind fun q3 => lt_ (vf_upd V 0 (V_takes (V (2 + q3)) (V 0))) fun V4 => some (1, S2, V4)
def S_brings (F : Nat) (T : Th) (tx : Nat) (V : Nat → Ji) : Option (Int32 × (Nat → Ji)) :=
  (V_worthOfAll F T (V 1) tx).bind fun r1 => (V_night F T tx (V 1)).bind fun r2 => (V_worthOfAll F T ((vf_upd V 1 r2) 1) tx).bind fun r3 => some (r3 - r1, vf_upd V 1 r2)
def S_gain (F : Nat) (T : Th) (tx : Nat) (V : Nat → Ji) : Option (Int32 × (Nat → Ji)) :=
  lt_ (vf_upd V 1 (V_takes (V 0) (V 1))) fun V1 => (S_brings F T tx V1).bind fun r2 => some (r2.1, r2.2)
def S_choices_B4 (F : Nat) (k4 : Int32 → Int32 → Option (Int32)) (T : Th) (tx : Nat) (a1 : Int32) (a2 : Int32) : Option (Int32) :=
  dR T tx 4 3 fun x1 => (x1).bind fun b2 => dC T b2 19 <| (L_size T b2).bind fun r3 => if r3 ≤ a2 then
    some a1
  else
    dR T tx 4 3 fun x4 => (x4).bind fun b5 => dC T b5 19 <| (L_get T b5 a2).bind fun r6 => (r6).bind fun b7 => dC T b7 12 <| dR T b7 12 3 fun x8 => (x8).bind fun b9 => dC T b9 19 <| (L_size T b9).bind fun r10 => lt_ (a1 + r10) fun x11 => lt_ (a2 + 1) fun x12 => k4 x11 x12
def S_choices_L4 (F : Nat) (T : Th) (tx : Nat) : Nat → Int32 → Int32 → Option (Int32)
  | 0, _, _ => none
  | n + 1, a1, a2 => S_choices_B4 F (S_choices_L4 F T tx n) T tx a1 a2
def S_choices (F : Nat) (T : Th) (tx : Nat) : Option (Int32) :=
  S_choices_L4 F T tx F 1 0
def S_choice_B13 (F : Nat) (k13 : Int32 → Int32 → Option (Int32)) (T : Th) (tx : Nat) (a2 : Int32) (a3 : Int32) : Option (Int32) :=
  dR T tx 4 3 fun x2 => (x2).bind fun b3 => dC T b3 19 <| (L_size T b3).bind fun r4 => if r4 ≤ a3 then
    some ((-2))
  else
    dR T tx 4 3 fun x5 => (x5).bind fun b6 => dC T b6 19 <| (L_get T b6 a3).bind fun r7 => (r7).bind fun b8 => dC T b8 12 <| dR T b8 12 3 fun x9 => (x9).bind fun b10 => dC T b10 19 <| (L_size T b10).bind fun r11 => if r11 ≤ a2 then
      lt_ (a2 - r11) fun x12 => lt_ (a3 + 1) fun x13 => k13 x12 x13
    else
      some ((10 * a3) + a2)
def S_choice_L13 (F : Nat) (T : Th) (tx : Nat) : Nat → Int32 → Int32 → Option (Int32)
  | 0, _, _ => none
  | n + 1, a2, a3 => S_choice_B13 F (S_choice_L13 F T tx n) T tx a2 a3
def S_choice (F : Nat) (T : Th) (tx : Nat) (a1 : Int32) : Option (Int32) :=
  lt_ (a1 - 1) fun x1 => if 0 ≤ x1 then
    S_choice_L13 F T tx F x1 0
  else
    some ((-2))
def S_leavesThen_B43 (T : Th) (tx : Nat) (s0 : Int32) (s1 : Int32) (V : Nat → Ji) : Option ((Nat → Ji)) :=
  stV V 1 10 6 s1 s0 fun V2 => some V2
def S_leavesThen_B21 (T : Th) (tx : Nat) (a1 : Int32) (a2 : Int32) (s0 : Int32) (s1 : Int32) (V : Nat → Ji) : Option ((Nat → Ji)) :=
  stV V 1 9 6 s1 s0 fun V1 => if 0 ≤ a2 then
    S_leavesThen_B43 T tx (a2 - a2 / 10 * 10) a1 V1
  else
    S_leavesThen_B43 T tx ((-2)) a1 V1
def S_leavesThen (T : Th) (tx : Nat) (a1 : Int32) (a2 : Int32) (V : Nat → Ji) : Option ((Nat → Ji)) :=
  if 0 ≤ a2 then
    S_leavesThen_B21 T tx a1 a2 (a2 / 10) a1 V
  else
    S_leavesThen_B21 T tx a1 a2 ((-2)) a1 V
def S_evening_B51 (F : Nat) (k2 : Int32 → Int32 → (Ji) → (Nat → Ji) → Option (Ji × (Nat → Ji))) (T : Th) (tx : Nat) (a1 : Int32) (a2 : Int32) (a3 : Int32) (S : Ji) (V : Nat → Ji) : Option (Ji × (Nat → Ji)) :=
  lt_ (uJ S 0 12 a3) fun S7 => (S_choice F T tx a2).bind fun r8 => lt_ (uJ S7 0 13 r8) fun S9 => lt_ (a2 + 1) fun x10 => k2 a1 x10 S9 V
def S_evening_B2 (F : Nat) (k2 : Int32 → Int32 → (Ji) → (Nat → Ji) → Option (Ji × (Nat → Ji))) (T : Th) (tx : Nat) (a1 : Int32) (a2 : Int32) (S : Ji) (V : Nat → Ji) : Option (Ji × (Nat → Ji)) :=
  (S_choices F T tx).bind fun r1 => if r1 ≤ a2 then
    some (S, V)
  else
    lt_ (vf_upd V 1 (V_takes (V 0) (V 1))) fun V2 => (S_choice F T tx a2).bind fun r3 => (S_leavesThen T tx a1 r3 V2).bind fun r4 => (S_brings F T tx r4).bind fun r5 => if a2 ≤ 0 then
      S_evening_B51 F k2 T tx a1 a2 r5.1 S r5.2
    else
      if (S 0 12) < r5.1 then
        S_evening_B51 F k2 T tx a1 a2 r5.1 S r5.2
      else
        lt_ (a2 + 1) fun x6 => k2 a1 x6 S r5.2
def S_evening_L2 (F : Nat) (T : Th) (tx : Nat) : Nat → Int32 → Int32 → (Ji) → (Nat → Ji) → Option (Ji × (Nat → Ji))
  | 0, _, _, _, _ => none
  | n + 1, a1, a2, S, V => S_evening_B2 F (S_evening_L2 F T tx n) T tx a1 a2 S V
def S_evening (F : Nat) (T : Th) (tx : Nat) (a1 : Int32) (S : Ji) (V : Nat → Ji) : Option (Ji × (Nat → Ji)) :=
  S_evening_L2 F T tx F a1 0 S V
def S_best (F : Nat) (T : Th) (tx : Nat) (a1 : Int32) (a2 : Int32) (S : Ji) (V : Nat → Ji) : Option (Int32 × Ji × (Nat → Ji)) :=
  (S_isMan T tx a1).bind fun r1 => if r1 = 0 then
    some ((-1), S, V)
  else
    (S_isIn a2 0 1).bind fun r2 => if r2 = 0 then
      some ((-1), S, V)
    else
      (S_evening F T tx a1 S V).bind fun r3 => if a2 = 0 then
        some (r3.1 0 12, r3.1, r3.2)
      else
        some (r3.1 0 13, r3.1, r3.2)
def S_areTwo (T : Th) (tx : Nat) (a1 : Int32) (a2 : Int32) : Option (Int32) :=
  (S_isMan T tx a1).bind fun r1 => if r1 = 0 then
    some 0
  else
    (S_isMan T tx a2).bind fun r2 => if r2 = 0 then
      some 0
    else
      if a1 = a2 then
        some 0
      else
        some 1
def S_bestOfTwo_B103 (F : Nat) (k23 : Int32 → Int32 → Int32 → Int32 → (Ji) → (Nat → Ji) → Option (Int32 × Ji × (Nat → Ji))) (k35 : Int32 → Int32 → Int32 → Int32 → Int32 → (Ji) → (Nat → Ji) → Option (Int32 × Ji × (Nat → Ji))) (T : Th) (tx : Nat) (a1 : Int32) (a2 : Int32) (a3 : Int32) (a4 : Int32) (a5 : Int32) (a6 : Int32) (S : Ji) (V : Nat → Ji) : Option (Int32 × Ji × (Nat → Ji)) :=
  lt_ (uJ S 0 12 a6) fun S13 => (S_choice F T tx a4).bind fun r14 => lt_ (uJ S13 0 13 r14) fun S15 => (S_choice F T tx a5).bind fun r16 => lt_ (uJ S15 0 14 r16) fun S17 => lt_ (a5 + 1) fun x18 => k35 a1 a2 a3 a4 x18 S17 V
def S_bestOfTwo_B35 (F : Nat) (k23 : Int32 → Int32 → Int32 → Int32 → (Ji) → (Nat → Ji) → Option (Int32 × Ji × (Nat → Ji))) (k35 : Int32 → Int32 → Int32 → Int32 → Int32 → (Ji) → (Nat → Ji) → Option (Int32 × Ji × (Nat → Ji))) (T : Th) (tx : Nat) (a1 : Int32) (a2 : Int32) (a3 : Int32) (a4 : Int32) (a5 : Int32) (S : Ji) (V : Nat → Ji) : Option (Int32 × Ji × (Nat → Ji)) :=
  (S_choices F T tx).bind fun r4 => if r4 ≤ a5 then
    lt_ (a4 + 1) fun x5 => k23 a1 a2 a3 x5 S V
  else
    lt_ (vf_upd V 1 (V_takes (V 0) (V 1))) fun V6 => (S_choice F T tx a4).bind fun r7 => (S_leavesThen T tx a1 r7 V6).bind fun r8 => (S_choice F T tx a5).bind fun r9 => (S_leavesThen T tx a2 r9 r8).bind fun r10 => (S_brings F T tx r10).bind fun r11 => if (a4 + a5) ≤ 0 then
      S_bestOfTwo_B103 F k23 k35 T tx a1 a2 a3 a4 a5 r11.1 S r11.2
    else
      if (S 0 12) < r11.1 then
        S_bestOfTwo_B103 F k23 k35 T tx a1 a2 a3 a4 a5 r11.1 S r11.2
      else
        lt_ (a5 + 1) fun x12 => k35 a1 a2 a3 a4 x12 S r11.2
def S_bestOfTwo_L35 (F : Nat) (k23 : Int32 → Int32 → Int32 → Int32 → (Ji) → (Nat → Ji) → Option (Int32 × Ji × (Nat → Ji))) (T : Th) (tx : Nat) : Nat → Int32 → Int32 → Int32 → Int32 → Int32 → (Ji) → (Nat → Ji) → Option (Int32 × Ji × (Nat → Ji))
  | 0, _, _, _, _, _, _, _ => none
  | n + 1, a1, a2, a3, a4, a5, S, V => S_bestOfTwo_B35 F k23 (S_bestOfTwo_L35 F k23 T tx n) T tx a1 a2 a3 a4 a5 S V
def S_bestOfTwo_B23 (F : Nat) (k23 : Int32 → Int32 → Int32 → Int32 → (Ji) → (Nat → Ji) → Option (Int32 × Ji × (Nat → Ji))) (T : Th) (tx : Nat) (a1 : Int32) (a2 : Int32) (a3 : Int32) (a4 : Int32) (S : Ji) (V : Nat → Ji) : Option (Int32 × Ji × (Nat → Ji)) :=
  (S_choices F T tx).bind fun r3 => if r3 ≤ a4 then
    if a3 = 0 then
      some (S 0 12, S, V)
    else
      if a3 = 1 then
        some (S 0 13, S, V)
      else
        some (S 0 14, S, V)
  else
    S_bestOfTwo_L35 F k23 T tx F a1 a2 a3 a4 0 S V
def S_bestOfTwo_L23 (F : Nat) (T : Th) (tx : Nat) : Nat → Int32 → Int32 → Int32 → Int32 → (Ji) → (Nat → Ji) → Option (Int32 × Ji × (Nat → Ji))
  | 0, _, _, _, _, _, _ => none
  | n + 1, a1, a2, a3, a4, S, V => S_bestOfTwo_B23 F (S_bestOfTwo_L23 F T tx n) T tx a1 a2 a3 a4 S V
def S_bestOfTwo (F : Nat) (T : Th) (tx : Nat) (a1 : Int32) (a2 : Int32) (a3 : Int32) (S : Ji) (V : Nat → Ji) : Option (Int32 × Ji × (Nat → Ji)) :=
  (S_areTwo T tx a1 a2).bind fun r1 => if r1 = 0 then
    some ((-1), S, V)
  else
    (S_isIn a3 0 2).bind fun r2 => if r2 = 0 then
      some ((-1), S, V)
    else
      S_bestOfTwo_L23 F T tx F a1 a2 a3 0 S V
def S_hire (F : Nat) (T : Th) (tx : Nat) (a1 : Int32) (S : Ji) (V : Nat → Ji) : Option (Int32 × Ji × (Nat → Ji)) :=
  (S_isMan T tx a1).bind fun r1 => if r1 = 0 then
    some ((-1000000), S, V)
  else
    (S_evening F T tx a1 S V).bind fun r2 => lt_ (r2.1 0 12) fun x3 => lt_ (vf_upd r2.2 1 (V_takes (r2.2 0) (r2.2 1))) fun V4 => (S_leavesThen T tx a1 ((-2)) V4).bind fun r5 => (S_brings F T tx r5).bind fun r6 => some (x3 - r6.1, r2.1, r6.2)
def S_hide_B130 (F : Nat) (k48 : Int32 → Int32 → Int32 → Int32 → Int32 → Int32 → (Nat → Ji) → Option (Int32 × (Nat → Ji))) (T : Th) (tx : Nat) (a1 : Int32) (a2 : Int32) (a5 : Int32) (a6 : Int32) (a7 : Int32) (a8 : Int32) (V : Nat → Ji) : Option (Int32 × (Nat → Ji)) :=
  lt_ (a6 + 1) fun x16 => k48 a1 a2 a8 a7 a5 x16 V
def S_hide_B86 (F : Nat) (k48 : Int32 → Int32 → Int32 → Int32 → Int32 → Int32 → (Nat → Ji) → Option (Int32 × (Nat → Ji))) (T : Th) (tx : Nat) (a1 : Int32) (a2 : Int32) (a3 : Int32) (a4 : Int32) (a5 : Int32) (a6 : Int32) (s0 : Int32) (V : Nat → Ji) : Option (Int32 × (Nat → Ji)) :=
  lt_ (vf_upd V 1 (V_takes (V 0) (V 1))) fun V12 => stV V12 1 11 6 a1 s0 fun V13 => (S_brings F T tx V13).bind fun r14 => if a4 < 0 then
    S_hide_B130 F k48 T tx a1 a2 a5 a6 s0 r14.1 r14.2
  else
    if a3 < r14.1 then
      S_hide_B130 F k48 T tx a1 a2 a5 a6 s0 r14.1 r14.2
    else
      lt_ (a6 + 1) fun x15 => k48 a1 a2 a3 a4 a5 x15 r14.2
def S_hide_B48 (F : Nat) (k48 : Int32 → Int32 → Int32 → Int32 → Int32 → Int32 → (Nat → Ji) → Option (Int32 × (Nat → Ji))) (T : Th) (tx : Nat) (a1 : Int32) (a2 : Int32) (a3 : Int32) (a4 : Int32) (a5 : Int32) (a6 : Int32) (V : Nat → Ji) : Option (Int32 × (Nat → Ji)) :=
  dR T tx 4 4 fun x9 => (x9).bind fun b10 => dC T b10 19 <| (L_size T b10).bind fun r11 => if (a5 + r11) ≤ a6 then
    if a2 = 0 then
      some (a3, V)
    else
      some (a4, V)
  else
    if a5 ≤ a6 then
      S_hide_B86 F k48 T tx a1 a2 a3 a4 a5 a6 ((100 + a6) - a5) V
    else
      S_hide_B86 F k48 T tx a1 a2 a3 a4 a5 a6 a6 V
def S_hide_L48 (F : Nat) (T : Th) (tx : Nat) : Nat → Int32 → Int32 → Int32 → Int32 → Int32 → Int32 → (Nat → Ji) → Option (Int32 × (Nat → Ji))
  | 0, _, _, _, _, _, _, _ => none
  | n + 1, a1, a2, a3, a4, a5, a6, V => S_hide_B48 F (S_hide_L48 F T tx n) T tx a1 a2 a3 a4 a5 a6 V
def S_hide (F : Nat) (T : Th) (tx : Nat) (a1 : Int32) (a2 : Int32) (V : Nat → Ji) : Option (Int32 × (Nat → Ji)) :=
  dR T tx 4 2 fun x1 => (x1).bind fun b2 => dC T b2 19 <| (L_size T b2).bind fun r3 => (S_isOne a1 r3).bind fun r4 => if r4 = 0 then
    some ((-1), V)
  else
    (S_isIn a2 0 1).bind fun r5 => if r5 = 0 then
      some ((-1), V)
    else
      dR T tx 4 0 fun x6 => (x6).bind fun b7 => dC T b7 19 <| (L_size T b7).bind fun r8 => S_hide_L48 F T tx F a1 a2 0 ((-1)) r8 0 V
def S_bars_B92 (F : Nat) (k18 : Int32 → Int32 → Int32 → Int32 → (Nat → Ji) → Option (Int32 × (Nat → Ji))) (T : Th) (tx : Nat) (a1 : Int32) (a4 : Int32) (a5 : Int32) (V : Nat → Ji) : Option (Int32 × (Nat → Ji)) :=
  lt_ (a4 + 1) fun x12 => k18 a1 a5 a4 x12 V
def S_bars_B18 (F : Nat) (k18 : Int32 → Int32 → Int32 → Int32 → (Nat → Ji) → Option (Int32 × (Nat → Ji))) (T : Th) (tx : Nat) (a1 : Int32) (a2 : Int32) (a3 : Int32) (a4 : Int32) (V : Nat → Ji) : Option (Int32 × (Nat → Ji)) :=
  dR T tx 4 1 fun x2 => (x2).bind fun b3 => dC T b3 19 <| (L_size T b3).bind fun r4 => if (1 <<< (r4 &&& 31)) ≤ a4 then
    if a1 = 0 then
      some (a2, V)
    else
      some (a3, V)
  else
    lt_ (vf_upd V 1 (V_takes (V 0) (V 1))) fun V5 => lt_ (vf_upd V5 1 (uJ (V5 1) 0 8 a4)) fun V6 => (S_brings F T tx V6).bind fun r7 => if a3 < 0 then
      S_bars_B92 F k18 T tx a1 a4 r7.1 r7.2
    else
      if r7.1 < a2 then
        lt_ (a4 + 1) fun x8 => k18 a1 a2 a3 x8 r7.2
      else
        if r7.1 = a2 then
          (J_bitCount a4).bind fun r9 => (J_bitCount a3).bind fun r10 => if r9 < r10 then
            S_bars_B92 F k18 T tx a1 a4 r7.1 r7.2
          else
            lt_ (a4 + 1) fun x11 => k18 a1 a2 a3 x11 r7.2
        else
          S_bars_B92 F k18 T tx a1 a4 r7.1 r7.2
def S_bars_L18 (F : Nat) (T : Th) (tx : Nat) : Nat → Int32 → Int32 → Int32 → Int32 → (Nat → Ji) → Option (Int32 × (Nat → Ji))
  | 0, _, _, _, _, _ => none
  | n + 1, a1, a2, a3, a4, V => S_bars_B18 F (S_bars_L18 F T tx n) T tx a1 a2 a3 a4 V
def S_bars (F : Nat) (T : Th) (tx : Nat) (a1 : Int32) (V : Nat → Ji) : Option (Int32 × (Nat → Ji)) :=
  (S_isIn a1 0 1).bind fun r1 => if r1 = 0 then
    some ((-1), V)
  else
    S_bars_L18 F T tx F a1 0 ((-1)) 0 V
def S_isMinute (T : Th) (tx : Nat) (a1 : Int32) : Option (Int32) :=
  dI T tx 4 5 fun x1 => (S_isIn a1 0 x1).bind fun r2 => (bz r2).bind fun r3 => some r3
def S_where (F : Nat) (T : Th) (tx : Nat) (a1 : Int32) (a2 : Int32) (V : Nat → Ji) : Option (Int32 × (Nat → Ji)) :=
  (S_isMan T tx a1).bind fun r1 => if r1 = 0 then
    some ((-1), V)
  else
    (S_isMinute T tx a2).bind fun r2 => if r2 = 0 then
      some ((-1), V)
    else
      dR T tx 4 4 fun x3 => (x3).bind fun b4 => dC T b4 19 <| (L_get T b4 a1).bind fun r5 => (r5).bind fun b6 => dC T b6 14 <| dI T b6 14 1 fun x7 => ldI (V 0) 9 6 a1 fun x8 => if 0 ≤ x8 then
        (V_laysWays F T tx (V 0)).bind fun r9 => dR T tx 4 3 fun x10 => (x10).bind fun b11 => dC T b11 19 <| (L_get T b11 x8).bind fun r12 => (r12).bind fun b13 => dC T b13 12 <| dI T b13 12 1 fun x14 => (ix x7 8).bind fun q15 => ldI ((vf_upd V 0 r9) 0) (16 + q15) 8 x14 fun x16 => if a2 < x16 then
          some (x7, vf_upd V 0 r9)
        else
          some (x14, vf_upd V 0 r9)
      else
        some (x7, V)
def S_strokes (F : Nat) (T : Th) (tx : Nat) (a1 : Int32) (a2 : Int32) (V : Nat → Ji) : Option (Int32 × (Nat → Ji)) :=
  (S_isMan T tx a1).bind fun r1 => if r1 = 0 then
    some ((-1), V)
  else
    (S_isMinute T tx a2).bind fun r2 => if r2 = 0 then
      some ((-1), V)
    else
      lt_ (vf_upd V 1 (V_takes (V 0) (V 1))) fun V3 => (V_nightTill F T tx a2 (V3 1)).bind fun r4 => ldI ((vf_upd V3 1 r4) 1) 12 6 a1 fun x5 => some (x5, vf_upd V3 1 r4)
def S_tell (T : Th) (tx : Nat) (a1 : Int32) (a2 : Int32) (a3 : Int32) (S : Ji) : Option (Int32 × Ji) :=
  (S_isStep T tx a1 a2).bind fun r1 => if r1 = 0 then
    some ((-1), S)
  else
    (S_isIn a3 0 999).bind fun r2 => if r2 = 0 then
      some ((-1), S)
    else
      if (S 0 15) = 30 then
        some ((-1), S)
      else
        stI S 184 30 (S 0 15) a1 fun S3 => stI S3 185 30 (S3 0 15) a2 fun S4 => stI S4 186 30 (S4 0 15) a3 fun S5 => lt_ (uJ S5 0 15 ((S5 0 15) + 1)) fun S6 => some ((S6 0 15) - 1, S6)
def S_forget (T : Th) (tx : Nat) (S : Ji) : Option (Int32 × Ji) :=
  lt_ (S 0 15) fun x1 => lt_ (uJ S 0 15 0) fun S2 => some (x1, S2)
def S_isKnown (T : Th) (tx : Nat) (S : Ji) (a1 : Int32) : Option (Int32) :=
  (S_isIn a1 0 (S 0 15)).bind fun r1 => (bz r1).bind fun r2 => some r2
def S_isSo_B13 (F : Nat) (k13 : Int32 → Int32 → (Nat → Ji) → Option (Int32 × (Nat → Ji))) (T : Th) (tx : Nat) (S : Ji) (a1 : Int32) (a2 : Int32) (V : Nat → Ji) : Option (Int32 × (Nat → Ji)) :=
  if a1 ≤ a2 then
    some (1, V)
  else
    ldI S 184 30 a2 fun x2 => (ix x2 6).bind fun q3 => ldI S 185 30 a2 fun x4 => ldI (V 1) (2 + q3) 6 x4 fun x5 => ldI S 186 30 a2 fun x6 => if x5 = x6 then
      lt_ (a2 + 1) fun x7 => k13 a1 x7 V
    else
      some (0, V)
def S_isSo_L13 (F : Nat) (T : Th) (tx : Nat) (S : Ji) : Nat → Int32 → Int32 → (Nat → Ji) → Option (Int32 × (Nat → Ji))
  | 0, _, _, _ => none
  | n + 1, a1, a2, V => S_isSo_B13 F (S_isSo_L13 F T tx S n) T tx S a1 a2 V
def S_isSo (F : Nat) (T : Th) (tx : Nat) (S : Ji) (a1 : Int32) (V : Nat → Ji) : Option (Int32 × (Nat → Ji)) :=
  (V_night F T tx (V 1)).bind fun r1 => S_isSo_L13 F T tx S F a1 0 (vf_upd V 1 r1)
def S_isFit (F : Nat) (T : Th) (tx : Nat) (S : Ji) (a1 : Int32) (a2 : Int32) (a3 : Int32) (V : Nat → Ji) : Option (Int32 × (Nat → Ji)) :=
  lt_ (vf_upd V 1 (V_takes (V 0) (V 1))) fun V1 => (S_leavesThen T tx a1 a2 V1).bind fun r2 => (S_isSo F T tx S a3 r2).bind fun r3 => (bz r3.1).bind fun r4 => some (r4, r3.2)
def S_fits_B29 (F : Nat) (k29 : Int32 → Int32 → Int32 → Int32 → Int32 → (Nat → Ji) → Option (Int32 × (Nat → Ji))) (T : Th) (tx : Nat) (S : Ji) (a1 : Int32) (a2 : Int32) (a3 : Int32) (a4 : Int32) (a5 : Int32) (V : Nat → Ji) : Option (Int32 × (Nat → Ji)) :=
  (S_choices F T tx).bind fun r3 => if r3 ≤ a5 then
    if a3 = ((-1)) then
      some (a4, V)
    else
      some ((-1), V)
  else
    (S_choice F T tx a5).bind fun r4 => (S_isFit F T tx S a1 r4 a2 V).bind fun r5 => if r5.1 = 0 then
      lt_ (a5 + 1) fun x6 => k29 a1 a2 a3 a4 x6 r5.2
    else
      if a4 = a3 then
        (S_choice F T tx a5).bind fun r7 => some (r7, r5.2)
      else
        lt_ (a4 + 1) fun x8 => lt_ (a5 + 1) fun x9 => k29 a1 a2 a3 x8 x9 r5.2
def S_fits_L29 (F : Nat) (T : Th) (tx : Nat) (S : Ji) : Nat → Int32 → Int32 → Int32 → Int32 → Int32 → (Nat → Ji) → Option (Int32 × (Nat → Ji))
  | 0, _, _, _, _, _, _ => none
  | n + 1, a1, a2, a3, a4, a5, V => S_fits_B29 F (S_fits_L29 F T tx S n) T tx S a1 a2 a3 a4 a5 V
def S_fits (F : Nat) (T : Th) (tx : Nat) (S : Ji) (a1 : Int32) (a2 : Int32) (a3 : Int32) (V : Nat → Ji) : Option (Int32 × (Nat → Ji)) :=
  (S_isMan T tx a1).bind fun r1 => if r1 = 0 then
    some ((-1), V)
  else
    (S_isKnown T tx S a2).bind fun r2 => if r2 = 0 then
      some ((-1), V)
    else
      if ((-1)) ≤ a3 then
        S_fits_L29 F T tx S F a1 a2 a3 0 0 V
      else
        some ((-1), V)
def S_leftNow (T : Th) (tx : Nat) (V : Nat → Ji) (a1 : Int32) : Option (Int32) :=
  ldI (V 0) 9 6 a1 fun x1 => if 0 ≤ x1 then
    ldI (V 0) 9 6 a1 fun x2 => ldI (V 0) 10 6 a1 fun x3 => some ((10 * x2) + x3)
  else
    some ((-2))
def S_suspects_B31 (F : Nat) (k14 : Int32 → Int32 → Int32 → (Nat → Ji) → Option (Int32 × (Nat → Ji))) (k31 : Int32 → Int32 → Int32 → Int32 → (Nat → Ji) → Option (Int32 × (Nat → Ji))) (T : Th) (tx : Nat) (S : Ji) (a1 : Int32) (a2 : Int32) (a3 : Int32) (a4 : Int32) (V : Nat → Ji) : Option (Int32 × (Nat → Ji)) :=
  (S_choices F T tx).bind fun r5 => if r5 ≤ a4 then
    lt_ (a3 + 1) fun x6 => k14 a1 a2 x6 V
  else
    (S_choice F T tx a4).bind fun r7 => (S_leftNow T tx V a3).bind fun r8 => if r7 = r8 then
      lt_ (a4 + 1) fun x9 => k31 a1 a2 a3 x9 V
    else
      (S_choice F T tx a4).bind fun r10 => (S_isFit F T tx S a3 r10 a1 V).bind fun r11 => if r11.1 = 0 then
        lt_ (a4 + 1) fun x12 => k31 a1 a2 a3 x12 r11.2
      else
        lt_ (a2 ||| (1 <<< (a3 &&& 31))) fun x13 => lt_ (a4 + 1) fun x14 => k31 a1 x13 a3 x14 r11.2
def S_suspects_L31 (F : Nat) (k14 : Int32 → Int32 → Int32 → (Nat → Ji) → Option (Int32 × (Nat → Ji))) (T : Th) (tx : Nat) (S : Ji) : Nat → Int32 → Int32 → Int32 → Int32 → (Nat → Ji) → Option (Int32 × (Nat → Ji))
  | 0, _, _, _, _, _ => none
  | n + 1, a1, a2, a3, a4, V => S_suspects_B31 F k14 (S_suspects_L31 F k14 T tx S n) T tx S a1 a2 a3 a4 V
def S_suspects_B14 (F : Nat) (k14 : Int32 → Int32 → Int32 → (Nat → Ji) → Option (Int32 × (Nat → Ji))) (T : Th) (tx : Nat) (S : Ji) (a1 : Int32) (a2 : Int32) (a3 : Int32) (V : Nat → Ji) : Option (Int32 × (Nat → Ji)) :=
  dR T tx 4 4 fun x2 => (x2).bind fun b3 => dC T b3 19 <| (L_size T b3).bind fun r4 => if r4 ≤ a3 then
    some (a2, V)
  else
    S_suspects_L31 F k14 T tx S F a1 a2 a3 0 V
def S_suspects_L14 (F : Nat) (T : Th) (tx : Nat) (S : Ji) : Nat → Int32 → Int32 → Int32 → (Nat → Ji) → Option (Int32 × (Nat → Ji))
  | 0, _, _, _, _ => none
  | n + 1, a1, a2, a3, V => S_suspects_B14 F (S_suspects_L14 F T tx S n) T tx S a1 a2 a3 V
def S_suspects (F : Nat) (T : Th) (tx : Nat) (S : Ji) (a1 : Int32) (V : Nat → Ji) : Option (Int32 × (Nat → Ji)) :=
  (S_isKnown T tx S a1).bind fun r1 => if r1 = 0 then
    some ((-1), V)
  else
    S_suspects_L14 F T tx S F a1 0 0 V
def S_pairs_B94 (F : Nat) (k25 : Int32 → Int32 → Int32 → Int32 → Int32 → (Nat → Ji) → Option (Int32 × (Nat → Ji))) (k37 : Int32 → Int32 → Int32 → Int32 → Int32 → Int32 → (Nat → Ji) → Option (Int32 × (Nat → Ji))) (T : Th) (tx : Nat) (S : Ji) (a1 : Int32) (a2 : Int32) (a3 : Int32) (a5 : Int32) (a6 : Int32) (s0 : Int32) (s1 : Int32) (V : Nat → Ji) : Option (Int32 × (Nat → Ji)) :=
  lt_ (s1 + s0) fun x12 => lt_ (a6 + 1) fun x13 => k37 a1 a2 a3 x12 a5 x13 V
def S_pairs_B37 (F : Nat) (k25 : Int32 → Int32 → Int32 → Int32 → Int32 → (Nat → Ji) → Option (Int32 × (Nat → Ji))) (k37 : Int32 → Int32 → Int32 → Int32 → Int32 → Int32 → (Nat → Ji) → Option (Int32 × (Nat → Ji))) (T : Th) (tx : Nat) (S : Ji) (a1 : Int32) (a2 : Int32) (a3 : Int32) (a4 : Int32) (a5 : Int32) (a6 : Int32) (V : Nat → Ji) : Option (Int32 × (Nat → Ji)) :=
  (S_choices F T tx).bind fun r4 => if r4 ≤ a6 then
    lt_ (a5 + 1) fun x5 => k25 a1 a2 a3 a4 x5 V
  else
    lt_ (vf_upd V 1 (V_takes (V 0) (V 1))) fun V6 => (S_choice F T tx a5).bind fun r7 => (S_leavesThen T tx a1 r7 V6).bind fun r8 => (S_choice F T tx a6).bind fun r9 => (S_leavesThen T tx a2 r9 r8).bind fun r10 => (S_isSo F T tx S a3 r10).bind fun r11 => if r11.1 = 0 then
      S_pairs_B94 F k25 k37 T tx S a1 a2 a3 a5 a6 0 a4 r11.2
    else
      S_pairs_B94 F k25 k37 T tx S a1 a2 a3 a5 a6 1 a4 r11.2
def S_pairs_L37 (F : Nat) (k25 : Int32 → Int32 → Int32 → Int32 → Int32 → (Nat → Ji) → Option (Int32 × (Nat → Ji))) (T : Th) (tx : Nat) (S : Ji) : Nat → Int32 → Int32 → Int32 → Int32 → Int32 → Int32 → (Nat → Ji) → Option (Int32 × (Nat → Ji))
  | 0, _, _, _, _, _, _, _ => none
  | n + 1, a1, a2, a3, a4, a5, a6, V => S_pairs_B37 F k25 (S_pairs_L37 F k25 T tx S n) T tx S a1 a2 a3 a4 a5 a6 V
def S_pairs_B25 (F : Nat) (k25 : Int32 → Int32 → Int32 → Int32 → Int32 → (Nat → Ji) → Option (Int32 × (Nat → Ji))) (T : Th) (tx : Nat) (S : Ji) (a1 : Int32) (a2 : Int32) (a3 : Int32) (a4 : Int32) (a5 : Int32) (V : Nat → Ji) : Option (Int32 × (Nat → Ji)) :=
  (S_choices F T tx).bind fun r3 => if r3 ≤ a5 then
    some (a4, V)
  else
    S_pairs_L37 F k25 T tx S F a1 a2 a3 a4 a5 0 V
def S_pairs_L25 (F : Nat) (T : Th) (tx : Nat) (S : Ji) : Nat → Int32 → Int32 → Int32 → Int32 → Int32 → (Nat → Ji) → Option (Int32 × (Nat → Ji))
  | 0, _, _, _, _, _, _ => none
  | n + 1, a1, a2, a3, a4, a5, V => S_pairs_B25 F (S_pairs_L25 F T tx S n) T tx S a1 a2 a3 a4 a5 V
def S_pairs (F : Nat) (T : Th) (tx : Nat) (S : Ji) (a1 : Int32) (a2 : Int32) (a3 : Int32) (V : Nat → Ji) : Option (Int32 × (Nat → Ji)) :=
  (S_areTwo T tx a1 a2).bind fun r1 => if r1 = 0 then
    some ((-1), V)
  else
    (S_isKnown T tx S a3).bind fun r2 => if r2 = 0 then
      some ((-1), V)
    else
      S_pairs_L25 F T tx S F a1 a2 a3 0 0 V
def S_hold (T : Th) (tx : Nat) (a1 : Int32) (S : Ji) (V : Nat → Ji) : Option (Int32 × Ji × (Nat → Ji)) :=
  (S_isIn a1 0 2).bind fun r1 => if r1 = 0 then
    some (0, S, V)
  else
    (ix a1 3).bind fun q2 => lt_ (vf_upd V (22 + q2) (V_takes (V 0) (V (22 + q2)))) fun V3 => stI S 183 3 a1 (1 &&& 1) fun S4 => some (1, S4, V3)
def S_restore (T : Th) (tx : Nat) (a1 : Int32) (S : Ji) (V : Nat → Ji) : Option (Int32 × Ji × (Nat → Ji)) :=
  (S_isIn a1 0 2).bind fun r1 => if r1 = 0 then
    some (0, S, V)
  else
    ldI S 183 3 a1 fun x2 => if x2 = 0 then
      some (0, S, V)
    else
      (ix a1 3).bind fun q3 => lt_ (vf_upd V 0 (V_takes (V (22 + q3)) (V 0))) fun V4 => lt_ (uJ S 0 5 0) fun S5 => some (1, S5, V4)
def S_count_B208 (F : Nat) (T : Th) (tx : Nat) (S : Ji) (Q : Ji) (V : Nat → Ji) (s0 : Int32) (s1 : Int32) : Option (Int32) :=
  ldI S 183 3 2 fun x21 => if x21 = 0 then
    some ((s1 + s0) + 0)
  else
    some ((s1 + s0) + 1)
def S_count_B194 (F : Nat) (T : Th) (tx : Nat) (S : Ji) (Q : Ji) (V : Nat → Ji) (s0 : Int32) : Option (Int32) :=
  ldI S 183 3 1 fun x20 => if x20 = 0 then
    S_count_B208 F T tx S Q V 0 s0
  else
    S_count_B208 F T tx S Q V 1 s0
def S_count (F : Nat) (T : Th) (tx : Nat) (S : Ji) (Q : Ji) (V : Nat → Ji) (a1 : Int32) : Option (Int32) :=
  if a1 = 0 then
    dR T tx 4 0 fun x1 => (x1).bind fun b2 => dC T b2 19 <| (L_size T b2).bind fun r3 => some r3
  else if a1 = 1 then
    dR T tx 4 1 fun x4 => (x4).bind fun b5 => dC T b5 19 <| (L_size T b5).bind fun r6 => some r6
  else if a1 = 2 then
    dR T tx 4 2 fun x7 => (x7).bind fun b8 => dC T b8 19 <| (L_size T b8).bind fun r9 => some r9
  else if a1 = 3 then
    dR T tx 4 3 fun x10 => (x10).bind fun b11 => dC T b11 19 <| (L_size T b11).bind fun r12 => some r12
  else if a1 = 4 then
    dR T tx 4 4 fun x13 => (x13).bind fun b14 => dC T b14 19 <| (L_size T b14).bind fun r15 => some r15
  else if a1 = 5 then
    dI T tx 4 5 fun x16 => some x16
  else if a1 = 6 then
    some (V 0 0 9)
  else if a1 = 7 then
    (J_bitCount (V 0 0 8)).bind fun r17 => some r17
  else if a1 = 8 then
    (V_worthOfAll F T (V 0) tx).bind fun r18 => some r18
  else if a1 = 9 then
    some (Q 2 2)
  else if a1 = 10 then
    some (S 0 5)
  else if a1 = 11 then
    some (S 0 15)
  else if a1 = 12 then
    ldI S 183 3 0 fun x19 => if x19 = 0 then
      S_count_B194 F T tx S Q V 0
    else
      S_count_B194 F T tx S Q V 1
  else 
    some ((-1))
