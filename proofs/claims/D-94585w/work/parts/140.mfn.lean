/-! the model's methods as pure functions over its region (printed by gen/mgen.py) -/
set_option maxRecDepth 100000
def M_appends (a0 : Int64) (a2 : Int32) : Option (Int64) :=
  if a2 = 0 then
    some a0
  else
    some ((27 * a0) + (((a2 - 97) + 1).toInt64))
def M_word (a0 : Int32) (a1 : Int32) (a2 : Int32) (a3 : Int32) (a4 : Int32) (a5 : Int32) (a6 : Int32) : Option (Int64) :=
  (M_appends 0 a0).bind fun r1 => (M_appends r1 a1).bind fun r2 => (M_appends r2 a2).bind fun r3 => (M_appends r3 a3).bind fun r4 => (M_appends r4 a4).bind fun r5 => (M_appends r5 a5).bind fun r6 => (M_appends r6 a6).bind fun r7 => some r7
def M_put_B3 (F : Nat) (k3 : Int32 → Int32 → Ji → Option (Ji)) (a1 : Int32) (a2 : Int32) (J : Ji) : Option (Ji) :=
  if a2 < 0 then
    some J
  else
    stI J 1 2000 (J 0 2) (((a1 >>> (a2 &&& 31)).toInt8.toInt32).toInt8.toInt32) fun J1 => lt_ (uJ J1 0 2 ((J1 0 2) + 1)) fun J2 => lt_ (a2 + (-8)) fun x3 => k3 a1 x3 J2
def M_put_L3 (F : Nat) : Nat → Int32 → Int32 → Ji → Option (Ji)
  | 0, _, _, _ => none
  | n + 1, a1, a2, J => M_put_B3 F (M_put_L3 F n) a1 a2 J
def M_put (F : Nat) (a1 : Int32) (J : Ji) : Option (Ji) :=
  M_put_L3 F F a1 24 J
def M_feed (F : Nat) (a1 : Int32) (a2 : Int32) (a3 : Int32) (a4 : Int32) (a5 : Int32) (J : Ji) : Option (Int32 × Ji) :=
  if ((J 0 2) + 20) ≤ 2000 then
    (M_put F a1 J).bind fun r1 => (M_put F a2 r1).bind fun r2 => (M_put F a3 r2).bind fun r3 => (M_put F a4 r3).bind fun r4 => (M_put F a5 r4).bind fun r5 => some (r5 0 2, r5)
  else
    some ((-1), J)
def M_back (a1 : Int32) (J : Ji) : Option (Int32 × Ji) :=
  if a1 < 0 then
    some ((-1), J)
  else
    if a1 ≤ (J 0 2) then
      lt_ (uJ J 0 2 ((J 0 2) - a1)) fun J1 => some (J1 0 2, J1)
    else
      some ((-1), J)
def M_menNow (J : Ji) : Option (Int32) :=
  ldI J 29 2 (J 0 18) fun x1 => some x1
def M_tasksNow (J : Ji) : Option (Int32) :=
  ldI J 19 2 (J 0 18) fun x1 => some x1
def M_begins_B176 (F : Nat) (k176 : Int32 → Ji → Option (Ji)) (a1 : Int32) (J : Ji) : Option (Ji) :=
  ldI J 12 2 (J 0 18) fun x18 => if x18 ≤ a1 then
    some J
  else
    ldI J 16 24 ((12 * (J 0 18)) + a1) fun x19 => if x19 = 0 then
      lt_ (a1 + 1) fun x20 => k176 x20 J
    else
      ldI J 47 100 78 fun x21 => stI J 47 100 78 (x21 ||| (1 <<< (a1 &&& 31))) fun J22 => lt_ (a1 + 1) fun x23 => k176 x23 J22
def M_begins_L176 (F : Nat) : Nat → Int32 → Ji → Option (Ji)
  | 0, _, _ => none
  | n + 1, a1, J => M_begins_B176 F (M_begins_L176 F n) a1 J
def M_begins_B132 (F : Nat) (k132 : Int32 → Ji → Option (Ji)) (a1 : Int32) (J : Ji) : Option (Ji) :=
  ldI J 17 2 (J 0 18) fun x14 => if x14 ≤ a1 then
    M_begins_L176 F F 0 J
  else
    ldI J 18 12 ((6 * (J 0 18)) + a1) fun x15 => stI J 47 100 (72 + a1) x15 fun J16 => lt_ (a1 + 1) fun x17 => k132 x17 J16
def M_begins_L132 (F : Nat) : Nat → Int32 → Ji → Option (Ji)
  | 0, _, _ => none
  | n + 1, a1, J => M_begins_B132 F (M_begins_L132 F n) a1 J
def M_begins_B59 (F : Nat) (k59 : Int32 → Ji → Option (Ji)) (a1 : Int32) (J : Ji) : Option (Ji) :=
  (M_menNow J).bind fun r7 => if r7 ≤ a1 then
    M_begins_L132 F F 0 J
  else
    ldI J 31 12 ((6 * (J 0 18)) + a1) fun x8 => stI J 47 100 (42 + a1) x8 fun J9 => ldI J9 32 12 ((6 * (J9 0 18)) + a1) fun x10 => stI J9 47 100 (48 + a1) x10 fun J11 => stI J11 47 100 (66 + a1) ((-2)) fun J12 => lt_ (a1 + 1) fun x13 => k59 x13 J12
def M_begins_L59 (F : Nat) : Nat → Int32 → Ji → Option (Ji)
  | 0, _, _ => none
  | n + 1, a1, J => M_begins_B59 F (M_begins_L59 F n) a1 J
def M_begins_B23 (F : Nat) (k23 : Int32 → Ji → Option (Ji)) (a1 : Int32) (J : Ji) : Option (Ji) :=
  (M_tasksNow J).bind fun r3 => if r3 ≤ a1 then
    M_begins_L59 F F 0 J
  else
    ldI J 21 12 ((6 * (J 0 18)) + a1) fun x4 => stI J 47 100 a1 x4 fun J5 => lt_ (a1 + 1) fun x6 => k23 x6 J5
def M_begins_L23 (F : Nat) : Nat → Int32 → Ji → Option (Ji)
  | 0, _, _ => none
  | n + 1, a1, J => M_begins_B23 F (M_begins_L23 F n) a1 J
def M_begins_B2 (F : Nat) (k2 : Int32 → Ji → Option (Ji)) (a1 : Int32) (J : Ji) : Option (Ji) :=
  if 100 ≤ a1 then
    M_begins_L23 F F 0 J
  else
    stI J 47 100 a1 0 fun J1 => lt_ (a1 + 1) fun x2 => k2 x2 J1
def M_begins_L2 (F : Nat) : Nat → Int32 → Ji → Option (Ji)
  | 0, _, _ => none
  | n + 1, a1, J => M_begins_B2 F (M_begins_L2 F n) a1 J
def M_begins (F : Nat) (J : Ji) : Option (Ji) :=
  M_begins_L2 F F 0 J
def M_byteAt (J : Ji) (a1 : Int32) : Option (Int32) :=
  if (J 0 4) ≤ a1 then
    some 0
  else
    ldI J 2 2000 a1 fun x1 => some (x1 &&& 255)
def M_isDigit (a0 : Int32) : Option (Int32) :=
  if a0 < 48 then
    some 0
  else
    if 57 < a0 then
      some 0
    else
      some 1
def M_isLetter (a0 : Int32) : Option (Int32) :=
  if a0 < 97 then
    some 0
  else
    if 122 < a0 then
      some 0
    else
      some 1
def M_token (a1 : Int32) (a2 : Int32) (a3 : Int32) (a4 : Int64) (J : Ji) (K : Jl) : Option (Ji × Jl) :=
  stI J 3 403 (J 0 10) a1 fun J1 => stI J1 4 403 (J1 0 10) a2 fun J2 => stI J2 5 403 (J2 0 10) a3 fun J3 => stL K 6 403 (J3 0 10) a4 fun K4 => lt_ (uJ J3 0 10 ((J3 0 10) + 1)) fun J5 => some (J5, K4)
def M_sign_B95 (a1 : Int32) (a4 : Int32) (J : Ji) (K : Jl) : Option (Int32 × Ji × Jl) :=
  (M_token a4 a1 0 0 J K).bind fun r1 => some (1, r1.1, r1.2)
def M_sign_B85 (a1 : Int32) (a2 : Int32) (a4 : Int32) (J : Ji) (K : Jl) : Option (Int32 × Ji × Jl) :=
  if a2 = 60 then
    M_sign_B95 a1 13 J K
  else
    M_sign_B95 a1 a4 J K
def M_sign_B75 (a1 : Int32) (a2 : Int32) (a4 : Int32) (J : Ji) (K : Jl) : Option (Int32 × Ji × Jl) :=
  if a2 = 47 then
    M_sign_B85 a1 a2 15 J K
  else
    M_sign_B85 a1 a2 a4 J K
def M_sign_B65 (a1 : Int32) (a2 : Int32) (a4 : Int32) (J : Ji) (K : Jl) : Option (Int32 × Ji × Jl) :=
  if a2 = 42 then
    M_sign_B75 a1 a2 10 J K
  else
    M_sign_B75 a1 a2 a4 J K
def M_sign_B55 (a1 : Int32) (a2 : Int32) (a4 : Int32) (J : Ji) (K : Jl) : Option (Int32 × Ji × Jl) :=
  if a2 = 45 then
    M_sign_B65 a1 a2 9 J K
  else
    M_sign_B65 a1 a2 a4 J K
def M_sign_B43 (a1 : Int32) (a2 : Int32) (s0 : Int32) (J : Ji) (K : Jl) : Option (Int32 × Ji × Jl) :=
  if a2 = 43 then
    M_sign_B55 a1 a2 8 J K
  else
    M_sign_B55 a1 a2 s0 J K
def M_sign (a1 : Int32) (a2 : Int32) (a3 : Int32) (J : Ji) (K : Jl) : Option (Int32 × Ji × Jl) :=
  if a2 = 59 then
    M_sign_B43 a1 a2 4 J K
  else
    if a2 = 61 then
      M_sign_B43 a1 a2 5 J K
    else
      if a2 = 40 then
        M_sign_B43 a1 a2 6 J K
      else
        if a2 = 41 then
          M_sign_B43 a1 a2 7 J K
        else
          M_sign_B43 a1 a2 3 J K
def M_cut_B261 (F : Nat) (k7 : Int32 → Ji → Jl → Option (Ji × Jl)) (a1 : Int32) (a3 : Int32) (a4 : Int32) (s0 : Int32) (J : Ji) (K : Jl) : Option (Ji × Jl) :=
  (M_token s0 a1 a4 0 J K).bind fun r31 => lt_ (a1 + a3) fun x32 => k7 x32 r31.1 r31.2
def M_cut_B208 (F : Nat) (k7 : Int32 → Ji → Jl → Option (Ji × Jl)) (k208 : Int32 → Int32 → Int32 → Ji → Jl → Option (Ji × Jl)) (a1 : Int32) (a3 : Int32) (a4 : Int32) (J : Ji) (K : Jl) : Option (Ji × Jl) :=
  (M_byteAt J (a1 + a3)).bind fun r25 => (M_isDigit r25).bind fun r26 => if r26 = 0 then
    if a3 ≤ 4 then
      M_cut_B261 F k7 a1 a3 a4 2 J K
    else
      M_cut_B261 F k7 a1 a3 a4 3 J K
  else
    if 4 ≤ a3 then
      lt_ (a3 + 1) fun x27 => k208 a1 x27 a4 J K
    else
      (M_byteAt J (a1 + a3)).bind fun r28 => lt_ (((10 * a4) + r28) - 48) fun x29 => lt_ (a3 + 1) fun x30 => k208 a1 x30 x29 J K
def M_cut_L208 (F : Nat) (k7 : Int32 → Ji → Jl → Option (Ji × Jl)) : Nat → Int32 → Int32 → Int32 → Ji → Jl → Option (Ji × Jl)
  | 0, _, _, _, _, _ => none
  | n + 1, a1, a3, a4, J, K => M_cut_B208 F k7 (M_cut_L208 F k7 n) a1 a3 a4 J K
def M_cut_B179 (F : Nat) (k7 : Int32 → Ji → Jl → Option (Ji × Jl)) (a1 : Int32) (a3 : Int32) (a4 : Int64) (a6 : Int32) (J : Ji) (K : Jl) : Option (Ji × Jl) :=
  (M_token a6 a1 0 a4 J K).bind fun r23 => lt_ (a1 + a3) fun x24 => k7 x24 r23.1 r23.2
def M_cut_B146 (F : Nat) (k7 : Int32 → Ji → Jl → Option (Ji × Jl)) (k146 : Int32 → Int32 → Int64 → Int32 → Int32 → Ji → Jl → Option (Ji × Jl)) (a1 : Int32) (a3 : Int32) (a4 : Int64) (a6 : Int32) (a7 : Int32) (J : Ji) (K : Jl) : Option (Ji × Jl) :=
  if 21 ≤ a7 then
    M_cut_B179 F k7 a1 a3 a4 a6 J K
  else
    ldL K 7 21 a7 fun x19 => if (lg_cmp x19 a4) = 0 then
      lt_ (20 + a7) fun x20 => lt_ (a7 + 1) fun x21 => k146 a1 a3 a4 x20 x21 J K
    else
      lt_ (a7 + 1) fun x22 => k146 a1 a3 a4 a6 x22 J K
def M_cut_L146 (F : Nat) (k7 : Int32 → Ji → Jl → Option (Ji × Jl)) : Nat → Int32 → Int32 → Int64 → Int32 → Int32 → Ji → Jl → Option (Ji × Jl)
  | 0, _, _, _, _, _, _, _ => none
  | n + 1, a1, a3, a4, a6, a7, J, K => M_cut_B146 F k7 (M_cut_L146 F k7 n) a1 a3 a4 a6 a7 J K
def M_cut_B135 (F : Nat) (k7 : Int32 → Ji → Jl → Option (Ji × Jl)) (a1 : Int32) (a3 : Int32) (a4 : Int64) (s0 : Int32) (J : Ji) (K : Jl) : Option (Ji × Jl) :=
  if 7 < a3 then
    M_cut_B179 F k7 a1 a3 a4 s0 J K
  else
    M_cut_L146 F k7 F a1 a3 a4 s0 0 J K
def M_cut_B85 (F : Nat) (k7 : Int32 → Ji → Jl → Option (Ji × Jl)) (k85 : Int32 → Int32 → Int64 → Ji → Jl → Option (Ji × Jl)) (a1 : Int32) (a3 : Int32) (a4 : Int64) (J : Ji) (K : Jl) : Option (Ji × Jl) :=
  (M_byteAt J (a1 + a3)).bind fun r13 => (M_isLetter r13).bind fun r14 => if r14 = 0 then
    if a3 ≤ 8 then
      M_cut_B135 F k7 a1 a3 a4 1 J K
    else
      M_cut_B135 F k7 a1 a3 a4 3 J K
  else
    if 8 ≤ a3 then
      lt_ (a3 + 1) fun x15 => k85 a1 x15 a4 J K
    else
      (M_byteAt J (a1 + a3)).bind fun r16 => (M_appends a4 r16).bind fun r17 => lt_ (a3 + 1) fun x18 => k85 a1 x18 r17 J K
def M_cut_L85 (F : Nat) (k7 : Int32 → Ji → Jl → Option (Ji × Jl)) : Nat → Int32 → Int32 → Int64 → Ji → Jl → Option (Ji × Jl)
  | 0, _, _, _, _, _ => none
  | n + 1, a1, a3, a4, J, K => M_cut_B85 F k7 (M_cut_L85 F k7 n) a1 a3 a4 J K
def M_cut_B7 (F : Nat) (k7 : Int32 → Ji → Jl → Option (Ji × Jl)) (a1 : Int32) (J : Ji) (K : Jl) : Option (Ji × Jl) :=
  if 400 < (J 0 10) then
    some (J, K)
  else
    (M_byteAt J a1).bind fun r2 => if a1 < (J 0 4) then
      if r2 = 9 then
        lt_ (a1 + 1) fun x3 => k7 x3 J K
      else
        if r2 = 10 then
          lt_ (a1 + 1) fun x4 => k7 x4 J K
        else
          if r2 = 13 then
            lt_ (a1 + 1) fun x5 => k7 x5 J K
          else
            if r2 = 32 then
              lt_ (a1 + 1) fun x6 => k7 x6 J K
            else
              (M_isLetter r2).bind fun r7 => if r7 = 0 then
                (M_isDigit r2).bind fun r8 => if r8 = 0 then
                  (M_byteAt J (a1 + 1)).bind fun r9 => (M_sign a1 r2 r9 J K).bind fun r10 => lt_ (a1 + r10.1) fun x11 => k7 x11 r10.2.1 r10.2.2
                else
                  M_cut_L208 F k7 F a1 0 0 J K
              else
                M_cut_L85 F k7 F a1 0 0 J K
    else
      (M_token 0 (J 0 4) 0 0 J K).bind fun r12 => some (r12.1, r12.2)
def M_cut_L7 (F : Nat) : Nat → Int32 → Ji → Jl → Option (Ji × Jl)
  | 0, _, _, _ => none
  | n + 1, a1, J, K => M_cut_B7 F (M_cut_L7 F n) a1 J K
def M_cut (F : Nat) (J : Ji) (K : Jl) : Option (Ji × Jl) :=
  lt_ (uJ J 0 10 0) fun J1 => M_cut_L7 F F 0 J1 K
def M_is (J : Ji) (a1 : Int32) : Option (Int32) :=
  if (J 0 13) = 0 then
    ldI J 3 403 (J 0 11) fun x1 => if x1 = a1 then
      some 1
    else
      some 0
  else
    some 0
def M_fail (a1 : Int32) (J : Ji) : Option (Ji) :=
  if (J 0 13) ≤ 0 then
    lt_ (uJ J 0 13 a1) fun J1 => ldI J1 4 403 (J1 0 11) fun x2 => lt_ (uJ J1 0 14 x2) fun J3 => some J3
  else
    some J
def M_goesOn (J : Ji) : Option (Ji) :=
  if (J 0 11) = 400 then
    (M_fail 2 J).bind fun r1 => some r1
  else
    lt_ (uJ J 0 11 ((J 0 11) + 1)) fun J2 => some J2
def M_wrong_B46 (a1 : Int32) (a3 : Int32) (J : Ji) : Option (Ji) :=
  lt_ (uJ J 0 15 a1) fun J2 => lt_ (uJ J2 0 16 a3) fun J3 => some J3
def M_wrong (a1 : Int32) (a2 : Int32) (J : Ji) : Option (Ji) :=
  ldI J 4 403 a2 fun x1 => if 0 < (J 0 13) then
    some J
  else
    if (J 0 15) = 0 then
      M_wrong_B46 a1 x1 J
    else
      if (J 0 16) < x1 then
        some J
      else
        if x1 = (J 0 16) then
          if a1 < (J 0 15) then
            M_wrong_B46 a1 x1 J
          else
            some J
        else
          M_wrong_B46 a1 x1 J
def M_bounded_B15 (a1 : Int32) (J : Ji) : Option (Int32 × Ji) :=
  (M_fail 1 J).bind fun r5 => some (a1, r5)
def M_bounded_B51 (a3 : Int32) (J : Ji) : Option (Int32 × Ji) :=
  (M_goesOn J).bind fun r3 => some (a3, r3)
def M_bounded_B42 (a3 : Int32) (J : Ji) : Option (Int32 × Ji) :=
  (M_wrong 5 (J 0 11) J).bind fun r4 => M_bounded_B51 a3 r4
def M_bounded (a1 : Int32) (a2 : Int32) (J : Ji) : Option (Int32 × Ji) :=
  if 0 < (J 0 13) then
    M_bounded_B15 a1 J
  else
    (M_is J 2).bind fun r1 => if r1 = 0 then
      M_bounded_B15 a1 J
    else
      ldI J 5 403 (J 0 11) fun x2 => if x2 < a1 then
        M_bounded_B42 x2 J
      else
        if x2 ≤ a2 then
          M_bounded_B51 x2 J
        else
          M_bounded_B42 x2 J
def M_must (a1 : Int32) (J : Ji) : Option (Ji) :=
  (M_is J a1).bind fun r1 => if r1 = 0 then
    (M_fail 1 J).bind fun r2 => some r2
  else
    (M_goesOn J).bind fun r3 => some r3
def M_roomFor_B10 (J : Ji) : Option (Ji) :=
  if (J 0 13) = 0 then
    (M_goesOn J).bind fun r2 => some r2
  else
    some J
def M_roomFor (a1 : Int32) (a2 : Int32) (J : Ji) : Option (Ji) :=
  if a1 = a2 then
    (M_fail 2 J).bind fun r1 => M_roomFor_B10 r1
  else
    M_roomFor_B10 J
def M_known_B21 (F : Nat) (k21 : Int32 → Int32 → Int32 → Ji → Option (Int32 × Ji)) (K : Jl) (a1 : Int32) (a2 : Int32) (a3 : Int32) (J : Ji) : Option (Int32 × Ji) :=
  if (J 0 20) ≤ a3 then
    (M_wrong 4 a2 J).bind fun r3 => some ((-1), r3)
  else
    ldL K 8 32 a3 fun x4 => ldL K 6 403 a2 fun x5 => if (lg_cmp x4 x5) = 0 then
      ldI J 9 32 a3 fun x6 => if x6 = a1 then
        ldI J 10 32 a3 fun x7 => some (x7, J)
      else
        lt_ (a3 + 1) fun x8 => k21 a1 a2 x8 J
    else
      lt_ (a3 + 1) fun x9 => k21 a1 a2 x9 J
def M_known_L21 (F : Nat) (K : Jl) : Nat → Int32 → Int32 → Int32 → Ji → Option (Int32 × Ji)
  | 0, _, _, _, _ => none
  | n + 1, a1, a2, a3, J => M_known_B21 F (M_known_L21 F K n) K a1 a2 a3 J
def M_known (F : Nat) (K : Jl) (a1 : Int32) (J : Ji) : Option (Int32 × Ji) :=
  lt_ (J 0 11) fun x1 => (M_must 1 J).bind fun r2 => if (r2 0 13) ≤ 0 then
    M_known_L21 F K F a1 x1 0 r2
  else
    some ((-1), r2)
def M_tellDoor_B135 (F : Nat) (K : Jl) (J : Ji) : Option (Ji) :=
  (M_must 4 J).bind fun r18 => if (r18 0 13) = 0 then
    ldI r18 12 2 (r18 0 19) fun x19 => stI r18 12 2 (r18 0 19) (x19 + 1) fun J20 => some J20
  else
    some r18
def M_tellDoor_B121 (F : Nat) (K : Jl) (a1 : Int32) (s0 : Int32) (s1 : Int32) (J : Ji) : Option (Ji) :=
  stI J 16 24 s1 (s0 &&& 1) fun J15 => ldI J15 16 24 a1 fun x16 => if x16 = 0 then
    M_tellDoor_B135 F K J15
  else
    (M_goesOn J15).bind fun r17 => M_tellDoor_B135 F K r17
def M_tellDoor_B120 (F : Nat) (K : Jl) (a1 : Int32) (s0 : Int32) (J : Ji) : Option (Ji) :=
  M_tellDoor_B121 F K a1 0 s0 J
def M_tellDoor_B82 (F : Nat) (K : Jl) (a1 : Int32) (J : Ji) : Option (Ji) :=
  (M_bounded 1 60 J).bind fun r12 => stI r12.2 15 24 a1 r12.1 fun J13 => if (J13 0 13) = 0 then
    (M_is J13 22).bind fun r14 => if r14 = 0 then
      M_tellDoor_B120 F K a1 a1 J13
    else
      M_tellDoor_B121 F K a1 1 a1 J13
  else
    M_tellDoor_B120 F K a1 a1 J13
def M_tellDoor (F : Nat) (K : Jl) (J : Ji) : Option (Ji) :=
  ldI J 12 2 (J 0 19) fun x1 => lt_ ((12 * (J 0 19)) + x1) fun x2 => (M_known F K 0 J).bind fun r3 => stI r3.2 13 24 x2 r3.1 fun J4 => lt_ (J4 0 11) fun x5 => (M_known F K 0 J4).bind fun r6 => stI r6.2 14 24 x2 r6.1 fun J7 => if (J7 0 13) = 0 then
    ldI J7 13 24 x2 fun x8 => if x8 < 0 then
      M_tellDoor_B82 F K x2 J7
    else
      ldI J7 13 24 x2 fun x9 => ldI J7 14 24 x2 fun x10 => if x9 = x10 then
        (M_wrong 5 x5 J7).bind fun r11 => M_tellDoor_B82 F K x2 r11
      else
        M_tellDoor_B82 F K x2 J7
  else
    M_tellDoor_B82 F K x2 J7
def M_emit (a1 : Int32) (a2 : Int32) (J : Ji) : Option (Ji) :=
  stI J 42 840 (J 0 56) a1 fun J1 => stI J1 43 840 (J1 0 56) a2 fun J2 => lt_ (uJ J2 0 56 ((J2 0 56) + 1)) fun J3 => some J3
def M_comesOut_B84 (F : Nat) (k0 : Int32 → Ji → Option (Ji)) (a1 : Int32) (s0 : Int32) (J : Ji) : Option (Ji) :=
  (M_emit s0 0 J).bind fun r3 => k0 a1 r3
def M_comesOut_B42 (F : Nat) (k0 : Int32 → Ji → Option (Ji)) (a1 : Int32) (a2 : Int32) (J : Ji) : Option (Ji) :=
  lt_ (uJ J 0 60 ((J 0 60) - 1)) fun J2 => if a2 = 8 then
    M_comesOut_B84 F k0 a1 2 J2
  else
    if a2 = 9 then
      M_comesOut_B84 F k0 a1 3 J2
    else
      if a2 = 10 then
        M_comesOut_B84 F k0 a1 4 J2
      else
        M_comesOut_B84 F k0 a1 5 J2
def M_comesOut_B0 (F : Nat) (k0 : Int32 → Ji → Option (Ji)) (a1 : Int32) (J : Ji) : Option (Ji) :=
  if (J 0 60) ≤ 0 then
    some J
  else
    ldI J 44 64 ((J 0 60) - 1) fun x1 => if x1 = 6 then
      some J
    else
      if a1 = 0 then
        M_comesOut_B42 F k0 a1 x1 J
      else
        if x1 = 8 then
          some J
        else
          if x1 = 9 then
            some J
          else
            M_comesOut_B42 F k0 a1 x1 J
def M_comesOut_L0 (F : Nat) : Nat → Int32 → Ji → Option (Ji)
  | 0, _, _ => none
  | n + 1, a1, J => M_comesOut_B0 F (M_comesOut_L0 F n) a1 J
def M_comesOut (F : Nat) (a1 : Int32) (J : Ji) : Option (Ji) :=
  M_comesOut_L0 F F a1 J
def M_unit_B88 (J : Ji) : Option (Ji) :=
  (M_fail 1 J).bind fun r10 => some r10
def M_unit (J : Ji) : Option (Ji) :=
  (M_is J 2).bind fun r1 => if r1 = 0 then
    if (J 0 13) = 0 then
      ldI J 3 403 (J 0 11) fun x2 => if x2 < 35 then
        M_unit_B88 J
      else
        ldI J 3 403 (J 0 11) fun x3 => if 40 < x3 then
          M_unit_B88 J
        else
          ldI J 3 403 (J 0 11) fun x4 => (M_emit 1 (x4 - 35) J).bind fun r5 => (M_goesOn r5).bind fun r6 => some r6
    else
      M_unit_B88 J
  else
    ldI J 5 403 (J 0 11) fun x7 => (M_emit 0 x7 J).bind fun r8 => (M_goesOn r8).bind fun r9 => some r9
def M_expression_B46 (F : Nat) (k12 : Int32 → Int32 → Ji → Option (Ji)) (k23 : Int32 → Ji → Option (Ji)) (a1 : Int32) (J : Ji) : Option (Ji) :=
  lt_ (uJ J 0 12 ((J 0 12) + 1)) fun J6 => (M_goesOn J6).bind fun r7 => stI r7 44 64 (r7 0 60) 6 fun J8 => lt_ (uJ J8 0 60 ((J8 0 60) + 1)) fun J9 => k23 a1 J9
def M_expression_B204 (F : Nat) (J : Ji) : Option (Ji) :=
  (M_comesOut F 0 J).bind fun r27 => some r27
def M_expression_B234 (F : Nat) (k12 : Int32 → Int32 → Ji → Option (Ji)) (a1 : Int32) (a2 : Int32) (s0 : Int32) (J : Ji) : Option (Ji) :=
  (M_comesOut F s0 J).bind fun r22 => ldI r22 3 403 (r22 0 11) fun x23 => stI r22 44 64 (r22 0 60) x23 fun J24 => lt_ (uJ J24 0 60 ((J24 0 60) + 1)) fun J25 => (M_goesOn J25).bind fun r26 => k12 a1 a2 r26
def M_expression_B186 (F : Nat) (k12 : Int32 → Int32 → Ji → Option (Ji)) (a1 : Int32) (s0 : Int32) (J : Ji) : Option (Ji) :=
  if s0 = 0 then
    if (J 0 12) ≤ a1 then
      M_expression_B204 F J
    else
      (M_fail 1 J).bind fun r19 => M_expression_B204 F r19
  else
    (M_is J 10).bind fun r20 => if r20 = 0 then
      (M_is J 15).bind fun r21 => if r21 = 0 then
        M_expression_B234 F k12 a1 s0 0 J
      else
        M_expression_B234 F k12 a1 s0 1 J
    else
      M_expression_B234 F k12 a1 s0 1 J
def M_expression_B145 (F : Nat) (k12 : Int32 → Int32 → Ji → Option (Ji)) (a1 : Int32) (J : Ji) : Option (Ji) :=
  (M_is J 8).bind fun r15 => if r15 = 0 then
    (M_is J 9).bind fun r16 => if r16 = 0 then
      (M_is J 10).bind fun r17 => if r17 = 0 then
        (M_is J 15).bind fun r18 => if r18 = 0 then
          M_expression_B186 F k12 a1 0 J
        else
          M_expression_B186 F k12 a1 1 J
      else
        M_expression_B186 F k12 a1 1 J
    else
      M_expression_B186 F k12 a1 1 J
  else
    M_expression_B186 F k12 a1 1 J
def M_expression_B96 (F : Nat) (k12 : Int32 → Int32 → Ji → Option (Ji)) (k96 : Int32 → Ji → Option (Ji)) (a1 : Int32) (J : Ji) : Option (Ji) :=
  (M_is J 7).bind fun r10 => if r10 = 0 then
    M_expression_B145 F k12 a1 J
  else
    if (J 0 12) ≤ a1 then
      M_expression_B145 F k12 a1 J
    else
      (M_comesOut F 0 J).bind fun r11 => lt_ (uJ r11 0 60 ((r11 0 60) - 1)) fun J12 => lt_ (uJ J12 0 12 ((J12 0 12) - 1)) fun J13 => (M_goesOn J13).bind fun r14 => k96 a1 r14
def M_expression_L96 (F : Nat) (k12 : Int32 → Int32 → Ji → Option (Ji)) : Nat → Int32 → Ji → Option (Ji)
  | 0, _, _ => none
  | n + 1, a1, J => M_expression_B96 F k12 (M_expression_L96 F k12 n) a1 J
def M_expression_B23 (F : Nat) (k12 : Int32 → Int32 → Ji → Option (Ji)) (k23 : Int32 → Ji → Option (Ji)) (a1 : Int32) (J : Ji) : Option (Ji) :=
  (M_is J 6).bind fun r3 => if r3 = 0 then
    (M_unit J).bind fun r4 => if (r4 0 13) ≤ 0 then
      M_expression_L96 F k12 F a1 r4
    else
      some r4
  else
    if (J 0 12) = 6 then
      (M_fail 2 J).bind fun r5 => M_expression_B46 F k12 k23 a1 r5
    else
      M_expression_B46 F k12 k23 a1 J
def M_expression_L23 (F : Nat) (k12 : Int32 → Int32 → Ji → Option (Ji)) : Nat → Int32 → Ji → Option (Ji)
  | 0, _, _ => none
  | n + 1, a1, J => M_expression_B23 F k12 (M_expression_L23 F k12 n) a1 J
def M_expression_B12 (F : Nat) (k12 : Int32 → Int32 → Ji → Option (Ji)) (a1 : Int32) (a2 : Int32) (J : Ji) : Option (Ji) :=
  if a2 = 0 then
    some J
  else
    if (J 0 13) = 0 then
      M_expression_L23 F k12 F a1 J
    else
      some J
def M_expression_L12 (F : Nat) : Nat → Int32 → Int32 → Ji → Option (Ji)
  | 0, _, _, _ => none
  | n + 1, a1, a2, J => M_expression_B12 F (M_expression_L12 F n) a1 a2 J
def M_expression (F : Nat) (J : Ji) : Option (Ji) :=
  lt_ (uJ J 0 60 0) fun J1 => lt_ (J1 0 12) fun x2 => M_expression_L12 F F x2 1 J1
def M_term_B24 (F : Nat) (J : Ji) : Option (Ji) :=
  stI J 40 100 (J 0 49) (J 0 56) fun J3 => lt_ (uJ J3 0 49 ((J3 0 49) + 1)) fun J4 => some J4
def M_term (F : Nat) (J : Ji) : Option (Ji) :=
  stI J 39 100 (J 0 49) (J 0 56) fun J1 => if (J1 0 13) = 0 then
    (M_expression F J1).bind fun r2 => M_term_B24 F r2
  else
    M_term_B24 F J1
def M_tellLaw_B135 (F : Nat) (K : Jl) (a1 : Int32) (a2 : Int32) (J : Ji) : Option (Ji) :=
  stI J 36 100 (J 0 49) (0 &&& 1) fun J17 => (M_term F J17).bind fun r18 => (M_must 4 r18).bind fun r19 => if (r19 0 13) ≤ 0 then
    ldI r19 33 2 (r19 0 19) fun x20 => stI r19 33 2 (r19 0 19) (x20 + 1) fun J21 => if 0 ≤ a1 then
      stI J21 34 12 ((6 * (J21 0 19)) + a1) a2 fun J22 => stI J22 35 12 ((6 * (J22 0 19)) + a1) (J22 0 49) fun J23 => some J23
    else
      some J21
  else
    some r19
def M_tellLaw_B116 (F : Nat) (k18 : Int32 → Int32 → Int32 → Ji → Option (Ji)) (K : Jl) (a1 : Int32) (a2 : Int32) (a3 : Int32) (J : Ji) : Option (Ji) :=
  (M_must 32 J).bind fun r14 => (M_term F r14).bind fun r15 => (M_must 33 r15).bind fun r16 => k18 a1 a2 a3 r16
def M_tellLaw_B44 (F : Nat) (k18 : Int32 → Int32 → Int32 → Ji → Option (Ji)) (K : Jl) (a1 : Int32) (a2 : Int32) (a3 : Int32) (J : Ji) : Option (Ji) :=
  if (J 0 13) ≤ 0 then
    lt_ (a3 + 1) fun x6 => (M_goesOn J).bind fun r7 => stI r7 36 100 (r7 0 49) (1 &&& 1) fun J8 => stI J8 37 100 (J8 0 49) (J8 0 56) fun J9 => (M_expression F J9).bind fun r10 => (M_must 13 r10).bind fun r11 => stI r11 38 100 (r11 0 49) (r11 0 56) fun J12 => if (J12 0 13) = 0 then
      (M_expression F J12).bind fun r13 => M_tellLaw_B116 F k18 K a1 a2 x6 r13
    else
      M_tellLaw_B116 F k18 K a1 a2 x6 J12
  else
    some J
def M_tellLaw_B18 (F : Nat) (k18 : Int32 → Int32 → Int32 → Ji → Option (Ji)) (K : Jl) (a1 : Int32) (a2 : Int32) (a3 : Int32) (J : Ji) : Option (Ji) :=
  if (J 0 13) = 0 then
    (M_is J 31).bind fun r4 => if r4 = 0 then
      M_tellLaw_B135 F K a1 a2 J
    else
      if a3 = 4 then
        (M_fail 2 J).bind fun r5 => M_tellLaw_B44 F k18 K a1 a2 a3 r5
      else
        M_tellLaw_B44 F k18 K a1 a2 a3 J
  else
    M_tellLaw_B135 F K a1 a2 J
def M_tellLaw_L18 (F : Nat) (K : Jl) : Nat → Int32 → Int32 → Int32 → Ji → Option (Ji)
  | 0, _, _, _, _ => none
  | n + 1, a1, a2, a3, J => M_tellLaw_B18 F (M_tellLaw_L18 F K n) K a1 a2 a3 J
def M_tellLaw (F : Nat) (K : Jl) (J : Ji) : Option (Ji) :=
  (M_known F K 3 J).bind fun r1 => (M_must 5 r1.2).bind fun r2 => lt_ (r2 0 49) fun x3 => M_tellLaw_L18 F K F r1.1 x3 0 r2
def M_named_B12 (F : Nat) (k12 : Int32 → Int32 → Ji → Option (Int32 × Ji)) (K : Jl) (a1 : Int32) (a2 : Int32) (J : Ji) : Option (Int32 × Ji) :=
  if (J 0 20) ≤ a2 then
    some (a1, J)
  else
    if (J 0 13) = 0 then
      ldL K 8 32 a2 fun x3 => ldL K 6 403 a1 fun x4 => if (lg_cmp x3 x4) = 0 then
        (M_wrong 3 a1 J).bind fun r5 => lt_ (a2 + 1) fun x6 => k12 a1 x6 r5
      else
        lt_ (a2 + 1) fun x7 => k12 a1 x7 J
    else
      some (a1, J)
def M_named_L12 (F : Nat) (K : Jl) : Nat → Int32 → Int32 → Ji → Option (Int32 × Ji)
  | 0, _, _, _ => none
  | n + 1, a1, a2, J => M_named_B12 F (M_named_L12 F K n) K a1 a2 J
def M_named (F : Nat) (K : Jl) (J : Ji) : Option (Int32 × Ji) :=
  lt_ (J 0 11) fun x1 => (M_must 1 J).bind fun r2 => M_named_L12 F K F x1 0 r2
def M_notes (a1 : Int32) (a2 : Int32) (a3 : Int32) (J : Ji) (K : Jl) : Option (Ji × Jl) :=
  ldL K 6 403 a1 fun x1 => stL K 8 32 (J 0 20) x1 fun K2 => stI J 9 32 (J 0 20) a2 fun J3 => stI J3 10 32 (J3 0 20) a3 fun J4 => lt_ (uJ J4 0 20 ((J4 0 20) + 1)) fun J5 => some (J5, K2)
def M_tellMan_B118 (F : Nat) (a2 : Int32) (J : Ji) (K : Jl) : Option (Ji × Jl) :=
  (M_must 4 J).bind fun r15 => if (r15 0 13) ≤ 0 then
    ldI r15 29 2 (r15 0 19) fun x16 => (M_notes a2 3 x16 r15 K).bind fun r17 => ldI r17.1 29 2 (r17.1 0 19) fun x18 => stI r17.1 29 2 (r17.1 0 19) (x18 + 1) fun J19 => some (J19, r17.2)
  else
    some (r15, K)
def M_tellMan_B114 (F : Nat) (a2 : Int32) (s0 : Int32) (s1 : Int32) (s2 : Int32) (J : Ji) (K : Jl) : Option (Ji × Jl) :=
  (M_bounded s1 s0 J).bind fun r13 => stI r13.2 32 12 s2 r13.1 fun J14 => M_tellMan_B118 F a2 J14 K
def M_tellMan (F : Nat) (J : Ji) (K : Jl) : Option (Ji × Jl) :=
  ldI J 29 2 (J 0 19) fun x1 => lt_ ((6 * (J 0 19)) + x1) fun x2 => (M_named F K J).bind fun r3 => (M_known F K 0 r3.2).bind fun r4 => stI r4.2 30 12 x2 r4.1 fun J5 => stI J5 31 12 x2 ((-1)) fun J6 => stI J6 32 12 x2 ((-1)) fun J7 => if (J7 0 13) = 0 then
    (M_is J7 29).bind fun r8 => if r8 = 0 then
      M_tellMan_B118 F r3.1 J7 K
    else
      (M_goesOn J7).bind fun r9 => (M_known F K 2 r9).bind fun r10 => stI r10.2 31 12 x2 r10.1 fun J11 => if 0 ≤ r10.1 then
        ldI J11 22 12 ((6 * (J11 0 19)) + r10.1) fun x12 => M_tellMan_B114 F r3.1 (x12 - 1) 0 x2 J11 K
      else
        M_tellMan_B114 F r3.1 9999 0 x2 J11 K
  else
    M_tellMan_B118 F r3.1 J7 K
def M_tellRoom (F : Nat) (J : Ji) (K : Jl) : Option (Ji × Jl) :=
  (M_named F K J).bind fun r1 => (M_must 4 r1.2).bind fun r2 => if (r2 0 13) ≤ 0 then
    ldI r2 11 2 (r2 0 19) fun x3 => (M_notes r1.1 0 x3 r2 K).bind fun r4 => ldI r4.1 11 2 (r4.1 0 19) fun x5 => stI r4.1 11 2 (r4.1 0 19) (x5 + 1) fun J6 => some (J6, r4.2)
  else
    some (r2, K)
def M_failAt (a1 : Int32) (a2 : Int32) (J : Ji) : Option (Ji) :=
  if (J 0 13) ≤ 0 then
    lt_ (uJ J 0 13 a1) fun J1 => ldI J1 4 403 a2 fun x2 => lt_ (uJ J1 0 14 x2) fun J3 => some J3
  else
    some J
def M_tellStep_B174 (F : Nat) (K : Jl) (a2 : Int32) (a4 : Int32) (a5 : Int32) (a6 : Int32) (a7 : Int32) (a8 : Int32) (a9 : Int32) (a10 : Int32) (J : Ji) : Option (Ji) :=
  (M_must 4 J).bind fun r15 => if 0 < (r15 0 13) then
    some r15
  else
    if 0 ≤ a2 then
      stI r15 23 72 a4 a5 fun J16 => stI J16 24 72 a4 a6 fun J17 => stI J17 25 72 a4 a7 fun J18 => stI J18 26 72 a4 a8 fun J19 => stI J19 27 72 a4 a9 fun J20 => stI J20 28 72 a4 a10 fun J21 => ldI J21 22 12 ((6 * (J21 0 19)) + a2) fun x22 => stI J21 22 12 ((6 * (J21 0 19)) + a2) (x22 + 1) fun J23 => some J23
    else
      some r15
def M_tellStep_B169 (F : Nat) (K : Jl) (a2 : Int32) (a4 : Int32) (a5 : Int32) (a6 : Int32) (a7 : Int32) (a8 : Int32) (a9 : Int32) (s0 : Int32) (s1 : Int32) (J : Ji) : Option (Ji) :=
  (M_bounded s1 s0 J).bind fun r14 => M_tellStep_B174 F K a2 a4 a5 a6 a7 a8 a9 r14.1 r14.2
def M_tellStep_B134 (F : Nat) (K : Jl) (a2 : Int32) (a3 : Int32) (a4 : Int32) (a5 : Int32) (a6 : Int32) (a7 : Int32) (a8 : Int32) (a9 : Int32) (a10 : Int32) (J : Ji) : Option (Ji) :=
  if (J 0 13) = 0 then
    (M_is J 27).bind fun r12 => if r12 = 0 then
      M_tellStep_B174 F K a2 a4 a5 a6 a7 a8 a9 a10 J
    else
      (M_goesOn J).bind fun r13 => if 0 ≤ a2 then
        M_tellStep_B169 F K a2 a4 a5 a6 a7 a8 a9 (a3 - 1) 0 r13
      else
        M_tellStep_B169 F K a2 a4 a5 a6 a7 a8 a9 9999 0 r13
  else
    M_tellStep_B174 F K a2 a4 a5 a6 a7 a8 a9 a10 J
def M_tellStep_B59 (F : Nat) (K : Jl) (a2 : Int32) (a3 : Int32) (s0 : Int32) (s1 : Int32) (s2 : Int32) (J : Ji) : Option (Ji) :=
  lt_ ((s2 * (s1 + s0)) + a3) fun x4 => (M_bounded 1 120 J).bind fun r5 => (M_bounded 0 99 r5.2).bind fun r6 => (M_bounded 0 99 r6.2).bind fun r7 => (M_bounded 0 99 r7.2).bind fun r8 => if (r8.2 0 13) = 0 then
    (M_is r8.2 26).bind fun r9 => if r9 = 0 then
      M_tellStep_B134 F K a2 a3 x4 r5.1 r6.1 r7.1 r8.1 ((-1)) ((-1)) r8.2
    else
      (M_goesOn r8.2).bind fun r10 => (M_known F K 1 r10).bind fun r11 => M_tellStep_B134 F K a2 a3 x4 r5.1 r6.1 r7.1 r8.1 r11.1 ((-1)) r11.2
  else
    M_tellStep_B134 F K a2 a3 x4 r5.1 r6.1 r7.1 r8.1 ((-1)) ((-1)) r8.2
def M_tellStep_B41 (F : Nat) (K : Jl) (a2 : Int32) (a3 : Int32) (J : Ji) : Option (Ji) :=
  if 0 ≤ a2 then
    M_tellStep_B59 F K a2 a3 a2 (6 * (J 0 19)) 6 J
  else
    M_tellStep_B59 F K a2 a3 0 (6 * (J 0 19)) 6 J
def M_tellStep_B28 (F : Nat) (K : Jl) (a1 : Int32) (a2 : Int32) (s0 : Int32) (J : Ji) : Option (Ji) :=
  if s0 = 6 then
    (M_failAt 2 a1 J).bind fun r3 => M_tellStep_B41 F K a2 s0 r3
  else
    M_tellStep_B41 F K a2 s0 J
def M_tellStep (F : Nat) (K : Jl) (a1 : Int32) (J : Ji) : Option (Ji) :=
  (M_known F K 2 J).bind fun r1 => if 0 ≤ r1.1 then
    ldI r1.2 22 12 ((6 * (r1.2 0 19)) + r1.1) fun x2 => M_tellStep_B28 F K a1 r1.1 x2 r1.2
  else
    M_tellStep_B28 F K a1 r1.1 0 r1.2
def M_tellTask (F : Nat) (J : Ji) (K : Jl) : Option (Ji × Jl) :=
  ldI J 19 2 (J 0 19) fun x1 => lt_ ((6 * (J 0 19)) + x1) fun x2 => (M_named F K J).bind fun r3 => (M_known F K 0 r3.2).bind fun r4 => stI r4.2 20 12 x2 r4.1 fun J5 => (M_bounded 0 999 J5).bind fun r6 => stI r6.2 21 12 x2 r6.1 fun J7 => stI J7 22 12 x2 0 fun J8 => (M_must 4 J8).bind fun r9 => if (r9 0 13) ≤ 0 then
    ldI r9 19 2 (r9 0 19) fun x10 => (M_notes r3.1 2 x10 r9 K).bind fun r11 => ldI r11.1 19 2 (r11.1 0 19) fun x12 => stI r11.1 19 2 (r11.1 0 19) (x12 + 1) fun J13 => some (J13, r11.2)
  else
    some (r9, K)
def M_tellTool (F : Nat) (J : Ji) (K : Jl) : Option (Ji × Jl) :=
  (M_named F K J).bind fun r1 => ldI r1.2 17 2 (r1.2 0 19) fun x2 => (M_known F K 0 r1.2).bind fun r3 => stI r3.2 18 12 ((6 * (r1.2 0 19)) + x2) r3.1 fun J4 => (M_must 4 J4).bind fun r5 => if (r5 0 13) ≤ 0 then
    ldI r5 17 2 (r5 0 19) fun x6 => (M_notes r1.1 1 x6 r5 K).bind fun r7 => ldI r7.1 17 2 (r7.1 0 19) fun x8 => stI r7.1 17 2 (r7.1 0 19) (x8 + 1) fun J9 => some (J9, r7.2)
  else
    some (r5, K)
def M_tell (F : Nat) (J : Ji) (K : Jl) : Option (Ji × Jl) :=
  ldI J 3 403 (J 0 11) fun x1 => if x1 = 20 then
    ldI J 11 2 (J 0 19) fun x2 => (M_roomFor x2 8 J).bind fun r3 => if (r3 0 13) = 0 then
      (M_tellRoom F r3 K).bind fun r4 => some (r4.1, r4.2)
    else
      some (r3, K)
  else if x1 = 21 then
    ldI J 12 2 (J 0 19) fun x5 => (M_roomFor x5 12 J).bind fun r6 => if (r6 0 13) = 0 then
      (M_tellDoor F K r6).bind fun r7 => some (r7, K)
    else
      some (r6, K)
  else if x1 = 23 then
    ldI J 17 2 (J 0 19) fun x8 => (M_roomFor x8 6 J).bind fun r9 => if (r9 0 13) = 0 then
      (M_tellTool F r9 K).bind fun r10 => some (r10.1, r10.2)
    else
      some (r9, K)
  else if x1 = 24 then
    ldI J 19 2 (J 0 19) fun x11 => (M_roomFor x11 6 J).bind fun r12 => if (r12 0 13) = 0 then
      (M_tellTask F r12 K).bind fun r13 => some (r13.1, r13.2)
    else
      some (r12, K)
  else if x1 = 25 then
    (M_goesOn J).bind fun r14 => (M_tellStep F K ((r14 0 11) - 1) r14).bind fun r15 => some (r15, K)
  else if x1 = 28 then
    ldI J 29 2 (J 0 19) fun x16 => (M_roomFor x16 6 J).bind fun r17 => if (r17 0 13) = 0 then
      (M_tellMan F r17 K).bind fun r18 => some (r18.1, r18.2)
    else
      some (r17, K)
  else if x1 = 30 then
    ldI J 33 2 (J 0 19) fun x19 => (M_roomFor x19 8 J).bind fun r20 => if (r20 0 13) = 0 then
      (M_tellLaw F K r20).bind fun r21 => some (r21, K)
    else
      some (r20, K)
  else if x1 = 34 then
    (M_goesOn J).bind fun r22 => (M_bounded 1 600 r22).bind fun r23 => stI r23.2 41 2 (r22 0 19) r23.1 fun J24 => (M_must 4 J24).bind fun r25 => some (r25, K)
  else 
    (M_fail 1 J).bind fun r26 => some (r26, K)
def M_read_B322 (F : Nat) (k322 : Int32 → Ji → Jl → Option (Int32 × Ji × Jl)) (a1 : Int32) (J : Ji) (K : Jl) : Option (Int32 × Ji × Jl) :=
  if 3 ≤ a1 then
    some (0, J, K)
  else
    stI J 61 3 a1 (0 &&& 1) fun J32 => lt_ (a1 + 1) fun x33 => k322 x33 J32 K
def M_read_L322 (F : Nat) : Nat → Int32 → Ji → Jl → Option (Int32 × Ji × Jl)
  | 0, _, _, _ => none
  | n + 1, a1, J, K => M_read_B322 F (M_read_L322 F n) a1 J K
def M_read_B271 (F : Nat) (s0 : Int32) (J : Ji) (K : Jl) : Option (Int32 × Ji × Jl) :=
  lt_ (uJ J 0 17 s0) fun J27 => if (J27 0 13) ≤ 0 then
    if (J27 0 15) ≤ 0 then
      lt_ (uJ J27 0 18 (J27 0 19)) fun J28 => (M_begins F J28).bind fun r29 => lt_ (uJ r29 0 74 0) fun J30 => lt_ (uJ J30 0 77 0) fun J31 => M_read_L322 F F 0 J31 K
    else
      some (J27 0 15, J27, K)
  else
    some (J27 0 13, J27, K)
def M_read_B241 (F : Nat) (J : Ji) (K : Jl) : Option (Int32 × Ji × Jl) :=
  if (J 0 13) ≤ 0 then
    if (J 0 15) ≤ 0 then
      M_read_B271 F ((-1)) J K
    else
      M_read_B271 F (J 0 16) J K
  else
    M_read_B271 F (J 0 14) J K
def M_read_B219 (F : Nat) (k219 : Ji → Jl → Option (Int32 × Ji × Jl)) (J : Ji) (K : Jl) : Option (Int32 × Ji × Jl) :=
  if (J 0 13) = 0 then
    (M_is J 0).bind fun r25 => if r25 = 0 then
      (M_tell F J K).bind fun r26 => k219 r26.1 r26.2
    else
      M_read_B241 F J K
  else
    M_read_B241 F J K
def M_read_L219 (F : Nat) : Nat → Ji → Jl → Option (Int32 × Ji × Jl)
  | 0, _, _ => none
  | n + 1, J, K => M_read_B219 F (M_read_L219 F n) J K
def M_read_B177 (F : Nat) (k177 : Int32 → Ji → Jl → Option (Int32 × Ji × Jl)) (a1 : Int32) (J : Ji) (K : Jl) : Option (Int32 × Ji × Jl) :=
  if 6 ≤ a1 then
    M_read_L219 F F J K
  else
    stI J 34 12 ((6 * (J 0 19)) + a1) 0 fun J22 => stI J22 35 12 ((6 * (J22 0 19)) + a1) 0 fun J23 => lt_ (a1 + 1) fun x24 => k177 x24 J23 K
def M_read_L177 (F : Nat) : Nat → Int32 → Ji → Jl → Option (Int32 × Ji × Jl)
  | 0, _, _, _ => none
  | n + 1, a1, J, K => M_read_B177 F (M_read_L177 F n) a1 J K
def M_read_B10 (F : Nat) (k10 : Int32 → Ji → Jl → Option (Int32 × Ji × Jl)) (a1 : Int32) (J : Ji) (K : Jl) : Option (Int32 × Ji × Jl) :=
  if (J 0 4) ≤ a1 then
    lt_ (uJ J 0 2 0) fun J2 => (M_cut F J2 K).bind fun r3 => lt_ (uJ r3.1 0 11 0) fun J4 => lt_ (uJ J4 0 12 0) fun J5 => lt_ (uJ J5 0 13 0) fun J6 => lt_ (uJ J6 0 15 0) fun J7 => lt_ (uJ J7 0 19 (1 - (J7 0 18))) fun J8 => lt_ (uJ J8 0 20 0) fun J9 => stI J9 11 2 (J9 0 19) 0 fun J10 => stI J10 12 2 (J10 0 19) 0 fun J11 => stI J11 17 2 (J11 0 19) 0 fun J12 => stI J12 19 2 (J12 0 19) 0 fun J13 => stI J13 29 2 (J13 0 19) 0 fun J14 => stI J14 33 2 (J14 0 19) 0 fun J15 => stI J15 41 2 (J15 0 19) 480 fun J16 => lt_ (uJ J16 0 49 (50 * (J16 0 19))) fun J17 => lt_ (uJ J17 0 56 (420 * (J17 0 19))) fun J18 => M_read_L177 F F 0 J18 r3.2
  else
    ldI J 1 2000 a1 fun x19 => stI J 2 2000 a1 x19.toInt8.toInt32 fun J20 => lt_ (a1 + 1) fun x21 => k10 x21 J20 K
def M_read_L10 (F : Nat) : Nat → Int32 → Ji → Jl → Option (Int32 × Ji × Jl)
  | 0, _, _, _ => none
  | n + 1, a1, J, K => M_read_B10 F (M_read_L10 F n) a1 J K
def M_read (F : Nat) (J : Ji) (K : Jl) : Option (Int32 × Ji × Jl) :=
  lt_ (uJ J 0 4 (J 0 2)) fun J1 => M_read_L10 F F 0 J1 K
def M_place (J : Ji) : Option (Int32) :=
  some (J 0 17)
def M_stepAt (J : Ji) (a1 : Int32) (a2 : Int32) : Option (Int32) :=
  some ((6 * ((6 * (J 0 18)) + a1)) + a2)
def M_stepsOf (J : Ji) (a1 : Int32) : Option (Int32) :=
  ldI J 22 12 ((6 * (J 0 18)) + a1) fun x1 => some x1
def M_isEnded_B2 (F : Nat) (k2 : Int32 → Int32 → Option (Int32)) (J : Ji) (a1 : Int32) (a2 : Int32) : Option (Int32) :=
  (M_stepsOf J a1).bind fun r1 => if r1 ≤ a2 then
    some 1
  else
    ldI J 48 100 ((6 + (6 * a1)) + a2) fun x2 => (M_stepAt J a1 a2).bind fun r3 => ldI J 24 72 r3 fun x4 => if x4 ≤ x2 then
      lt_ (a2 + 1) fun x5 => k2 a1 x5
    else
      some 0
def M_isEnded_L2 (F : Nat) (J : Ji) : Nat → Int32 → Int32 → Option (Int32)
  | 0, _, _ => none
  | n + 1, a1, a2 => M_isEnded_B2 F (M_isEnded_L2 F J n) J a1 a2
def M_isEnded (F : Nat) (J : Ji) (a1 : Int32) : Option (Int32) :=
  M_isEnded_L2 F J F a1 0
def M_in (a0 : Int32) (a1 : Int32) (a2 : Int32) : Option (Int32) :=
  if a0 < a1 then
    some 0
  else
    if a2 < a0 then
      some 0
    else
      some 1
def M_isTask (J : Ji) (a1 : Int32) : Option (Int32) :=
  (M_tasksNow J).bind fun r1 => (M_in a1 0 (r1 - 1)).bind fun r2 => (bz r2).bind fun r3 => some r3
def M_takes_B2 (F : Nat) (k2 : Int32 → Ji → Option (Ji)) (a1 : Int32) (J : Ji) : Option (Ji) :=
  if 100 ≤ a1 then
    some J
  else
    ldI J 47 100 a1 fun x1 => stI J 48 100 a1 x1 fun J2 => lt_ (a1 + 1) fun x3 => k2 x3 J2
def M_takes_L2 (F : Nat) : Nat → Int32 → Ji → Option (Ji)
  | 0, _, _ => none
  | n + 1, a1, J => M_takes_B2 F (M_takes_L2 F n) a1 J
def M_takes (F : Nat) (J : Ji) : Option (Ji) :=
  M_takes_L2 F F 0 J
def M_worthOf_B85 (F : Nat) (k4 : Int32 → Int32 → Int32 → Option (Int32)) (J : Ji) (a1 : Int32) (a3 : Int32) (a4 : Int32) (s0 : Int32) (s1 : Int32) (s2 : Int32) : Option (Int32) :=
  ldI J 26 72 a4 fun x6 => lt_ (s2 + (s1 - (s0 * x6))) fun x7 => lt_ (a3 + 1) fun x8 => k4 a1 x7 x8
def M_worthOf_B61 (F : Nat) (k4 : Int32 → Int32 → Int32 → Option (Int32)) (J : Ji) (a1 : Int32) (a3 : Int32) (a4 : Int32) (a5 : Int32) (a6 : Int32) (s0 : Int32) (s1 : Int32) : Option (Int32) :=
  ldI J 25 72 a4 fun x5 => if a5 ≤ a6 then
    M_worthOf_B85 F k4 J a1 a3 a4 0 (s0 * x5) s1
  else
    M_worthOf_B85 F k4 J a1 a3 a4 (a5 - a6) (s0 * x5) s1
def M_worthOf_B4 (F : Nat) (k4 : Int32 → Int32 → Int32 → Option (Int32)) (J : Ji) (a1 : Int32) (a2 : Int32) (a3 : Int32) : Option (Int32) :=
  (M_stepsOf J a1).bind fun r1 => if r1 ≤ a3 then
    some a2
  else
    (M_stepAt J a1 a3).bind fun r2 => ldI J 48 100 ((6 + (6 * a1)) + a3) fun x3 => ldI J 24 72 r2 fun x4 => if x4 ≤ x3 then
      M_worthOf_B61 F k4 J a1 a3 r2 x3 x4 x4 a2
    else
      M_worthOf_B61 F k4 J a1 a3 r2 x3 x4 x3 a2
def M_worthOf_L4 (F : Nat) (J : Ji) : Nat → Int32 → Int32 → Int32 → Option (Int32)
  | 0, _, _, _ => none
  | n + 1, a1, a2, a3 => M_worthOf_B4 F (M_worthOf_L4 F J n) J a1 a2 a3
def M_worthOf (F : Nat) (J : Ji) (a1 : Int32) : Option (Int32) :=
  M_worthOf_L4 F J F a1 0 0
def M_task (F : Nat) (a1 : Int32) (a2 : Int32) (J : Ji) : Option (Int32 × Ji) :=
  (M_isTask J a1).bind fun r1 => if r1 = 0 then
    some ((-1), J)
  else
    (M_takes F J).bind fun r2 => if a2 = 0 then
      ldI r2 20 12 ((6 * (r2 0 18)) + a1) fun x3 => some (x3, r2)
    else if a2 = 1 then
      (M_stepsOf r2 a1).bind fun r4 => some (r4, r2)
    else if a2 = 2 then
      ldI r2 48 100 a1 fun x5 => some (x5, r2)
    else if a2 = 3 then
      (M_worthOf F r2 a1).bind fun r6 => some (r6, r2)
    else if a2 = 4 then
      (M_isEnded F r2 a1).bind fun r7 => if r7 = 0 then
        some (0, r2)
      else
        some (1, r2)
    else 
      some ((-1), r2)
def M_isStep (J : Ji) (a1 : Int32) (a2 : Int32) : Option (Int32) :=
  (M_isTask J a1).bind fun r1 => if r1 = 0 then
    some 0
  else
    (M_stepsOf J a1).bind fun r2 => (M_in a2 0 (r2 - 1)).bind fun r3 => if r3 = 0 then
      some 0
    else
      some 1
def M_orNone (a0 : Int32) : Option (Int32) :=
  if 0 ≤ a0 then
    some a0
  else
    some ((-2))
def M_step (J : Ji) (a1 : Int32) (a2 : Int32) (a3 : Int32) : Option (Int32) :=
  (M_isStep J a1 a2).bind fun r1 => if r1 = 0 then
    some ((-1))
  else
    (M_stepAt J a1 a2).bind fun r2 => if a3 = 0 then
      ldI J 47 100 ((6 + (6 * a1)) + a2) fun x3 => some x3
    else if a3 = 1 then
      ldI J 23 72 r2 fun x4 => some x4
    else if a3 = 2 then
      ldI J 24 72 r2 fun x5 => some x5
    else if a3 = 3 then
      ldI J 25 72 r2 fun x6 => some x6
    else if a3 = 4 then
      ldI J 26 72 r2 fun x7 => some x7
    else if a3 = 5 then
      ldI J 27 72 r2 fun x8 => (M_orNone x8).bind fun r9 => some r9
    else if a3 = 6 then
      ldI J 28 72 r2 fun x10 => (M_orNone x10).bind fun r11 => some r11
    else 
      some ((-1))
def M_isMan (J : Ji) (a1 : Int32) : Option (Int32) :=
  (M_menNow J).bind fun r1 => (M_in a1 0 (r1 - 1)).bind fun r2 => (bz r2).bind fun r3 => some r3
def M_man (J : Ji) (a1 : Int32) (a2 : Int32) : Option (Int32) :=
  (M_isMan J a1).bind fun r1 => if r1 = 0 then
    some ((-1))
  else
    if a2 = 0 then
      ldI J 30 12 ((6 * (J 0 18)) + a1) fun x2 => some x2
    else if a2 = 1 then
      ldI J 47 100 (42 + a1) fun x3 => (M_orNone x3).bind fun r4 => some r4
    else if a2 = 2 then
      ldI J 47 100 (48 + a1) fun x5 => (M_orNone x5).bind fun r6 => some r6
    else if a2 = 3 then
      ldI J 47 100 (54 + a1) fun x7 => some x7
    else if a2 = 4 then
      ldI J 47 100 (60 + a1) fun x8 => some x8
    else if a2 = 5 then
      ldI J 47 100 (66 + a1) fun x9 => some x9
    else 
      some ((-1))
def M_isTool (J : Ji) (a1 : Int32) : Option (Int32) :=
  ldI J 17 2 (J 0 18) fun x1 => (M_in a1 0 (x1 - 1)).bind fun r2 => (bz r2).bind fun r3 => some r3
def M_tool (J : Ji) (a1 : Int32) : Option (Int32) :=
  (M_isTool J a1).bind fun r1 => if r1 = 0 then
    some ((-1))
  else
    ldI J 47 100 (72 + a1) fun x2 => some x2
def M_fillsWays_B31 (F : Nat) (k2 : Int32 → Ji → Option (Ji)) (a1 : Int32) (s0 : Int32) (s1 : Int32) (J : Ji) : Option (Ji) :=
  stI J 49 64 s1 s0 fun J1 => lt_ (a1 + 1) fun x2 => k2 x2 J1
def M_fillsWays_B186 (F : Nat) (k170 : Int32 → Ji → Option (Ji)) (k178 : Int32 → Int32 → Ji → Option (Ji)) (k186 : Int32 → Int32 → Int32 → Ji → Option (Ji)) (a1 : Int32) (a2 : Int32) (a3 : Int32) (J : Ji) : Option (Ji) :=
  if 8 ≤ a3 then
    lt_ (a2 + 1) fun x15 => k178 a1 x15 J
  else
    ldI J 49 64 ((8 * a2) + a1) fun x16 => ldI J 49 64 ((8 * a1) + a3) fun x17 => ldI J 49 64 ((8 * a2) + a3) fun x18 => if x18 ≤ (x16 + x17) then
      lt_ (a3 + 1) fun x19 => k186 a1 a2 x19 J
    else
      ldI J 49 64 ((8 * a2) + a1) fun x20 => ldI J 49 64 ((8 * a1) + a3) fun x21 => stI J 49 64 ((8 * a2) + a3) (x20 + x21) fun J22 => lt_ (a3 + 1) fun x23 => k186 a1 a2 x23 J22
def M_fillsWays_L186 (F : Nat) (k170 : Int32 → Ji → Option (Ji)) (k178 : Int32 → Int32 → Ji → Option (Ji)) : Nat → Int32 → Int32 → Int32 → Ji → Option (Ji)
  | 0, _, _, _, _ => none
  | n + 1, a1, a2, a3, J => M_fillsWays_B186 F k170 k178 (M_fillsWays_L186 F k170 k178 n) a1 a2 a3 J
def M_fillsWays_B178 (F : Nat) (k170 : Int32 → Ji → Option (Ji)) (k178 : Int32 → Int32 → Ji → Option (Ji)) (a1 : Int32) (a2 : Int32) (J : Ji) : Option (Ji) :=
  if 8 ≤ a2 then
    lt_ (a1 + 1) fun x14 => k170 x14 J
  else
    M_fillsWays_L186 F k170 k178 F a1 a2 0 J
def M_fillsWays_L178 (F : Nat) (k170 : Int32 → Ji → Option (Ji)) : Nat → Int32 → Int32 → Ji → Option (Ji)
  | 0, _, _, _ => none
  | n + 1, a1, a2, J => M_fillsWays_B178 F k170 (M_fillsWays_L178 F k170 n) a1 a2 J
def M_fillsWays_B170 (F : Nat) (k170 : Int32 → Ji → Option (Ji)) (a1 : Int32) (J : Ji) : Option (Ji) :=
  if 8 ≤ a1 then
    some J
  else
    M_fillsWays_L178 F k170 F a1 0 J
def M_fillsWays_L170 (F : Nat) : Nat → Int32 → Ji → Option (Ji)
  | 0, _, _ => none
  | n + 1, a1, J => M_fillsWays_B170 F (M_fillsWays_L170 F n) a1 J
def M_fillsWays_B40 (F : Nat) (k40 : Int32 → Ji → Option (Ji)) (a1 : Int32) (J : Ji) : Option (Ji) :=
  ldI J 12 2 (J 0 18) fun x3 => if x3 ≤ a1 then
    M_fillsWays_L170 F F 0 J
  else
    ldI J 48 100 78 fun x4 => if ((x4 >>> (a1 &&& 31)) &&& 1) = 1 then
      lt_ (a1 + 1) fun x5 => k40 x5 J
    else
      ldI J 13 24 ((12 * (J 0 18)) + a1) fun x6 => ldI J 14 24 ((12 * (J 0 18)) + a1) fun x7 => ldI J 15 24 ((12 * (J 0 18)) + a1) fun x8 => ldI J 49 64 ((8 * x6) + x7) fun x9 => if x8 < x9 then
        stI J 49 64 ((8 * x6) + x7) x8 fun J10 => stI J10 49 64 ((8 * x7) + x6) x8 fun J11 => lt_ (a1 + 1) fun x12 => k40 x12 J11
      else
        lt_ (a1 + 1) fun x13 => k40 x13 J
def M_fillsWays_L40 (F : Nat) : Nat → Int32 → Ji → Option (Ji)
  | 0, _, _ => none
  | n + 1, a1, J => M_fillsWays_B40 F (M_fillsWays_L40 F n) a1 J
def M_fillsWays_B2 (F : Nat) (k2 : Int32 → Ji → Option (Ji)) (a1 : Int32) (J : Ji) : Option (Ji) :=
  if 64 ≤ a1 then
    M_fillsWays_L40 F F 0 J
  else
    if (a1 / 8) = (a1 - a1 / 8 * 8) then
      M_fillsWays_B31 F k2 a1 0 a1 J
    else
      M_fillsWays_B31 F k2 a1 1000000 a1 J
def M_fillsWays_L2 (F : Nat) : Nat → Int32 → Ji → Option (Ji)
  | 0, _, _ => none
  | n + 1, a1, J => M_fillsWays_B2 F (M_fillsWays_L2 F n) a1 J
def M_fillsWays (F : Nat) (J : Ji) : Option (Ji) :=
  M_fillsWays_L2 F F 0 J
def M_isRoom (J : Ji) (a1 : Int32) : Option (Int32) :=
  ldI J 11 2 (J 0 18) fun x1 => (M_in a1 0 (x1 - 1)).bind fun r2 => (bz r2).bind fun r3 => some r3
def M_way (F : Nat) (a1 : Int32) (a2 : Int32) (J : Ji) : Option (Int32 × Ji) :=
  (M_isRoom J a1).bind fun r1 => if r1 = 0 then
    some ((-1), J)
  else
    (M_isRoom J a2).bind fun r2 => if r2 = 0 then
      some ((-1), J)
    else
      (M_takes F J).bind fun r3 => (M_fillsWays F r3).bind fun r4 => ldI r4 49 64 ((8 * a1) + a2) fun x5 => if x5 = 1000000 then
        some ((-2), r4)
      else
        ldI r4 49 64 ((8 * a1) + a2) fun x6 => some (x6, r4)
def M_isLeft_B10 (J : Ji) (a1 : Int32) (a2 : Int32) : Option (Int32) :=
  (M_isStep J a1 a2).bind fun r1 => if r1 = 0 then
    some 0
  else
    some 1
def M_isLeft (J : Ji) (a1 : Int32) (a2 : Int32) : Option (Int32) :=
  if a1 = ((-1)) then
    if a2 = ((-1)) then
      some 1
    else
      M_isLeft_B10 J a1 a2
  else
    M_isLeft_B10 J a1 a2
def M_leave (a1 : Int32) (a2 : Int32) (a3 : Int32) (J : Ji) : Option (Int32 × Ji) :=
  (M_isMan J a1).bind fun r1 => if r1 = 0 then
    some (0, J)
  else
    (M_isLeft J a2 a3).bind fun r2 => if r2 = 0 then
      some (0, J)
    else
      stI J 47 100 (42 + a1) a2 fun J3 => stI J3 47 100 (48 + a1) a3 fun J4 => some (1, J4)
def M_does (a1 : Int32) (a2 : Int32) (J : Ji) : Option (Ji) :=
  ldI J 48 100 ((6 + (6 * a1)) + a2) fun x1 => stI J 48 100 ((6 + (6 * a1)) + a2) (x1 + 1) fun J2 => (M_stepAt J2 a1 a2).bind fun r3 => ldI J2 28 72 r3 fun x4 => if x4 < 0 then
    some J2
  else
    ldI J2 48 100 ((6 + (6 * a1)) + x4) fun x5 => if x5 ≤ 0 then
      some J2
    else
      ldI J2 48 100 ((6 + (6 * a1)) + x4) fun x6 => stI J2 48 100 ((6 + (6 * a1)) + x4) (x6 - 1) fun J7 => some J7
def M_work_B42 (F : Nat) (k42 : Int32 → Ji → Option (Int32 × Ji)) (a3 : Int32) (J : Ji) : Option (Int32 × Ji) :=
  if 100 ≤ a3 then
    some (1, J)
  else
    ldI J 48 100 a3 fun x7 => stI J 47 100 a3 x7 fun J8 => lt_ (a3 + 1) fun x9 => k42 x9 J8
def M_work_L42 (F : Nat) : Nat → Int32 → Ji → Option (Int32 × Ji)
  | 0, _, _ => none
  | n + 1, a3, J => M_work_B42 F (M_work_L42 F n) a3 J
def M_work (F : Nat) (a1 : Int32) (a2 : Int32) (J : Ji) : Option (Int32 × Ji) :=
  (M_isStep J a1 a2).bind fun r1 => if r1 = 0 then
    some (0, J)
  else
    ldI J 47 100 a1 fun x2 => if x2 = 0 then
      some (0, J)
    else
      (M_takes F J).bind fun r3 => ldI r3 48 100 a1 fun x4 => stI r3 48 100 a1 (x4 - 1) fun J5 => (M_does a1 a2 J5).bind fun r6 => M_work_L42 F F 0 r6
def M_lay (a1 : Int32) (a2 : Int32) (J : Ji) : Option (Int32 × Ji) :=
  (M_isTool J a1).bind fun r1 => if r1 = 0 then
    some (0, J)
  else
    (M_isRoom J a2).bind fun r2 => if r2 = 0 then
      some (0, J)
    else
      stI J 47 100 (72 + a1) a2 fun J3 => some (1, J3)
def M_give (a1 : Int32) (a2 : Int32) (J : Ji) : Option (Int32 × Ji) :=
  (M_isTool J a1).bind fun r1 => if r1 = 0 then
    some (0, J)
  else
    (M_isMan J a2).bind fun r2 => if r2 = 0 then
      some (0, J)
    else
      stI J 47 100 (72 + a1) (100 + a2) fun J3 => some (1, J3)
def M_bar_B58 (s0 : Int32) (s1 : Int32) (J : Ji) : Option (Int32 × Ji) :=
  stI J 47 100 s1 s0 fun J5 => some (1, J5)
def M_bar (a1 : Int32) (a2 : Int32) (J : Ji) : Option (Int32 × Ji) :=
  ldI J 12 2 (J 0 18) fun x1 => (M_in a1 0 (x1 - 1)).bind fun r2 => if r2 = 0 then
    some (0, J)
  else
    if a2 = 0 then
      ldI J 47 100 78 fun x3 => M_bar_B58 (x3 &&& ((1 <<< (a1 &&& 31)) ^^^ ((-1)))) 78 J
    else
      ldI J 47 100 78 fun x4 => M_bar_B58 (x4 ||| (1 <<< (a1 &&& 31))) 78 J
def M_isInUse_B2 (F : Nat) (k2 : Int32 → Int32 → Int32 → Option (Int32)) (J : Ji) (a1 : Int32) (a2 : Int32) (a3 : Int32) : Option (Int32) :=
  (M_menNow J).bind fun r1 => if r1 ≤ a3 then
    some 0
  else
    if a3 = a2 then
      lt_ (a3 + 1) fun x2 => k2 a1 a2 x2
    else
      ldI J 50 6 a3 fun x3 => if x3 = 2 then
        ldI J 48 100 (42 + a3) fun x4 => ldI J 53 6 a3 fun x5 => (M_stepAt J x4 x5).bind fun r6 => ldI J 27 72 r6 fun x7 => if x7 = a1 then
          some 1
        else
          lt_ (a3 + 1) fun x8 => k2 a1 a2 x8
      else
        lt_ (a3 + 1) fun x9 => k2 a1 a2 x9
def M_isInUse_L2 (F : Nat) (J : Ji) : Nat → Int32 → Int32 → Int32 → Option (Int32)
  | 0, _, _, _ => none
  | n + 1, a1, a2, a3 => M_isInUse_B2 F (M_isInUse_L2 F J n) J a1 a2 a3
def M_isInUse (F : Nat) (J : Ji) (a1 : Int32) (a2 : Int32) : Option (Int32) :=
  M_isInUse_L2 F J F a1 a2 0
def M_lies (a1 : Int32) (a2 : Int32) (J : Ji) : Option (Ji) :=
  stI J 50 6 a1 3 fun J1 => stI J1 48 100 (66 + a1) a2 fun J2 => some J2
def M_termOf_B158 (F : Nat) (k5 : Int32 → Int32 → Int32 → Ji → Option (Int32 × Ji)) (a2 : Int32) (a3 : Int32) (a4 : Int32) (s0 : Int32) (s1 : Int32) (J : Ji) : Option (Int32 × Ji) :=
  stI J 46 400 s1 s0 fun J13 => lt_ (a4 + 1) fun x14 => k5 a2 a3 x14 J13
def M_termOf_B104 (F : Nat) (k5 : Int32 → Int32 → Int32 → Ji → Option (Int32 × Ji)) (a2 : Int32) (a3 : Int32) (a4 : Int32) (a5 : Int32) (a6 : Int32) (a7 : Int32) (J : Ji) : Option (Int32 × Ji) :=
  if a5 = 2 then
    M_termOf_B158 F k5 a2 a3 a4 (a6 + a7) (a3 - 1) J
  else
    if a5 = 3 then
      M_termOf_B158 F k5 a2 a3 a4 (a6 - a7) (a3 - 1) J
    else
      if a5 = 4 then
        M_termOf_B158 F k5 a2 a3 a4 (a6 * a7) (a3 - 1) J
      else
        if a7 = 0 then none else M_termOf_B158 F k5 a2 a3 a4 (a6 / a7) (a3 - 1) J
def M_termOf_B58 (F : Nat) (k5 : Int32 → Int32 → Int32 → Ji → Option (Int32 × Ji)) (a2 : Int32) (a3 : Int32) (a4 : Int32) (s0 : Int32) (s1 : Int32) (J : Ji) : Option (Int32 × Ji) :=
  stI J 46 400 s1 s0 fun J10 => lt_ (a3 + 1) fun x11 => lt_ (a4 + 1) fun x12 => k5 a2 x11 x12 J10
def M_termOf_B5 (F : Nat) (k5 : Int32 → Int32 → Int32 → Ji → Option (Int32 × Ji)) (a2 : Int32) (a3 : Int32) (a4 : Int32) (J : Ji) : Option (Int32 × Ji) :=
  if a2 ≤ a4 then
    ldI J 46 400 0 fun x1 => some (x1, J)
  else
    ldI J 42 840 a4 fun x2 => if 2 ≤ x2 then
      lt_ (a3 + (-1)) fun x3 => ldI J 46 400 (x3 - 1) fun x4 => ldI J 46 400 x3 fun x5 => if x2 = 5 then
        if x5 = 0 then
          lt_ (uJ J 0 63 1) fun J6 => some (0, J6)
        else
          M_termOf_B104 F k5 a2 x3 a4 x2 x4 x5 J
      else
        M_termOf_B104 F k5 a2 x3 a4 x2 x4 x5 J
    else
      if x2 = 0 then
        ldI J 43 840 a4 fun x7 => M_termOf_B58 F k5 a2 a3 a4 x7 a3 J
      else
        ldI J 43 840 a4 fun x8 => ldI J 45 6 x8 fun x9 => M_termOf_B58 F k5 a2 a3 a4 x9 a3 J
def M_termOf_L5 (F : Nat) : Nat → Int32 → Int32 → Int32 → Ji → Option (Int32 × Ji)
  | 0, _, _, _, _ => none
  | n + 1, a2, a3, a4, J => M_termOf_B5 F (M_termOf_L5 F n) a2 a3 a4 J
def M_termOf (F : Nat) (a1 : Int32) (a2 : Int32) (J : Ji) : Option (Int32 × Ji) :=
  M_termOf_L5 F F a2 0 a1 J
def M_tells_B211 (F : Nat) (a1 : Int32) (a3 : Int32) (a6 : Int32) (J : Ji) : Option (Int32 × Ji) :=
  ldI J 39 100 a6 fun x27 => ldI J 40 100 a6 fun x28 => (M_termOf F x27 x28 J).bind fun r29 => if (r29.2 0 63) = 0 then
    if 0 ≤ r29.1 then
      (M_stepsOf r29.2 a3).bind fun r30 => if r29.1 < r30 then
        some (r29.1, r29.2)
      else
        (M_stepsOf r29.2 a3).bind fun r31 => some (r31 - 1, r29.2)
    else
      some (0, r29.2)
  else
    ldI r29.2 54 6 a1 fun x32 => some (x32, r29.2)
def M_tells_B130 (F : Nat) (k130 : Int32 → Int32 → Int32 → Int32 → Ji → Option (Int32 × Ji)) (a1 : Int32) (a3 : Int32) (a5 : Int32) (a6 : Int32) (J : Ji) : Option (Int32 × Ji) :=
  if a5 ≤ a6 then
    ldI J 54 6 a1 fun x17 => some (x17, J)
  else
    ldI J 36 100 a6 fun x18 => if x18 = 0 then
      M_tells_B211 F a1 a3 a6 J
    else
      ldI J 37 100 a6 fun x19 => ldI J 38 100 a6 fun x20 => (M_termOf F x19 x20 J).bind fun r21 => ldI r21.2 38 100 a6 fun x22 => ldI r21.2 39 100 a6 fun x23 => (M_termOf F x22 x23 r21.2).bind fun r24 => if (r24.2 0 63) = 0 then
        if r21.1 < r24.1 then
          M_tells_B211 F a1 a3 a6 r24.2
        else
          lt_ (a6 + 1) fun x25 => k130 a1 a3 a5 x25 r24.2
      else
        ldI r24.2 54 6 a1 fun x26 => some (x26, r24.2)
def M_tells_L130 (F : Nat) : Nat → Int32 → Int32 → Int32 → Int32 → Ji → Option (Int32 × Ji)
  | 0, _, _, _, _, _ => none
  | n + 1, a1, a3, a5, a6, J => M_tells_B130 F (M_tells_L130 F n) a1 a3 a5 a6 J
def M_tells (F : Nat) (a1 : Int32) (a2 : Int32) (J : Ji) : Option (Int32 × Ji) :=
  ldI J 48 100 (42 + a1) fun x1 => ldI J 34 12 ((6 * (J 0 18)) + a1) fun x2 => ldI J 35 12 ((6 * (J 0 18)) + a1) fun x3 => ldI J 54 6 a1 fun x4 => stI J 45 6 0 x4 fun J5 => ldI J5 54 6 a1 fun x6 => ldI J5 48 100 ((6 + (6 * x1)) + x6) fun x7 => stI J5 45 6 1 x7 fun J8 => (M_stepsOf J8 x1).bind fun r9 => stI J8 45 6 2 r9 fun J10 => stI J10 45 6 3 a2 fun J11 => ldI J11 48 100 x1 fun x12 => stI J11 45 6 4 x12 fun J13 => ldI J13 55 6 a1 fun x14 => stI J13 45 6 5 x14 fun J15 => lt_ (uJ J15 0 63 0) fun J16 => M_tells_L130 F F a1 x1 x3 x2 J16
def M_begins1_B124 (F : Nat) (a1 : Int32) (a2 : Int32) (J : Ji) : Option (Ji) :=
  (M_lies a1 a2 J).bind fun r20 => some r20
def M_begins1_B147 (F : Nat) (a1 : Int32) (a2 : Int32) (a3 : Int32) (a4 : Int32) (J : Ji) : Option (Ji) :=
  ldI J 48 100 a3 fun x13 => stI J 48 100 a3 (x13 - 1) fun J14 => stI J14 53 6 a1 a4 fun J15 => stI J15 50 6 a1 2 fun J16 => (M_stepAt J16 a3 a4).bind fun r17 => ldI J16 23 72 r17 fun x18 => stI J16 52 6 a1 (a2 + x18) fun J19 => some J19
def M_begins1_B131 (F : Nat) (a1 : Int32) (a2 : Int32) (a3 : Int32) (a4 : Int32) (a5 : Int32) (a6 : Int32) (J : Ji) : Option (Ji) :=
  if a6 = 0 then
    (M_isInUse F J a5 a1).bind fun r12 => if r12 = 0 then
      M_begins1_B147 F a1 a2 a3 a4 J
    else
      some J
  else
    M_begins1_B147 F a1 a2 a3 a4 J
def M_begins1_B81 (F : Nat) (a1 : Int32) (a2 : Int32) (a3 : Int32) (a4 : Int32) (a5 : Int32) (s0 : Int32) (J : Ji) : Option (Ji) :=
  ldI J 48 100 a3 fun x9 => if x9 = 0 then
    M_begins1_B124 F a1 a2 J
  else
    if s0 = 0 then
      ldI J 48 100 (72 + a5) fun x10 => ldI J 20 12 ((6 * (J 0 18)) + a3) fun x11 => if x10 = x11 then
        M_begins1_B131 F a1 a2 a3 a4 a5 s0 J
      else
        M_begins1_B124 F a1 a2 J
    else
      M_begins1_B131 F a1 a2 a3 a4 a5 s0 J
def M_begins1 (F : Nat) (a1 : Int32) (a2 : Int32) (J : Ji) : Option (Ji) :=
  ldI J 48 100 (42 + a1) fun x1 => (M_isEnded F J x1).bind fun r2 => if r2 = 0 then
    (M_tells F a1 a2 J).bind fun r3 => (M_stepAt r3.2 x1 r3.1).bind fun r4 => ldI r3.2 27 72 r4 fun x5 => if x5 < 0 then
      M_begins1_B81 F a1 a2 x1 r3.1 x5 1 r3.2
    else
      ldI r3.2 48 100 (72 + x5) fun x6 => if x6 = (100 + a1) then
        M_begins1_B81 F a1 a2 x1 r3.1 x5 1 r3.2
      else
        M_begins1_B81 F a1 a2 x1 r3.1 x5 0 r3.2
  else
    stI J 56 6 a1 (1 &&& 1) fun J7 => (M_lies a1 a2 J7).bind fun r8 => some r8
def M_getsUp_B117 (a1 : Int32) (a3 : Int32) (s0 : Int32) (s1 : Int32) (J : Ji) : Option (Ji) :=
  stI J 50 6 s1 s0 fun J11 => stI J11 51 6 a1 a3 fun J12 => if a3 = 1000000 then
    stI J12 48 100 (66 + a1) 0 fun J13 => some J13
  else
    some J12
def M_getsUp (a1 : Int32) (J : Ji) : Option (Ji) :=
  ldI J 48 100 (42 + a1) fun x1 => stI J 50 6 a1 0 fun J2 => stI J2 55 6 a1 0 fun J3 => stI J3 56 6 a1 (0 &&& 1) fun J4 => stI J4 48 100 (66 + a1) ((-2)) fun J5 => ldI J5 48 100 (48 + a1) fun x6 => stI J5 54 6 a1 x6 fun J7 => if 0 ≤ x1 then
    ldI J7 30 12 ((6 * (J7 0 18)) + a1) fun x8 => ldI J7 20 12 ((6 * (J7 0 18)) + x1) fun x9 => ldI J7 49 64 ((8 * x8) + x9) fun x10 => if x10 = 1000000 then
      M_getsUp_B117 a1 x10 3 a1 J7
    else
      M_getsUp_B117 a1 x10 1 a1 J7
  else
    some J7
def M_isOver (a1 : Int32) (J : Ji) : Option (Ji) :=
  ldI J 48 100 (42 + a1) fun x1 => ldI J 53 6 a1 fun x2 => (M_does x1 x2 J).bind fun r3 => stI r3 50 6 a1 1 fun J4 => ldI J4 53 6 a1 fun x5 => stI J4 54 6 a1 x5 fun J6 => ldI J6 55 6 a1 fun x7 => stI J6 55 6 a1 (x7 + 1) fun J8 => some J8
def M_goesTill_B75 (F : Nat) (k27 : Int32 → Int32 → Ji → Option (Ji)) (k75 : Int32 → Int32 → Int32 → Ji → Option (Ji)) (a1 : Int32) (a2 : Int32) (a3 : Int32) (J : Ji) : Option (Ji) :=
  (M_menNow J).bind fun r12 => if r12 ≤ a3 then
    lt_ (a2 + 1) fun x13 => k27 a1 x13 J
  else
    ldI J 41 2 (J 0 18) fun x14 => if x14 ≤ a2 then
      lt_ (a2 + 1) fun x15 => k27 a1 x15 J
    else
      ldI J 50 6 a3 fun x16 => if x16 = 1 then
        ldI J 51 6 a3 fun x17 => if a2 < x17 then
          lt_ (a3 + 1) fun x18 => k75 a1 a2 x18 J
        else
          (M_begins1 F a3 a2 J).bind fun r19 => lt_ (a3 + 1) fun x20 => k75 a1 a2 x20 r19
      else
        lt_ (a3 + 1) fun x21 => k75 a1 a2 x21 J
def M_goesTill_L75 (F : Nat) (k27 : Int32 → Int32 → Ji → Option (Ji)) : Nat → Int32 → Int32 → Int32 → Ji → Option (Ji)
  | 0, _, _, _, _ => none
  | n + 1, a1, a2, a3, J => M_goesTill_B75 F k27 (M_goesTill_L75 F k27 n) a1 a2 a3 J
def M_goesTill_B34 (F : Nat) (k27 : Int32 → Int32 → Ji → Option (Ji)) (k34 : Int32 → Int32 → Int32 → Ji → Option (Ji)) (a1 : Int32) (a2 : Int32) (a3 : Int32) (J : Ji) : Option (Ji) :=
  (M_menNow J).bind fun r5 => if r5 ≤ a3 then
    M_goesTill_L75 F k27 F a1 a2 0 J
  else
    ldI J 50 6 a3 fun x6 => if x6 = 2 then
      ldI J 52 6 a3 fun x7 => if x7 = a2 then
        (M_isOver a3 J).bind fun r8 => lt_ (a3 + 1) fun x9 => k34 a1 a2 x9 r8
      else
        lt_ (a3 + 1) fun x10 => k34 a1 a2 x10 J
    else
      lt_ (a3 + 1) fun x11 => k34 a1 a2 x11 J
def M_goesTill_L34 (F : Nat) (k27 : Int32 → Int32 → Ji → Option (Ji)) : Nat → Int32 → Int32 → Int32 → Ji → Option (Ji)
  | 0, _, _, _, _ => none
  | n + 1, a1, a2, a3, J => M_goesTill_B34 F k27 (M_goesTill_L34 F k27 n) a1 a2 a3 J
def M_goesTill_B27 (F : Nat) (k27 : Int32 → Int32 → Ji → Option (Ji)) (a1 : Int32) (a2 : Int32) (J : Ji) : Option (Ji) :=
  if a1 < a2 then
    some J
  else
    M_goesTill_L34 F k27 F a1 a2 0 J
def M_goesTill_L27 (F : Nat) : Nat → Int32 → Int32 → Ji → Option (Ji)
  | 0, _, _, _ => none
  | n + 1, a1, a2, J => M_goesTill_B27 F (M_goesTill_L27 F n) a1 a2 J
def M_goesTill_B6 (F : Nat) (k6 : Int32 → Int32 → Ji → Option (Ji)) (a1 : Int32) (a2 : Int32) (J : Ji) : Option (Ji) :=
  (M_menNow J).bind fun r2 => if r2 ≤ a2 then
    M_goesTill_L27 F F a1 0 J
  else
    (M_getsUp a2 J).bind fun r3 => lt_ (a2 + 1) fun x4 => k6 a1 x4 r3
def M_goesTill_L6 (F : Nat) : Nat → Int32 → Int32 → Ji → Option (Ji)
  | 0, _, _, _ => none
  | n + 1, a1, a2, J => M_goesTill_B6 F (M_goesTill_L6 F n) a1 a2 J
def M_goesTill (F : Nat) (a1 : Int32) (J : Ji) : Option (Ji) :=
  (M_fillsWays F J).bind fun r1 => M_goesTill_L6 F F a1 0 r1
def M_worthNow_B4 (F : Nat) (k4 : Int32 → Int32 → Option (Int32)) (J : Ji) (a1 : Int32) (a2 : Int32) : Option (Int32) :=
  (M_tasksNow J).bind fun r1 => if r1 ≤ a2 then
    some a1
  else
    (M_worthOf F J a2).bind fun r2 => lt_ (a1 + r2) fun x3 => lt_ (a2 + 1) fun x4 => k4 x3 x4
def M_worthNow_L4 (F : Nat) (J : Ji) : Nat → Int32 → Int32 → Option (Int32)
  | 0, _, _ => none
  | n + 1, a1, a2 => M_worthNow_B4 F (M_worthNow_L4 F J n) J a1 a2
def M_worthNow (F : Nat) (J : Ji) : Option (Int32) :=
  M_worthNow_L4 F J F 0 0
def M_wholeNight_B20 (F : Nat) (k20 : Int32 → Int32 → Ji → Option (Int32 × Ji)) (a1 : Int32) (a2 : Int32) (J : Ji) : Option (Int32 × Ji) :=
  (M_menNow J).bind fun r4 => if r4 ≤ a2 then
    ldI J 48 100 79 fun x5 => stI J 48 100 79 (x5 + 1) fun J6 => (M_worthNow F J6).bind fun r7 => some (r7 - a1, J6)
  else
    ldI J 55 6 a2 fun x8 => stI J 48 100 (54 + a2) x8 fun J9 => ldI J9 48 100 (60 + a2) fun x10 => ldI J9 55 6 a2 fun x11 => stI J9 48 100 (60 + a2) (x10 + x11) fun J12 => ldI J12 54 6 a2 fun x13 => stI J12 48 100 (48 + a2) x13 fun J14 => ldI J14 56 6 a2 fun x15 => if x15 = 0 then
      lt_ (a2 + 1) fun x16 => k20 a1 x16 J14
    else
      stI J14 48 100 (42 + a2) ((-1)) fun J17 => stI J17 48 100 (48 + a2) ((-1)) fun J18 => lt_ (a2 + 1) fun x19 => k20 a1 x19 J18
def M_wholeNight_L20 (F : Nat) : Nat → Int32 → Int32 → Ji → Option (Int32 × Ji)
  | 0, _, _, _ => none
  | n + 1, a1, a2, J => M_wholeNight_B20 F (M_wholeNight_L20 F n) a1 a2 J
def M_wholeNight (F : Nat) (J : Ji) : Option (Int32 × Ji) :=
  (M_worthNow F J).bind fun r1 => ldI J 41 2 (J 0 18) fun x2 => (M_goesTill F x2 J).bind fun r3 => M_wholeNight_L20 F F r1 0 r3
def M_night_B104 (F : Nat) (k104 : Int32 → Int32 → Ji → Option (Int32 × Ji)) (a1 : Int32) (a2 : Int32) (J : Ji) : Option (Int32 × Ji) :=
  if 100 ≤ a2 then
    some (a1, J)
  else
    ldI J 48 100 a2 fun x7 => stI J 47 100 a2 x7 fun J8 => lt_ (a2 + 1) fun x9 => k104 a1 x9 J8
def M_night_L104 (F : Nat) : Nat → Int32 → Int32 → Ji → Option (Int32 × Ji)
  | 0, _, _, _ => none
  | n + 1, a1, a2, J => M_night_B104 F (M_night_L104 F n) a1 a2 J
def M_night_B51 (F : Nat) (k51 : Int32 → Ji → Option (Int32 × Ji)) (a1 : Int32) (J : Ji) : Option (Int32 × Ji) :=
  if 100 ≤ a1 then
    lt_ (uJ J 0 74 ((J 0 74) + 1)) fun J1 => (M_takes F J1).bind fun r2 => (M_wholeNight F r2).bind fun r3 => M_night_L104 F F r3.1 0 r3.2
  else
    ldI J 47 100 a1 fun x4 => stI J 57 2000 ((100 * (J 0 74)) + a1) x4 fun J5 => lt_ (a1 + 1) fun x6 => k51 x6 J5
def M_night_L51 (F : Nat) : Nat → Int32 → Ji → Option (Int32 × Ji)
  | 0, _, _ => none
  | n + 1, a1, J => M_night_B51 F (M_night_L51 F n) a1 J
def M_night_B49 (F : Nat) (J : Ji) : Option (Int32 × Ji) :=
  M_night_L51 F F 0 J
def M_night_B11 (F : Nat) (k11 : Int32 → Ji → Option (Int32 × Ji)) (a1 : Int32) (J : Ji) : Option (Int32 × Ji) :=
  if 1900 ≤ a1 then
    lt_ (uJ J 0 74 ((J 0 74) - 1)) fun J10 => M_night_B49 F J10
  else
    ldI J 57 2000 (a1 + 100) fun x11 => stI J 57 2000 a1 x11 fun J12 => lt_ (a1 + 1) fun x13 => k11 x13 J12
def M_night_L11 (F : Nat) : Nat → Int32 → Ji → Option (Int32 × Ji)
  | 0, _, _ => none
  | n + 1, a1, J => M_night_B11 F (M_night_L11 F n) a1 J
def M_night (F : Nat) (J : Ji) : Option (Int32 × Ji) :=
  if (J 0 74) = 20 then
    M_night_L11 F F 0 J
  else
    M_night_B49 F J
def M_undo_B21 (F : Nat) (k21 : Int32 → Ji → Option (Int32 × Ji)) (a1 : Int32) (J : Ji) : Option (Int32 × Ji) :=
  if 100 ≤ a1 then
    some (1, J)
  else
    ldI J 57 2000 ((100 * (J 0 74)) + a1) fun x2 => stI J 47 100 a1 x2 fun J3 => lt_ (a1 + 1) fun x4 => k21 x4 J3
def M_undo_L21 (F : Nat) : Nat → Int32 → Ji → Option (Int32 × Ji)
  | 0, _, _ => none
  | n + 1, a1, J => M_undo_B21 F (M_undo_L21 F n) a1 J
def M_undo (F : Nat) (J : Ji) : Option (Int32 × Ji) :=
  if (J 0 74) = 0 then
    some (0, J)
  else
    lt_ (uJ J 0 74 ((J 0 74) - 1)) fun J1 => M_undo_L21 F F 0 J1
def M_gain (F : Nat) (J : Ji) : Option (Int32 × Ji) :=
  (M_takes F J).bind fun r1 => (M_wholeNight F r1).bind fun r2 => some (r2.1, r2.2)
def M_leaves_B96 (F : Nat) (s0 : Int32) (s1 : Int32) (J : Ji) : Option (Int32 × Ji) :=
  stI J 48 100 s1 s0 fun J9 => some (1, J9)
def M_leaves_B78 (F : Nat) (a1 : Int32) (a3 : Int32) (s0 : Int32) (s1 : Int32) (J : Ji) : Option (Int32 × Ji) :=
  stI J 48 100 s1 s0 fun J8 => if 0 ≤ a3 then
    M_leaves_B96 F a3 (48 + a1) J8
  else
    M_leaves_B96 F ((-1)) (48 + a1) J8
def M_leaves_B60 (F : Nat) (a1 : Int32) (a3 : Int32) (a4 : Int32) (J : Ji) : Option (Int32 × Ji) :=
  if 0 ≤ a3 then
    M_leaves_B78 F a1 a3 a4 (42 + a1) J
  else
    M_leaves_B78 F a1 a3 ((-1)) (42 + a1) J
def M_leaves_B45 (F : Nat) (a1 : Int32) (a3 : Int32) (a4 : Int32) (J : Ji) : Option (Int32 × Ji) :=
  (M_tasksNow J).bind fun r7 => if a4 = r7 then
    if a3 < 0 then
      M_leaves_B60 F a1 a3 a4 J
    else
      some (0, J)
  else
    M_leaves_B60 F a1 a3 a4 J
def M_leaves_B7 (F : Nat) (k7 : Int32 → Int32 → Int32 → Ji → Option (Int32 × Ji)) (a1 : Int32) (a3 : Int32) (a4 : Int32) (J : Ji) : Option (Int32 × Ji) :=
  if a3 < 0 then
    M_leaves_B45 F a1 a3 a4 J
  else
    (M_tasksNow J).bind fun r2 => if r2 ≤ a4 then
      M_leaves_B45 F a1 a3 a4 J
    else
      (M_stepsOf J a4).bind fun r3 => if a3 < r3 then
        M_leaves_B45 F a1 a3 a4 J
      else
        (M_stepsOf J a4).bind fun r4 => lt_ (a3 - r4) fun x5 => lt_ (a4 + 1) fun x6 => k7 a1 x5 x6 J
def M_leaves_L7 (F : Nat) : Nat → Int32 → Int32 → Int32 → Ji → Option (Int32 × Ji)
  | 0, _, _, _, _ => none
  | n + 1, a1, a3, a4, J => M_leaves_B7 F (M_leaves_L7 F n) a1 a3 a4 J
def M_leaves (F : Nat) (a1 : Int32) (a2 : Int32) (J : Ji) : Option (Int32 × Ji) :=
  lt_ (a2 - 1) fun x1 => M_leaves_L7 F F a1 x1 0 J
def M_gainBy (F : Nat) (a1 : Int32) (a2 : Int32) (J : Ji) : Option (Int32 × Ji) :=
  (M_takes F J).bind fun r1 => (M_leaves F a1 a2 r1).bind fun r2 => (M_wholeNight F r2.2).bind fun r3 => some (r3.1, r3.2)
def M_options_B4 (F : Nat) (k4 : Int32 → Int32 → Option (Int32)) (J : Ji) (a1 : Int32) (a2 : Int32) : Option (Int32) :=
  (M_tasksNow J).bind fun r1 => if r1 ≤ a2 then
    some a1
  else
    (M_stepsOf J a2).bind fun r2 => lt_ (a1 + r2) fun x3 => lt_ (a2 + 1) fun x4 => k4 x3 x4
def M_options_L4 (F : Nat) (J : Ji) : Nat → Int32 → Int32 → Option (Int32)
  | 0, _, _ => none
  | n + 1, a1, a2 => M_options_B4 F (M_options_L4 F J n) J a1 a2
def M_options (F : Nat) (J : Ji) : Option (Int32) :=
  M_options_L4 F J F 1 0
def M_bestOption_B14 (F : Nat) (k14 : Int32 → Int32 → Int32 → Ji → Option (Int32 × Ji)) (a1 : Int32) (a2 : Int32) (a3 : Int32) (J : Ji) : Option (Int32 × Ji) :=
  (M_options F J).bind fun r3 => if r3 ≤ a3 then
    some (a2, J)
  else
    (M_gainBy F a1 a3 J).bind fun r4 => if (r4.2 0 76) < r4.1 then
      lt_ (uJ r4.2 0 76 r4.1) fun J5 => lt_ (a3 + 1) fun x6 => k14 a1 a3 x6 J5
    else
      lt_ (a3 + 1) fun x7 => k14 a1 a2 x7 r4.2
def M_bestOption_L14 (F : Nat) : Nat → Int32 → Int32 → Int32 → Ji → Option (Int32 × Ji)
  | 0, _, _, _, _ => none
  | n + 1, a1, a2, a3, J => M_bestOption_B14 F (M_bestOption_L14 F n) a1 a2 a3 J
def M_bestOption (F : Nat) (a1 : Int32) (J : Ji) : Option (Int32 × Ji) :=
  (M_gainBy F a1 0 J).bind fun r1 => lt_ (uJ r1.2 0 76 r1.1) fun J2 => M_bestOption_L14 F F a1 0 1 J2
def M_codeOf (F : Nat) (a1 : Int32) (a2 : Int32) (J : Ji) : Option (Int32 × Ji) :=
  (M_leaves F a1 a2 J).bind fun r1 => if r1.1 = 0 then
    some ((-2), r1.2)
  else
    ldI r1.2 48 100 (42 + a1) fun x2 => if x2 < 0 then
      some ((-2), r1.2)
    else
      ldI r1.2 48 100 (42 + a1) fun x3 => ldI r1.2 48 100 (48 + a1) fun x4 => some ((10 * x3) + x4, r1.2)
def M_best (F : Nat) (a1 : Int32) (a2 : Int32) (J : Ji) : Option (Int32 × Ji) :=
  (M_isMan J a1).bind fun r1 => if r1 = 0 then
    some ((-1), J)
  else
    (M_in a2 0 1).bind fun r2 => if r2 = 0 then
      some ((-1), J)
    else
      (M_bestOption F a1 J).bind fun r3 => if a2 = 0 then
        some (r3.2 0 76, r3.2)
      else
        (M_codeOf F a1 r3.1 r3.2).bind fun r4 => some (r4.1, r4.2)
def M_bestOfTwo_B106 (F : Nat) (k44 : Int32 → Int32 → Int32 → Int32 → Int32 → Int32 → Int32 → Ji → Option (Int32 × Ji)) (k56 : Int32 → Int32 → Int32 → Int32 → Int32 → Int32 → Int32 → Int32 → Ji → Option (Int32 × Ji)) (a1 : Int32) (a2 : Int32) (a3 : Int32) (a7 : Int32) (a8 : Int32) (a9 : Int32) (J : Ji) : Option (Int32 × Ji) :=
  lt_ (a8 + 1) fun x14 => k56 a1 a2 a3 a7 a8 a9 a7 x14 J
def M_bestOfTwo_B56 (F : Nat) (k44 : Int32 → Int32 → Int32 → Int32 → Int32 → Int32 → Int32 → Ji → Option (Int32 × Ji)) (k56 : Int32 → Int32 → Int32 → Int32 → Int32 → Int32 → Int32 → Int32 → Ji → Option (Int32 × Ji)) (a1 : Int32) (a2 : Int32) (a3 : Int32) (a4 : Int32) (a5 : Int32) (a6 : Int32) (a7 : Int32) (a8 : Int32) (J : Ji) : Option (Int32 × Ji) :=
  (M_options F J).bind fun r7 => if r7 ≤ a8 then
    lt_ (a7 + 1) fun x8 => k44 a1 a2 a3 a4 a5 a6 x8 J
  else
    (M_takes F J).bind fun r9 => (M_leaves F a1 a7 r9).bind fun r10 => (M_leaves F a2 a8 r10.2).bind fun r11 => (M_wholeNight F r11.2).bind fun r12 => if a4 < 0 then
      M_bestOfTwo_B106 F k44 k56 a1 a2 a3 a7 a8 r12.1 r12.2
    else
      if a6 < r12.1 then
        M_bestOfTwo_B106 F k44 k56 a1 a2 a3 a7 a8 r12.1 r12.2
      else
        lt_ (a8 + 1) fun x13 => k56 a1 a2 a3 a4 a5 a6 a7 x13 r12.2
def M_bestOfTwo_L56 (F : Nat) (k44 : Int32 → Int32 → Int32 → Int32 → Int32 → Int32 → Int32 → Ji → Option (Int32 × Ji)) : Nat → Int32 → Int32 → Int32 → Int32 → Int32 → Int32 → Int32 → Int32 → Ji → Option (Int32 × Ji)
  | 0, _, _, _, _, _, _, _, _, _ => none
  | n + 1, a1, a2, a3, a4, a5, a6, a7, a8, J => M_bestOfTwo_B56 F k44 (M_bestOfTwo_L56 F k44 n) a1 a2 a3 a4 a5 a6 a7 a8 J
def M_bestOfTwo_B44 (F : Nat) (k44 : Int32 → Int32 → Int32 → Int32 → Int32 → Int32 → Int32 → Ji → Option (Int32 × Ji)) (a1 : Int32) (a2 : Int32) (a3 : Int32) (a4 : Int32) (a5 : Int32) (a6 : Int32) (a7 : Int32) (J : Ji) : Option (Int32 × Ji) :=
  (M_options F J).bind fun r4 => if r4 ≤ a7 then
    if a3 = 0 then
      some (a6, J)
    else
      if a3 = 1 then
        (M_codeOf F a1 a4 J).bind fun r5 => some (r5.1, r5.2)
      else
        (M_codeOf F a2 a5 J).bind fun r6 => some (r6.1, r6.2)
  else
    M_bestOfTwo_L56 F k44 F a1 a2 a3 a4 a5 a6 a7 0 J
def M_bestOfTwo_L44 (F : Nat) : Nat → Int32 → Int32 → Int32 → Int32 → Int32 → Int32 → Int32 → Ji → Option (Int32 × Ji)
  | 0, _, _, _, _, _, _, _, _ => none
  | n + 1, a1, a2, a3, a4, a5, a6, a7, J => M_bestOfTwo_B44 F (M_bestOfTwo_L44 F n) a1 a2 a3 a4 a5 a6 a7 J
def M_bestOfTwo (F : Nat) (a1 : Int32) (a2 : Int32) (a3 : Int32) (J : Ji) : Option (Int32 × Ji) :=
  (M_isMan J a1).bind fun r1 => if r1 = 0 then
    some ((-1), J)
  else
    (M_isMan J a2).bind fun r2 => if r2 = 0 then
      some ((-1), J)
    else
      if a1 = a2 then
        some ((-1), J)
      else
        (M_in a3 0 2).bind fun r3 => if r3 = 0 then
          some ((-1), J)
        else
          M_bestOfTwo_L44 F F a1 a2 a3 ((-1)) 0 0 0 J
def M_hire (F : Nat) (a1 : Int32) (J : Ji) : Option (Int32 × Ji) :=
  (M_isMan J a1).bind fun r1 => if r1 = 0 then
    some ((-1000000), J)
  else
    (M_bestOption F a1 J).bind fun r2 => (M_gainBy F a1 0 r2.2).bind fun r3 => some ((r2.2 0 76) - r3.1, r3.2)
def M_hide_B129 (F : Nat) (k39 : Int32 → Int32 → Int32 → Int32 → Int32 → Ji → Option (Int32 × Ji)) (a1 : Int32) (a2 : Int32) (a5 : Int32) (a6 : Int32) (a7 : Int32) (J : Ji) : Option (Int32 × Ji) :=
  lt_ (a5 + 1) fun x12 => k39 a1 a2 a6 a7 x12 J
def M_hide_B92 (F : Nat) (k39 : Int32 → Int32 → Int32 → Int32 → Int32 → Ji → Option (Int32 × Ji)) (a1 : Int32) (a2 : Int32) (a3 : Int32) (a4 : Int32) (a5 : Int32) (s0 : Int32) (J : Ji) : Option (Int32 × Ji) :=
  (M_takes F J).bind fun r8 => stI r8 48 100 (72 + a1) s0 fun J9 => (M_wholeNight F J9).bind fun r10 => if a3 < 0 then
    M_hide_B129 F k39 a1 a2 a5 s0 r10.1 r10.2
  else
    if a4 < r10.1 then
      M_hide_B129 F k39 a1 a2 a5 s0 r10.1 r10.2
    else
      lt_ (a5 + 1) fun x11 => k39 a1 a2 a3 a4 x11 r10.2
def M_hide_B39 (F : Nat) (k39 : Int32 → Int32 → Int32 → Int32 → Int32 → Ji → Option (Int32 × Ji)) (a1 : Int32) (a2 : Int32) (a3 : Int32) (a4 : Int32) (a5 : Int32) (J : Ji) : Option (Int32 × Ji) :=
  ldI J 11 2 (J 0 18) fun x4 => (M_menNow J).bind fun r5 => if (x4 + r5) ≤ a5 then
    if a2 = 0 then
      some (a4, J)
    else
      some (a3, J)
  else
    ldI J 11 2 (J 0 18) fun x6 => if x6 ≤ a5 then
      ldI J 11 2 (J 0 18) fun x7 => M_hide_B92 F k39 a1 a2 a3 a4 a5 ((100 + a5) - x7) J
    else
      M_hide_B92 F k39 a1 a2 a3 a4 a5 a5 J
def M_hide_L39 (F : Nat) : Nat → Int32 → Int32 → Int32 → Int32 → Int32 → Ji → Option (Int32 × Ji)
  | 0, _, _, _, _, _, _ => none
  | n + 1, a1, a2, a3, a4, a5, J => M_hide_B39 F (M_hide_L39 F n) a1 a2 a3 a4 a5 J
def M_hide (F : Nat) (a1 : Int32) (a2 : Int32) (J : Ji) : Option (Int32 × Ji) :=
  (M_isTool J a1).bind fun r1 => if r1 = 0 then
    some ((-1), J)
  else
    (M_in a2 0 1).bind fun r2 => if r2 = 0 then
      some ((-1), J)
    else
      ldI J 11 2 (J 0 18) fun x3 => if x3 = 0 then
        some ((-1), J)
      else
        M_hide_L39 F F a1 a2 ((-1)) 0 0 J
def M_bits_B4 (F : Nat) (k4 : Int32 → Int32 → Int32 → Option (Int32)) (a0 : Int32) (a1 : Int32) (a2 : Int32) : Option (Int32) :=
  if 12 ≤ a2 then
    some a1
  else
    lt_ (a1 + ((a0 >>> (a2 &&& 31)) &&& 1)) fun x1 => lt_ (a2 + 1) fun x2 => k4 a0 x1 x2
def M_bits_L4 (F : Nat) : Nat → Int32 → Int32 → Int32 → Option (Int32)
  | 0, _, _, _ => none
  | n + 1, a0, a1, a2 => M_bits_B4 F (M_bits_L4 F n) a0 a1 a2
def M_bits (F : Nat) (a0 : Int32) : Option (Int32) :=
  M_bits_L4 F F a0 0 0
def M_bars_B84 (F : Nat) (k18 : Int32 → Int32 → Int32 → Int32 → Ji → Option (Int32 × Ji)) (a1 : Int32) (a4 : Int32) (a5 : Int32) (J : Ji) : Option (Int32 × Ji) :=
  lt_ (a4 + 1) fun x10 => k18 a1 a4 a5 x10 J
def M_bars_B18 (F : Nat) (k18 : Int32 → Int32 → Int32 → Int32 → Ji → Option (Int32 × Ji)) (a1 : Int32) (a2 : Int32) (a3 : Int32) (a4 : Int32) (J : Ji) : Option (Int32 × Ji) :=
  ldI J 12 2 (J 0 18) fun x2 => if (1 <<< (x2 &&& 31)) ≤ a4 then
    if a1 = 0 then
      some (a3, J)
    else
      some (a2, J)
  else
    (M_takes F J).bind fun r3 => stI r3 48 100 78 a4 fun J4 => (M_wholeNight F J4).bind fun r5 => if a2 < 0 then
      M_bars_B84 F k18 a1 a4 r5.1 r5.2
    else
      if r5.1 < a3 then
        lt_ (a4 + 1) fun x6 => k18 a1 a2 a3 x6 r5.2
      else
        if r5.1 = a3 then
          (M_bits F a4).bind fun r7 => (M_bits F a2).bind fun r8 => if r7 < r8 then
            M_bars_B84 F k18 a1 a4 r5.1 r5.2
          else
            lt_ (a4 + 1) fun x9 => k18 a1 a2 a3 x9 r5.2
        else
          M_bars_B84 F k18 a1 a4 r5.1 r5.2
def M_bars_L18 (F : Nat) : Nat → Int32 → Int32 → Int32 → Int32 → Ji → Option (Int32 × Ji)
  | 0, _, _, _, _, _ => none
  | n + 1, a1, a2, a3, a4, J => M_bars_B18 F (M_bars_L18 F n) a1 a2 a3 a4 J
def M_bars (F : Nat) (a1 : Int32) (J : Ji) : Option (Int32 × Ji) :=
  (M_in a1 0 1).bind fun r1 => if r1 = 0 then
    some ((-1), J)
  else
    M_bars_L18 F F a1 ((-1)) 0 0 J
def M_where (F : Nat) (a1 : Int32) (a2 : Int32) (J : Ji) : Option (Int32 × Ji) :=
  (M_isMan J a1).bind fun r1 => if r1 = 0 then
    some ((-1), J)
  else
    ldI J 41 2 (J 0 18) fun x2 => (M_in a2 0 x2).bind fun r3 => if r3 = 0 then
      some ((-1), J)
    else
      (M_takes F J).bind fun r4 => (M_fillsWays F r4).bind fun r5 => ldI r5 30 12 ((6 * (r5 0 18)) + a1) fun x6 => ldI r5 48 100 (42 + a1) fun x7 => if 0 ≤ x7 then
        ldI r5 48 100 (42 + a1) fun x8 => ldI r5 20 12 ((6 * (r5 0 18)) + x8) fun x9 => ldI r5 49 64 ((8 * x6) + x9) fun x10 => if a2 < x10 then
          some (x6, r5)
        else
          some (x9, r5)
      else
        some (x6, r5)
def M_strokes (F : Nat) (a1 : Int32) (a2 : Int32) (J : Ji) : Option (Int32 × Ji) :=
  (M_isMan J a1).bind fun r1 => if r1 = 0 then
    some ((-1), J)
  else
    ldI J 41 2 (J 0 18) fun x2 => (M_in a2 0 x2).bind fun r3 => if r3 = 0 then
      some ((-1), J)
    else
      (M_takes F J).bind fun r4 => (M_goesTill F a2 r4).bind fun r5 => ldI r5 55 6 a1 fun x6 => some (x6, r5)
def M_tell_2 (a1 : Int32) (a2 : Int32) (a3 : Int32) (J : Ji) : Option (Int32 × Ji) :=
  if (J 0 77) = 30 then
    some ((-1), J)
  else
    (M_isStep J a1 a2).bind fun r1 => if r1 = 0 then
      some ((-1), J)
    else
      (M_in a3 0 999).bind fun r2 => if r2 = 0 then
        some ((-1), J)
      else
        stI J 58 30 (J 0 77) a1 fun J3 => stI J3 59 30 (J3 0 77) a2 fun J4 => stI J4 60 30 (J4 0 77) a3 fun J5 => lt_ (uJ J5 0 77 ((J5 0 77) + 1)) fun J6 => some ((J6 0 77) - 1, J6)
def M_forget (J : Ji) : Option (Int32 × Ji) :=
  lt_ (J 0 77) fun x1 => lt_ (uJ J 0 77 0) fun J2 => some (x1, J2)
def M_isSo_B7 (F : Nat) (k7 : Int32 → Int32 → Ji → Option (Int32 × Ji)) (a1 : Int32) (a2 : Int32) (J : Ji) : Option (Int32 × Ji) :=
  if a1 ≤ a2 then
    some (1, J)
  else
    ldI J 58 30 a2 fun x2 => ldI J 59 30 a2 fun x3 => ldI J 48 100 ((6 + (6 * x2)) + x3) fun x4 => ldI J 60 30 a2 fun x5 => if x4 = x5 then
      lt_ (a2 + 1) fun x6 => k7 a1 x6 J
    else
      some (0, J)
def M_isSo_L7 (F : Nat) : Nat → Int32 → Int32 → Ji → Option (Int32 × Ji)
  | 0, _, _, _ => none
  | n + 1, a1, a2, J => M_isSo_B7 F (M_isSo_L7 F n) a1 a2 J
def M_isSo (F : Nat) (a1 : Int32) (J : Ji) : Option (Int32 × Ji) :=
  (M_wholeNight F J).bind fun r1 => M_isSo_L7 F F a1 0 r1.2
def M_fits_B33 (F : Nat) (k33 : Int32 → Int32 → Int32 → Int32 → Int32 → Ji → Option (Int32 × Ji)) (a1 : Int32) (a2 : Int32) (a3 : Int32) (a4 : Int32) (a5 : Int32) (J : Ji) : Option (Int32 × Ji) :=
  (M_options F J).bind fun r3 => if r3 ≤ a5 then
    if a3 = ((-1)) then
      some (a4, J)
    else
      some ((-1), J)
  else
    (M_takes F J).bind fun r4 => (M_leaves F a1 a5 r4).bind fun r5 => (M_isSo F a2 r5.2).bind fun r6 => if r6.1 = 0 then
      lt_ (a5 + 1) fun x7 => k33 a1 a2 a3 a4 x7 r6.2
    else
      if a4 = a3 then
        (M_codeOf F a1 a5 r6.2).bind fun r8 => some (r8.1, r8.2)
      else
        lt_ (a4 + 1) fun x9 => lt_ (a5 + 1) fun x10 => k33 a1 a2 a3 x9 x10 r6.2
def M_fits_L33 (F : Nat) : Nat → Int32 → Int32 → Int32 → Int32 → Int32 → Ji → Option (Int32 × Ji)
  | 0, _, _, _, _, _, _ => none
  | n + 1, a1, a2, a3, a4, a5, J => M_fits_B33 F (M_fits_L33 F n) a1 a2 a3 a4 a5 J
def M_fits (F : Nat) (a1 : Int32) (a2 : Int32) (a3 : Int32) (J : Ji) : Option (Int32 × Ji) :=
  (M_isMan J a1).bind fun r1 => if r1 = 0 then
    some ((-1), J)
  else
    (M_in a2 0 (J 0 77)).bind fun r2 => if r2 = 0 then
      some ((-1), J)
    else
      if ((-1)) ≤ a3 then
        M_fits_L33 F F a1 a2 a3 0 0 J
      else
        some ((-1), J)
def M_isSuspect_B66 (F : Nat) (k2 : Int32 → Int32 → Int32 → Ji → Option (Int32 × Ji)) (a1 : Int32) (a2 : Int32) (a3 : Int32) (J : Ji) : Option (Int32 × Ji) :=
  (M_isSo F a2 J).bind fun r9 => if r9.1 = 0 then
    lt_ (a3 + 1) fun x10 => k2 a1 a2 x10 r9.2
  else
    some (1, r9.2)
def M_isSuspect_B2 (F : Nat) (k2 : Int32 → Int32 → Int32 → Ji → Option (Int32 × Ji)) (a1 : Int32) (a2 : Int32) (a3 : Int32) (J : Ji) : Option (Int32 × Ji) :=
  (M_options F J).bind fun r1 => if r1 ≤ a3 then
    some (0, J)
  else
    (M_takes F J).bind fun r2 => (M_leaves F a1 a3 r2).bind fun r3 => ldI r3.2 48 100 (42 + a1) fun x4 => ldI r3.2 47 100 (42 + a1) fun x5 => if x4 = x5 then
      ldI r3.2 48 100 (48 + a1) fun x6 => ldI r3.2 47 100 (48 + a1) fun x7 => if x6 = x7 then
        lt_ (a3 + 1) fun x8 => k2 a1 a2 x8 r3.2
      else
        M_isSuspect_B66 F k2 a1 a2 a3 r3.2
    else
      M_isSuspect_B66 F k2 a1 a2 a3 r3.2
def M_isSuspect_L2 (F : Nat) : Nat → Int32 → Int32 → Int32 → Ji → Option (Int32 × Ji)
  | 0, _, _, _, _ => none
  | n + 1, a1, a2, a3, J => M_isSuspect_B2 F (M_isSuspect_L2 F n) a1 a2 a3 J
def M_isSuspect (F : Nat) (a1 : Int32) (a2 : Int32) (J : Ji) : Option (Int32 × Ji) :=
  M_isSuspect_L2 F F a1 a2 0 J
def M_suspects_B18 (F : Nat) (k18 : Int32 → Int32 → Int32 → Ji → Option (Int32 × Ji)) (a1 : Int32) (a2 : Int32) (a3 : Int32) (J : Ji) : Option (Int32 × Ji) :=
  (M_menNow J).bind fun r2 => if r2 ≤ a3 then
    some (a2, J)
  else
    (M_isSuspect F a3 a1 J).bind fun r3 => if r3.1 = 0 then
      lt_ (a3 + 1) fun x4 => k18 a1 a2 x4 r3.2
    else
      lt_ (a2 ||| (1 <<< (a3 &&& 31))) fun x5 => lt_ (a3 + 1) fun x6 => k18 a1 x5 x6 r3.2
def M_suspects_L18 (F : Nat) : Nat → Int32 → Int32 → Int32 → Ji → Option (Int32 × Ji)
  | 0, _, _, _, _ => none
  | n + 1, a1, a2, a3, J => M_suspects_B18 F (M_suspects_L18 F n) a1 a2 a3 J
def M_suspects (F : Nat) (a1 : Int32) (J : Ji) : Option (Int32 × Ji) :=
  (M_in a1 0 (J 0 77)).bind fun r1 => if r1 = 0 then
    some ((-1), J)
  else
    M_suspects_L18 F F a1 0 0 J
def M_pairs_B53 (F : Nat) (k41 : Int32 → Int32 → Int32 → Int32 → Int32 → Ji → Option (Int32 × Ji)) (k53 : Int32 → Int32 → Int32 → Int32 → Int32 → Int32 → Ji → Option (Int32 × Ji)) (a1 : Int32) (a2 : Int32) (a3 : Int32) (a4 : Int32) (a5 : Int32) (a6 : Int32) (J : Ji) : Option (Int32 × Ji) :=
  (M_options F J).bind fun r5 => if r5 ≤ a6 then
    lt_ (a5 + 1) fun x6 => k41 a1 a2 a3 a4 x6 J
  else
    (M_takes F J).bind fun r7 => (M_leaves F a1 a5 r7).bind fun r8 => (M_leaves F a2 a6 r8.2).bind fun r9 => (M_isSo F a3 r9.2).bind fun r10 => if r10.1 = 0 then
      lt_ (a6 + 1) fun x11 => k53 a1 a2 a3 a4 a5 x11 r10.2
    else
      lt_ (a4 + 1) fun x12 => lt_ (a6 + 1) fun x13 => k53 a1 a2 a3 x12 a5 x13 r10.2
def M_pairs_L53 (F : Nat) (k41 : Int32 → Int32 → Int32 → Int32 → Int32 → Ji → Option (Int32 × Ji)) : Nat → Int32 → Int32 → Int32 → Int32 → Int32 → Int32 → Ji → Option (Int32 × Ji)
  | 0, _, _, _, _, _, _, _ => none
  | n + 1, a1, a2, a3, a4, a5, a6, J => M_pairs_B53 F k41 (M_pairs_L53 F k41 n) a1 a2 a3 a4 a5 a6 J
def M_pairs_B41 (F : Nat) (k41 : Int32 → Int32 → Int32 → Int32 → Int32 → Ji → Option (Int32 × Ji)) (a1 : Int32) (a2 : Int32) (a3 : Int32) (a4 : Int32) (a5 : Int32) (J : Ji) : Option (Int32 × Ji) :=
  (M_options F J).bind fun r4 => if r4 ≤ a5 then
    some (a4, J)
  else
    M_pairs_L53 F k41 F a1 a2 a3 a4 a5 0 J
def M_pairs_L41 (F : Nat) : Nat → Int32 → Int32 → Int32 → Int32 → Int32 → Ji → Option (Int32 × Ji)
  | 0, _, _, _, _, _, _ => none
  | n + 1, a1, a2, a3, a4, a5, J => M_pairs_B41 F (M_pairs_L41 F n) a1 a2 a3 a4 a5 J
def M_pairs (F : Nat) (a1 : Int32) (a2 : Int32) (a3 : Int32) (J : Ji) : Option (Int32 × Ji) :=
  (M_isMan J a1).bind fun r1 => if r1 = 0 then
    some ((-1), J)
  else
    (M_isMan J a2).bind fun r2 => if r2 = 0 then
      some ((-1), J)
    else
      if a1 = a2 then
        some ((-1), J)
      else
        (M_in a3 0 (J 0 77)).bind fun r3 => if r3 = 0 then
          some ((-1), J)
        else
          M_pairs_L41 F F a1 a2 a3 0 0 J
def M_hold_B20 (F : Nat) (k20 : Int32 → Int32 → Ji → Option (Int32 × Ji)) (a1 : Int32) (a2 : Int32) (J : Ji) : Option (Int32 × Ji) :=
  if 100 ≤ a2 then
    some (1, J)
  else
    ldI J 47 100 a2 fun x3 => stI J 62 300 ((100 * a1) + a2) x3 fun J4 => lt_ (a2 + 1) fun x5 => k20 a1 x5 J4
def M_hold_L20 (F : Nat) : Nat → Int32 → Int32 → Ji → Option (Int32 × Ji)
  | 0, _, _, _ => none
  | n + 1, a1, a2, J => M_hold_B20 F (M_hold_L20 F n) a1 a2 J
def M_hold (F : Nat) (a1 : Int32) (J : Ji) : Option (Int32 × Ji) :=
  (M_in a1 0 2).bind fun r1 => if r1 = 0 then
    some (0, J)
  else
    stI J 61 3 a1 (1 &&& 1) fun J2 => M_hold_L20 F F a1 0 J2
def M_restore_B22 (F : Nat) (k22 : Int32 → Int32 → Ji → Option (Int32 × Ji)) (a1 : Int32) (a2 : Int32) (J : Ji) : Option (Int32 × Ji) :=
  if 100 ≤ a2 then
    lt_ (uJ J 0 74 0) fun J3 => some (1, J3)
  else
    ldI J 62 300 ((100 * a1) + a2) fun x4 => stI J 47 100 a2 x4 fun J5 => lt_ (a2 + 1) fun x6 => k22 a1 x6 J5
def M_restore_L22 (F : Nat) : Nat → Int32 → Int32 → Ji → Option (Int32 × Ji)
  | 0, _, _, _ => none
  | n + 1, a1, a2, J => M_restore_B22 F (M_restore_L22 F n) a1 a2 J
def M_restore (F : Nat) (a1 : Int32) (J : Ji) : Option (Int32 × Ji) :=
  (M_in a1 0 2).bind fun r1 => if r1 = 0 then
    some (0, J)
  else
    ldI J 61 3 a1 fun x2 => if x2 = 0 then
      some (0, J)
    else
      M_restore_L22 F F a1 0 J
def M_count_B189 (F : Nat) (s0 : Int32) (s1 : Int32) (J : Ji) : Option (Int32 × Ji) :=
  ldI J 61 3 2 fun x14 => if x14 = 0 then
    some ((s1 + s0) + 0, J)
  else
    some ((s1 + s0) + 1, J)
def M_count_B175 (F : Nat) (s0 : Int32) (J : Ji) : Option (Int32 × Ji) :=
  ldI J 61 3 1 fun x13 => if x13 = 0 then
    M_count_B189 F 0 s0 J
  else
    M_count_B189 F 1 s0 J
def M_count (F : Nat) (a1 : Int32) (J : Ji) : Option (Int32 × Ji) :=
  if a1 = 0 then
    ldI J 11 2 (J 0 18) fun x1 => some (x1, J)
  else if a1 = 1 then
    ldI J 12 2 (J 0 18) fun x2 => some (x2, J)
  else if a1 = 2 then
    ldI J 17 2 (J 0 18) fun x3 => some (x3, J)
  else if a1 = 3 then
    (M_tasksNow J).bind fun r4 => some (r4, J)
  else if a1 = 4 then
    (M_menNow J).bind fun r5 => some (r5, J)
  else if a1 = 5 then
    ldI J 41 2 (J 0 18) fun x6 => some (x6, J)
  else if a1 = 6 then
    ldI J 47 100 79 fun x7 => some (x7, J)
  else if a1 = 7 then
    ldI J 47 100 78 fun x8 => (M_bits F x8).bind fun r9 => some (r9, J)
  else if a1 = 8 then
    (M_takes F J).bind fun r10 => (M_worthNow F r10).bind fun r11 => some (r11, r10)
  else if a1 = 9 then
    some (J 0 2, J)
  else if a1 = 10 then
    some (J 0 74, J)
  else if a1 = 11 then
    some (J 0 77, J)
  else if a1 = 12 then
    ldI J 61 3 0 fun x12 => if x12 = 0 then
      M_count_B175 F 0 J
    else
      M_count_B175 F 1 J
  else 
    some ((-1), J)
