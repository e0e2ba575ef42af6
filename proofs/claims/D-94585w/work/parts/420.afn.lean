/-! methods that allocate, and the parser's, as pure functions (printed by gen/amain.py) -/
set_option maxRecDepth 100000
def A_J3_init (a0 : Nat) : Option (Unit) :=
  some ()
def A_J4_init (a0 : Nat) (T : Th) : Option (Th) :=
  (A_J3_init a0).bind fun r1 => pI T a0 19 0 0 fun T2 => some T2
def A_J5_init (a0 : Nat) (T : Th) : Option (Th) :=
  (A_J4_init a0 T).bind fun r1 => pR r1 a0 19 1 ((some (tE r1))) fun T2 => some T2
def A_Named_X10 (a0 : Nat) (a1 : Nat) (T : Th) : Option (Th) :=
  pR T a0 9 0 ((some a1)) fun T1 => some T1
def A_Named_X12 (a0 : Nat) (a1 : Nat) (T : Th) : Option (Th) :=
  pR T a0 11 0 ((some a1)) fun T1 => some T1
def A_Named_X13 (a0 : Nat) (a1 : Nat) (T : Th) : Option (Th) :=
  pR T a0 12 0 ((some a1)) fun T1 => some T1
def A_Named_X15 (a0 : Nat) (a1 : Nat) (T : Th) : Option (Th) :=
  pR T a0 14 0 ((some a1)) fun T1 => some T1
def A_Room (a0 : Nat) (a1 : Nat) (T : Th) : Option (Th) :=
  (A_Named_X10 a0 a1 T).bind fun r1 => some r1
def A_Tool (a0 : Nat) (a1 : Nat) (T : Th) : Option (Th) :=
  (A_Named_X12 a0 a1 T).bind fun r1 => some r1
def A_Task (a0 : Nat) (a1 : Nat) (T : Th) : Option (Th) :=
  (A_Named_X13 a0 a1 T).bind fun r1 => nO r1 19 3 fun T2 => (A_J5_init (tN r1) T2).bind fun r3 => pR r3 a0 12 3 ((some (tN r1))) fun T4 => some T4
def A_Man (a0 : Nat) (a1 : Nat) (T : Th) : Option (Th) :=
  (A_Named_X15 a0 a1 T).bind fun r1 => pI r1 a0 14 2 ((-2)) fun T2 => pI T2 a0 14 3 ((-2)) fun T3 => some T3
def A_Door (a0 : Nat) : Option (Unit) :=
  some ()
def A_Step (a0 : Nat) (T : Th) : Option (Th) :=
  pI T a0 13 4 ((-2)) fun T1 => pI T1 a0 13 5 ((-2)) fun T2 => some T2
def A_Sum_X18 (a0 : Nat) : Option (Unit) :=
  some ()
def A_Sum_X19 (a0 : Nat) : Option (Unit) :=
  some ()
def A_Sum_X20 (a0 : Nat) : Option (Unit) :=
  some ()
def A_Number (a0 : Nat) (a1 : Int32) (T : Th) : Option (Th) :=
  (A_Sum_X18 a0).bind fun r1 => pI T a0 16 0 a1 fun T2 => some T2
def A_Var (a0 : Nat) (a1 : Int32) (T : Th) : Option (Th) :=
  (A_Sum_X19 a0).bind fun r1 => pI T a0 17 0 a1 fun T2 => some T2
def A_Joined (a0 : Nat) (a1 : Int32) (a2 : Nat) (a3 : Nat) (T : Th) : Option (Th) :=
  (A_Sum_X20 a0).bind fun r1 => pI T a0 18 0 a1 fun T2 => pR T2 a0 18 1 ((some a2)) fun T3 => pR T3 a0 18 2 ((some a3)) fun T4 => some T4
def A_Law (a0 : Nat) (T : Th) : Option (Th) :=
  nA T (.object "SleepWork$Sum") 4 fun T1 => pR T1 a0 15 0 ((some (tN T))) fun T2 => nA T2 (.object "SleepWork$Sum") 4 fun T3 => pR T3 a0 15 1 ((some (tN T2))) fun T4 => nA T4 (.object "SleepWork$Sum") 5 fun T5 => pR T5 a0 15 2 ((some (tN T4))) fun T6 => some T6
def A_Text (a0 : Nat) (T : Th) : Option (Th) :=
  nO T 19 3 fun T1 => (A_J5_init (tN T) T1).bind fun r2 => pR r2 a0 4 0 ((some (tN T))) fun T3 => nO T3 19 3 fun T4 => (A_J5_init (tN T3) T4).bind fun r5 => pR r5 a0 4 1 ((some (tN T3))) fun T6 => nO T6 19 3 fun T7 => (A_J5_init (tN T6) T7).bind fun r8 => pR r8 a0 4 2 ((some (tN T6))) fun T9 => nO T9 19 3 fun T10 => (A_J5_init (tN T9) T10).bind fun r11 => pR r11 a0 4 3 ((some (tN T9))) fun T12 => nO T12 19 3 fun T13 => (A_J5_init (tN T12) T13).bind fun r14 => pR r14 a0 4 4 ((some (tN T12))) fun T15 => pI T15 a0 4 5 480 fun T16 => some T16
def A_newLength_B21 (T : Th) (a0 : Int32) (a1 : Int32) : Option (Int32) :=
  none
def A_newLength (T : Th) (a0 : Int32) (a1 : Int32) (a2 : Int32) : Option (Int32) :=
  lt_ (a0 + (if a1 < a2 then a2 else a1)) fun x1 => if x1 ≤ 0 then
    A_newLength_B21 T a0 a1
  else
    if 2147483639 < x1 then
      A_newLength_B21 T a0 a1
    else
      some x1
def A_copyOfOC_B24 (a0 : Nat) (a1 : Int32) (s0 : Nat) (T : Th) : Option (Option Nat × Th) :=
  dL T a0 (.object "java/lang/Object") fun x2 => cR T a0 0 s0 0 (if a1 < x2 then a1 else x2) fun T3 => some ((some s0), T3)
def A_copyOfOC (a0 : Nat) (a1 : Int32) (T : Th) : Option (Option Nat × Th) :=
  nA T (.object "java/lang/Object") a1 fun T1 => A_copyOfOC_B24 a0 a1 (tN T) T1
def A_copyOfO (a0 : Nat) (a1 : Int32) (T : Th) : Option (Option Nat × Th) :=
  dOA T a0 <| (A_copyOfOC a0 a1 T).bind fun r1 => some (r1.1, r1.2)
def A_L_grow_2_B20 (a0 : Nat) (a1 : Int32) (a2 : Int32) (T : Th) : Option (Option Nat × Th) :=
  (A_newLength T a2 (a1 - a2) (a2 >>> (1 &&& 31))).bind fun r8 => dR T a0 19 1 fun x9 => (x9).bind fun b10 => (A_copyOfO b10 r8 T).bind fun r11 => pR r11.2 a0 19 1 r11.1 fun T12 => some (r11.1, T12)
def A_L_grow_2 (a0 : Nat) (a1 : Int32) (T : Th) : Option (Option Nat × Th) :=
  dR T a0 19 1 fun x1 => (x1).bind fun b2 => dL T b2 (.object "java/lang/Object") fun x3 => if 0 < x3 then
    A_L_grow_2_B20 a0 a1 x3 T
  else
    dR T a0 19 1 fun x4 => (x4).bind fun b5 => if b5 = (tE T) then
      nA T (.object "java/lang/Object") (if 10 < a1 then a1 else 10) fun T6 => pR T6 a0 19 1 ((some (tN T))) fun T7 => some ((some (tN T)), T7)
    else
      A_L_grow_2_B20 a0 a1 x3 T
def A_L_grow (a0 : Nat) (T : Th) : Option (Option Nat × Th) :=
  dI T a0 19 2 fun x1 => dC T a0 19 <| (A_L_grow_2 a0 (x1 + 1) T).bind fun r2 => some (r2.1, r2.2)
def A_L_add_2_B11 (a0 : Nat) (a1 : Nat) (a2 : Option Nat) (a3 : Int32) (T : Th) : Option (Th) :=
  (a2).bind fun b3 => sA T b3 (.object "java/lang/Object") a3 a1 fun T4 => pI T4 a0 19 2 (a3 + 1) fun T5 => some T5
def A_L_add_2 (a0 : Nat) (a1 : Nat) (a2 : Nat) (a3 : Int32) (T : Th) : Option (Th) :=
  dL T a2 (.object "java/lang/Object") fun x1 => if a3 = x1 then
    dC T a0 19 <| (A_L_grow a0 T).bind fun r2 => A_L_add_2_B11 a0 a1 r2.1 a3 r2.2
  else
    A_L_add_2_B11 a0 a1 (some a2) a3 T
def A_L_add (a0 : Nat) (a1 : Nat) (T : Th) : Option (Int32 × Th) :=
  dI T a0 19 0 fun x1 => pI T a0 19 0 (x1 + 1) fun T2 => dR T2 a0 19 1 fun x3 => dI T2 a0 19 2 fun x4 => (x3).bind fun b5 => dC T2 a0 19 <| (A_L_add_2 a0 a1 b5 x4 T2).bind fun r6 => some (1, r6)
def A_AB_init (a0 : Nat) (a1 : Int32) (T : Th) : Option (Th) :=
  if (1 : Int32) = 0 then
    none
  else
    nA T .byte a1 fun T1 => pR T1 a0 21 0 ((some (tN T))) fun T2 => pI T2 a0 21 1 0 fun T3 => some T3
def A_AB_ensureCapacityInternal (a0 : Nat) (a1 : Int32) (T : Th) : Option (Th) :=
  dR T a0 21 0 fun x1 => (x1).bind fun b2 => dL T b2 (.byte) fun x3 => dI T a0 21 1 fun x4 => lt_ (x3 >>> (x4 &&& 31)) fun x5 => if (a1 - x5) ≤ 0 then
    some T
  else
    dR T a0 21 0 fun x6 => none
def A_AB_isLatin1 (T : Th) (a0 : Nat) : Option (Int32) :=
  if (1 : Int32) = 0 then
    some 0
  else
    dI T a0 21 1 fun x1 => if x1 = 0 then
      some 1
    else
      some 0
def A_U_canEncode (a0 : Int32) : Option (Int32) :=
  if 255 < a0 then
    some 0
  else
    some 1
def A_AB_append_B56 (a0 : Nat) (a1 : Int32) (T : Th) : Option (Option Nat × Th) :=
  dR T a0 21 0 fun x11 => dI T a0 21 3 fun x12 => pI T a0 21 3 (x12 + 1) fun T13 => none
def A_AB_append_B45 (a0 : Nat) (a1 : Int32) (T : Th) : Option (Option Nat × Th) :=
  dC T a0 21 <| (A_AB_isLatin1 T a0).bind fun r10 => if r10 = 0 then
    A_AB_append_B56 a0 a1 T
  else
    none
def A_AB_append_B75 (a0 : Nat) (T : Th) : Option (Option Nat × Th) :=
  some ((some a0), T)
def A_AB_append (a0 : Nat) (a1 : Int32) (T : Th) : Option (Option Nat × Th) :=
  dI T a0 21 3 fun x1 => dC T a0 21 <| (A_AB_ensureCapacityInternal a0 (x1 + 1) T).bind fun r2 => dC r2 a0 21 <| (A_AB_isLatin1 r2 a0).bind fun r3 => if r3 = 0 then
    A_AB_append_B45 a0 a1 r2
  else
    (A_U_canEncode a1).bind fun r4 => if r4 = 0 then
      A_AB_append_B45 a0 a1 r2
    else
      dR r2 a0 21 0 fun x5 => dI r2 a0 21 3 fun x6 => pI r2 a0 21 3 (x6 + 1) fun T7 => (x5).bind fun b8 => sB T7 b8 x6 a1.toInt8.toInt32 fun T9 => A_AB_append_B75 a0 T9
def A_AB_getValue (T : Th) (a0 : Nat) : Option (Option Nat) :=
  dR T a0 21 0 fun x1 => some x1
def A_AB_length (T : Th) (a0 : Nat) : Option (Int32) :=
  dI T a0 21 3 fun x1 => some x1
def A_B_init (a0 : Nat) (T : Th) : Option (Th) :=
  (A_AB_init a0 16 T).bind fun r1 => some r1
def A_B_append (a0 : Nat) (a1 : Int32) (T : Th) : Option (Option Nat × Th) :=
  dC T a0 21 <| (A_AB_append a0 a1 T).bind fun r1 => some ((some a0), r1.2)
def A_B_length (T : Th) (a0 : Nat) : Option (Int32) :=
  dC T a0 21 <| (A_AB_length T a0).bind fun r1 => some r1
def A_checkLength (a0 : Int32) (a1 : Int32) (T : Th) : Option (Th) :=
  if a0 ≤ a1 then
    some T
  else
    none
def A_copyOfRangeByte (a0 : Nat) (a1 : Int32) (a2 : Int32) (T : Th) : Option (Option Nat × Th) :=
  (A_checkLength a1 a2 T).bind fun r1 => lt_ (a2 - a1) fun x2 => nA r1 .byte x2 fun T3 => dL T3 a0 (.byte) fun x4 => cB T3 a0 a1 (tN r1) 0 (if x2 < (x4 - a1) then x2 else x4 - a1) fun T5 => some ((some (tN r1)), T5)
def A_copyOfRange_B10 (a0 : Nat) (a1 : Int32) (a2 : Int32) (T : Th) : Option (Option Nat × Th) :=
  (A_copyOfRangeByte a0 a1 a2 T).bind fun r2 => some (r2.1, r2.2)
def A_copyOfRange (a0 : Nat) (a1 : Int32) (a2 : Int32) (T : Th) : Option (Option Nat × Th) :=
  if a1 = 0 then
    dL T a0 (.byte) fun x1 => if a2 = x1 then
      none
    else
      A_copyOfRange_B10 a0 a1 a2 T
  else
    A_copyOfRange_B10 a0 a1 a2 T
def A_S_init_2_B79 (a0 : Nat) (a3 : Option Nat) (a4 : Int32) (T : Th) : Option (Th) :=
  pI T a0 20 1 1 fun T9 => (a3).bind fun b10 => (A_copyOfRange b10 0 (a4 <<< (1 &&& 31)) T9).bind fun r11 => pR r11.2 a0 20 0 r11.1 fun T12 => some T12
def A_S_init_2 (a0 : Nat) (a1 : Nat) (T : Th) : Option (Th) :=
  dC T a1 21 <| (A_AB_getValue T a1).bind fun r1 => dC T a1 21 <| (A_B_length T a1).bind fun r2 => dC T a1 21 <| (A_AB_isLatin1 T a1).bind fun r3 => if r3 = 0 then
    if (1 : Int32) = 0 then
      A_S_init_2_B79 a0 r1 r2 T
    else
      dI T a1 21 2 fun x4 => if x4 = 0 then
        A_S_init_2_B79 a0 r1 r2 T
      else
        none
  else
    pI T a0 20 1 0 fun T5 => (r1).bind fun b6 => (A_copyOfRange b6 0 r2 T5).bind fun r7 => pR r7.2 a0 20 0 r7.1 fun T8 => some T8
def A_S_init (a0 : Nat) (a1 : Nat) (T : Th) : Option (Th) :=
  (A_S_init_2 a0 a1 T).bind fun r1 => some r1
def A_B_toString (a0 : Nat) (T : Th) : Option (Option Nat × Th) :=
  nO T 20 4 fun T1 => (A_S_init (tN T) a0 T1).bind fun r2 => some ((some (tN T)), r2)
def A_pci_B9 (T : Th) (a0 : Int32) (a1 : Int32) : Option (Int32) :=
  none
def A_pci (T : Th) (a0 : Int32) (a1 : Int32) : Option (Int32) :=
  if a0 < 0 then
    A_pci_B9 T a0 a1
  else
    if a0 < a1 then
      some a0
    else
      A_pci_B9 T a0 a1
def A_S_coder (T : Th) (a0 : Nat) : Option (Int32) :=
  if (1 : Int32) = 0 then
    (yz 1).bind fun r1 => some r1
  else
    dI T a0 20 1 fun x2 => (yz x2).bind fun r3 => some r3
def A_S_length (T : Th) (a0 : Nat) : Option (Int32) :=
  dR T a0 20 0 fun x1 => (x1).bind fun b2 => dL T b2 (.byte) fun x3 => dC T a0 20 <| (A_S_coder T a0).bind fun r4 => some (x3 >>> (r4 &&& 31))
def A_S_isLatin1 (T : Th) (a0 : Nat) : Option (Int32) :=
  if (1 : Int32) = 0 then
    some 0
  else
    dI T a0 20 1 fun x1 => if x1 = 0 then
      some 1
    else
      some 0
def A_S_checkIndex (T : Th) (a0 : Int32) (a1 : Int32) : Option (Unit) :=
  (A_pci T a0 a1).bind fun r2 => some ()
def A_U_charAt (T : Th) (a0 : Nat) (a1 : Int32) : Option (Int32) :=
  dL T a0 (.byte) fun x1 => (A_S_checkIndex T a1 x1).bind fun r2 => dB T a0 .byte a1 fun x3 => (cz (((x3 &&& 255).toUInt32 % 65536).toInt32)).bind fun r4 => some r4
def A_S_charAt (T : Th) (a0 : Nat) (a1 : Int32) : Option (Int32) :=
  dC T a0 20 <| (A_S_isLatin1 T a0).bind fun r1 => if r1 = 0 then
    dR T a0 20 0 fun x2 => none
  else
    dR T a0 20 0 fun x3 => (x3).bind fun b4 => (A_U_charAt T b4 a1).bind fun r5 => (cz r5).bind fun r6 => some r6
def A_U_equals_B9 (F : Nat) (k9 : Nat → Nat → Int32 → Option (Int32)) (T : Th) (a0 : Nat) (a1 : Nat) (a2 : Int32) : Option (Int32) :=
  dL T a0 (.byte) fun x3 => if x3 ≤ a2 then
    some 1
  else
    dB T a0 .byte a2 fun x4 => dB T a1 .byte a2 fun x5 => if x4 = x5 then
      lt_ (a2 + 1) fun x6 => k9 a0 a1 x6
    else
      some 0
def A_U_equals_L9 (F : Nat) (T : Th) : Nat → Nat → Nat → Int32 → Option (Int32)
  | 0, _, _, _ => none
  | n + 1, a0, a1, a2 => A_U_equals_B9 F (A_U_equals_L9 F T n) T a0 a1 a2
def A_U_equals (F : Nat) (T : Th) (a0 : Nat) (a1 : Nat) : Option (Int32) :=
  dL T a0 (.byte) fun x1 => dL T a1 (.byte) fun x2 => if x1 = x2 then
    A_U_equals_L9 F T F a0 a1 0
  else
    some 0
def A_S_equals_B36 (F : Nat) (T : Th) (a0 : Nat) (a2 : Nat) : Option (Int32) :=
  dR T a0 20 0 fun x3 => dR T a2 20 0 fun x4 => (x4).bind fun b5 => (x3).bind fun b6 => (A_U_equals F T b6 b5).bind fun r7 => if r7 = 0 then
    some 0
  else
    some 1
def A_S_equals (F : Nat) (T : Th) (a0 : Nat) (a1 : Nat) : Option (Int32) :=
  if a0 = a1 then
    some 1
  else
    dC T a1 20 <| if (1 : Int32) = 0 then
      some 0
    else
      dC T a1 20 <| if (1 : Int32) = 0 then
        A_S_equals_B36 F T a0 a1
      else
        dI T a0 20 1 fun x1 => dI T a1 20 1 fun x2 => if x1 = x2 then
          A_S_equals_B36 F T a0 a1
        else
          some 0
def A_Text_at_B2 (F : Nat) (k2 : Nat → Nat → Int32 → Option (Int32)) (T : Th) (a0 : Nat) (a1 : Nat) (a2 : Int32) : Option (Int32) :=
  dC T a0 19 <| (L_size T a0).bind fun r1 => if r1 ≤ a2 then
    some ((-1))
  else
    dC T a0 19 <| (L_get T a0 a2).bind fun r2 => (r2).bind fun b3 => dQ T b3 <| dM T b3 fun x4 => (x4).bind fun b5 => dC T b5 20 <| (A_S_equals F T b5 a1).bind fun r6 => if r6 = 0 then
      lt_ (a2 + 1) fun x7 => k2 a0 a1 x7
    else
      some a2
def A_Text_at_L2 (F : Nat) (T : Th) : Nat → Nat → Nat → Int32 → Option (Int32)
  | 0, _, _, _ => none
  | n + 1, a0, a1, a2 => A_Text_at_B2 F (A_Text_at_L2 F T n) T a0 a1 a2
def A_Text_at (F : Nat) (T : Th) (a0 : Nat) (a1 : Nat) : Option (Int32) :=
  A_Text_at_L2 F T F a0 a1 0
def A_Text_has (F : Nat) (T : Th) (a0 : Nat) (a1 : Nat) : Option (Int32) :=
  dR T a0 4 0 fun x1 => (x1).bind fun b2 => (A_Text_at F T b2 a1).bind fun r3 => if 0 ≤ r3 then
    some 1
  else
    dR T a0 4 2 fun x4 => (x4).bind fun b5 => (A_Text_at F T b5 a1).bind fun r6 => if 0 ≤ r6 then
      some 1
    else
      dR T a0 4 3 fun x7 => (x7).bind fun b8 => (A_Text_at F T b8 a1).bind fun r9 => if 0 ≤ r9 then
        some 1
      else
        dR T a0 4 4 fun x10 => (x10).bind fun b11 => (A_Text_at F T b11 a1).bind fun r12 => if r12 < 0 then
          some 0
        else
          some 1
def T_at (Q : Ji) (T : Th) (a1 : Int32) : Option (Int32) :=
  if (Q 2 2) ≤ a1 then
    some 0
  else
    ldI Q 4 2000 a1 fun x1 => some x1
def T_isLetter (Q : Ji) (T : Th) (a1 : Int32) : Option (Int32) :=
  (T_at Q T a1).bind fun r1 => if r1 < 97 then
    some 0
  else
    (T_at Q T a1).bind fun r2 => if 122 < r2 then
      some 0
    else
      some 1
def T_word_B75 (F : Nat) (k2 : Int32 → Int32 → Int32 → Option (Int32)) (k36 : Int32 → Int32 → Int32 → Int32 → Int32 → Option (Int32)) (Q : Ji) (Xp : Jr) (T : Th) (a1 : Int32) (a2 : Int32) (a3 : Int32) (a5 : Int32) (s0 : Int32) : Option (Int32) :=
  lt_ (a5 + 1) fun x12 => k36 a1 a2 a3 s0 x12
def T_word_B83 (F : Nat) (k2 : Int32 → Int32 → Int32 → Option (Int32)) (Q : Ji) (Xp : Jr) (T : Th) (a1 : Int32) (a2 : Int32) (a3 : Int32) (a4 : Int32) : Option (Int32) :=
  if a4 = 0 then
    lt_ (a3 + 1) fun x13 => k2 a1 a2 x13
  else
    some a3
def T_word_B36 (F : Nat) (k2 : Int32 → Int32 → Int32 → Option (Int32)) (k36 : Int32 → Int32 → Int32 → Int32 → Int32 → Option (Int32)) (Q : Ji) (Xp : Jr) (T : Th) (a1 : Int32) (a2 : Int32) (a3 : Int32) (a4 : Int32) (a5 : Int32) : Option (Int32) :=
  if a2 ≤ a5 then
    T_word_B83 F k2 Q Xp T a1 a2 a3 a4
  else
    if a4 = 0 then
      T_word_B83 F k2 Q Xp T a1 a2 a3 a4
    else
      (Xp 2 0).bind fun b7 => dA T b7 (.object "java/lang/String") a3 fun x8 => (x8).bind fun b9 => dC T b9 20 <| (A_S_charAt T b9 (a5 - a1)).bind fun r10 => ldI Q 4 2000 a5 fun x11 => if r10 = x11 then
        T_word_B75 F k2 k36 Q Xp T a1 a2 a3 a5 1
      else
        T_word_B75 F k2 k36 Q Xp T a1 a2 a3 a5 0
def T_word_L36 (F : Nat) (k2 : Int32 → Int32 → Int32 → Option (Int32)) (Q : Ji) (Xp : Jr) (T : Th) : Nat → Int32 → Int32 → Int32 → Int32 → Int32 → Option (Int32)
  | 0, _, _, _, _, _ => none
  | n + 1, a1, a2, a3, a4, a5 => T_word_B36 F k2 (T_word_L36 F k2 Q Xp T n) Q Xp T a1 a2 a3 a4 a5
def T_word_B31 (F : Nat) (k2 : Int32 → Int32 → Int32 → Option (Int32)) (Q : Ji) (Xp : Jr) (T : Th) (a1 : Int32) (a2 : Int32) (a3 : Int32) (s0 : Int32) : Option (Int32) :=
  T_word_L36 F k2 Q Xp T F a1 a2 a3 s0 a1
def T_word_B2 (F : Nat) (k2 : Int32 → Int32 → Int32 → Option (Int32)) (Q : Ji) (Xp : Jr) (T : Th) (a1 : Int32) (a2 : Int32) (a3 : Int32) : Option (Int32) :=
  (Xp 2 0).bind fun b1 => dL T b1 (.object "java/lang/String") fun x2 => if x2 ≤ a3 then
    some ((-1))
  else
    (Xp 2 0).bind fun b3 => dA T b3 (.object "java/lang/String") a3 fun x4 => (x4).bind fun b5 => dC T b5 20 <| (A_S_length T b5).bind fun r6 => if r6 = (a2 - a1) then
      T_word_B31 F k2 Q Xp T a1 a2 a3 1
    else
      T_word_B31 F k2 Q Xp T a1 a2 a3 0
def T_word_L2 (F : Nat) (Q : Ji) (Xp : Jr) (T : Th) : Nat → Int32 → Int32 → Int32 → Option (Int32)
  | 0, _, _, _ => none
  | n + 1, a1, a2, a3 => T_word_B2 F (T_word_L2 F Q Xp T n) Q Xp T a1 a2 a3
def T_word (F : Nat) (Q : Ji) (Xp : Jr) (T : Th) (a1 : Int32) (a2 : Int32) : Option (Int32) :=
  T_word_L2 F Q Xp T F a1 a2 0
def T_isDigit (Q : Ji) (T : Th) (a1 : Int32) : Option (Int32) :=
  (T_at Q T a1).bind fun r1 => if r1 < 48 then
    some 0
  else
    (T_at Q T a1).bind fun r2 => if 57 < r2 then
      some 0
    else
      some 1
def T_sign (Q : Ji) (T : Th) (a1 : Int32) : Option (Int32) :=
  (T_at Q T a1).bind fun r1 => if r1 = 40 then
    some r1
  else if r1 = 41 then
    some r1
  else if r1 = 42 then
    some r1
  else if r1 = 43 then
    some r1
  else if r1 = 45 then
    some r1
  else if r1 = 47 then
    some r1
  else if r1 = 59 then
    some r1
  else if r1 = 60 then
    some r1
  else if r1 = 61 then
    some r1
  else 
    some 0
def T_add (a1 : Int32) (a2 : Int32) (a3 : Int32) (a4 : Int32) (Q : Ji) : Option (Ji) :=
  stI Q 5 2001 (Q 2 7) a1.toInt8.toInt32.toInt8.toInt32 fun Q1 => stI Q1 6 2001 (Q1 2 7) a2.toInt16.toInt32.toInt16.toInt32 fun Q2 => stI Q2 7 2001 (Q2 2 7) a3.toInt16.toInt32.toInt16.toInt32 fun Q3 => stI Q3 8 2001 (Q3 2 7) a4.toInt16.toInt32.toInt16.toInt32 fun Q4 => lt_ (uJ Q4 2 7 ((Q4 2 7) + 1)) fun Q5 => some Q5
def T_read_B208 (F : Nat) (k9 : Int32 → Int32 → Ji → Option (Ji)) (Xp : Jr) (T : Th) (a4 : Int32) (s0 : Int32) (Q : Ji) : Option (Ji) :=
  k9 a4 s0 Q
def T_read_B186 (F : Nat) (k9 : Int32 → Int32 → Ji → Option (Ji)) (Xp : Jr) (T : Th) (a1 : Int32) (a4 : Int32) (a5 : Int32) (a6 : Int32) (Q : Ji) : Option (Ji) :=
  (T_add a5 a1 a4 a6 Q).bind fun r14 => if a5 = 5 then
    T_read_B208 F k9 Xp T a4 0 r14
  else
    T_read_B208 F k9 Xp T a4 1 r14
def T_read_B184 (F : Nat) (k9 : Int32 → Int32 → Ji → Option (Ji)) (Xp : Jr) (T : Th) (a1 : Int32) (a4 : Int32) (a6 : Int32) (s0 : Int32) (Q : Ji) : Option (Ji) :=
  T_read_B186 F k9 Xp T a1 a4 s0 a6 Q
def T_read_B215 (F : Nat) (Xp : Jr) (T : Th) (a1 : Int32) (a2 : Int32) (Q : Ji) : Option (Ji) :=
  if a2 = 0 then
    some Q
  else
    (T_add 4 a1 a1 0 Q).bind fun r17 => some r17
def T_read_B162 (F : Nat) (k9 : Int32 → Int32 → Ji → Option (Ji)) (Xp : Jr) (T : Th) (a1 : Int32) (a4 : Int32) (a6 : Int32) (s0 : Int32) (Q : Ji) : Option (Ji) :=
  T_read_B186 F k9 Xp T a1 a4 s0 a6 Q
def T_read_B134 (F : Nat) (k9 : Int32 → Int32 → Ji → Option (Ji)) (k134 : Int32 → Int32 → Int32 → Ji → Option (Ji)) (Xp : Jr) (T : Th) (a1 : Int32) (a4 : Int32) (a6 : Int32) (Q : Ji) : Option (Ji) :=
  (T_isDigit Q T a4).bind fun r15 => if r15 = 0 then
    if (a4 - a1) ≤ 4 then
      T_read_B162 F k9 Xp T a1 a4 a6 1 Q
    else
      T_read_B162 F k9 Xp T a1 a4 a6 5 Q
  else
    lt_ (a4 + 1) fun x16 => k134 a1 x16 a6 Q
def T_read_L134 (F : Nat) (k9 : Int32 → Int32 → Ji → Option (Ji)) (Xp : Jr) (T : Th) : Nat → Int32 → Int32 → Int32 → Ji → Option (Ji)
  | 0, _, _, _, _ => none
  | n + 1, a1, a4, a6, Q => T_read_B134 F k9 (T_read_L134 F k9 Xp T n) Xp T a1 a4 a6 Q
def T_read_B121 (F : Nat) (k9 : Int32 → Int32 → Ji → Option (Ji)) (Xp : Jr) (T : Th) (a1 : Int32) (a4 : Int32) (a6 : Int32) (s0 : Int32) (Q : Ji) : Option (Ji) :=
  T_read_B186 F k9 Xp T a1 a4 s0 a6 Q
def T_read_B74 (F : Nat) (k9 : Int32 → Int32 → Ji → Option (Ji)) (k74 : Int32 → Int32 → Ji → Option (Ji)) (Xp : Jr) (T : Th) (a1 : Int32) (a4 : Int32) (Q : Ji) : Option (Ji) :=
  (T_isLetter Q T a4).bind fun r11 => if r11 = 0 then
    (T_word F Q Xp T a1 a4).bind fun r12 => if r12 < 0 then
      if (a4 - a1) ≤ 8 then
        T_read_B121 F k9 Xp T a1 a4 r12 0 Q
      else
        T_read_B121 F k9 Xp T a1 a4 r12 5 Q
    else
      T_read_B121 F k9 Xp T a1 a4 r12 3 Q
  else
    lt_ (a4 + 1) fun x13 => k74 a1 x13 Q
def T_read_L74 (F : Nat) (k9 : Int32 → Int32 → Ji → Option (Ji)) (Xp : Jr) (T : Th) : Nat → Int32 → Int32 → Ji → Option (Ji)
  | 0, _, _, _ => none
  | n + 1, a1, a4, Q => T_read_B74 F k9 (T_read_L74 F k9 Xp T n) Xp T a1 a4 Q
def T_read_B9 (F : Nat) (k9 : Int32 → Int32 → Ji → Option (Ji)) (Xp : Jr) (T : Th) (a1 : Int32) (a2 : Int32) (Q : Ji) : Option (Ji) :=
  if (Q 2 2) ≤ a1 then
    T_read_B215 F Xp T a1 a2 Q
  else
    if a2 = 0 then
      T_read_B215 F Xp T a1 a2 Q
    else
      ldI Q 4 2000 a1 fun x2 => lt_ (a1 + 1) fun x3 => if x2 = 32 then
        lt_ (a1 + 1) fun x4 => k9 x4 a2 Q
      else
        if x2 = 9 then
          lt_ (a1 + 1) fun x5 => k9 x5 a2 Q
        else
          if x2 = 10 then
            lt_ (a1 + 1) fun x6 => k9 x6 a2 Q
          else
            if x2 = 13 then
              lt_ (a1 + 1) fun x7 => k9 x7 a2 Q
            else
              (T_isLetter Q T a1).bind fun r8 => if r8 = 0 then
                (T_isDigit Q T a1).bind fun r9 => if r9 = 0 then
                  (T_sign Q T a1).bind fun r10 => if r10 = 0 then
                    T_read_B184 F k9 Xp T a1 x3 r10 5 Q
                  else
                    T_read_B184 F k9 Xp T a1 x3 r10 2 Q
                else
                  T_read_L134 F k9 Xp T F a1 x3 0 Q
              else
                T_read_L74 F k9 Xp T F a1 x3 Q
def T_read_L9 (F : Nat) (Xp : Jr) (T : Th) : Nat → Int32 → Int32 → Ji → Option (Ji)
  | 0, _, _, _ => none
  | n + 1, a1, a2, Q => T_read_B9 F (T_read_L9 F Xp T n) Xp T a1 a2 Q
def T_read (F : Nat) (Xp : Jr) (T : Th) (Q : Ji) : Option (Ji) :=
  lt_ (uJ Q 2 7 0) fun Q1 => T_read_L9 F Xp T F 0 1 Q1
def T_text_B15 (F : Nat) (k15 : Int32 → Nat → Int32 → Th → Option (Option Nat × Th)) (Q : Ji) (a1 : Int32) (a2 : Nat) (a3 : Int32) (T : Th) : Option (Option Nat × Th) :=
  ldI Q 7 2001 a1 fun x4 => if x4 ≤ a3 then
    dC T a2 21 <| (A_B_toString a2 T).bind fun r5 => some (r5.1, r5.2)
  else
    ldI Q 4 2000 a3 fun x6 => dC T a2 21 <| (A_B_append a2 ((x6.toUInt32 % 65536).toInt32) T).bind fun r7 => lt_ (a3 + 1) fun x8 => k15 a1 a2 x8 r7.2
def T_text_L15 (F : Nat) (Q : Ji) : Nat → Int32 → Nat → Int32 → Th → Option (Option Nat × Th)
  | 0, _, _, _, _ => none
  | n + 1, a1, a2, a3, T => T_text_B15 F (T_text_L15 F Q n) Q a1 a2 a3 T
def T_text (F : Nat) (Q : Ji) (a1 : Int32) (T : Th) : Option (Option Nat × Th) :=
  nO T 21 4 fun T1 => (A_B_init (tN T) T1).bind fun r2 => ldI Q 6 2001 a1 fun x3 => T_text_L15 F Q F a1 (tN T) x3 r2
def T_number_B9 (F : Nat) (k9 : Int32 → Int32 → Int32 → Option (Int32)) (Q : Ji) (T : Th) (a1 : Int32) (a2 : Int32) (a3 : Int32) : Option (Int32) :=
  ldI Q 7 2001 a1 fun x2 => if x2 ≤ a3 then
    some a2
  else
    ldI Q 4 2000 a3 fun x3 => lt_ (((10 * a2) + x3) - 48) fun x4 => lt_ (a3 + 1) fun x5 => k9 a1 x4 x5
def T_number_L9 (F : Nat) (Q : Ji) (T : Th) : Nat → Int32 → Int32 → Int32 → Option (Int32)
  | 0, _, _, _ => none
  | n + 1, a1, a2, a3 => T_number_B9 F (T_number_L9 F Q T n) Q T a1 a2 a3
def T_number (F : Nat) (Q : Ji) (T : Th) (a1 : Int32) : Option (Int32) :=
  ldI Q 6 2001 a1 fun x1 => T_number_L9 F Q T F a1 0 x1
def F_of (a1 : Int32) (a2 : Int32) (Q : Ji) : Option (Ji) :=
  lt_ (uJ Q 1 6 a1) fun Q1 => lt_ (uJ Q1 1 7 a2) fun Q2 => some Q2
def R_wrongAt (T : Th) (a1 : Int32) (a2 : Int32) (Q : Ji) : Option (Ji) :=
  ldI Q 6 2001 a2 fun x1 => (F_of a1 x1 Q).bind fun r2 => some r2
def R_wrong (T : Th) (a1 : Int32) (Q : Ji) : Option (Ji) :=
  (R_wrongAt T a1 (Q 9 3) Q).bind fun r1 => some r1
def R_tell_B32 (a1 : Int32) (a2 : Int32) (Q : Ji) : Option (Ji) :=
  lt_ (uJ Q 9 5 a1) fun Q1 => lt_ (uJ Q1 9 6 a2) fun Q2 => some Q2
def R_tell (a1 : Int32) (a2 : Int32) (Q : Ji) : Option (Ji) :=
  if (Q 9 5) = 0 then
    R_tell_B32 a1 a2 Q
  else
    if (Q 9 6) < a2 then
      some Q
    else
      if a2 = (Q 9 6) then
        if a1 < (Q 9 5) then
          R_tell_B32 a1 a2 Q
        else
          some Q
      else
        R_tell_B32 a1 a2 Q
def R_sort (Xp : Jr) (Q : Ji) (T : Th) : Option ((Ji × Jr × Th) ⊕ (Int32 × Ji × Th)) :=
  ldI Q 5 2001 (Q 9 3) fun x1 => if x1 = 5 then
    (R_wrong T 1 Q).bind fun r2 => some (.inl (r2, Xp, T))
  else
    ldI Q 5 2001 (Q 9 3) fun x3 => some (.inr (x3, Q, T))
def R_pass (Xp : Jr) (Q : Ji) (T : Th) : Option ((Ji × Jr × Th) ⊕ (Ji × Th)) :=
  if (Q 9 3) < 400 then
    lt_ (uJ Q 9 3 ((Q 9 3) + 1)) fun Q1 => some (.inr (Q1, T))
  else
    (R_wrong T 2 Q).bind fun r2 => some (.inl (r2, Xp, T))
def R_begins (Xp : Jr) (a1 : Int32) (a2 : Int32) (Q : Ji) (T : Th) : Option ((Ji × Jr × Th) ⊕ (Ji × Th)) :=
  if a1 = a2 then
    (R_wrong T 2 Q).bind fun r1 => some (.inl (r1, Xp, T))
  else
    xb (R_pass Xp Q T) fun r2 => some (.inr (r2.1, r2.2))
def R_take (Xp : Jr) (a1 : Int32) (Q : Ji) (T : Th) : Option ((Ji × Jr × Th) ⊕ (Int32 × Ji × Th)) :=
  xb (R_sort Xp Q T) fun r1 => if r1.1 = a1 then
    xb (R_pass Xp r1.2.1 r1.2.2) fun r2 => some (.inr ((r2.1 9 3) - 1, r2.1, r2.2))
  else
    (R_wrong r1.2.2 1 r1.2.1).bind fun r3 => some (.inl (r3, Xp, r1.2.2))
def R_name_B32 (F : Nat) (Xp : Jr) (a2 : Nat) (Q : Ji) (T : Th) : Option ((Ji × Jr × Th) ⊕ (Option Nat × Ji × Th)) :=
  some (.inr ((some a2), Q, T))
def R_name (F : Nat) (Xp : Jr) (Q : Ji) (T : Th) : Option ((Ji × Jr × Th) ⊕ (Option Nat × Ji × Th)) :=
  xb (R_take Xp 0 Q T) fun r1 => (T_text F r1.2.1 r1.1 r1.2.2).bind fun r2 => (Xp 9 2).bind fun b3 => (r2.1).bind fun b4 => dC r2.2 b3 4 <| (A_Text_has F r2.2 b3 b4).bind fun r5 => if r5 = 0 then
    R_name_B32 F Xp b4 r1.2.1 r2.2
  else
    (R_tell 3 r1.1 r1.2.1).bind fun r6 => R_name_B32 F Xp b4 r6 r2.2
def R_known (F : Nat) (Xp : Jr) (a1 : Nat) (Q : Ji) (T : Th) : Option ((Ji × Jr × Th) ⊕ (Int32 × Ji × Th)) :=
  xb (R_take Xp 0 Q T) fun r1 => (T_text F r1.2.1 r1.1 r1.2.2).bind fun r2 => (r2.1).bind fun b3 => (A_Text_at F r2.2 a1 b3).bind fun r4 => if 0 ≤ r4 then
    some (.inr (r4, r1.2.1, r2.2))
  else
    (R_tell 4 r1.1 r1.2.1).bind fun r5 => some (.inr (r4, r5, r2.2))
def R_number_B28 (F : Nat) (Xp : Jr) (a3 : Int32) (a4 : Int32) (Q : Ji) (T : Th) : Option ((Ji × Jr × Th) ⊕ (Int32 × Ji × Th)) :=
  (R_tell 5 a3 Q).bind fun r3 => some (.inr (a4, r3, T))
def R_number (F : Nat) (Xp : Jr) (a1 : Int32) (a2 : Int32) (Q : Ji) (T : Th) : Option ((Ji × Jr × Th) ⊕ (Int32 × Ji × Th)) :=
  xb (R_take Xp 1 Q T) fun r1 => (T_number F r1.2.1 r1.2.2 r1.1).bind fun r2 => if r2 < a1 then
    R_number_B28 F Xp r1.1 r2 r1.2.1 r1.2.2
  else
    if r2 ≤ a2 then
      some (.inr (r2, r1.2.1, r1.2.2))
    else
      R_number_B28 F Xp r1.1 r2 r1.2.1 r1.2.2
def R_isWord (Xp : Jr) (a1 : Int32) (Q : Ji) (T : Th) : Option ((Ji × Jr × Th) ⊕ (Int32 × Ji × Th)) :=
  ldI Q 5 2001 (Q 9 3) fun x1 => if x1 = 3 then
    ldI Q 8 2001 (Q 9 3) fun x2 => if x2 = a1 then
      some (.inr (1, Q, T))
    else
      some (.inr (0, Q, T))
  else
    some (.inr (0, Q, T))
def R_isSign (Xp : Jr) (a1 : Int32) (Q : Ji) (T : Th) : Option ((Ji × Jr × Th) ⊕ (Int32 × Ji × Th)) :=
  ldI Q 5 2001 (Q 9 3) fun x1 => if x1 = 2 then
    ldI Q 8 2001 (Q 9 3) fun x2 => if x2 = a1 then
      some (.inr (1, Q, T))
    else
      some (.inr (0, Q, T))
  else
    some (.inr (0, Q, T))
def R_sign (Xp : Jr) (a1 : Int32) (Q : Ji) (T : Th) : Option ((Ji × Jr × Th) ⊕ (Ji × Th)) :=
  xb (R_isSign Xp a1 Q T) fun r1 => if r1.1 = 0 then
    (R_wrong r1.2.2 1 r1.2.1).bind fun r2 => some (.inl (r2, Xp, r1.2.2))
  else
    xb (R_pass Xp r1.2.1 r1.2.2) fun r3 => some (.inr (r3.1, r3.2))
def R_word (Xp : Jr) (a1 : Int32) (Q : Ji) (T : Th) : Option ((Ji × Jr × Th) ⊕ (Ji × Th)) :=
  xb (R_isWord Xp a1 Q T) fun r1 => if r1.1 = 0 then
    (R_wrong r1.2.2 1 r1.2.1).bind fun r2 => some (.inl (r2, Xp, r1.2.2))
  else
    xb (R_pass Xp r1.2.1 r1.2.2) fun r3 => some (.inr (r3.1, r3.2))
def R_door_B114 (F : Nat) (Xp : Jr) (a1 : Nat) (Q : Ji) (T : Th) : Option ((Ji × Jr × Th) ⊕ (Ji × Th)) :=
  (Xp 9 2).bind fun b30 => dR T b30 4 1 fun x31 => (x31).bind fun b32 => dC T b32 19 <| (A_L_add b32 a1 T).bind fun r33 => some (.inr (Q, r33.2))
def R_door_B83 (F : Nat) (Xp : Jr) (a1 : Nat) (Q : Ji) (T : Th) : Option ((Ji × Jr × Th) ⊕ (Ji × Th)) :=
  xb (R_number F Xp 1 60 Q T) fun r23 => pI r23.2.2 a1 10 2 r23.1 fun T24 => xb (R_isWord Xp 2 r23.2.1 T24) fun r25 => (bz r25.1).bind fun z27 => pI r25.2.2 a1 10 3 z27 fun T26 => dI T26 a1 10 3 fun x28 => if x28 = 0 then
    R_door_B114 F Xp a1 r25.2.1 T26
  else
    xb (R_pass Xp r25.2.1 T26) fun r29 => R_door_B114 F Xp a1 r29.1 r29.2
def R_door (F : Nat) (Xp : Jr) (Q : Ji) (T : Th) : Option ((Ji × Jr × Th) ⊕ (Ji × Th)) :=
  (Xp 9 2).bind fun b1 => dR T b1 4 1 fun x2 => (x2).bind fun b3 => dC T b3 19 <| (L_size T b3).bind fun r4 => xb (R_begins Xp r4 12 Q T) fun r5 => nO r5.2 10 4 fun T6 => (A_Door (tN r5.2)).bind fun r7 => (Xp 9 2).bind fun b8 => dR T6 b8 4 0 fun x9 => (x9).bind fun b10 => xb (R_known F Xp b10 r5.1 T6) fun r11 => pI r11.2.2 (tN r5.2) 10 0 r11.1 fun T12 => lt_ (r11.2.1 9 3) fun x13 => (Xp 9 2).bind fun b14 => dR T12 b14 4 0 fun x15 => (x15).bind fun b16 => xb (R_known F Xp b16 r11.2.1 T12) fun r17 => pI r17.2.2 (tN r5.2) 10 1 r17.1 fun T18 => dI T18 (tN r5.2) 10 0 fun x19 => if x19 < 0 then
    R_door_B83 F Xp (tN r5.2) r17.2.1 T18
  else
    dI T18 (tN r5.2) 10 0 fun x20 => dI T18 (tN r5.2) 10 1 fun x21 => if x20 = x21 then
      (R_tell 5 x13 r17.2.1).bind fun r22 => R_door_B83 F Xp (tN r5.2) r22 T18
    else
      R_door_B83 F Xp (tN r5.2) r17.2.1 T18
def R_stepOf (F : Nat) (Xp : Jr) (a1 : Option Nat) (Q : Ji) (T : Th) : Option ((Ji × Jr × Th) ⊕ (Int32 × Ji × Th)) :=
  xb (R_take Xp 1 Q T) fun r1 => (T_number F r1.2.1 r1.2.2 r1.1).bind fun r2 => rC a1
    (some (.inr (r2, r1.2.1, r1.2.2)))
    (fun b3 => dC r1.2.2 b3 12 <| (C_isStep r1.2.2 b3 r2).bind fun r4 => if r4 = 0 then
      (R_tell 5 r1.1 r1.2.1).bind fun r5 => some (.inr (r2, r5, r1.2.2))
    else
      some (.inr (r2, r1.2.1, r1.2.2)))
def R_step_B176 (F : Nat) (Xp : Jr) (a3 : Option Nat) (a4 : Nat) (Q : Ji) (T : Th) : Option ((Ji × Jr × Th) ⊕ (Ji × Th)) :=
  rC a3
    (some (.inr (Q, T)))
    (fun b38 => dR T b38 12 3 fun x39 => (x39).bind fun b40 => dC T b40 19 <| (A_L_add b40 a4 T).bind fun r41 => some (.inr (Q, r41.2)))
def R_step_B153 (F : Nat) (Xp : Jr) (a3 : Option Nat) (a4 : Nat) (Q : Ji) (T : Th) : Option ((Ji × Jr × Th) ⊕ (Ji × Th)) :=
  xb (R_isWord Xp 7 Q T) fun r34 => if r34.1 = 0 then
    R_step_B176 F Xp a3 a4 r34.2.1 r34.2.2
  else
    xb (R_pass Xp r34.2.1 r34.2.2) fun r35 => xb (R_stepOf F Xp a3 r35.1 r35.2) fun r36 => pI r36.2.2 a4 13 5 r36.1 fun T37 => R_step_B176 F Xp a3 a4 r36.2.1 T37
def R_step_B67 (F : Nat) (Xp : Jr) (a3 : Option Nat) (Q : Ji) (T : Th) : Option ((Ji × Jr × Th) ⊕ (Ji × Th)) :=
  nO T 13 6 fun T17 => (A_Step (tN T) T17).bind fun r18 => xb (R_number F Xp 1 120 Q r18) fun r19 => pI r19.2.2 (tN T) 13 0 r19.1 fun T20 => xb (R_number F Xp 0 99 r19.2.1 T20) fun r21 => pI r21.2.2 (tN T) 13 1 r21.1 fun T22 => xb (R_number F Xp 0 99 r21.2.1 T22) fun r23 => pI r23.2.2 (tN T) 13 2 r23.1 fun T24 => xb (R_number F Xp 0 99 r23.2.1 T24) fun r25 => pI r25.2.2 (tN T) 13 3 r25.1 fun T26 => xb (R_isWord Xp 6 r25.2.1 T26) fun r27 => if r27.1 = 0 then
    R_step_B153 F Xp a3 (tN T) r27.2.1 r27.2.2
  else
    xb (R_pass Xp r27.2.1 r27.2.2) fun r28 => (Xp 9 2).bind fun b29 => dR r28.2 b29 4 2 fun x30 => (x30).bind fun b31 => xb (R_known F Xp b31 r28.1 r28.2) fun r32 => pI r32.2.2 (tN T) 13 4 r32.1 fun T33 => R_step_B153 F Xp a3 (tN T) r32.2.1 T33
def R_step_B43 (F : Nat) (Xp : Jr) (a1 : Int32) (s0 : Option Nat) (Q : Ji) (T : Th) : Option ((Ji × Jr × Th) ⊕ (Ji × Th)) :=
  rC s0
    (R_step_B67 F Xp none Q T)
    (fun b12 => dR T b12 12 3 fun x13 => (x13).bind fun b14 => dC T b14 19 <| (L_size T b14).bind fun r15 => if r15 = 6 then
      (R_wrongAt T 2 a1 Q).bind fun r16 => some (.inl (r16, Xp, T))
    else
      R_step_B67 F Xp (some b12) Q T)
def R_step (F : Nat) (Xp : Jr) (Q : Ji) (T : Th) : Option ((Ji × Jr × Th) ⊕ (Ji × Th)) :=
  lt_ (Q 9 3) fun x1 => xb (R_pass Xp Q T) fun r2 => (Xp 9 2).bind fun b3 => dR r2.2 b3 4 3 fun x4 => (x4).bind fun b5 => xb (R_known F Xp b5 r2.1 r2.2) fun r6 => if 0 ≤ r6.1 then
    (Xp 9 2).bind fun b7 => dR r6.2.2 b7 4 3 fun x8 => (x8).bind fun b9 => dC r6.2.2 b9 19 <| (L_get r6.2.2 b9 r6.1).bind fun r10 => (r10).bind fun b11 => dC r6.2.2 b11 12 <| R_step_B43 F Xp x1 (some b11) r6.2.1 r6.2.2
  else
    R_step_B43 F Xp x1 none r6.2.1 r6.2.2
def R_man_B103 (F : Nat) (Xp : Jr) (a1 : Nat) (Q : Ji) (T : Th) : Option ((Ji × Jr × Th) ⊕ (Ji × Th)) :=
  (Xp 9 2).bind fun b29 => dR T b29 4 4 fun x30 => (x30).bind fun b31 => dC T b31 19 <| (A_L_add b31 a1 T).bind fun r32 => some (.inr (Q, r32.2))
def R_man_B97 (F : Nat) (Xp : Jr) (a1 : Nat) (s0 : Option Nat) (s2 : Nat) (Q : Ji) (T : Th) : Option ((Ji × Jr × Th) ⊕ (Ji × Th)) :=
  xb (R_stepOf F Xp s0 Q T) fun r27 => pI r27.2.2 s2 14 3 r27.1 fun T28 => R_man_B103 F Xp a1 r27.2.1 T28
def R_man (F : Nat) (Xp : Jr) (Q : Ji) (T : Th) : Option ((Ji × Jr × Th) ⊕ (Ji × Th)) :=
  (Xp 9 2).bind fun b1 => dR T b1 4 4 fun x2 => (x2).bind fun b3 => dC T b3 19 <| (L_size T b3).bind fun r4 => xb (R_begins Xp r4 6 Q T) fun r5 => nO r5.2 14 5 fun T6 => xb (R_name F Xp r5.1 T6) fun r7 => (r7.1).bind fun b8 => (A_Man (tN r5.2) b8 r7.2.2).bind fun r9 => (Xp 9 2).bind fun b10 => dR r9 b10 4 0 fun x11 => (x11).bind fun b12 => xb (R_known F Xp b12 r7.2.1 r9) fun r13 => pI r13.2.2 (tN r5.2) 14 1 r13.1 fun T14 => xb (R_isWord Xp 9 r13.2.1 T14) fun r15 => if r15.1 = 0 then
    R_man_B103 F Xp (tN r5.2) r15.2.1 r15.2.2
  else
    xb (R_pass Xp r15.2.1 r15.2.2) fun r16 => (Xp 9 2).bind fun b17 => dR r16.2 b17 4 3 fun x18 => (x18).bind fun b19 => xb (R_known F Xp b19 r16.1 r16.2) fun r20 => pI r20.2.2 (tN r5.2) 14 2 r20.1 fun T21 => if 0 ≤ r20.1 then
      (Xp 9 2).bind fun b22 => dR T21 b22 4 3 fun x23 => (x23).bind fun b24 => dC T21 b24 19 <| (L_get T21 b24 r20.1).bind fun r25 => (r25).bind fun b26 => dC T21 b26 12 <| R_man_B97 F Xp (tN r5.2) (some b26) (tN r5.2) r20.2.1 T21
    else
      R_man_B97 F Xp (tN r5.2) none (tN r5.2) r20.2.1 T21
def R_unit_0_B87 (F : Nat) (Xp : Jr) (Q : Ji) (T : Th) : Option ((Ji × Jr × Th) ⊕ (Option Nat × Ji × Th)) :=
  xb (R_isSign Xp 40 Q T) fun r12 => if r12.1 = 0 then
    (R_wrong r12.2.2 1 r12.2.1).bind fun r13 => some (.inl (r13, Xp, r12.2.2))
  else
    if (r12.2.1 9 4) = 6 then
      (R_wrong r12.2.2 2 r12.2.1).bind fun r14 => some (.inl (r14, Xp, r12.2.2))
    else
      lt_ (uJ r12.2.1 9 4 ((r12.2.1 9 4) + 1)) fun Q15 => xb (R_pass Xp Q15 r12.2.2) fun r16 => none
def R_unit_0 (F : Nat) (Xp : Jr) (Q : Ji) (T : Th) : Option ((Ji × Jr × Th) ⊕ (Option Nat × Ji × Th)) :=
  xb (R_sort Xp Q T) fun r1 => if r1.1 = 1 then
    xb (R_pass Xp r1.2.1 r1.2.2) fun r2 => nO r2.2 16 1 fun T3 => (T_number F r2.1 T3 ((r2.1 9 3) - 1)).bind fun r4 => (A_Number (tN r2.2) r4 T3).bind fun r5 => some (.inr ((some (tN r2.2)), r2.1, r5))
  else
    xb (R_sort Xp r1.2.1 r1.2.2) fun r6 => if r6.1 = 3 then
      ldI r6.2.1 8 2001 (r6.2.1 9 3) fun x7 => if x7 < 15 then
        R_unit_0_B87 F Xp r6.2.1 r6.2.2
      else
        xb (R_pass Xp r6.2.1 r6.2.2) fun r8 => nO r8.2 17 1 fun T9 => ldI r8.1 8 2001 ((r8.1 9 3) - 1) fun x10 => (A_Var (tN r8.2) (x10 - 15) T9).bind fun r11 => some (.inr ((some (tN r8.2)), r8.1, r11))
    else
      R_unit_0_B87 F Xp r6.2.1 r6.2.2
def R_part_0_B23 (F : Nat) (k5 : Option Nat → Ji → Th → Option ((Ji × Jr × Th) ⊕ (Option Nat × Ji × Th))) (Xp : Jr) (a1 : Option Nat) (Q : Ji) (T : Th) : Option ((Ji × Jr × Th) ⊕ (Option Nat × Ji × Th)) :=
  ldI Q 8 2001 (Q 9 3) fun x4 => xb (R_pass Xp Q T) fun r5 => nO r5.2 18 3 fun T6 => xb (R_unit_0 F Xp r5.1 T6) fun r7 => (r7.1).bind fun b8 => (a1).bind fun b9 => (A_Joined (tN r5.2) x4 b9 b8 r7.2.2).bind fun r10 => k5 (some (tN r5.2)) r7.2.1 r10
def R_part_0_B5 (F : Nat) (k5 : Option Nat → Ji → Th → Option ((Ji × Jr × Th) ⊕ (Option Nat × Ji × Th))) (Xp : Jr) (a1 : Option Nat) (Q : Ji) (T : Th) : Option ((Ji × Jr × Th) ⊕ (Option Nat × Ji × Th)) :=
  xb (R_isSign Xp 42 Q T) fun r2 => if r2.1 = 0 then
    xb (R_isSign Xp 47 r2.2.1 r2.2.2) fun r3 => if r3.1 = 0 then
      some (.inr (a1, r3.2.1, r3.2.2))
    else
      R_part_0_B23 F k5 Xp a1 r3.2.1 r3.2.2
  else
    R_part_0_B23 F k5 Xp a1 r2.2.1 r2.2.2
def R_part_0_L5 (F : Nat) (Xp : Jr) : Nat → Option Nat → Ji → Th → Option ((Ji × Jr × Th) ⊕ (Option Nat × Ji × Th))
  | 0, _, _, _ => none
  | n + 1, a1, Q, T => R_part_0_B5 F (R_part_0_L5 F Xp n) Xp a1 Q T
def R_part_0 (F : Nat) (Xp : Jr) (Q : Ji) (T : Th) : Option ((Ji × Jr × Th) ⊕ (Option Nat × Ji × Th)) :=
  xb (R_unit_0 F Xp Q T) fun r1 => R_part_0_L5 F Xp F r1.1 r1.2.1 r1.2.2
def R_sum_0_B23 (F : Nat) (k5 : Option Nat → Ji → Th → Option ((Ji × Jr × Th) ⊕ (Option Nat × Ji × Th))) (Xp : Jr) (a1 : Option Nat) (Q : Ji) (T : Th) : Option ((Ji × Jr × Th) ⊕ (Option Nat × Ji × Th)) :=
  ldI Q 8 2001 (Q 9 3) fun x4 => xb (R_pass Xp Q T) fun r5 => nO r5.2 18 3 fun T6 => xb (R_part_0 F Xp r5.1 T6) fun r7 => (r7.1).bind fun b8 => (a1).bind fun b9 => (A_Joined (tN r5.2) x4 b9 b8 r7.2.2).bind fun r10 => k5 (some (tN r5.2)) r7.2.1 r10
def R_sum_0_B5 (F : Nat) (k5 : Option Nat → Ji → Th → Option ((Ji × Jr × Th) ⊕ (Option Nat × Ji × Th))) (Xp : Jr) (a1 : Option Nat) (Q : Ji) (T : Th) : Option ((Ji × Jr × Th) ⊕ (Option Nat × Ji × Th)) :=
  xb (R_isSign Xp 43 Q T) fun r2 => if r2.1 = 0 then
    xb (R_isSign Xp 45 r2.2.1 r2.2.2) fun r3 => if r3.1 = 0 then
      some (.inr (a1, r3.2.1, r3.2.2))
    else
      R_sum_0_B23 F k5 Xp a1 r3.2.1 r3.2.2
  else
    R_sum_0_B23 F k5 Xp a1 r2.2.1 r2.2.2
def R_sum_0_L5 (F : Nat) (Xp : Jr) : Nat → Option Nat → Ji → Th → Option ((Ji × Jr × Th) ⊕ (Option Nat × Ji × Th))
  | 0, _, _, _ => none
  | n + 1, a1, Q, T => R_sum_0_B5 F (R_sum_0_L5 F Xp n) Xp a1 Q T
def R_sum_0 (F : Nat) (Xp : Jr) (Q : Ji) (T : Th) : Option ((Ji × Jr × Th) ⊕ (Option Nat × Ji × Th)) :=
  xb (R_part_0 F Xp Q T) fun r1 => R_sum_0_L5 F Xp F r1.1 r1.2.1 r1.2.2
def R_unit_1_B87 (F : Nat) (Xp : Jr) (Q : Ji) (T : Th) : Option ((Ji × Jr × Th) ⊕ (Option Nat × Ji × Th)) :=
  xb (R_isSign Xp 40 Q T) fun r12 => if r12.1 = 0 then
    (R_wrong r12.2.2 1 r12.2.1).bind fun r13 => some (.inl (r13, Xp, r12.2.2))
  else
    if (r12.2.1 9 4) = 6 then
      (R_wrong r12.2.2 2 r12.2.1).bind fun r14 => some (.inl (r14, Xp, r12.2.2))
    else
      lt_ (uJ r12.2.1 9 4 ((r12.2.1 9 4) + 1)) fun Q15 => xb (R_pass Xp Q15 r12.2.2) fun r16 => xb (R_sum_0 F Xp r16.1 r16.2) fun r17 => xb (R_sign Xp 41 r17.2.1 r17.2.2) fun r18 => lt_ (uJ r18.1 9 4 ((r18.1 9 4) - 1)) fun Q19 => some (.inr (r17.1, Q19, r18.2))
def R_unit_1 (F : Nat) (Xp : Jr) (Q : Ji) (T : Th) : Option ((Ji × Jr × Th) ⊕ (Option Nat × Ji × Th)) :=
  xb (R_sort Xp Q T) fun r1 => if r1.1 = 1 then
    xb (R_pass Xp r1.2.1 r1.2.2) fun r2 => nO r2.2 16 1 fun T3 => (T_number F r2.1 T3 ((r2.1 9 3) - 1)).bind fun r4 => (A_Number (tN r2.2) r4 T3).bind fun r5 => some (.inr ((some (tN r2.2)), r2.1, r5))
  else
    xb (R_sort Xp r1.2.1 r1.2.2) fun r6 => if r6.1 = 3 then
      ldI r6.2.1 8 2001 (r6.2.1 9 3) fun x7 => if x7 < 15 then
        R_unit_1_B87 F Xp r6.2.1 r6.2.2
      else
        xb (R_pass Xp r6.2.1 r6.2.2) fun r8 => nO r8.2 17 1 fun T9 => ldI r8.1 8 2001 ((r8.1 9 3) - 1) fun x10 => (A_Var (tN r8.2) (x10 - 15) T9).bind fun r11 => some (.inr ((some (tN r8.2)), r8.1, r11))
    else
      R_unit_1_B87 F Xp r6.2.1 r6.2.2
def R_part_1_B23 (F : Nat) (k5 : Option Nat → Ji → Th → Option ((Ji × Jr × Th) ⊕ (Option Nat × Ji × Th))) (Xp : Jr) (a1 : Option Nat) (Q : Ji) (T : Th) : Option ((Ji × Jr × Th) ⊕ (Option Nat × Ji × Th)) :=
  ldI Q 8 2001 (Q 9 3) fun x4 => xb (R_pass Xp Q T) fun r5 => nO r5.2 18 3 fun T6 => xb (R_unit_1 F Xp r5.1 T6) fun r7 => (r7.1).bind fun b8 => (a1).bind fun b9 => (A_Joined (tN r5.2) x4 b9 b8 r7.2.2).bind fun r10 => k5 (some (tN r5.2)) r7.2.1 r10
def R_part_1_B5 (F : Nat) (k5 : Option Nat → Ji → Th → Option ((Ji × Jr × Th) ⊕ (Option Nat × Ji × Th))) (Xp : Jr) (a1 : Option Nat) (Q : Ji) (T : Th) : Option ((Ji × Jr × Th) ⊕ (Option Nat × Ji × Th)) :=
  xb (R_isSign Xp 42 Q T) fun r2 => if r2.1 = 0 then
    xb (R_isSign Xp 47 r2.2.1 r2.2.2) fun r3 => if r3.1 = 0 then
      some (.inr (a1, r3.2.1, r3.2.2))
    else
      R_part_1_B23 F k5 Xp a1 r3.2.1 r3.2.2
  else
    R_part_1_B23 F k5 Xp a1 r2.2.1 r2.2.2
def R_part_1_L5 (F : Nat) (Xp : Jr) : Nat → Option Nat → Ji → Th → Option ((Ji × Jr × Th) ⊕ (Option Nat × Ji × Th))
  | 0, _, _, _ => none
  | n + 1, a1, Q, T => R_part_1_B5 F (R_part_1_L5 F Xp n) Xp a1 Q T
def R_part_1 (F : Nat) (Xp : Jr) (Q : Ji) (T : Th) : Option ((Ji × Jr × Th) ⊕ (Option Nat × Ji × Th)) :=
  xb (R_unit_1 F Xp Q T) fun r1 => R_part_1_L5 F Xp F r1.1 r1.2.1 r1.2.2
def R_sum_1_B23 (F : Nat) (k5 : Option Nat → Ji → Th → Option ((Ji × Jr × Th) ⊕ (Option Nat × Ji × Th))) (Xp : Jr) (a1 : Option Nat) (Q : Ji) (T : Th) : Option ((Ji × Jr × Th) ⊕ (Option Nat × Ji × Th)) :=
  ldI Q 8 2001 (Q 9 3) fun x4 => xb (R_pass Xp Q T) fun r5 => nO r5.2 18 3 fun T6 => xb (R_part_1 F Xp r5.1 T6) fun r7 => (r7.1).bind fun b8 => (a1).bind fun b9 => (A_Joined (tN r5.2) x4 b9 b8 r7.2.2).bind fun r10 => k5 (some (tN r5.2)) r7.2.1 r10
def R_sum_1_B5 (F : Nat) (k5 : Option Nat → Ji → Th → Option ((Ji × Jr × Th) ⊕ (Option Nat × Ji × Th))) (Xp : Jr) (a1 : Option Nat) (Q : Ji) (T : Th) : Option ((Ji × Jr × Th) ⊕ (Option Nat × Ji × Th)) :=
  xb (R_isSign Xp 43 Q T) fun r2 => if r2.1 = 0 then
    xb (R_isSign Xp 45 r2.2.1 r2.2.2) fun r3 => if r3.1 = 0 then
      some (.inr (a1, r3.2.1, r3.2.2))
    else
      R_sum_1_B23 F k5 Xp a1 r3.2.1 r3.2.2
  else
    R_sum_1_B23 F k5 Xp a1 r2.2.1 r2.2.2
def R_sum_1_L5 (F : Nat) (Xp : Jr) : Nat → Option Nat → Ji → Th → Option ((Ji × Jr × Th) ⊕ (Option Nat × Ji × Th))
  | 0, _, _, _ => none
  | n + 1, a1, Q, T => R_sum_1_B5 F (R_sum_1_L5 F Xp n) Xp a1 Q T
def R_sum_1 (F : Nat) (Xp : Jr) (Q : Ji) (T : Th) : Option ((Ji × Jr × Th) ⊕ (Option Nat × Ji × Th)) :=
  xb (R_part_1 F Xp Q T) fun r1 => R_sum_1_L5 F Xp F r1.1 r1.2.1 r1.2.2
def R_unit_2_B87 (F : Nat) (Xp : Jr) (Q : Ji) (T : Th) : Option ((Ji × Jr × Th) ⊕ (Option Nat × Ji × Th)) :=
  xb (R_isSign Xp 40 Q T) fun r12 => if r12.1 = 0 then
    (R_wrong r12.2.2 1 r12.2.1).bind fun r13 => some (.inl (r13, Xp, r12.2.2))
  else
    if (r12.2.1 9 4) = 6 then
      (R_wrong r12.2.2 2 r12.2.1).bind fun r14 => some (.inl (r14, Xp, r12.2.2))
    else
      lt_ (uJ r12.2.1 9 4 ((r12.2.1 9 4) + 1)) fun Q15 => xb (R_pass Xp Q15 r12.2.2) fun r16 => xb (R_sum_1 F Xp r16.1 r16.2) fun r17 => xb (R_sign Xp 41 r17.2.1 r17.2.2) fun r18 => lt_ (uJ r18.1 9 4 ((r18.1 9 4) - 1)) fun Q19 => some (.inr (r17.1, Q19, r18.2))
def R_unit_2 (F : Nat) (Xp : Jr) (Q : Ji) (T : Th) : Option ((Ji × Jr × Th) ⊕ (Option Nat × Ji × Th)) :=
  xb (R_sort Xp Q T) fun r1 => if r1.1 = 1 then
    xb (R_pass Xp r1.2.1 r1.2.2) fun r2 => nO r2.2 16 1 fun T3 => (T_number F r2.1 T3 ((r2.1 9 3) - 1)).bind fun r4 => (A_Number (tN r2.2) r4 T3).bind fun r5 => some (.inr ((some (tN r2.2)), r2.1, r5))
  else
    xb (R_sort Xp r1.2.1 r1.2.2) fun r6 => if r6.1 = 3 then
      ldI r6.2.1 8 2001 (r6.2.1 9 3) fun x7 => if x7 < 15 then
        R_unit_2_B87 F Xp r6.2.1 r6.2.2
      else
        xb (R_pass Xp r6.2.1 r6.2.2) fun r8 => nO r8.2 17 1 fun T9 => ldI r8.1 8 2001 ((r8.1 9 3) - 1) fun x10 => (A_Var (tN r8.2) (x10 - 15) T9).bind fun r11 => some (.inr ((some (tN r8.2)), r8.1, r11))
    else
      R_unit_2_B87 F Xp r6.2.1 r6.2.2
def R_part_2_B23 (F : Nat) (k5 : Option Nat → Ji → Th → Option ((Ji × Jr × Th) ⊕ (Option Nat × Ji × Th))) (Xp : Jr) (a1 : Option Nat) (Q : Ji) (T : Th) : Option ((Ji × Jr × Th) ⊕ (Option Nat × Ji × Th)) :=
  ldI Q 8 2001 (Q 9 3) fun x4 => xb (R_pass Xp Q T) fun r5 => nO r5.2 18 3 fun T6 => xb (R_unit_2 F Xp r5.1 T6) fun r7 => (r7.1).bind fun b8 => (a1).bind fun b9 => (A_Joined (tN r5.2) x4 b9 b8 r7.2.2).bind fun r10 => k5 (some (tN r5.2)) r7.2.1 r10
def R_part_2_B5 (F : Nat) (k5 : Option Nat → Ji → Th → Option ((Ji × Jr × Th) ⊕ (Option Nat × Ji × Th))) (Xp : Jr) (a1 : Option Nat) (Q : Ji) (T : Th) : Option ((Ji × Jr × Th) ⊕ (Option Nat × Ji × Th)) :=
  xb (R_isSign Xp 42 Q T) fun r2 => if r2.1 = 0 then
    xb (R_isSign Xp 47 r2.2.1 r2.2.2) fun r3 => if r3.1 = 0 then
      some (.inr (a1, r3.2.1, r3.2.2))
    else
      R_part_2_B23 F k5 Xp a1 r3.2.1 r3.2.2
  else
    R_part_2_B23 F k5 Xp a1 r2.2.1 r2.2.2
def R_part_2_L5 (F : Nat) (Xp : Jr) : Nat → Option Nat → Ji → Th → Option ((Ji × Jr × Th) ⊕ (Option Nat × Ji × Th))
  | 0, _, _, _ => none
  | n + 1, a1, Q, T => R_part_2_B5 F (R_part_2_L5 F Xp n) Xp a1 Q T
def R_part_2 (F : Nat) (Xp : Jr) (Q : Ji) (T : Th) : Option ((Ji × Jr × Th) ⊕ (Option Nat × Ji × Th)) :=
  xb (R_unit_2 F Xp Q T) fun r1 => R_part_2_L5 F Xp F r1.1 r1.2.1 r1.2.2
def R_sum_2_B23 (F : Nat) (k5 : Option Nat → Ji → Th → Option ((Ji × Jr × Th) ⊕ (Option Nat × Ji × Th))) (Xp : Jr) (a1 : Option Nat) (Q : Ji) (T : Th) : Option ((Ji × Jr × Th) ⊕ (Option Nat × Ji × Th)) :=
  ldI Q 8 2001 (Q 9 3) fun x4 => xb (R_pass Xp Q T) fun r5 => nO r5.2 18 3 fun T6 => xb (R_part_2 F Xp r5.1 T6) fun r7 => (r7.1).bind fun b8 => (a1).bind fun b9 => (A_Joined (tN r5.2) x4 b9 b8 r7.2.2).bind fun r10 => k5 (some (tN r5.2)) r7.2.1 r10
def R_sum_2_B5 (F : Nat) (k5 : Option Nat → Ji → Th → Option ((Ji × Jr × Th) ⊕ (Option Nat × Ji × Th))) (Xp : Jr) (a1 : Option Nat) (Q : Ji) (T : Th) : Option ((Ji × Jr × Th) ⊕ (Option Nat × Ji × Th)) :=
  xb (R_isSign Xp 43 Q T) fun r2 => if r2.1 = 0 then
    xb (R_isSign Xp 45 r2.2.1 r2.2.2) fun r3 => if r3.1 = 0 then
      some (.inr (a1, r3.2.1, r3.2.2))
    else
      R_sum_2_B23 F k5 Xp a1 r3.2.1 r3.2.2
  else
    R_sum_2_B23 F k5 Xp a1 r2.2.1 r2.2.2
def R_sum_2_L5 (F : Nat) (Xp : Jr) : Nat → Option Nat → Ji → Th → Option ((Ji × Jr × Th) ⊕ (Option Nat × Ji × Th))
  | 0, _, _, _ => none
  | n + 1, a1, Q, T => R_sum_2_B5 F (R_sum_2_L5 F Xp n) Xp a1 Q T
def R_sum_2 (F : Nat) (Xp : Jr) (Q : Ji) (T : Th) : Option ((Ji × Jr × Th) ⊕ (Option Nat × Ji × Th)) :=
  xb (R_part_2 F Xp Q T) fun r1 => R_sum_2_L5 F Xp F r1.1 r1.2.1 r1.2.2
def R_unit_3_B87 (F : Nat) (Xp : Jr) (Q : Ji) (T : Th) : Option ((Ji × Jr × Th) ⊕ (Option Nat × Ji × Th)) :=
  xb (R_isSign Xp 40 Q T) fun r12 => if r12.1 = 0 then
    (R_wrong r12.2.2 1 r12.2.1).bind fun r13 => some (.inl (r13, Xp, r12.2.2))
  else
    if (r12.2.1 9 4) = 6 then
      (R_wrong r12.2.2 2 r12.2.1).bind fun r14 => some (.inl (r14, Xp, r12.2.2))
    else
      lt_ (uJ r12.2.1 9 4 ((r12.2.1 9 4) + 1)) fun Q15 => xb (R_pass Xp Q15 r12.2.2) fun r16 => xb (R_sum_2 F Xp r16.1 r16.2) fun r17 => xb (R_sign Xp 41 r17.2.1 r17.2.2) fun r18 => lt_ (uJ r18.1 9 4 ((r18.1 9 4) - 1)) fun Q19 => some (.inr (r17.1, Q19, r18.2))
def R_unit_3 (F : Nat) (Xp : Jr) (Q : Ji) (T : Th) : Option ((Ji × Jr × Th) ⊕ (Option Nat × Ji × Th)) :=
  xb (R_sort Xp Q T) fun r1 => if r1.1 = 1 then
    xb (R_pass Xp r1.2.1 r1.2.2) fun r2 => nO r2.2 16 1 fun T3 => (T_number F r2.1 T3 ((r2.1 9 3) - 1)).bind fun r4 => (A_Number (tN r2.2) r4 T3).bind fun r5 => some (.inr ((some (tN r2.2)), r2.1, r5))
  else
    xb (R_sort Xp r1.2.1 r1.2.2) fun r6 => if r6.1 = 3 then
      ldI r6.2.1 8 2001 (r6.2.1 9 3) fun x7 => if x7 < 15 then
        R_unit_3_B87 F Xp r6.2.1 r6.2.2
      else
        xb (R_pass Xp r6.2.1 r6.2.2) fun r8 => nO r8.2 17 1 fun T9 => ldI r8.1 8 2001 ((r8.1 9 3) - 1) fun x10 => (A_Var (tN r8.2) (x10 - 15) T9).bind fun r11 => some (.inr ((some (tN r8.2)), r8.1, r11))
    else
      R_unit_3_B87 F Xp r6.2.1 r6.2.2
def R_part_3_B23 (F : Nat) (k5 : Option Nat → Ji → Th → Option ((Ji × Jr × Th) ⊕ (Option Nat × Ji × Th))) (Xp : Jr) (a1 : Option Nat) (Q : Ji) (T : Th) : Option ((Ji × Jr × Th) ⊕ (Option Nat × Ji × Th)) :=
  ldI Q 8 2001 (Q 9 3) fun x4 => xb (R_pass Xp Q T) fun r5 => nO r5.2 18 3 fun T6 => xb (R_unit_3 F Xp r5.1 T6) fun r7 => (r7.1).bind fun b8 => (a1).bind fun b9 => (A_Joined (tN r5.2) x4 b9 b8 r7.2.2).bind fun r10 => k5 (some (tN r5.2)) r7.2.1 r10
def R_part_3_B5 (F : Nat) (k5 : Option Nat → Ji → Th → Option ((Ji × Jr × Th) ⊕ (Option Nat × Ji × Th))) (Xp : Jr) (a1 : Option Nat) (Q : Ji) (T : Th) : Option ((Ji × Jr × Th) ⊕ (Option Nat × Ji × Th)) :=
  xb (R_isSign Xp 42 Q T) fun r2 => if r2.1 = 0 then
    xb (R_isSign Xp 47 r2.2.1 r2.2.2) fun r3 => if r3.1 = 0 then
      some (.inr (a1, r3.2.1, r3.2.2))
    else
      R_part_3_B23 F k5 Xp a1 r3.2.1 r3.2.2
  else
    R_part_3_B23 F k5 Xp a1 r2.2.1 r2.2.2
def R_part_3_L5 (F : Nat) (Xp : Jr) : Nat → Option Nat → Ji → Th → Option ((Ji × Jr × Th) ⊕ (Option Nat × Ji × Th))
  | 0, _, _, _ => none
  | n + 1, a1, Q, T => R_part_3_B5 F (R_part_3_L5 F Xp n) Xp a1 Q T
def R_part_3 (F : Nat) (Xp : Jr) (Q : Ji) (T : Th) : Option ((Ji × Jr × Th) ⊕ (Option Nat × Ji × Th)) :=
  xb (R_unit_3 F Xp Q T) fun r1 => R_part_3_L5 F Xp F r1.1 r1.2.1 r1.2.2
def R_sum_3_B23 (F : Nat) (k5 : Option Nat → Ji → Th → Option ((Ji × Jr × Th) ⊕ (Option Nat × Ji × Th))) (Xp : Jr) (a1 : Option Nat) (Q : Ji) (T : Th) : Option ((Ji × Jr × Th) ⊕ (Option Nat × Ji × Th)) :=
  ldI Q 8 2001 (Q 9 3) fun x4 => xb (R_pass Xp Q T) fun r5 => nO r5.2 18 3 fun T6 => xb (R_part_3 F Xp r5.1 T6) fun r7 => (r7.1).bind fun b8 => (a1).bind fun b9 => (A_Joined (tN r5.2) x4 b9 b8 r7.2.2).bind fun r10 => k5 (some (tN r5.2)) r7.2.1 r10
def R_sum_3_B5 (F : Nat) (k5 : Option Nat → Ji → Th → Option ((Ji × Jr × Th) ⊕ (Option Nat × Ji × Th))) (Xp : Jr) (a1 : Option Nat) (Q : Ji) (T : Th) : Option ((Ji × Jr × Th) ⊕ (Option Nat × Ji × Th)) :=
  xb (R_isSign Xp 43 Q T) fun r2 => if r2.1 = 0 then
    xb (R_isSign Xp 45 r2.2.1 r2.2.2) fun r3 => if r3.1 = 0 then
      some (.inr (a1, r3.2.1, r3.2.2))
    else
      R_sum_3_B23 F k5 Xp a1 r3.2.1 r3.2.2
  else
    R_sum_3_B23 F k5 Xp a1 r2.2.1 r2.2.2
def R_sum_3_L5 (F : Nat) (Xp : Jr) : Nat → Option Nat → Ji → Th → Option ((Ji × Jr × Th) ⊕ (Option Nat × Ji × Th))
  | 0, _, _, _ => none
  | n + 1, a1, Q, T => R_sum_3_B5 F (R_sum_3_L5 F Xp n) Xp a1 Q T
def R_sum_3 (F : Nat) (Xp : Jr) (Q : Ji) (T : Th) : Option ((Ji × Jr × Th) ⊕ (Option Nat × Ji × Th)) :=
  xb (R_part_3 F Xp Q T) fun r1 => R_sum_3_L5 F Xp F r1.1 r1.2.1 r1.2.2
def R_unit_4_B87 (F : Nat) (Xp : Jr) (Q : Ji) (T : Th) : Option ((Ji × Jr × Th) ⊕ (Option Nat × Ji × Th)) :=
  xb (R_isSign Xp 40 Q T) fun r12 => if r12.1 = 0 then
    (R_wrong r12.2.2 1 r12.2.1).bind fun r13 => some (.inl (r13, Xp, r12.2.2))
  else
    if (r12.2.1 9 4) = 6 then
      (R_wrong r12.2.2 2 r12.2.1).bind fun r14 => some (.inl (r14, Xp, r12.2.2))
    else
      lt_ (uJ r12.2.1 9 4 ((r12.2.1 9 4) + 1)) fun Q15 => xb (R_pass Xp Q15 r12.2.2) fun r16 => xb (R_sum_3 F Xp r16.1 r16.2) fun r17 => xb (R_sign Xp 41 r17.2.1 r17.2.2) fun r18 => lt_ (uJ r18.1 9 4 ((r18.1 9 4) - 1)) fun Q19 => some (.inr (r17.1, Q19, r18.2))
def R_unit_4 (F : Nat) (Xp : Jr) (Q : Ji) (T : Th) : Option ((Ji × Jr × Th) ⊕ (Option Nat × Ji × Th)) :=
  xb (R_sort Xp Q T) fun r1 => if r1.1 = 1 then
    xb (R_pass Xp r1.2.1 r1.2.2) fun r2 => nO r2.2 16 1 fun T3 => (T_number F r2.1 T3 ((r2.1 9 3) - 1)).bind fun r4 => (A_Number (tN r2.2) r4 T3).bind fun r5 => some (.inr ((some (tN r2.2)), r2.1, r5))
  else
    xb (R_sort Xp r1.2.1 r1.2.2) fun r6 => if r6.1 = 3 then
      ldI r6.2.1 8 2001 (r6.2.1 9 3) fun x7 => if x7 < 15 then
        R_unit_4_B87 F Xp r6.2.1 r6.2.2
      else
        xb (R_pass Xp r6.2.1 r6.2.2) fun r8 => nO r8.2 17 1 fun T9 => ldI r8.1 8 2001 ((r8.1 9 3) - 1) fun x10 => (A_Var (tN r8.2) (x10 - 15) T9).bind fun r11 => some (.inr ((some (tN r8.2)), r8.1, r11))
    else
      R_unit_4_B87 F Xp r6.2.1 r6.2.2
def R_part_4_B23 (F : Nat) (k5 : Option Nat → Ji → Th → Option ((Ji × Jr × Th) ⊕ (Option Nat × Ji × Th))) (Xp : Jr) (a1 : Option Nat) (Q : Ji) (T : Th) : Option ((Ji × Jr × Th) ⊕ (Option Nat × Ji × Th)) :=
  ldI Q 8 2001 (Q 9 3) fun x4 => xb (R_pass Xp Q T) fun r5 => nO r5.2 18 3 fun T6 => xb (R_unit_4 F Xp r5.1 T6) fun r7 => (r7.1).bind fun b8 => (a1).bind fun b9 => (A_Joined (tN r5.2) x4 b9 b8 r7.2.2).bind fun r10 => k5 (some (tN r5.2)) r7.2.1 r10
def R_part_4_B5 (F : Nat) (k5 : Option Nat → Ji → Th → Option ((Ji × Jr × Th) ⊕ (Option Nat × Ji × Th))) (Xp : Jr) (a1 : Option Nat) (Q : Ji) (T : Th) : Option ((Ji × Jr × Th) ⊕ (Option Nat × Ji × Th)) :=
  xb (R_isSign Xp 42 Q T) fun r2 => if r2.1 = 0 then
    xb (R_isSign Xp 47 r2.2.1 r2.2.2) fun r3 => if r3.1 = 0 then
      some (.inr (a1, r3.2.1, r3.2.2))
    else
      R_part_4_B23 F k5 Xp a1 r3.2.1 r3.2.2
  else
    R_part_4_B23 F k5 Xp a1 r2.2.1 r2.2.2
def R_part_4_L5 (F : Nat) (Xp : Jr) : Nat → Option Nat → Ji → Th → Option ((Ji × Jr × Th) ⊕ (Option Nat × Ji × Th))
  | 0, _, _, _ => none
  | n + 1, a1, Q, T => R_part_4_B5 F (R_part_4_L5 F Xp n) Xp a1 Q T
def R_part_4 (F : Nat) (Xp : Jr) (Q : Ji) (T : Th) : Option ((Ji × Jr × Th) ⊕ (Option Nat × Ji × Th)) :=
  xb (R_unit_4 F Xp Q T) fun r1 => R_part_4_L5 F Xp F r1.1 r1.2.1 r1.2.2
def R_sum_4_B23 (F : Nat) (k5 : Option Nat → Ji → Th → Option ((Ji × Jr × Th) ⊕ (Option Nat × Ji × Th))) (Xp : Jr) (a1 : Option Nat) (Q : Ji) (T : Th) : Option ((Ji × Jr × Th) ⊕ (Option Nat × Ji × Th)) :=
  ldI Q 8 2001 (Q 9 3) fun x4 => xb (R_pass Xp Q T) fun r5 => nO r5.2 18 3 fun T6 => xb (R_part_4 F Xp r5.1 T6) fun r7 => (r7.1).bind fun b8 => (a1).bind fun b9 => (A_Joined (tN r5.2) x4 b9 b8 r7.2.2).bind fun r10 => k5 (some (tN r5.2)) r7.2.1 r10
def R_sum_4_B5 (F : Nat) (k5 : Option Nat → Ji → Th → Option ((Ji × Jr × Th) ⊕ (Option Nat × Ji × Th))) (Xp : Jr) (a1 : Option Nat) (Q : Ji) (T : Th) : Option ((Ji × Jr × Th) ⊕ (Option Nat × Ji × Th)) :=
  xb (R_isSign Xp 43 Q T) fun r2 => if r2.1 = 0 then
    xb (R_isSign Xp 45 r2.2.1 r2.2.2) fun r3 => if r3.1 = 0 then
      some (.inr (a1, r3.2.1, r3.2.2))
    else
      R_sum_4_B23 F k5 Xp a1 r3.2.1 r3.2.2
  else
    R_sum_4_B23 F k5 Xp a1 r2.2.1 r2.2.2
def R_sum_4_L5 (F : Nat) (Xp : Jr) : Nat → Option Nat → Ji → Th → Option ((Ji × Jr × Th) ⊕ (Option Nat × Ji × Th))
  | 0, _, _, _ => none
  | n + 1, a1, Q, T => R_sum_4_B5 F (R_sum_4_L5 F Xp n) Xp a1 Q T
def R_sum_4 (F : Nat) (Xp : Jr) (Q : Ji) (T : Th) : Option ((Ji × Jr × Th) ⊕ (Option Nat × Ji × Th)) :=
  xb (R_part_4 F Xp Q T) fun r1 => R_sum_4_L5 F Xp F r1.1 r1.2.1 r1.2.2
def R_unit_5_B87 (F : Nat) (Xp : Jr) (Q : Ji) (T : Th) : Option ((Ji × Jr × Th) ⊕ (Option Nat × Ji × Th)) :=
  xb (R_isSign Xp 40 Q T) fun r12 => if r12.1 = 0 then
    (R_wrong r12.2.2 1 r12.2.1).bind fun r13 => some (.inl (r13, Xp, r12.2.2))
  else
    if (r12.2.1 9 4) = 6 then
      (R_wrong r12.2.2 2 r12.2.1).bind fun r14 => some (.inl (r14, Xp, r12.2.2))
    else
      lt_ (uJ r12.2.1 9 4 ((r12.2.1 9 4) + 1)) fun Q15 => xb (R_pass Xp Q15 r12.2.2) fun r16 => xb (R_sum_4 F Xp r16.1 r16.2) fun r17 => xb (R_sign Xp 41 r17.2.1 r17.2.2) fun r18 => lt_ (uJ r18.1 9 4 ((r18.1 9 4) - 1)) fun Q19 => some (.inr (r17.1, Q19, r18.2))
def R_unit_5 (F : Nat) (Xp : Jr) (Q : Ji) (T : Th) : Option ((Ji × Jr × Th) ⊕ (Option Nat × Ji × Th)) :=
  xb (R_sort Xp Q T) fun r1 => if r1.1 = 1 then
    xb (R_pass Xp r1.2.1 r1.2.2) fun r2 => nO r2.2 16 1 fun T3 => (T_number F r2.1 T3 ((r2.1 9 3) - 1)).bind fun r4 => (A_Number (tN r2.2) r4 T3).bind fun r5 => some (.inr ((some (tN r2.2)), r2.1, r5))
  else
    xb (R_sort Xp r1.2.1 r1.2.2) fun r6 => if r6.1 = 3 then
      ldI r6.2.1 8 2001 (r6.2.1 9 3) fun x7 => if x7 < 15 then
        R_unit_5_B87 F Xp r6.2.1 r6.2.2
      else
        xb (R_pass Xp r6.2.1 r6.2.2) fun r8 => nO r8.2 17 1 fun T9 => ldI r8.1 8 2001 ((r8.1 9 3) - 1) fun x10 => (A_Var (tN r8.2) (x10 - 15) T9).bind fun r11 => some (.inr ((some (tN r8.2)), r8.1, r11))
    else
      R_unit_5_B87 F Xp r6.2.1 r6.2.2
def R_part_5_B23 (F : Nat) (k5 : Option Nat → Ji → Th → Option ((Ji × Jr × Th) ⊕ (Option Nat × Ji × Th))) (Xp : Jr) (a1 : Option Nat) (Q : Ji) (T : Th) : Option ((Ji × Jr × Th) ⊕ (Option Nat × Ji × Th)) :=
  ldI Q 8 2001 (Q 9 3) fun x4 => xb (R_pass Xp Q T) fun r5 => nO r5.2 18 3 fun T6 => xb (R_unit_5 F Xp r5.1 T6) fun r7 => (r7.1).bind fun b8 => (a1).bind fun b9 => (A_Joined (tN r5.2) x4 b9 b8 r7.2.2).bind fun r10 => k5 (some (tN r5.2)) r7.2.1 r10
def R_part_5_B5 (F : Nat) (k5 : Option Nat → Ji → Th → Option ((Ji × Jr × Th) ⊕ (Option Nat × Ji × Th))) (Xp : Jr) (a1 : Option Nat) (Q : Ji) (T : Th) : Option ((Ji × Jr × Th) ⊕ (Option Nat × Ji × Th)) :=
  xb (R_isSign Xp 42 Q T) fun r2 => if r2.1 = 0 then
    xb (R_isSign Xp 47 r2.2.1 r2.2.2) fun r3 => if r3.1 = 0 then
      some (.inr (a1, r3.2.1, r3.2.2))
    else
      R_part_5_B23 F k5 Xp a1 r3.2.1 r3.2.2
  else
    R_part_5_B23 F k5 Xp a1 r2.2.1 r2.2.2
def R_part_5_L5 (F : Nat) (Xp : Jr) : Nat → Option Nat → Ji → Th → Option ((Ji × Jr × Th) ⊕ (Option Nat × Ji × Th))
  | 0, _, _, _ => none
  | n + 1, a1, Q, T => R_part_5_B5 F (R_part_5_L5 F Xp n) Xp a1 Q T
def R_part_5 (F : Nat) (Xp : Jr) (Q : Ji) (T : Th) : Option ((Ji × Jr × Th) ⊕ (Option Nat × Ji × Th)) :=
  xb (R_unit_5 F Xp Q T) fun r1 => R_part_5_L5 F Xp F r1.1 r1.2.1 r1.2.2
def R_sum_5_B23 (F : Nat) (k5 : Option Nat → Ji → Th → Option ((Ji × Jr × Th) ⊕ (Option Nat × Ji × Th))) (Xp : Jr) (a1 : Option Nat) (Q : Ji) (T : Th) : Option ((Ji × Jr × Th) ⊕ (Option Nat × Ji × Th)) :=
  ldI Q 8 2001 (Q 9 3) fun x4 => xb (R_pass Xp Q T) fun r5 => nO r5.2 18 3 fun T6 => xb (R_part_5 F Xp r5.1 T6) fun r7 => (r7.1).bind fun b8 => (a1).bind fun b9 => (A_Joined (tN r5.2) x4 b9 b8 r7.2.2).bind fun r10 => k5 (some (tN r5.2)) r7.2.1 r10
def R_sum_5_B5 (F : Nat) (k5 : Option Nat → Ji → Th → Option ((Ji × Jr × Th) ⊕ (Option Nat × Ji × Th))) (Xp : Jr) (a1 : Option Nat) (Q : Ji) (T : Th) : Option ((Ji × Jr × Th) ⊕ (Option Nat × Ji × Th)) :=
  xb (R_isSign Xp 43 Q T) fun r2 => if r2.1 = 0 then
    xb (R_isSign Xp 45 r2.2.1 r2.2.2) fun r3 => if r3.1 = 0 then
      some (.inr (a1, r3.2.1, r3.2.2))
    else
      R_sum_5_B23 F k5 Xp a1 r3.2.1 r3.2.2
  else
    R_sum_5_B23 F k5 Xp a1 r2.2.1 r2.2.2
def R_sum_5_L5 (F : Nat) (Xp : Jr) : Nat → Option Nat → Ji → Th → Option ((Ji × Jr × Th) ⊕ (Option Nat × Ji × Th))
  | 0, _, _, _ => none
  | n + 1, a1, Q, T => R_sum_5_B5 F (R_sum_5_L5 F Xp n) Xp a1 Q T
def R_sum_5 (F : Nat) (Xp : Jr) (Q : Ji) (T : Th) : Option ((Ji × Jr × Th) ⊕ (Option Nat × Ji × Th)) :=
  xb (R_part_5 F Xp Q T) fun r1 => R_sum_5_L5 F Xp F r1.1 r1.2.1 r1.2.2
def R_unit_6_B87 (F : Nat) (Xp : Jr) (Q : Ji) (T : Th) : Option ((Ji × Jr × Th) ⊕ (Option Nat × Ji × Th)) :=
  xb (R_isSign Xp 40 Q T) fun r12 => if r12.1 = 0 then
    (R_wrong r12.2.2 1 r12.2.1).bind fun r13 => some (.inl (r13, Xp, r12.2.2))
  else
    if (r12.2.1 9 4) = 6 then
      (R_wrong r12.2.2 2 r12.2.1).bind fun r14 => some (.inl (r14, Xp, r12.2.2))
    else
      lt_ (uJ r12.2.1 9 4 ((r12.2.1 9 4) + 1)) fun Q15 => xb (R_pass Xp Q15 r12.2.2) fun r16 => xb (R_sum_5 F Xp r16.1 r16.2) fun r17 => xb (R_sign Xp 41 r17.2.1 r17.2.2) fun r18 => lt_ (uJ r18.1 9 4 ((r18.1 9 4) - 1)) fun Q19 => some (.inr (r17.1, Q19, r18.2))
def R_unit_6 (F : Nat) (Xp : Jr) (Q : Ji) (T : Th) : Option ((Ji × Jr × Th) ⊕ (Option Nat × Ji × Th)) :=
  xb (R_sort Xp Q T) fun r1 => if r1.1 = 1 then
    xb (R_pass Xp r1.2.1 r1.2.2) fun r2 => nO r2.2 16 1 fun T3 => (T_number F r2.1 T3 ((r2.1 9 3) - 1)).bind fun r4 => (A_Number (tN r2.2) r4 T3).bind fun r5 => some (.inr ((some (tN r2.2)), r2.1, r5))
  else
    xb (R_sort Xp r1.2.1 r1.2.2) fun r6 => if r6.1 = 3 then
      ldI r6.2.1 8 2001 (r6.2.1 9 3) fun x7 => if x7 < 15 then
        R_unit_6_B87 F Xp r6.2.1 r6.2.2
      else
        xb (R_pass Xp r6.2.1 r6.2.2) fun r8 => nO r8.2 17 1 fun T9 => ldI r8.1 8 2001 ((r8.1 9 3) - 1) fun x10 => (A_Var (tN r8.2) (x10 - 15) T9).bind fun r11 => some (.inr ((some (tN r8.2)), r8.1, r11))
    else
      R_unit_6_B87 F Xp r6.2.1 r6.2.2
def R_part_6_B23 (F : Nat) (k5 : Option Nat → Ji → Th → Option ((Ji × Jr × Th) ⊕ (Option Nat × Ji × Th))) (Xp : Jr) (a1 : Option Nat) (Q : Ji) (T : Th) : Option ((Ji × Jr × Th) ⊕ (Option Nat × Ji × Th)) :=
  ldI Q 8 2001 (Q 9 3) fun x4 => xb (R_pass Xp Q T) fun r5 => nO r5.2 18 3 fun T6 => xb (R_unit_6 F Xp r5.1 T6) fun r7 => (r7.1).bind fun b8 => (a1).bind fun b9 => (A_Joined (tN r5.2) x4 b9 b8 r7.2.2).bind fun r10 => k5 (some (tN r5.2)) r7.2.1 r10
def R_part_6_B5 (F : Nat) (k5 : Option Nat → Ji → Th → Option ((Ji × Jr × Th) ⊕ (Option Nat × Ji × Th))) (Xp : Jr) (a1 : Option Nat) (Q : Ji) (T : Th) : Option ((Ji × Jr × Th) ⊕ (Option Nat × Ji × Th)) :=
  xb (R_isSign Xp 42 Q T) fun r2 => if r2.1 = 0 then
    xb (R_isSign Xp 47 r2.2.1 r2.2.2) fun r3 => if r3.1 = 0 then
      some (.inr (a1, r3.2.1, r3.2.2))
    else
      R_part_6_B23 F k5 Xp a1 r3.2.1 r3.2.2
  else
    R_part_6_B23 F k5 Xp a1 r2.2.1 r2.2.2
def R_part_6_L5 (F : Nat) (Xp : Jr) : Nat → Option Nat → Ji → Th → Option ((Ji × Jr × Th) ⊕ (Option Nat × Ji × Th))
  | 0, _, _, _ => none
  | n + 1, a1, Q, T => R_part_6_B5 F (R_part_6_L5 F Xp n) Xp a1 Q T
def R_part_6 (F : Nat) (Xp : Jr) (Q : Ji) (T : Th) : Option ((Ji × Jr × Th) ⊕ (Option Nat × Ji × Th)) :=
  xb (R_unit_6 F Xp Q T) fun r1 => R_part_6_L5 F Xp F r1.1 r1.2.1 r1.2.2
def R_sum_6_B23 (F : Nat) (k5 : Option Nat → Ji → Th → Option ((Ji × Jr × Th) ⊕ (Option Nat × Ji × Th))) (Xp : Jr) (a1 : Option Nat) (Q : Ji) (T : Th) : Option ((Ji × Jr × Th) ⊕ (Option Nat × Ji × Th)) :=
  ldI Q 8 2001 (Q 9 3) fun x4 => xb (R_pass Xp Q T) fun r5 => nO r5.2 18 3 fun T6 => xb (R_part_6 F Xp r5.1 T6) fun r7 => (r7.1).bind fun b8 => (a1).bind fun b9 => (A_Joined (tN r5.2) x4 b9 b8 r7.2.2).bind fun r10 => k5 (some (tN r5.2)) r7.2.1 r10
def R_sum_6_B5 (F : Nat) (k5 : Option Nat → Ji → Th → Option ((Ji × Jr × Th) ⊕ (Option Nat × Ji × Th))) (Xp : Jr) (a1 : Option Nat) (Q : Ji) (T : Th) : Option ((Ji × Jr × Th) ⊕ (Option Nat × Ji × Th)) :=
  xb (R_isSign Xp 43 Q T) fun r2 => if r2.1 = 0 then
    xb (R_isSign Xp 45 r2.2.1 r2.2.2) fun r3 => if r3.1 = 0 then
      some (.inr (a1, r3.2.1, r3.2.2))
    else
      R_sum_6_B23 F k5 Xp a1 r3.2.1 r3.2.2
  else
    R_sum_6_B23 F k5 Xp a1 r2.2.1 r2.2.2
def R_sum_6_L5 (F : Nat) (Xp : Jr) : Nat → Option Nat → Ji → Th → Option ((Ji × Jr × Th) ⊕ (Option Nat × Ji × Th))
  | 0, _, _, _ => none
  | n + 1, a1, Q, T => R_sum_6_B5 F (R_sum_6_L5 F Xp n) Xp a1 Q T
def R_sum_6 (F : Nat) (Xp : Jr) (Q : Ji) (T : Th) : Option ((Ji × Jr × Th) ⊕ (Option Nat × Ji × Th)) :=
  xb (R_part_6 F Xp Q T) fun r1 => R_sum_6_L5 F Xp F r1.1 r1.2.1 r1.2.2
def R_unit_7_B87 (F : Nat) (Xp : Jr) (Q : Ji) (T : Th) : Option ((Ji × Jr × Th) ⊕ (Option Nat × Ji × Th)) :=
  xb (R_isSign Xp 40 Q T) fun r12 => if r12.1 = 0 then
    (R_wrong r12.2.2 1 r12.2.1).bind fun r13 => some (.inl (r13, Xp, r12.2.2))
  else
    if (r12.2.1 9 4) = 6 then
      (R_wrong r12.2.2 2 r12.2.1).bind fun r14 => some (.inl (r14, Xp, r12.2.2))
    else
      lt_ (uJ r12.2.1 9 4 ((r12.2.1 9 4) + 1)) fun Q15 => xb (R_pass Xp Q15 r12.2.2) fun r16 => xb (R_sum_6 F Xp r16.1 r16.2) fun r17 => xb (R_sign Xp 41 r17.2.1 r17.2.2) fun r18 => lt_ (uJ r18.1 9 4 ((r18.1 9 4) - 1)) fun Q19 => some (.inr (r17.1, Q19, r18.2))
def R_unit_7 (F : Nat) (Xp : Jr) (Q : Ji) (T : Th) : Option ((Ji × Jr × Th) ⊕ (Option Nat × Ji × Th)) :=
  xb (R_sort Xp Q T) fun r1 => if r1.1 = 1 then
    xb (R_pass Xp r1.2.1 r1.2.2) fun r2 => nO r2.2 16 1 fun T3 => (T_number F r2.1 T3 ((r2.1 9 3) - 1)).bind fun r4 => (A_Number (tN r2.2) r4 T3).bind fun r5 => some (.inr ((some (tN r2.2)), r2.1, r5))
  else
    xb (R_sort Xp r1.2.1 r1.2.2) fun r6 => if r6.1 = 3 then
      ldI r6.2.1 8 2001 (r6.2.1 9 3) fun x7 => if x7 < 15 then
        R_unit_7_B87 F Xp r6.2.1 r6.2.2
      else
        xb (R_pass Xp r6.2.1 r6.2.2) fun r8 => nO r8.2 17 1 fun T9 => ldI r8.1 8 2001 ((r8.1 9 3) - 1) fun x10 => (A_Var (tN r8.2) (x10 - 15) T9).bind fun r11 => some (.inr ((some (tN r8.2)), r8.1, r11))
    else
      R_unit_7_B87 F Xp r6.2.1 r6.2.2
def R_part_7_B23 (F : Nat) (k5 : Option Nat → Ji → Th → Option ((Ji × Jr × Th) ⊕ (Option Nat × Ji × Th))) (Xp : Jr) (a1 : Option Nat) (Q : Ji) (T : Th) : Option ((Ji × Jr × Th) ⊕ (Option Nat × Ji × Th)) :=
  ldI Q 8 2001 (Q 9 3) fun x4 => xb (R_pass Xp Q T) fun r5 => nO r5.2 18 3 fun T6 => xb (R_unit_7 F Xp r5.1 T6) fun r7 => (r7.1).bind fun b8 => (a1).bind fun b9 => (A_Joined (tN r5.2) x4 b9 b8 r7.2.2).bind fun r10 => k5 (some (tN r5.2)) r7.2.1 r10
def R_part_7_B5 (F : Nat) (k5 : Option Nat → Ji → Th → Option ((Ji × Jr × Th) ⊕ (Option Nat × Ji × Th))) (Xp : Jr) (a1 : Option Nat) (Q : Ji) (T : Th) : Option ((Ji × Jr × Th) ⊕ (Option Nat × Ji × Th)) :=
  xb (R_isSign Xp 42 Q T) fun r2 => if r2.1 = 0 then
    xb (R_isSign Xp 47 r2.2.1 r2.2.2) fun r3 => if r3.1 = 0 then
      some (.inr (a1, r3.2.1, r3.2.2))
    else
      R_part_7_B23 F k5 Xp a1 r3.2.1 r3.2.2
  else
    R_part_7_B23 F k5 Xp a1 r2.2.1 r2.2.2
def R_part_7_L5 (F : Nat) (Xp : Jr) : Nat → Option Nat → Ji → Th → Option ((Ji × Jr × Th) ⊕ (Option Nat × Ji × Th))
  | 0, _, _, _ => none
  | n + 1, a1, Q, T => R_part_7_B5 F (R_part_7_L5 F Xp n) Xp a1 Q T
def R_part_7 (F : Nat) (Xp : Jr) (Q : Ji) (T : Th) : Option ((Ji × Jr × Th) ⊕ (Option Nat × Ji × Th)) :=
  xb (R_unit_7 F Xp Q T) fun r1 => R_part_7_L5 F Xp F r1.1 r1.2.1 r1.2.2
def R_sum_7_B23 (F : Nat) (k5 : Option Nat → Ji → Th → Option ((Ji × Jr × Th) ⊕ (Option Nat × Ji × Th))) (Xp : Jr) (a1 : Option Nat) (Q : Ji) (T : Th) : Option ((Ji × Jr × Th) ⊕ (Option Nat × Ji × Th)) :=
  ldI Q 8 2001 (Q 9 3) fun x4 => xb (R_pass Xp Q T) fun r5 => nO r5.2 18 3 fun T6 => xb (R_part_7 F Xp r5.1 T6) fun r7 => (r7.1).bind fun b8 => (a1).bind fun b9 => (A_Joined (tN r5.2) x4 b9 b8 r7.2.2).bind fun r10 => k5 (some (tN r5.2)) r7.2.1 r10
def R_sum_7_B5 (F : Nat) (k5 : Option Nat → Ji → Th → Option ((Ji × Jr × Th) ⊕ (Option Nat × Ji × Th))) (Xp : Jr) (a1 : Option Nat) (Q : Ji) (T : Th) : Option ((Ji × Jr × Th) ⊕ (Option Nat × Ji × Th)) :=
  xb (R_isSign Xp 43 Q T) fun r2 => if r2.1 = 0 then
    xb (R_isSign Xp 45 r2.2.1 r2.2.2) fun r3 => if r3.1 = 0 then
      some (.inr (a1, r3.2.1, r3.2.2))
    else
      R_sum_7_B23 F k5 Xp a1 r3.2.1 r3.2.2
  else
    R_sum_7_B23 F k5 Xp a1 r2.2.1 r2.2.2
def R_sum_7_L5 (F : Nat) (Xp : Jr) : Nat → Option Nat → Ji → Th → Option ((Ji × Jr × Th) ⊕ (Option Nat × Ji × Th))
  | 0, _, _, _ => none
  | n + 1, a1, Q, T => R_sum_7_B5 F (R_sum_7_L5 F Xp n) Xp a1 Q T
def R_sum_7 (F : Nat) (Xp : Jr) (Q : Ji) (T : Th) : Option ((Ji × Jr × Th) ⊕ (Option Nat × Ji × Th)) :=
  xb (R_part_7 F Xp Q T) fun r1 => R_sum_7_L5 F Xp F r1.1 r1.2.1 r1.2.2
def R_law_B52 (F : Nat) (k52 : Int32 → Nat → Ji → Th → Option ((Ji × Jr × Th) ⊕ (Ji × Th))) (Xp : Jr) (a1 : Int32) (a2 : Nat) (Q : Ji) (T : Th) : Option ((Ji × Jr × Th) ⊕ (Ji × Th)) :=
  xb (R_isWord Xp 11 Q T) fun r14 => if r14.1 = 0 then
    dR r14.2.2 a2 15 2 fun x15 => dI r14.2.2 a2 15 3 fun x16 => xb (R_sum_7 F Xp r14.2.1 r14.2.2) fun r17 => (r17.1).bind fun b18 => (x15).bind fun b19 => sA r17.2.2 b19 (.object "SleepWork$Sum") x16 b18 fun T20 => if a1 < 0 then
      some (.inr (r17.2.1, T20))
    else
      (Xp 9 2).bind fun b21 => dR T20 b21 4 4 fun x22 => (x22).bind fun b23 => dC T20 b23 19 <| (L_get T20 b23 a1).bind fun r24 => (r24).bind fun b25 => dC T20 b25 14 <| pR T20 b25 14 4 ((some a2)) fun T26 => some (.inr (r17.2.1, T26))
  else
    dI r14.2.2 a2 15 3 fun x27 => xb (R_begins Xp x27 4 r14.2.1 r14.2.2) fun r28 => dR r28.2 a2 15 0 fun x29 => dI r28.2 a2 15 3 fun x30 => xb (R_sum_7 F Xp r28.1 r28.2) fun r31 => (r31.1).bind fun b32 => (x29).bind fun b33 => sA r31.2.2 b33 (.object "SleepWork$Sum") x30 b32 fun T34 => xb (R_sign Xp 60 r31.2.1 T34) fun r35 => dR r35.2 a2 15 1 fun x36 => dI r35.2 a2 15 3 fun x37 => xb (R_sum_7 F Xp r35.1 r35.2) fun r38 => (r38.1).bind fun b39 => (x36).bind fun b40 => sA r38.2.2 b40 (.object "SleepWork$Sum") x37 b39 fun T41 => xb (R_word Xp 12 r38.2.1 T41) fun r42 => dR r42.2 a2 15 2 fun x43 => dI r42.2 a2 15 3 fun x44 => xb (R_sum_7 F Xp r42.1 r42.2) fun r45 => (r45.1).bind fun b46 => (x43).bind fun b47 => sA r45.2.2 b47 (.object "SleepWork$Sum") x44 b46 fun T48 => xb (R_word Xp 13 r45.2.1 T48) fun r49 => dI r49.2 a2 15 3 fun x50 => pI r49.2 a2 15 3 (x50 + 1) fun T51 => k52 a1 a2 r49.1 T51
def R_law_L52 (F : Nat) (Xp : Jr) : Nat → Int32 → Nat → Ji → Th → Option ((Ji × Jr × Th) ⊕ (Ji × Th))
  | 0, _, _, _, _ => none
  | n + 1, a1, a2, Q, T => R_law_B52 F (R_law_L52 F Xp n) Xp a1 a2 Q T
def R_law (F : Nat) (Xp : Jr) (Q : Ji) (T : Th) : Option ((Ji × Jr × Th) ⊕ (Ji × Th)) :=
  (Xp 9 2).bind fun b1 => dI T b1 4 6 fun x2 => xb (R_begins Xp x2 8 Q T) fun r3 => (Xp 9 2).bind fun b4 => dI r3.2 b4 4 6 fun x5 => pI r3.2 b4 4 6 (x5 + 1) fun T6 => (Xp 9 2).bind fun b7 => dR T6 b7 4 4 fun x8 => (x8).bind fun b9 => xb (R_known F Xp b9 r3.1 T6) fun r10 => nO r10.2.2 15 4 fun T11 => (A_Law (tN r10.2.2) T11).bind fun r12 => xb (R_sign Xp 61 r10.2.1 r12) fun r13 => R_law_L52 F Xp F r10.1 (tN r10.2.2) r13.1 r13.2
def R_told_B24 (F : Nat) (Xp : Jr) (s0 : Int32) (Q : Ji) (T : Th) : Option ((Ji × Jr × Th) ⊕ (Ji × Th)) :=
  if s0 = 0 then
    (Xp 9 2).bind fun b3 => dR T b3 4 0 fun x4 => (x4).bind fun b5 => dC T b5 19 <| (L_size T b5).bind fun r6 => xb (R_begins Xp r6 8 Q T) fun r7 => (Xp 9 2).bind fun b8 => dR r7.2 b8 4 0 fun x9 => nO r7.2 9 1 fun T10 => xb (R_name F Xp r7.1 T10) fun r11 => (r11.1).bind fun b12 => (A_Room (tN r7.2) b12 r11.2.2).bind fun r13 => (x9).bind fun b14 => dC r13 b14 19 <| (A_L_add b14 (tN r7.2) r13).bind fun r15 => some (.inr (r11.2.1, r15.2))
  else if s0 = 1 then
    xb (R_door F Xp Q T) fun r16 => some (.inr (r16.1, r16.2))
  else if s0 = 3 then
    (Xp 9 2).bind fun b17 => dR T b17 4 2 fun x18 => (x18).bind fun b19 => dC T b19 19 <| (L_size T b19).bind fun r20 => xb (R_begins Xp r20 6 Q T) fun r21 => nO r21.2 11 2 fun T22 => xb (R_name F Xp r21.1 T22) fun r23 => (r23.1).bind fun b24 => (A_Tool (tN r21.2) b24 r23.2.2).bind fun r25 => (Xp 9 2).bind fun b26 => dR r25 b26 4 0 fun x27 => (x27).bind fun b28 => xb (R_known F Xp b28 r23.2.1 r25) fun r29 => pI r29.2.2 (tN r21.2) 11 1 r29.1 fun T30 => (Xp 9 2).bind fun b31 => dR T30 b31 4 2 fun x32 => (x32).bind fun b33 => dC T30 b33 19 <| (A_L_add b33 (tN r21.2) T30).bind fun r34 => some (.inr (r29.2.1, r34.2))
  else if s0 = 4 then
    (Xp 9 2).bind fun b35 => dR T b35 4 3 fun x36 => (x36).bind fun b37 => dC T b37 19 <| (L_size T b37).bind fun r38 => xb (R_begins Xp r38 6 Q T) fun r39 => nO r39.2 12 4 fun T40 => xb (R_name F Xp r39.1 T40) fun r41 => (r41.1).bind fun b42 => (A_Task (tN r39.2) b42 r41.2.2).bind fun r43 => (Xp 9 2).bind fun b44 => dR r43 b44 4 0 fun x45 => (x45).bind fun b46 => xb (R_known F Xp b46 r41.2.1 r43) fun r47 => pI r47.2.2 (tN r39.2) 12 1 r47.1 fun T48 => xb (R_number F Xp 0 999 r47.2.1 T48) fun r49 => pI r49.2.2 (tN r39.2) 12 2 r49.1 fun T50 => (Xp 9 2).bind fun b51 => dR T50 b51 4 3 fun x52 => (x52).bind fun b53 => dC T50 b53 19 <| (A_L_add b53 (tN r39.2) T50).bind fun r54 => some (.inr (r49.2.1, r54.2))
  else if s0 = 5 then
    xb (R_step F Xp Q T) fun r55 => some (.inr (r55.1, r55.2))
  else if s0 = 8 then
    xb (R_man F Xp Q T) fun r56 => some (.inr (r56.1, r56.2))
  else if s0 = 10 then
    xb (R_law F Xp Q T) fun r57 => some (.inr (r57.1, r57.2))
  else if s0 = 14 then
    xb (R_pass Xp Q T) fun r58 => xb (R_number F Xp 1 600 r58.1 r58.2) fun r59 => (Xp 9 2).bind fun b60 => pI r59.2.2 b60 4 5 r59.1 fun T61 => some (.inr (r59.2.1, T61))
  else 
    (R_wrong T 1 Q).bind fun r62 => some (.inl (r62, Xp, T))
def R_told (F : Nat) (Xp : Jr) (Q : Ji) (T : Th) : Option ((Ji × Jr × Th) ⊕ (Ji × Th)) :=
  xb (R_sort Xp Q T) fun r1 => if r1.1 = 3 then
    ldI r1.2.1 8 2001 (r1.2.1 9 3) fun x2 => R_told_B24 F Xp x2 r1.2.1 r1.2.2
  else
    R_told_B24 F Xp ((-1)) r1.2.1 r1.2.2
def R_read_B33 (F : Nat) (k33 : Ji → Jr → Th → Option ((Ji × Jr × Th) ⊕ (Option Nat × Ji × Jr × Th))) (Q : Ji) (Xp : Jr) (T : Th) : Option ((Ji × Jr × Th) ⊕ (Option Nat × Ji × Jr × Th)) :=
  xb (R_sort Xp Q T) fun r8 => if r8.1 = 4 then
    if (r8.2.1 9 5) = 0 then
      some (.inr (Xp 9 2, r8.2.1, Xp, r8.2.2))
    else
      (R_wrongAt r8.2.2 (r8.2.1 9 5) (r8.2.1 9 6) r8.2.1).bind fun r9 => some (.inl (r9, Xp, r8.2.2))
  else
    xb (R_told F Xp r8.2.1 r8.2.2) fun r10 => xb (R_sign Xp 59 r10.1 r10.2) fun r11 => k33 r11.1 Xp r11.2
def R_read_L33 (F : Nat) : Nat → Ji → Jr → Th → Option ((Ji × Jr × Th) ⊕ (Option Nat × Ji × Jr × Th))
  | 0, _, _, _ => none
  | n + 1, Q, Xp, T => R_read_B33 F (R_read_L33 F n) Q Xp T
def R_read (F : Nat) (Q : Ji) (Xp : Jr) (T : Th) : Option ((Ji × Jr × Th) ⊕ (Option Nat × Ji × Jr × Th)) :=
  (T_read F Xp T Q).bind fun r1 => nO T 4 7 fun T2 => (A_Text (tN T) T2).bind fun r3 => lt_ (uR Xp 9 2 (some (tN T))) fun X4 => lt_ (uJ r1 9 3 0) fun Q5 => lt_ (uJ Q5 9 4 0) fun Q6 => lt_ (uJ Q6 9 5 0) fun Q7 => R_read_L33 F F Q7 X4 r3
