/-! methods of the village's world as pure functions (printed by gen/cgen.py) -/
set_option maxRecDepth 100000
def J_bitCount (a0 : Int32) : Option (Int32) :=
  lt_ (a0 - ((ush a0 1) &&& 1431655765)) fun x1 => lt_ ((x1 &&& 858993459) + ((ush x1 2) &&& 858993459)) fun x2 => lt_ ((x2 + (ush x2 4)) &&& 252645135) fun x3 => lt_ (x3 + (ush x3 8)) fun x4 => lt_ (x4 + (ush x4 16)) fun x5 => some (x5 &&& 63)
def J_pci_B9 (a0 : Int32) (a1 : Int32) (a2 : Option Nat) : Option (Int32) :=
  none
def J_pci (a0 : Int32) (a1 : Int32) : Option (Int32) :=
  if a0 < 0 then
    J_pci_B9 a0 a1 none
  else
    if a0 < a1 then
      some a0
    else
      J_pci_B9 a0 a1 none
def J_oci (a0 : Int32) (a1 : Int32) : Option (Int32) :=
  (J_pci a0 a1).bind fun r1 => some r1
def L_size (T : Th) (a0 : Nat) : Option (Int32) :=
  dI T a0 19 2 fun x1 => some x1
def L_elem (T : Th) (a0 : Nat) (a1 : Int32) : Option (Option Nat) :=
  dR T a0 19 1 fun x1 => (x1).bind fun b2 => dA T b2 (.object "java/lang/Object") a1 fun x3 => some x3
def L_get (T : Th) (a0 : Nat) (a1 : Int32) : Option (Option Nat) :=
  dI T a0 19 2 fun x1 => (J_oci a1 x1).bind fun r2 => dC T a0 19 <| (L_elem T a0 a1).bind fun r3 => some r3
def C_isStep (T : Th) (a0 : Nat) (a1 : Int32) : Option (Int32) :=
  if a1 < 0 then
    some 0
  else
    dR T a0 12 3 fun x1 => (x1).bind fun b2 => dC T b2 19 <| (L_size T b2).bind fun r3 => if r3 ≤ a1 then
      some 0
    else
      some 1
def V_isEnded_B15 (F : Nat) (k15 : Int32 → Nat → Int32 → Option (Int32)) (T : Th) (J : Ji) (a2 : Int32) (a3 : Nat) (a4 : Int32) : Option (Int32) :=
  dR T a3 12 3 fun x5 => (x5).bind fun b6 => dC T b6 19 <| (L_size T b6).bind fun r7 => if r7 ≤ a4 then
    some 1
  else
    (ix a2 6).bind fun q8 => ldI J (2 + q8) 6 a4 fun x9 => dR T a3 12 3 fun x10 => (x10).bind fun b11 => dC T b11 19 <| (L_get T b11 a4).bind fun r12 => (r12).bind fun b13 => dC T b13 13 <| dI T b13 13 1 fun x14 => if x14 ≤ x9 then
      lt_ (a4 + 1) fun x15 => k15 a2 a3 x15
    else
      some 0
def V_isEnded_L15 (F : Nat) (T : Th) (J : Ji) : Nat → Int32 → Nat → Int32 → Option (Int32)
  | 0, _, _, _ => none
  | n + 1, a2, a3, a4 => V_isEnded_B15 F (V_isEnded_L15 F T J n) T J a2 a3 a4
def V_isEnded (F : Nat) (T : Th) (J : Ji) (a1 : Nat) (a2 : Int32) : Option (Int32) :=
  dR T a1 4 3 fun x1 => (x1).bind fun b2 => dC T b2 19 <| (L_get T b2 a2).bind fun r3 => (r3).bind fun b4 => dC T b4 12 <| V_isEnded_L15 F T J F a2 b4 0
def V_worth_B18 (F : Nat) (k18 : Int32 → Nat → Int32 → Int32 → Option (Int32)) (T : Th) (J : Ji) (a2 : Int32) (a3 : Nat) (a4 : Int32) (a5 : Int32) : Option (Int32) :=
  dR T a3 12 3 fun x5 => (x5).bind fun b6 => dC T b6 19 <| (L_size T b6).bind fun r7 => if r7 ≤ a5 then
    some a4
  else
    dR T a3 12 3 fun x8 => (x8).bind fun b9 => dC T b9 19 <| (L_get T b9 a5).bind fun r10 => (r10).bind fun b11 => dC T b11 13 <| (ix a2 6).bind fun q12 => ldI J (2 + q12) 6 a5 fun x13 => dI T b11 13 2 fun x14 => dI T b11 13 1 fun x15 => dI T b11 13 3 fun x16 => dI T b11 13 1 fun x17 => lt_ (a4 + ((x14 * (if x15 < x13 then x15 else x13)) - (x16 * (if 0 < (x13 - x17) then x13 - x17 else 0)))) fun x18 => lt_ (a5 + 1) fun x19 => k18 a2 a3 x18 x19
def V_worth_L18 (F : Nat) (T : Th) (J : Ji) : Nat → Int32 → Nat → Int32 → Int32 → Option (Int32)
  | 0, _, _, _, _ => none
  | n + 1, a2, a3, a4, a5 => V_worth_B18 F (V_worth_L18 F T J n) T J a2 a3 a4 a5
def V_worth (F : Nat) (T : Th) (J : Ji) (a1 : Nat) (a2 : Int32) : Option (Int32) :=
  dR T a1 4 3 fun x1 => (x1).bind fun b2 => dC T b2 19 <| (L_get T b2 a2).bind fun r3 => (r3).bind fun b4 => dC T b4 12 <| V_worth_L18 F T J F a2 b4 0 0
def V_worthOfAll_B4 (F : Nat) (k4 : Nat → Int32 → Int32 → Option (Int32)) (T : Th) (J : Ji) (a1 : Nat) (a2 : Int32) (a3 : Int32) : Option (Int32) :=
  dR T a1 4 3 fun x1 => (x1).bind fun b2 => dC T b2 19 <| (L_size T b2).bind fun r3 => if r3 ≤ a3 then
    some a2
  else
    (V_worth F T J a1 a3).bind fun r4 => lt_ (a2 + r4) fun x5 => lt_ (a3 + 1) fun x6 => k4 a1 x5 x6
def V_worthOfAll_L4 (F : Nat) (T : Th) (J : Ji) : Nat → Nat → Int32 → Int32 → Option (Int32)
  | 0, _, _, _ => none
  | n + 1, a1, a2, a3 => V_worthOfAll_B4 F (V_worthOfAll_L4 F T J n) T J a1 a2 a3
def V_worthOfAll (F : Nat) (T : Th) (J : Ji) (a1 : Nat) : Option (Int32) :=
  V_worthOfAll_L4 F T J F a1 0 0
def V_does (T : Th) (a1 : Nat) (a2 : Int32) (a3 : Int32) (J : Ji) : Option (Ji) :=
  (ix a2 6).bind fun q1 => ldI J (2 + q1) 6 a3 fun x2 => stI J (2 + q1) 6 a3 (x2 + 1) fun J3 => dR T a1 4 3 fun x4 => (x4).bind fun b5 => dC T b5 19 <| (L_get T b5 a2).bind fun r6 => (r6).bind fun b7 => dC T b7 12 <| dR T b7 12 3 fun x8 => (x8).bind fun b9 => dC T b9 19 <| (L_get T b9 a3).bind fun r10 => (r10).bind fun b11 => dC T b11 13 <| dI T b11 13 5 fun x12 => if x12 < 0 then
    some J3
  else
    (ix a2 6).bind fun q13 => ldI J3 (2 + q13) 6 x12 fun x14 => if x14 ≤ 0 then
      some J3
    else
      (ix a2 6).bind fun q15 => ldI J3 (2 + q15) 6 x12 fun x16 => stI J3 (2 + q15) 6 x12 (x16 - 1) fun J17 => some J17
def V_isToolThere (T : Th) (J : Ji) (a1 : Int32) (a2 : Int32) (a3 : Int32) : Option (Int32) :=
  ldI J 11 6 a1 fun x1 => if x1 = a2 then
    some 1
  else
    ldI J 11 6 a1 fun x2 => if x2 = (100 + a3) then
      some 1
    else
      some 0
def V_laysWays_B44 (F : Nat) (k10 : Nat → Int32 → Int32 → Ji → Option (Ji)) (k18 : Nat → Int32 → Int32 → Int32 → Ji → Option (Ji)) (T : Th) (a1 : Nat) (a2 : Int32) (a3 : Int32) (a4 : Int32) (s0 : Int32) (s1 : Int32) (qs2 : Nat) (J : Ji) : Option (Ji) :=
  stI J (16 + qs2) 8 s1 s0 fun J6 => lt_ (a4 + 1) fun x7 => k18 a1 a2 a3 x7 J6
def V_laysWays_B18 (F : Nat) (k10 : Nat → Int32 → Int32 → Ji → Option (Ji)) (k18 : Nat → Int32 → Int32 → Int32 → Ji → Option (Ji)) (T : Th) (a1 : Nat) (a2 : Int32) (a3 : Int32) (a4 : Int32) (J : Ji) : Option (Ji) :=
  if a2 ≤ a4 then
    lt_ (a3 + 1) fun x4 => k10 a1 a2 x4 J
  else
    (ix a3 8).bind fun q5 => if a3 = a4 then
      V_laysWays_B44 F k10 k18 T a1 a2 a3 a4 0 a4 q5 J
    else
      V_laysWays_B44 F k10 k18 T a1 a2 a3 a4 1000000 a4 q5 J
def V_laysWays_L18 (F : Nat) (k10 : Nat → Int32 → Int32 → Ji → Option (Ji)) (T : Th) : Nat → Nat → Int32 → Int32 → Int32 → Ji → Option (Ji)
  | 0, _, _, _, _, _ => none
  | n + 1, a1, a2, a3, a4, J => V_laysWays_B18 F k10 (V_laysWays_L18 F k10 T n) T a1 a2 a3 a4 J
def V_laysWays_B195 (F : Nat) (k178 : Int32 → Int32 → Ji → Option (Ji)) (k186 : Int32 → Int32 → Int32 → Ji → Option (Ji)) (k195 : Int32 → Int32 → Int32 → Int32 → Ji → Option (Ji)) (T : Th) (a2 : Int32) (a3 : Int32) (a4 : Int32) (a5 : Int32) (J : Ji) : Option (Ji) :=
  if a2 ≤ a5 then
    lt_ (a4 + 1) fun x35 => k186 a2 a3 x35 J
  else
    (ix a4 8).bind fun q36 => (ix a4 8).bind fun q37 => ldI J (16 + q37) 8 a5 fun x38 => (ix a4 8).bind fun q39 => ldI J (16 + q39) 8 a3 fun x40 => (ix a3 8).bind fun q41 => ldI J (16 + q41) 8 a5 fun x42 => stI J (16 + q36) 8 a5 (if (x40 + x42) < x38 then x40 + x42 else x38) fun J43 => lt_ (a5 + 1) fun x44 => k195 a2 a3 a4 x44 J43
def V_laysWays_L195 (F : Nat) (k178 : Int32 → Int32 → Ji → Option (Ji)) (k186 : Int32 → Int32 → Int32 → Ji → Option (Ji)) (T : Th) : Nat → Int32 → Int32 → Int32 → Int32 → Ji → Option (Ji)
  | 0, _, _, _, _, _ => none
  | n + 1, a2, a3, a4, a5, J => V_laysWays_B195 F k178 k186 (V_laysWays_L195 F k178 k186 T n) T a2 a3 a4 a5 J
def V_laysWays_B186 (F : Nat) (k178 : Int32 → Int32 → Ji → Option (Ji)) (k186 : Int32 → Int32 → Int32 → Ji → Option (Ji)) (T : Th) (a2 : Int32) (a3 : Int32) (a4 : Int32) (J : Ji) : Option (Ji) :=
  if a2 ≤ a4 then
    lt_ (a3 + 1) fun x34 => k178 a2 x34 J
  else
    V_laysWays_L195 F k178 k186 T F a2 a3 a4 0 J
def V_laysWays_L186 (F : Nat) (k178 : Int32 → Int32 → Ji → Option (Ji)) (T : Th) : Nat → Int32 → Int32 → Int32 → Ji → Option (Ji)
  | 0, _, _, _, _ => none
  | n + 1, a2, a3, a4, J => V_laysWays_B186 F k178 (V_laysWays_L186 F k178 T n) T a2 a3 a4 J
def V_laysWays_B178 (F : Nat) (k178 : Int32 → Int32 → Ji → Option (Ji)) (T : Th) (a2 : Int32) (a3 : Int32) (J : Ji) : Option (Ji) :=
  if a2 ≤ a3 then
    some J
  else
    V_laysWays_L186 F k178 T F a2 a3 0 J
def V_laysWays_L178 (F : Nat) (T : Th) : Nat → Int32 → Int32 → Ji → Option (Ji)
  | 0, _, _, _ => none
  | n + 1, a2, a3, J => V_laysWays_B178 F (V_laysWays_L178 F T n) T a2 a3 J
def V_laysWays_B59 (F : Nat) (k59 : Nat → Int32 → Int32 → Ji → Option (Ji)) (T : Th) (a1 : Nat) (a2 : Int32) (a3 : Int32) (J : Ji) : Option (Ji) :=
  dR T a1 4 1 fun x8 => (x8).bind fun b9 => dC T b9 19 <| (L_size T b9).bind fun r10 => if r10 ≤ a3 then
    V_laysWays_L178 F T F a2 0 J
  else
    dR T a1 4 1 fun x11 => (x11).bind fun b12 => dC T b12 19 <| (L_get T b12 a3).bind fun r13 => (r13).bind fun b14 => dC T b14 10 <| if (((J 0 8) >>> (a3 &&& 31)) &&& 1) = 1 then
      lt_ (a3 + 1) fun x15 => k59 a1 a2 x15 J
    else
      dI T b14 10 0 fun x16 => (ix x16 8).bind fun q17 => dI T b14 10 1 fun x18 => dI T b14 10 0 fun x19 => (ix x19 8).bind fun q20 => dI T b14 10 1 fun x21 => ldI J (16 + q20) 8 x21 fun x22 => dI T b14 10 2 fun x23 => stI J (16 + q17) 8 x18 (if x23 < x22 then x23 else x22) fun J24 => dI T b14 10 1 fun x25 => (ix x25 8).bind fun q26 => dI T b14 10 0 fun x27 => dI T b14 10 0 fun x28 => (ix x28 8).bind fun q29 => dI T b14 10 1 fun x30 => ldI J24 (16 + q29) 8 x30 fun x31 => stI J24 (16 + q26) 8 x27 x31 fun J32 => lt_ (a3 + 1) fun x33 => k59 a1 a2 x33 J32
def V_laysWays_L59 (F : Nat) (T : Th) : Nat → Nat → Int32 → Int32 → Ji → Option (Ji)
  | 0, _, _, _, _ => none
  | n + 1, a1, a2, a3, J => V_laysWays_B59 F (V_laysWays_L59 F T n) T a1 a2 a3 J
def V_laysWays_B10 (F : Nat) (k10 : Nat → Int32 → Int32 → Ji → Option (Ji)) (T : Th) (a1 : Nat) (a2 : Int32) (a3 : Int32) (J : Ji) : Option (Ji) :=
  if a2 ≤ a3 then
    V_laysWays_L59 F T F a1 a2 0 J
  else
    V_laysWays_L18 F k10 T F a1 a2 a3 0 J
def V_laysWays_L10 (F : Nat) (T : Th) : Nat → Nat → Int32 → Int32 → Ji → Option (Ji)
  | 0, _, _, _, _ => none
  | n + 1, a1, a2, a3, J => V_laysWays_B10 F (V_laysWays_L10 F T n) T a1 a2 a3 J
def V_laysWays (F : Nat) (T : Th) (a1 : Nat) (J : Ji) : Option (Ji) :=
  dR T a1 4 0 fun x1 => (x1).bind fun b2 => dC T b2 19 <| (L_size T b2).bind fun r3 => V_laysWays_L10 F T F a1 r3 0 J
def V_begins_B52 (F : Nat) (k12 : Nat → Int32 → Ji → Option (Ji)) (T : Th) (a1 : Nat) (a2 : Int32) (s0 : Int32) (s1 : Int32) (J : Ji) : Option (Ji) :=
  lt_ (uJ J 0 8 (s1 ||| s0)) fun J11 => lt_ (a2 + 1) fun x12 => k12 a1 x12 J11
def V_begins_B146 (F : Nat) (k103 : Nat → Int32 → Ji → Option (Ji)) (k146 : Nat → Int32 → Int32 → Ji → Option (Ji)) (T : Th) (a1 : Nat) (a2 : Int32) (a3 : Int32) (J : Ji) : Option (Ji) :=
  if 6 ≤ a3 then
    lt_ (a2 + 1) fun x32 => k103 a1 x32 J
  else
    (ix a2 6).bind fun q33 => stI J (2 + q33) 6 a3 0 fun J34 => lt_ (a3 + 1) fun x35 => k146 a1 a2 x35 J34
def V_begins_L146 (F : Nat) (k103 : Nat → Int32 → Ji → Option (Ji)) (T : Th) : Nat → Nat → Int32 → Int32 → Ji → Option (Ji)
  | 0, _, _, _, _ => none
  | n + 1, a1, a2, a3, J => V_begins_B146 F k103 (V_begins_L146 F k103 T n) T a1 a2 a3 J
def V_begins_B143 (F : Nat) (k103 : Nat → Int32 → Ji → Option (Ji)) (T : Th) (a1 : Nat) (a2 : Int32) (s0 : Int32) (s1 : Int32) (J : Ji) : Option (Ji) :=
  stI J 8 6 s1 s0 fun J31 => V_begins_L146 F k103 T F a1 a2 0 J31
def V_begins_B175 (F : Nat) (k175 : Nat → Int32 → Ji → Option (Ji)) (T : Th) (a1 : Nat) (a2 : Int32) (J : Ji) : Option (Ji) :=
  dR T a1 4 4 fun x36 => (x36).bind fun b37 => dC T b37 19 <| (L_size T b37).bind fun r38 => if r38 ≤ a2 then
    some J
  else
    dR T a1 4 4 fun x39 => (x39).bind fun b40 => dC T b40 19 <| (L_get T b40 a2).bind fun r41 => (r41).bind fun b42 => dC T b42 14 <| dI T b42 14 2 fun x43 => stI J 9 6 a2 x43 fun J44 => dR T a1 4 4 fun x45 => (x45).bind fun b46 => dC T b46 19 <| (L_get T b46 a2).bind fun r47 => (r47).bind fun b48 => dC T b48 14 <| dI T b48 14 3 fun x49 => stI J44 10 6 a2 x49 fun J50 => stI J50 12 6 a2 0 fun J51 => stI J51 13 6 a2 0 fun J52 => stI J52 14 6 a2 ((-2)) fun J53 => lt_ (a2 + 1) fun x54 => k175 a1 x54 J53
def V_begins_L175 (F : Nat) (T : Th) : Nat → Nat → Int32 → Ji → Option (Ji)
  | 0, _, _, _ => none
  | n + 1, a1, a2, J => V_begins_B175 F (V_begins_L175 F T n) T a1 a2 J
def V_begins_B103 (F : Nat) (k103 : Nat → Int32 → Ji → Option (Ji)) (T : Th) (a1 : Nat) (a2 : Int32) (J : Ji) : Option (Ji) :=
  if 6 ≤ a2 then
    V_begins_L175 F T F a1 0 J
  else
    dR T a1 4 3 fun x23 => (x23).bind fun b24 => dC T b24 19 <| (L_size T b24).bind fun r25 => if r25 ≤ a2 then
      V_begins_B143 F k103 T a1 a2 0 a2 J
    else
      dR T a1 4 3 fun x26 => (x26).bind fun b27 => dC T b27 19 <| (L_get T b27 a2).bind fun r28 => (r28).bind fun b29 => dC T b29 12 <| dI T b29 12 2 fun x30 => V_begins_B143 F k103 T a1 a2 x30 a2 J
def V_begins_L103 (F : Nat) (T : Th) : Nat → Nat → Int32 → Ji → Option (Ji)
  | 0, _, _, _ => none
  | n + 1, a1, a2, J => V_begins_B103 F (V_begins_L103 F T n) T a1 a2 J
def V_begins_B64 (F : Nat) (k64 : Nat → Int32 → Ji → Option (Ji)) (T : Th) (a1 : Nat) (a2 : Int32) (J : Ji) : Option (Ji) :=
  dR T a1 4 2 fun x13 => (x13).bind fun b14 => dC T b14 19 <| (L_size T b14).bind fun r15 => if r15 ≤ a2 then
    V_begins_L103 F T F a1 0 J
  else
    dR T a1 4 2 fun x16 => (x16).bind fun b17 => dC T b17 19 <| (L_get T b17 a2).bind fun r18 => (r18).bind fun b19 => dC T b19 11 <| dI T b19 11 1 fun x20 => stI J 11 6 a2 x20 fun J21 => lt_ (a2 + 1) fun x22 => k64 a1 x22 J21
def V_begins_L64 (F : Nat) (T : Th) : Nat → Nat → Int32 → Ji → Option (Ji)
  | 0, _, _, _ => none
  | n + 1, a1, a2, J => V_begins_B64 F (V_begins_L64 F T n) T a1 a2 J
def V_begins_B12 (F : Nat) (k12 : Nat → Int32 → Ji → Option (Ji)) (T : Th) (a1 : Nat) (a2 : Int32) (J : Ji) : Option (Ji) :=
  dR T a1 4 1 fun x3 => (x3).bind fun b4 => dC T b4 19 <| (L_size T b4).bind fun r5 => if r5 ≤ a2 then
    V_begins_L64 F T F a1 0 J
  else
    dR T a1 4 1 fun x6 => (x6).bind fun b7 => dC T b7 19 <| (L_get T b7 a2).bind fun r8 => (r8).bind fun b9 => dC T b9 10 <| dI T b9 10 3 fun x10 => if x10 = 0 then
      V_begins_B52 F k12 T a1 a2 0 (J 0 8) J
    else
      V_begins_B52 F k12 T a1 a2 (1 <<< (a2 &&& 31)) (J 0 8) J
def V_begins_L12 (F : Nat) (T : Th) : Nat → Nat → Int32 → Ji → Option (Ji)
  | 0, _, _, _ => none
  | n + 1, a1, a2, J => V_begins_B12 F (V_begins_L12 F T n) T a1 a2 J
def V_begins (F : Nat) (T : Th) (a1 : Nat) (J : Ji) : Option (Ji) :=
  lt_ (uJ J 0 8 0) fun J1 => lt_ (uJ J1 0 9 0) fun J2 => V_begins_L12 F T F a1 0 J2
def P_liesDown (T : Th) (i : Nat) (a2 : Int32) (a3 : Int32) (J : Ji) : Option (Ji) :=
  lt_ (uJ J (25 + i) 0 0) fun J1 => stI J1 14 6 a2 a3 fun J2 => some J2
def P_getsUp (T : Th) (i : Nat) (a1 : Nat) (a3 : Int32) (J : Ji) : Option (Ji) :=
  stI J 12 6 a3 0 fun J1 => stI J1 14 6 a3 ((-2)) fun J2 => lt_ (uJ J2 (25 + i) 6 0) fun J3 => lt_ (uJ J3 (25 + i) 0 0) fun J4 => ldI J4 9 6 a3 fun x5 => lt_ (uJ J4 (25 + i) 1 x5) fun J6 => ldI J6 10 6 a3 fun x7 => lt_ (uJ J6 (25 + i) 2 x7) fun J8 => if 0 ≤ (J8 (25 + i) 1) then
    dR T a1 4 4 fun x9 => (x9).bind fun b10 => dC T b10 19 <| (L_get T b10 a3).bind fun r11 => (r11).bind fun b12 => dC T b12 14 <| dI T b12 14 1 fun x13 => (ix x13 8).bind fun q14 => dR T a1 4 3 fun x15 => (x15).bind fun b16 => dC T b16 19 <| (L_get T b16 (J8 (25 + i) 1)).bind fun r17 => (r17).bind fun b18 => dC T b18 12 <| dI T b18 12 1 fun x19 => ldI J8 (16 + q14) 8 x19 fun x20 => lt_ (uJ J8 (25 + i) 4 x20) fun J21 => lt_ (uJ J21 (25 + i) 0 1) fun J22 => if (J22 (25 + i) 4) < 1000000 then
      some J22
    else
      (P_liesDown T i a3 0 J22).bind fun r23 => some r23
  else
    some J8
def P_ends_B111 (T : Th) (qa0 : Nat) (J : Ji) : Option (Ji) :=
  lt_ (uJ J (25 + qa0) 0 1) fun J17 => some J17
def P_ends (T : Th) (i : Nat) (a1 : Nat) (a3 : Int32) (a4 : Int32) (J : Ji) : Option (Ji) :=
  if (J (25 + i) 0) = 2 then
    if (J (25 + i) 5) = a4 then
      (V_does T a1 (J (25 + i) 1) (J (25 + i) 3) J).bind fun r1 => lt_ (uJ r1 (25 + i) 2 (r1 (25 + i) 3)) fun J2 => ldI J2 12 6 a3 fun x3 => stI J2 12 6 a3 (x3 + 1) fun J4 => ldI J4 13 6 a3 fun x5 => stI J4 13 6 a3 (x5 + 1) fun J6 => dR T a1 4 3 fun x7 => (x7).bind fun b8 => dC T b8 19 <| (L_get T b8 (J6 (25 + i) 1)).bind fun r9 => (r9).bind fun b10 => dC T b10 12 <| dR T b10 12 3 fun x11 => (x11).bind fun b12 => dC T b12 19 <| (L_get T b12 (J6 (25 + i) 3)).bind fun r13 => (r13).bind fun b14 => dC T b14 13 <| dI T b14 13 4 fun x15 => if x15 < 0 then
        P_ends_B111 T i J6
      else
        lt_ (uJ J6 0 13 ((J6 0 13) &&& ((1 <<< (x15 &&& 31)) ^^^ ((-1))))) fun J16 => P_ends_B111 T i J16
    else
      some J
  else
    some J
def P_leaves_B65 (T : Th) (s0 : Int32) (s1 : Int32) (J : Ji) : Option (Ji) :=
  stI J 10 6 s1 s0 fun J2 => some J2
def P_leaves_B61 (T : Th) (qa0 : Nat) (s0 : Int32) (J : Ji) : Option (Ji) :=
  P_leaves_B65 T (J (25 + qa0) 2) s0 J
def P_leaves_B36 (T : Th) (qa0 : Nat) (a2 : Int32) (s0 : Int32) (s1 : Int32) (J : Ji) : Option (Ji) :=
  stI J 9 6 s1 s0 fun J1 => if (J1 (25 + qa0) 6) = 0 then
    P_leaves_B61 T qa0 a2 J1
  else
    if (J1 (25 + qa0) 0) = 0 then
      P_leaves_B65 T ((-2)) a2 J1
    else
      P_leaves_B61 T qa0 a2 J1
def P_leaves_B32 (T : Th) (qa0 : Nat) (a2 : Int32) (s0 : Int32) (J : Ji) : Option (Ji) :=
  P_leaves_B36 T qa0 a2 (J (25 + qa0) 1) s0 J
def P_leaves (T : Th) (i : Nat) (a2 : Int32) (J : Ji) : Option (Ji) :=
  if 0 ≤ (J (25 + i) 1) then
    if (J (25 + i) 6) = 0 then
      P_leaves_B32 T i a2 a2 J
    else
      if (J (25 + i) 0) = 0 then
        P_leaves_B36 T i a2 ((-2)) a2 J
      else
        P_leaves_B32 T i a2 a2 J
  else
    some J
def C_Number_of (T : Th) (J : Ji) (a0 : Nat) : Option (Int32) :=
  dI T a0 16 0 fun x1 => some x1
def C_Var_of (T : Th) (J : Ji) (a0 : Nat) : Option (Int32) :=
  dI T a0 17 0 fun x1 => ldI J 32 6 x1 fun x2 => some x2
def C_Joined_of (T : Th) (sof : Nat → Ji → Option (Int32 × Ji)) (a0 : Nat) (J : Ji) : Option (Int32 × Ji) :=
  dR T a0 18 1 fun x1 => (x1).bind fun b2 => (sof b2 J).bind fun r3 => dR T a0 18 2 fun x4 => (x4).bind fun b5 => (sof b5 r3.2).bind fun r6 => dI T a0 18 0 fun x7 => if x7 = 42 then
    some (r3.1 * r6.1, r6.2)
  else if x7 = 43 then
    some (r3.1 + r6.1, r6.2)
  else if x7 = 45 then
    some (r3.1 - r6.1, r6.2)
  else 
    if r6.1 = 0 then
      lt_ (uJ r6.2 31 1 1) fun J8 => some (0, J8)
    else
      if r6.1 = 0 then none else some (r3.1 / r6.1, r6.2)
def dSum : Nat := 500
abbrev rmS (n : Nat) : Room := { frames := n, cells := 0, slots := 0, locals := 24 * n }
/-- a node's worth, by the kind of node; n: how deep -/
def C_sof (T : Th) : Nat → Nat → Ji → Option (Int32 × Ji)
  | 0, _, _ => none
  | n + 1, a, J => if T.1 a = some (.inl 16) then (C_Number_of T J a).bind fun r => some (r, J) else if T.1 a = some (.inl 17) then (C_Var_of T J a).bind fun r => some (r, J) else if T.1 a = some (.inl 18) then C_Joined_of T (C_sof T n) a J else none
def C_Law_of_B81 (F : Nat) (T : Th) (s0 : Int32) (s1 : Int32) (s2 : Int32) (J : Ji) : Option (Int32 × Ji) :=
  some (if s2 < (if s0 < s1 then s0 else s1) then if s0 < s1 then s0 else s1 else s2, J)
def C_Law_of_B44 (F : Nat) (T : Th) (a0 : Nat) (a2 : Int32) (J : Ji) : Option (Int32 × Ji) :=
  dR T a0 15 2 fun x14 => (x14).bind fun b15 => dA T b15 (.object "SleepWork$Sum") a2 fun x16 => (x16).bind fun b17 => (C_sof T dSum b17 J).bind fun r18 => ldI r18.2 32 6 2 fun x19 => if (r18.2 31 1) = 0 then
    C_Law_of_B81 F T r18.1 (x19 - 1) 0 r18.2
  else
    ldI r18.2 32 6 0 fun x20 => C_Law_of_B81 F T x20 (x19 - 1) 0 r18.2
def C_Law_of_B7 (F : Nat) (k7 : Nat → Int32 → Ji → Option (Int32 × Ji)) (T : Th) (a0 : Nat) (a2 : Int32) (J : Ji) : Option (Int32 × Ji) :=
  dI T a0 15 3 fun x2 => if x2 ≤ a2 then
    C_Law_of_B44 F T a0 a2 J
  else
    dR T a0 15 0 fun x3 => (x3).bind fun b4 => dA T b4 (.object "SleepWork$Sum") a2 fun x5 => (x5).bind fun b6 => (C_sof T dSum b6 J).bind fun r7 => dR T a0 15 1 fun x8 => (x8).bind fun b9 => dA T b9 (.object "SleepWork$Sum") a2 fun x10 => (x10).bind fun b11 => (C_sof T dSum b11 r7.2).bind fun r12 => if r7.1 < r12.1 then
      C_Law_of_B44 F T a0 a2 r12.2
    else
      lt_ (a2 + 1) fun x13 => k7 a0 x13 r12.2
def C_Law_of_L7 (F : Nat) (T : Th) : Nat → Nat → Int32 → Ji → Option (Int32 × Ji)
  | 0, _, _, _ => none
  | n + 1, a0, a2, J => C_Law_of_B7 F (C_Law_of_L7 F T n) T a0 a2 J
def C_Law_of (F : Nat) (T : Th) (a0 : Nat) (J : Ji) : Option (Int32 × Ji) :=
  lt_ (uJ J 31 1 0) fun J1 => C_Law_of_L7 F T F a0 0 J1
def P_next (F : Nat) (T : Th) (i : Nat) (a1 : Nat) (a3 : Int32) (a4 : Int32) (J : Ji) : Option (Int32 × Ji) :=
  dR T a1 4 4 fun x1 => (x1).bind fun b2 => dC T b2 19 <| (L_get T b2 a3).bind fun r3 => (r3).bind fun b4 => dC T b4 14 <| dR T b4 14 4 fun x5 => rC x5
    (some (J (25 + i) 2, J))
    (fun b6 => stI J 32 6 0 (J (25 + i) 2) fun J7 => (ix (J7 (25 + i) 1) 6).bind fun q8 => ldI J7 (2 + q8) 6 (J7 (25 + i) 2) fun x9 => stI J7 32 6 1 x9 fun J10 => dR T a1 4 3 fun x11 => (x11).bind fun b12 => dC T b12 19 <| (L_get T b12 (J10 (25 + i) 1)).bind fun r13 => (r13).bind fun b14 => dC T b14 12 <| dR T b14 12 3 fun x15 => (x15).bind fun b16 => dC T b16 19 <| (L_size T b16).bind fun r17 => stI J10 32 6 2 r17 fun J18 => stI J18 32 6 3 a4 fun J19 => ldI J19 8 6 (J19 (25 + i) 1) fun x20 => stI J19 32 6 4 x20 fun J21 => ldI J21 12 6 a3 fun x22 => stI J21 32 6 5 x22 fun J23 => dC T b6 15 <| (C_Law_of F T b6 J23).bind fun r24 => some (r24.1, r24.2))
def P_begins_B115 (F : Nat) (T : Th) (qa0 : Nat) (a3 : Int32) (a4 : Int32) (J : Ji) : Option (Ji) :=
  (P_liesDown T qa0 a3 a4 J).bind fun r28 => some r28
def P_begins_B174 (F : Nat) (T : Th) (qa0 : Nat) (a4 : Int32) (a5 : Nat) (a6 : Int32) (J : Ji) : Option (Ji) :=
  lt_ (uJ J (25 + qa0) 3 a6) fun J20 => dR T a5 12 3 fun x21 => (x21).bind fun b22 => dC T b22 19 <| (L_get T b22 a6).bind fun r23 => (r23).bind fun b24 => dC T b24 13 <| dI T b24 13 0 fun x25 => lt_ (uJ J20 (25 + qa0) 5 (a4 + x25)) fun J26 => lt_ (uJ J26 (25 + qa0) 0 2) fun J27 => some J27
def P_begins_B143 (F : Nat) (T : Th) (qa0 : Nat) (a4 : Int32) (a5 : Nat) (a6 : Int32) (a7 : Int32) (J : Ji) : Option (Ji) :=
  ldI J 8 6 (J (25 + qa0) 1) fun x17 => stI J 8 6 (J (25 + qa0) 1) (x17 - 1) fun J18 => if a7 < 0 then
    P_begins_B174 F T qa0 a4 a5 a6 J18
  else
    lt_ (uJ J18 0 13 ((J18 0 13) ||| (1 <<< (a7 &&& 31)))) fun J19 => P_begins_B174 F T qa0 a4 a5 a6 J19
def P_begins_B124 (F : Nat) (T : Th) (qa0 : Nat) (a4 : Int32) (a5 : Nat) (a6 : Int32) (a7 : Int32) (J : Ji) : Option (Ji) :=
  if a7 < 0 then
    P_begins_B143 F T qa0 a4 a5 a6 a7 J
  else
    if (((J 0 13) >>> (a7 &&& 31)) &&& 1) = 1 then
      some J
    else
      P_begins_B143 F T qa0 a4 a5 a6 a7 J
def P_begins (F : Nat) (T : Th) (i : Nat) (a1 : Nat) (a3 : Int32) (a4 : Int32) (J : Ji) : Option (Ji) :=
  if (J (25 + i) 0) = 1 then
    if (J (25 + i) 4) ≤ a4 then
      dR T a1 4 3 fun x1 => (x1).bind fun b2 => dC T b2 19 <| (L_get T b2 (J (25 + i) 1)).bind fun r3 => (r3).bind fun b4 => dC T b4 12 <| (V_isEnded F T J a1 (J (25 + i) 1)).bind fun r5 => (bz r5).bind fun z7 => lt_ (uJ J (25 + i) 6 z7) fun J6 => (P_next F T i a1 a3 a4 J6).bind fun r8 => dR T b4 12 3 fun x9 => (x9).bind fun b10 => dC T b10 19 <| (L_get T b10 r8.1).bind fun r11 => (r11).bind fun b12 => dC T b12 13 <| dI T b12 13 4 fun x13 => if (r8.2 (25 + i) 6) = 0 then
        ldI r8.2 8 6 (r8.2 (25 + i) 1) fun x14 => if x14 = 0 then
          P_begins_B115 F T i a3 a4 r8.2
        else
          if x13 < 0 then
            P_begins_B124 F T i a4 b4 r8.1 x13 r8.2
          else
            dI T b4 12 1 fun x15 => (V_isToolThere T r8.2 x13 x15 a3).bind fun r16 => if r16 = 0 then
              P_begins_B115 F T i a3 a4 r8.2
            else
              P_begins_B124 F T i a4 b4 r8.1 x13 r8.2
      else
        P_begins_B115 F T i a3 a4 r8.2
    else
      some J
  else
    some J
def V_nightTill_B139 (F : Nat) (k139 : Nat → Int32 → Ji → Option (Ji)) (T : Th) (a1 : Nat) (a3 : Int32) (J : Ji) : Option (Ji) :=
  dR T a1 4 4 fun x24 => (x24).bind fun b25 => dC T b25 19 <| (L_size T b25).bind fun r26 => if r26 ≤ a3 then
    lt_ (uJ J 0 9 ((J 0 9) + 1)) fun J27 => some J27
  else
    (ix a3 6).bind fun q28 => (P_leaves T q28 a3 J).bind fun r29 => lt_ (a3 + 1) fun x30 => k139 a1 x30 r29
def V_nightTill_L139 (F : Nat) (T : Th) : Nat → Nat → Int32 → Ji → Option (Ji)
  | 0, _, _, _ => none
  | n + 1, a1, a3, J => V_nightTill_B139 F (V_nightTill_L139 F T n) T a1 a3 J
def V_nightTill_B98 (F : Nat) (k43 : Nat → Int32 → Int32 → Ji → Option (Ji)) (k98 : Nat → Int32 → Int32 → Int32 → Ji → Option (Ji)) (T : Th) (a1 : Nat) (a2 : Int32) (a3 : Int32) (a4 : Int32) (J : Ji) : Option (Ji) :=
  dR T a1 4 4 fun x17 => (x17).bind fun b18 => dC T b18 19 <| (L_size T b18).bind fun r19 => if r19 ≤ a4 then
    lt_ (a3 + 1) fun x20 => k43 a1 a2 x20 J
  else
    (ix a4 6).bind fun q21 => (P_begins F T q21 a1 a4 a3 J).bind fun r22 => lt_ (a4 + 1) fun x23 => k98 a1 a2 a3 x23 r22
def V_nightTill_L98 (F : Nat) (k43 : Nat → Int32 → Int32 → Ji → Option (Ji)) (T : Th) : Nat → Nat → Int32 → Int32 → Int32 → Ji → Option (Ji)
  | 0, _, _, _, _, _ => none
  | n + 1, a1, a2, a3, a4, J => V_nightTill_B98 F k43 (V_nightTill_L98 F k43 T n) T a1 a2 a3 a4 J
def V_nightTill_B51 (F : Nat) (k43 : Nat → Int32 → Int32 → Ji → Option (Ji)) (k51 : Nat → Int32 → Int32 → Int32 → Ji → Option (Ji)) (T : Th) (a1 : Nat) (a2 : Int32) (a3 : Int32) (a4 : Int32) (J : Ji) : Option (Ji) :=
  dR T a1 4 4 fun x9 => (x9).bind fun b10 => dC T b10 19 <| (L_size T b10).bind fun r11 => if r11 ≤ a4 then
    dI T a1 4 5 fun x12 => if a3 = x12 then
      lt_ (a3 + 1) fun x13 => k43 a1 a2 x13 J
    else
      V_nightTill_L98 F k43 T F a1 a2 a3 0 J
  else
    (ix a4 6).bind fun q14 => (P_ends T q14 a1 a4 a3 J).bind fun r15 => lt_ (a4 + 1) fun x16 => k51 a1 a2 a3 x16 r15
def V_nightTill_L51 (F : Nat) (k43 : Nat → Int32 → Int32 → Ji → Option (Ji)) (T : Th) : Nat → Nat → Int32 → Int32 → Int32 → Ji → Option (Ji)
  | 0, _, _, _, _, _ => none
  | n + 1, a1, a2, a3, a4, J => V_nightTill_B51 F k43 (V_nightTill_L51 F k43 T n) T a1 a2 a3 a4 J
def V_nightTill_B43 (F : Nat) (k43 : Nat → Int32 → Int32 → Ji → Option (Ji)) (T : Th) (a1 : Nat) (a2 : Int32) (a3 : Int32) (J : Ji) : Option (Ji) :=
  if a2 < a3 then
    V_nightTill_L139 F T F a1 0 J
  else
    V_nightTill_L51 F k43 T F a1 a2 a3 0 J
def V_nightTill_L43 (F : Nat) (T : Th) : Nat → Nat → Int32 → Int32 → Ji → Option (Ji)
  | 0, _, _, _, _ => none
  | n + 1, a1, a2, a3, J => V_nightTill_B43 F (V_nightTill_L43 F T n) T a1 a2 a3 J
def V_nightTill_B12 (F : Nat) (k12 : Nat → Int32 → Int32 → Ji → Option (Ji)) (T : Th) (a1 : Nat) (a2 : Int32) (a3 : Int32) (J : Ji) : Option (Ji) :=
  dR T a1 4 4 fun x3 => (x3).bind fun b4 => dC T b4 19 <| (L_size T b4).bind fun r5 => if r5 ≤ a3 then
    V_nightTill_L43 F T F a1 a2 0 J
  else
    (ix a3 6).bind fun q6 => (P_getsUp T q6 a1 a3 J).bind fun r7 => lt_ (a3 + 1) fun x8 => k12 a1 a2 x8 r7
def V_nightTill_L12 (F : Nat) (T : Th) : Nat → Nat → Int32 → Int32 → Ji → Option (Ji)
  | 0, _, _, _, _ => none
  | n + 1, a1, a2, a3, J => V_nightTill_B12 F (V_nightTill_L12 F T n) T a1 a2 a3 J
def V_nightTill (F : Nat) (T : Th) (a1 : Nat) (a2 : Int32) (J : Ji) : Option (Ji) :=
  (V_laysWays F T a1 J).bind fun r1 => lt_ (uJ r1 0 13 0) fun J2 => V_nightTill_L12 F T F a1 a2 0 J2
def V_night (F : Nat) (T : Th) (a1 : Nat) (J : Ji) : Option (Ji) :=
  dI T a1 4 5 fun x1 => (V_nightTill F T a1 x1 J).bind fun r2 => some r2
