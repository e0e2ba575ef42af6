/-! the world of SleepWork (printed by gen/sw.py) -/
set_option maxRecDepth 100000
def rfX0 : Nat → Option (Option Nat) := fun k => match k with
  | 0 => some (some 1)
  | 1 => some (some 2)
  | 2 => some (some 9)
  | 7 => some (some 16)
  | 8 => some (some 49)
  | 9 => some (some 82)
  | 10 => some (some 83)
  | 11 => some (some 183)
  | 16 => some (some 184)
  | 17 => some (some 185)
  | 18 => some (some 186)
  | 3 => some none
  | _ => none
def rfX1 : Nat → Option (Option Nat) := fun k => match k with
  | 0 => some none
  | 1 => some none
  | 2 => some none
  | 3 => some none
  | 4 => some none
  | _ => none
def rfX2 : Nat → Option (Option Nat) := fun k => match k with
  | 0 => some none
  | 1 => some (some 4)
  | 3 => some (some 5)
  | 4 => some (some 6)
  | 5 => some (some 7)
  | 6 => some (some 8)
  | _ => none
def rfX3 : Nat → Option (Option Nat) := fun k => match k with
  | 0 => some (some 2)
  | 1 => some (some 1)
  | 2 => some none
  | _ => none
def layS : Lay := fun o => match o with
  | 0 => some (.inr (.inl (0, rfX0)))
  | 82 => some (.inr (.inr (.object "SleepWork$Village", 20, fun j => 187 + 33 * j)))
  | 83 => some (.inr (.inr (.object "SleepWork$Village", 3, fun j => 84 + 33 * j)))
  | 183 => some (.inl (.boolean, 3))
  | 184 => some (.inl (.int, 30))
  | 185 => some (.inl (.int, 30))
  | 186 => some (.inl (.int, 30))
  | _ => none
def layP : Lay := fun o => match o with
  | 1 => some (.inr (.inl (1, rfX1)))
  | 2 => some (.inr (.inl (2, rfX2)))
  | 4 => some (.inl (.byte, 2000))
  | 5 => some (.inl (.byte, 2001))
  | 6 => some (.inl (.short, 2001))
  | 7 => some (.inl (.short, 2001))
  | 8 => some (.inl (.short, 2001))
  | 9 => some (.inr (.inl (3, rfX3)))
  | _ => none
theorem ls_0 : layS 0 = some (.inr (.inl (0, rfX0))) := rfl
theorem ls_82 : layS 82 = some (.inr (.inr (.object "SleepWork$Village", 20, fun j => 187 + 33 * j))) := rfl
theorem ls_83 : layS 83 = some (.inr (.inr (.object "SleepWork$Village", 3, fun j => 84 + 33 * j))) := rfl
theorem ls_183 : layS 183 = some (.inl (.boolean, 3)) := rfl
theorem ls_184 : layS 184 = some (.inl (.int, 30)) := rfl
theorem ls_185 : layS 185 = some (.inl (.int, 30)) := rfl
theorem ls_186 : layS 186 = some (.inl (.int, 30)) := rfl
theorem lp_1 : layP 1 = some (.inr (.inl (1, rfX1))) := rfl
theorem lp_2 : layP 2 = some (.inr (.inl (2, rfX2))) := rfl
theorem lp_4 : layP 4 = some (.inl (.byte, 2000)) := rfl
theorem lp_5 : layP 5 = some (.inl (.byte, 2001)) := rfl
theorem lp_6 : layP 6 = some (.inl (.short, 2001)) := rfl
theorem lp_7 : layP 7 = some (.inl (.short, 2001)) := rfl
theorem lp_8 : layP 8 = some (.inl (.short, 2001)) := rfl
theorem lp_9 : layP 9 = some (.inr (.inl (3, rfX3))) := rfl
theorem layS_dom {o : Nat} {k : Kd} (h : layS o = some k) : o = 0 ∨ o = 82 ∨ o = 83 ∨ (183 ≤ o ∧ o ≤ 186) := by
  unfold layS at h
  split at h <;> first | omega | cases h
theorem layP_dom {o : Nat} {k : Kd} (h : layP o = some k) : 1 ≤ o ∧ o ≤ 9 ∧ o ≠ 3 := by
  unfold layP at h
  split at h <;> first | omega | cases h
theorem layV_dom {o : Nat} {k : Kd} (h : layV o = some k) : o < 33 := by
  unfold layV at h
  exact (List.getElem?_eq_some_iff.mp h).1
/-- the villages' places: 0 the village, 1 the trial, 2 .. 21 the past, 22 .. 24 the slots -/
def vo (k : Nat) : Nat := if k = 0 then 16 else if k = 1 then 49 else if k < 22 then 187 + 33 * (k - 2) else 84 + 33 * (k - 22)
theorem vo_rng {k : Nat} (h : k < 25) : (16 ≤ vo k ∧ vo k + 33 ≤ 82) ∨ (84 ≤ vo k ∧ vo k + 33 ≤ 183) ∨ (187 ≤ vo k ∧ vo k + 33 ≤ 847) := by
  unfold vo
  split
  · omega
  · split
    · omega
    · split <;> omega
theorem vo_ap {k j : Nat} (h : k < 25) (h2 : j < 25) (hn : k ≠ j) : vo k + 33 ≤ vo j ∨ vo j + 33 ≤ vo k := by
  unfold vo
  (repeat' split) <;> omega
def K0 : Jl := fun _ _ => 0
def SW (D : Dd) (x tx : Nat) (S Q : Ji) (Xp : Jr) (V : Nat → Ji) (T : Th) (H : Heap) : Prop := Rg vwCl D layS x S (fun _ _ => 0) (fun _ _ => some tx) H ∧ Rg vwCl D layP x Q (fun _ _ => 0) Xp H ∧ (∀ k, k < 25 → Rg vwCl D layV (x + vo k) (V k) (fun _ _ => 0) (fun _ _ => none) H) ∧ Dy D T H ∧ ∀ o, o < 847 → o ≠ 3 → ¬ (10 ≤ o ∧ o < 16) → T.1 (x + o) = none
def Sxx (X : Ctx) (cc : ByteArray) (D : Dd) (x maxL : Nat) (rm : Room) : Prop := Cx X cc RX0 vwCl arTy D ∧ (∀ o, o < 847 → cxA X (x + o)) ∧ X.2.2.2.2.2.2.2.2.2.2.2.1 = maxL ∧ X.2.2.2.1 = rm
section SWW
variable {D : Dd} {x tx : Nat} {S S1 Q Q1 J1 : Ji} {Xp : Jr} {V : Nat → Ji} {T : Th} {off : Nat} {kd : Kd}
theorem SW.putS (hly : layS off = some kd) : ∀ H H1 : Heap, SW D x tx S Q Xp V T H → Rg vwCl D layS x S1 (fun _ _ => 0) (fun _ _ => some tx) H1 → H1.size = H.size → (∀ q, q ≠ x + off → H1[q]? = H[q]?) → sz_ H H1 → SW D x tx S1 Q Xp V T H1 := fun H H1 h hr hz hq _ => by
  have d := layS_dom hly
  refine ⟨hr, h.2.1.kept (fun o k hk => hq _ (by have := layP_dom hk; omega)), fun k hk => (h.2.2.1 k hk).kept (fun o kd hkd => hq _ (by have := layV_dom hkd; have := vo_rng hk; omega)), h.2.2.2.1.kept hz (fun a dk ha => hq a (fun e => by rw [e, h.2.2.2.2 off (by omega) (by omega) (by omega)] at ha; cases ha)), h.2.2.2.2⟩
theorem SW.putQ (hly : layP off = some kd) : ∀ H H1 : Heap, SW D x tx S Q Xp V T H → Rg vwCl D layP x Q1 (fun _ _ => 0) Xp H1 → H1.size = H.size → (∀ q, q ≠ x + off → H1[q]? = H[q]?) → sz_ H H1 → SW D x tx S Q1 Xp V T H1 := fun H H1 h hr hz hq _ => by
  have d := layP_dom hly
  refine ⟨h.1.kept (fun o k hk => hq _ (by have := layS_dom hk; omega)), hr, fun k hk => (h.2.2.1 k hk).kept (fun o kd hkd => hq _ (by have := layV_dom hkd; have := vo_rng hk; omega)), h.2.2.2.1.kept hz (fun a dk ha => hq a (fun e => by rw [e, h.2.2.2.2 off (by omega) (by omega) (by omega)] at ha; cases ha)), h.2.2.2.2⟩
/-- only village k's cells changed -/
theorem SW.putV {k : Nat} (hk : k < 25) : ∀ H H1 : Heap, SW D x tx S Q Xp V T H → Rg vwCl D layV (x + vo k) J1 (fun _ _ => 0) (fun _ _ => none) H1 → H1.size = H.size → (∀ q, ¬ (∃ o, o < 33 ∧ q = x + vo k + o) → q < H.size → H1[q]? = H[q]?) → SW D x tx S Q Xp (vf_upd V k J1) T H1 := fun H H1 h hr hz hq => by
  have r := vo_rng hk
  have lt : ∀ {lay : Lay} {v : Nat} {J : Ji} {Xr : Jr}, Rg vwCl D lay v J (fun _ _ => 0) Xr H → ∀ o kd, lay o = some kd → v + o < H.size := by
    intro lay v J Xr hR o kd hkd
    have hc := hR o kd hkd
    rcases kd with a | b | a
    · exact (Array.getElem?_eq_some_iff.mp hc).1
    · obtain ⟨_, _, cell, h1, _⟩ := hc
      exact (Array.getElem?_eq_some_iff.mp h1).1
    · exact (Array.getElem?_eq_some_iff.mp hc).1
  refine ⟨h.1.kept (fun o k hk => hq _ (by have := layS_dom hk; rintro ⟨z, hz, e⟩; omega) (lt h.1 _ _ hk)), h.2.1.kept (fun o k hk => hq _ (by have := layP_dom hk; rintro ⟨z, hz, e⟩; omega) (lt h.2.1 _ _ hk)), fun j hj => ?_, h.2.2.2.1.kept hz (fun a dk ha => hq a ?_ ?_), h.2.2.2.2⟩
  · by_cases e : j = k
    · subst e
      rw [vf_self]
      exact hr
    · rw [vf_ne _ _ e]
      exact (h.2.2.1 j hj).kept (fun o kd hkd => hq _ (by have := layV_dom hkd; have := vo_ap hj hk e; rintro ⟨z, hz, e⟩; omega) (lt (h.2.2.1 j hj) _ _ hkd))
  · rintro ⟨z, hz, e⟩
    rw [e, Nat.add_assoc, h.2.2.2.2 (vo k + z) (by omega) (by omega) (by omega)] at ha
    cases ha
  · have hc := h.2.2.2.1.2 a dk ha
    rcases dk with ci | b
    · obtain ⟨_, _, cell, h1, _⟩ := hc
      exact (Array.getElem?_eq_some_iff.mp h1).1
    · exact (Array.getElem?_eq_some_iff.mp hc).1
theorem SW.VP {k : Nat} (hk : k < 25) {H : Heap} (h : SW D x tx S Q Xp V T H) : VP D (x + vo k) (V k) T H := ⟨h.2.2.1 k hk, h.2.2.2.1, fun off kd hkd => by
  have := layV_dom hkd
  have := vo_rng hk
  rw [Nat.add_assoc]
  exact h.2.2.2.2 _ (by omega) (by omega) (by omega)⟩
end SWW
def stV {α : Type} (V : Nat → Ji) (k off n : Nat) (i x : Int32) (f : (Nat → Ji) → Option α) : Option α := stI (V k) off n i x fun J => f (vf_upd V k J)
section SR
variable {X : Ctx} {cc : ByteArray} {D : Dd} {x tx mL : Nat} {rm : Room} {S Q : Ji} {Xp : Jr} {V : Nat → Ji} {T : Th} {pc : Nat} {lv : List (Nat × Value)} {stk : List Value} {α : Type} {out : α}
theorem s_ftS (hM : Sxx X cc D x mL rm) : Ft X layS x := fun off kd h => hM.2.1 off (by have := layS_dom h; omega)
theorem s_ftP (hM : Sxx X cc D x mL rm) : Ft X layP x := fun off kd h => hM.2.1 off (by have := layP_dom h; omega)
theorem s_ftV {k : Nat} (hk : k < 25) (hM : Sxx X cc D x mL rm) : Ft X layV (x + vo k) := fun off kd h => by
  have := layV_dom h
  have := vo_rng hk
  show cxA X _
  rw [Nat.add_assoc]
  exact hM.2.1 (vo k + off) (by omega)
theorem s_putV1 {k off : Nat} {kd : Kd} {J1 : Ji} (hk : k < 25) (hly : layV off = some kd) : ∀ H H1 : Heap, SW D x tx S Q Xp V T H → Rg vwCl D layV (x + vo k) J1 (fun _ _ => 0) (fun _ _ => none) H1 → H1.size = H.size → (∀ q, q ≠ x + vo k + off → H1[q]? = H[q]?) → sz_ H H1 → SW D x tx S Q Xp (vf_upd V k J1) T H1 := fun H H1 h hr hz hq _ => SW.putV hk H H1 h hr hz (fun q hn _ => hq q (fun e => hn ⟨off, layV_dom hly, e⟩))
theorem sS_iald {n : Nat} {i : Int32} {f : Int32 → Option α} (off : Nat) (hly : layS off = some (.inl (.int, n))) (hM : Sxx X cc D x mL rm) (hdg : decode cc pc = .ok (.iaload, 1)) (hE : ldI S off n i f = some out) (kk : ∀ y, f y = some out → Wk X 0 0 (SW D x tx S Q Xp V T) (pc + 1) lv (.int y :: stk)) : Wk X 0 0 (SW D x tx S Q Xp V T) pc lv (.int i :: .ref (x + off) :: stk) :=
  k_iald (v := x) (J := S) (K := fun _ _ => 0) (Xr := (fun _ _ => some tx)) hM.1 (fun _ h => h.1) off hly ar_i hdg hE (fun q h => kk _ h)
theorem sQ_iald {n : Nat} {i : Int32} {f : Int32 → Option α} (off : Nat) (hly : layP off = some (.inl (.int, n))) (hM : Sxx X cc D x mL rm) (hdg : decode cc pc = .ok (.iaload, 1)) (hE : ldI Q off n i f = some out) (kk : ∀ y, f y = some out → Wk X 0 0 (SW D x tx S Q Xp V T) (pc + 1) lv (.int y :: stk)) : Wk X 0 0 (SW D x tx S Q Xp V T) pc lv (.int i :: .ref (x + off) :: stk) :=
  k_iald (v := x) (J := Q) (K := fun _ _ => 0) (Xr := Xp) hM.1 (fun _ h => h.2.1) off hly ar_i hdg hE (fun q h => kk _ h)
theorem sS_zald {n : Nat} {i : Int32} {f : Int32 → Option α} (off : Nat) (hly : layS off = some (.inl (.boolean, n))) (hM : Sxx X cc D x mL rm) (hdg : decode cc pc = .ok (.baload, 1)) (hE : ldI S off n i f = some out) (kk : ∀ y, f y = some out → Wk X 0 0 (SW D x tx S Q Xp V T) (pc + 1) lv (.int y :: stk)) : Wk X 0 0 (SW D x tx S Q Xp V T) pc lv (.int i :: .ref (x + off) :: stk) :=
  k_zald (v := x) (J := S) (K := fun _ _ => 0) (Xr := (fun _ _ => some tx)) hM.1 (fun _ h => h.1) off hly ar_z hdg hE (fun q h => kk _ h)
theorem sQ_zald {n : Nat} {i : Int32} {f : Int32 → Option α} (off : Nat) (hly : layP off = some (.inl (.boolean, n))) (hM : Sxx X cc D x mL rm) (hdg : decode cc pc = .ok (.baload, 1)) (hE : ldI Q off n i f = some out) (kk : ∀ y, f y = some out → Wk X 0 0 (SW D x tx S Q Xp V T) (pc + 1) lv (.int y :: stk)) : Wk X 0 0 (SW D x tx S Q Xp V T) pc lv (.int i :: .ref (x + off) :: stk) :=
  k_zald (v := x) (J := Q) (K := fun _ _ => 0) (Xr := Xp) hM.1 (fun _ h => h.2.1) off hly ar_z hdg hE (fun q h => kk _ h)
theorem sS_bald {n : Nat} {i : Int32} {f : Int32 → Option α} (off : Nat) (hly : layS off = some (.inl (.byte, n))) (hM : Sxx X cc D x mL rm) (hdg : decode cc pc = .ok (.baload, 1)) (hE : ldI S off n i f = some out) (kk : ∀ y, f y = some out → Wk X 0 0 (SW D x tx S Q Xp V T) (pc + 1) lv (.int y :: stk)) : Wk X 0 0 (SW D x tx S Q Xp V T) pc lv (.int i :: .ref (x + off) :: stk) :=
  k_bald (v := x) (J := S) (K := fun _ _ => 0) (Xr := (fun _ _ => some tx)) hM.1 (fun _ h => h.1) off hly ar_b hdg hE (fun q h => kk _ h)
theorem sQ_bald {n : Nat} {i : Int32} {f : Int32 → Option α} (off : Nat) (hly : layP off = some (.inl (.byte, n))) (hM : Sxx X cc D x mL rm) (hdg : decode cc pc = .ok (.baload, 1)) (hE : ldI Q off n i f = some out) (kk : ∀ y, f y = some out → Wk X 0 0 (SW D x tx S Q Xp V T) (pc + 1) lv (.int y :: stk)) : Wk X 0 0 (SW D x tx S Q Xp V T) pc lv (.int i :: .ref (x + off) :: stk) :=
  k_bald (v := x) (J := Q) (K := fun _ _ => 0) (Xr := Xp) hM.1 (fun _ h => h.2.1) off hly ar_b hdg hE (fun q h => kk _ h)
theorem sS_sald {n : Nat} {i : Int32} {f : Int32 → Option α} (off : Nat) (hly : layS off = some (.inl (.short, n))) (hM : Sxx X cc D x mL rm) (hdg : decode cc pc = .ok (.saload, 1)) (hE : ldI S off n i f = some out) (kk : ∀ y, f y = some out → Wk X 0 0 (SW D x tx S Q Xp V T) (pc + 1) lv (.int y :: stk)) : Wk X 0 0 (SW D x tx S Q Xp V T) pc lv (.int i :: .ref (x + off) :: stk) :=
  k_sald (v := x) (J := S) (K := fun _ _ => 0) (Xr := (fun _ _ => some tx)) hM.1 (fun _ h => h.1) off hly ar_s hdg hE (fun q h => kk _ h)
theorem sQ_sald {n : Nat} {i : Int32} {f : Int32 → Option α} (off : Nat) (hly : layP off = some (.inl (.short, n))) (hM : Sxx X cc D x mL rm) (hdg : decode cc pc = .ok (.saload, 1)) (hE : ldI Q off n i f = some out) (kk : ∀ y, f y = some out → Wk X 0 0 (SW D x tx S Q Xp V T) (pc + 1) lv (.int y :: stk)) : Wk X 0 0 (SW D x tx S Q Xp V T) pc lv (.int i :: .ref (x + off) :: stk) :=
  k_sald (v := x) (J := Q) (K := fun _ _ => 0) (Xr := Xp) hM.1 (fun _ h => h.2.1) off hly ar_s hdg hE (fun q h => kk _ h)
theorem sS_iast {n : Nat} {i y : Int32} {f : Ji → Option α} (off : Nat) (hly : layS off = some (.inl (.int, n))) (hM : Sxx X cc D x mL rm) (hdg : decode cc pc = .ok (.iastore, 1)) (hE : stI S off n i y f = some out) (kk : ∀ S, f S = some out → Wk X 0 0 (SW D x tx S Q Xp V T) (pc + 1) lv stk) : Wk X 0 0 (SW D x tx S Q Xp V T) pc lv (.int y :: .int i :: .ref (x + off) :: stk) :=
  k_iast (v := x) (J := S) (K := fun _ _ => 0) (Xr := (fun _ _ => some tx)) (P1 := fun q => SW D x tx (uJ S off q y) Q Xp V T) hM.1 (fun _ h => h.1) off (s_ftS hM) hly ar_i hdg hE (fun _ => SW.putS hly) (fun q h => kk _ h)
theorem sQ_iast {n : Nat} {i y : Int32} {f : Ji → Option α} (off : Nat) (hly : layP off = some (.inl (.int, n))) (hM : Sxx X cc D x mL rm) (hdg : decode cc pc = .ok (.iastore, 1)) (hE : stI Q off n i y f = some out) (kk : ∀ Q, f Q = some out → Wk X 0 0 (SW D x tx S Q Xp V T) (pc + 1) lv stk) : Wk X 0 0 (SW D x tx S Q Xp V T) pc lv (.int y :: .int i :: .ref (x + off) :: stk) :=
  k_iast (v := x) (J := Q) (K := fun _ _ => 0) (Xr := Xp) (P1 := fun q => SW D x tx S (uJ Q off q y) Xp V T) hM.1 (fun _ h => h.2.1) off (s_ftP hM) hly ar_i hdg hE (fun _ => SW.putQ hly) (fun q h => kk _ h)
theorem sS_zast {n : Nat} {i y : Int32} {f : Ji → Option α} (off : Nat) (hly : layS off = some (.inl (.boolean, n))) (hM : Sxx X cc D x mL rm) (hdg : decode cc pc = .ok (.bastore, 1)) (hE : stI S off n i (y &&& 1) f = some out) (kk : ∀ S, f S = some out → Wk X 0 0 (SW D x tx S Q Xp V T) (pc + 1) lv stk) : Wk X 0 0 (SW D x tx S Q Xp V T) pc lv (.int y :: .int i :: .ref (x + off) :: stk) :=
  k_zast (v := x) (J := S) (K := fun _ _ => 0) (Xr := (fun _ _ => some tx)) (P1 := fun q => SW D x tx (uJ S off q (y &&& 1)) Q Xp V T) hM.1 (fun _ h => h.1) off (s_ftS hM) hly ar_z hdg hE (fun _ => SW.putS hly) (fun q h => kk _ h)
theorem sQ_zast {n : Nat} {i y : Int32} {f : Ji → Option α} (off : Nat) (hly : layP off = some (.inl (.boolean, n))) (hM : Sxx X cc D x mL rm) (hdg : decode cc pc = .ok (.bastore, 1)) (hE : stI Q off n i (y &&& 1) f = some out) (kk : ∀ Q, f Q = some out → Wk X 0 0 (SW D x tx S Q Xp V T) (pc + 1) lv stk) : Wk X 0 0 (SW D x tx S Q Xp V T) pc lv (.int y :: .int i :: .ref (x + off) :: stk) :=
  k_zast (v := x) (J := Q) (K := fun _ _ => 0) (Xr := Xp) (P1 := fun q => SW D x tx S (uJ Q off q (y &&& 1)) Xp V T) hM.1 (fun _ h => h.2.1) off (s_ftP hM) hly ar_z hdg hE (fun _ => SW.putQ hly) (fun q h => kk _ h)
theorem sS_bast {n : Nat} {i y : Int32} {f : Ji → Option α} (off : Nat) (hly : layS off = some (.inl (.byte, n))) (hM : Sxx X cc D x mL rm) (hdg : decode cc pc = .ok (.bastore, 1)) (hE : stI S off n i y.toInt8.toInt32 f = some out) (kk : ∀ S, f S = some out → Wk X 0 0 (SW D x tx S Q Xp V T) (pc + 1) lv stk) : Wk X 0 0 (SW D x tx S Q Xp V T) pc lv (.int y :: .int i :: .ref (x + off) :: stk) :=
  k_bast (v := x) (J := S) (K := fun _ _ => 0) (Xr := (fun _ _ => some tx)) (P1 := fun q => SW D x tx (uJ S off q y.toInt8.toInt32) Q Xp V T) hM.1 (fun _ h => h.1) off (s_ftS hM) hly ar_b hdg hE (fun _ => SW.putS hly) (fun q h => kk _ h)
theorem sQ_bast {n : Nat} {i y : Int32} {f : Ji → Option α} (off : Nat) (hly : layP off = some (.inl (.byte, n))) (hM : Sxx X cc D x mL rm) (hdg : decode cc pc = .ok (.bastore, 1)) (hE : stI Q off n i y.toInt8.toInt32 f = some out) (kk : ∀ Q, f Q = some out → Wk X 0 0 (SW D x tx S Q Xp V T) (pc + 1) lv stk) : Wk X 0 0 (SW D x tx S Q Xp V T) pc lv (.int y :: .int i :: .ref (x + off) :: stk) :=
  k_bast (v := x) (J := Q) (K := fun _ _ => 0) (Xr := Xp) (P1 := fun q => SW D x tx S (uJ Q off q y.toInt8.toInt32) Xp V T) hM.1 (fun _ h => h.2.1) off (s_ftP hM) hly ar_b hdg hE (fun _ => SW.putQ hly) (fun q h => kk _ h)
theorem sS_sast {n : Nat} {i y : Int32} {f : Ji → Option α} (off : Nat) (hly : layS off = some (.inl (.short, n))) (hM : Sxx X cc D x mL rm) (hdg : decode cc pc = .ok (.sastore, 1)) (hE : stI S off n i y.toInt16.toInt32 f = some out) (kk : ∀ S, f S = some out → Wk X 0 0 (SW D x tx S Q Xp V T) (pc + 1) lv stk) : Wk X 0 0 (SW D x tx S Q Xp V T) pc lv (.int y :: .int i :: .ref (x + off) :: stk) :=
  k_sast (v := x) (J := S) (K := fun _ _ => 0) (Xr := (fun _ _ => some tx)) (P1 := fun q => SW D x tx (uJ S off q y.toInt16.toInt32) Q Xp V T) hM.1 (fun _ h => h.1) off (s_ftS hM) hly ar_s hdg hE (fun _ => SW.putS hly) (fun q h => kk _ h)
theorem sQ_sast {n : Nat} {i y : Int32} {f : Ji → Option α} (off : Nat) (hly : layP off = some (.inl (.short, n))) (hM : Sxx X cc D x mL rm) (hdg : decode cc pc = .ok (.sastore, 1)) (hE : stI Q off n i y.toInt16.toInt32 f = some out) (kk : ∀ Q, f Q = some out → Wk X 0 0 (SW D x tx S Q Xp V T) (pc + 1) lv stk) : Wk X 0 0 (SW D x tx S Q Xp V T) pc lv (.int y :: .int i :: .ref (x + off) :: stk) :=
  k_sast (v := x) (J := Q) (K := fun _ _ => 0) (Xr := Xp) (P1 := fun q => SW D x tx S (uJ Q off q y.toInt16.toInt32) Xp V T) hM.1 (fun _ h => h.2.1) off (s_ftP hM) hly ar_s hdg hE (fun _ => SW.putQ hly) (fun q h => kk _ h)
theorem sV_iald {k n : Nat} {i : Int32} {f : Int32 → Option α} (hk : k < 25) (off : Nat) (hly : layV off = some (.inl (.int, n))) (hM : Sxx X cc D x mL rm) (hdg : decode cc pc = .ok (.iaload, 1)) (hE : ldI (V k) off n i f = some out) (kk : ∀ y, f y = some out → Wk X 0 0 (SW D x tx S Q Xp V T) (pc + 1) lv (.int y :: stk)) : Wk X 0 0 (SW D x tx S Q Xp V T) pc lv (.int i :: .ref (x + vo k + off) :: stk) :=
  k_iald (v := x + vo k) (J := V k) (K := fun _ _ => 0) (Xr := fun _ _ => none) hM.1 (fun _ h => h.2.2.1 k hk) off hly ar_i hdg hE (fun q h => kk _ h)
theorem sV_iast {k n : Nat} {i y : Int32} {f : (Nat → Ji) → Option α} (hk : k < 25) (off : Nat) (hly : layV off = some (.inl (.int, n))) (hM : Sxx X cc D x mL rm) (hdg : decode cc pc = .ok (.iastore, 1)) (hE : stV V k off n i y f = some out) (kk : ∀ V, f V = some out → Wk X 0 0 (SW D x tx S Q Xp V T) (pc + 1) lv stk) : Wk X 0 0 (SW D x tx S Q Xp V T) pc lv (.int y :: .int i :: .ref (x + vo k + off) :: stk) :=
  k_iast (v := x + vo k) (J := V k) (K := fun _ _ => 0) (Xr := fun _ _ => none) (P1 := fun q => SW D x tx S Q Xp (vf_upd V k (uJ (V k) off q y)) T) hM.1 (fun _ h => h.2.2.1 k hk) off (s_ftV hk hM) hly ar_i hdg hE (fun _ => s_putV1 hk hly) (fun q h => kk _ h)
theorem sV_aald {k : Nat} {ty : FieldType} {n : Nat} {g : Nat → Nat} {i : Int32} {f : Nat → Option α} (hk : k < 25) (off : Nat) (hly : layV off = some (.inr (.inr (ty, n, g)))) (hty : ty ∈ arTy) (hr : ty.isReference = true) (hM : Sxx X cc D x mL rm) (hdg : decode cc pc = .ok (.aaload, 1)) (hE : (ix i n).bind f = some out) (kk : ∀ q, q < n → f q = some out → Wk X 0 0 (SW D x tx S Q Xp V T) (pc + 1) lv (.ref (x + vo k + g q) :: stk)) : Wk X 0 0 (SW D x tx S Q Xp V T) pc lv (.int i :: .ref (x + vo k + off) :: stk) :=
  k_aald (v := x + vo k) (J := V k) (K := fun _ _ => 0) (Xr := fun _ _ => none) hM.1 (fun _ h => h.2.2.1 k hk) off hly hty hr hdg hE kk
theorem s_past {i : Int32} {f : Nat → Option α} (hM : Sxx X cc D x mL rm) (hdg : decode cc pc = .ok (.aaload, 1)) (hE : (ix i 20).bind f = some out) (kk : ∀ q, q < 20 → f q = some out → Wk X 0 0 (SW D x tx S Q Xp V T) (pc + 1) lv (.ref (x + vo (2 + q)) :: stk)) : Wk X 0 0 (SW D x tx S Q Xp V T) pc lv (.int i :: .ref (x + 82) :: stk) :=
  k_aald (v := x) (J := S) (K := fun _ _ => 0) (Xr := fun _ _ => some tx) hM.1 (fun _ h => h.1) 82 ls_82 (by simp [arTy]) rfl hdg hE (fun q hq h => by
    have e : 187 + 33 * q = vo (2 + q) := by
      unfold vo
      rw [if_neg (by omega), if_neg (by omega), if_pos (by omega)]
      omega
    show Wk X 0 0 _ _ _ (Value.ref (x + (187 + 33 * q)) :: stk)
    rw [e]
    exact kk q hq h)
theorem s_slots {i : Int32} {f : Nat → Option α} (hM : Sxx X cc D x mL rm) (hdg : decode cc pc = .ok (.aaload, 1)) (hE : (ix i 3).bind f = some out) (kk : ∀ q, q < 3 → f q = some out → Wk X 0 0 (SW D x tx S Q Xp V T) (pc + 1) lv (.ref (x + vo (22 + q)) :: stk)) : Wk X 0 0 (SW D x tx S Q Xp V T) pc lv (.int i :: .ref (x + 83) :: stk) :=
  k_aald (v := x) (J := S) (K := fun _ _ => 0) (Xr := fun _ _ => some tx) hM.1 (fun _ h => h.1) 83 ls_83 (by simp [arTy]) rfl hdg hE (fun q hq h => by
    have e : 84 + 33 * q = vo (22 + q) := by
      unfold vo
      rw [if_neg (by omega), if_neg (by omega), if_neg (by omega)]
      omega
    show Wk X 0 0 _ _ _ (Value.ref (x + (84 + 33 * q)) :: stk)
    rw [e]
    exact kk q hq h)
theorem s_recv (hM : Sxx X cc D x mL rm) : ∀ H, SW D x tx S Q Xp V T H → ∃ cellB : Cell, H[x]? = some cellB ∧ cellB.vm.isStatics = false ∧ X.2.2.2.2.1.vm.findClass RX0 = some cellB.cls := by
  intro H h
  obtain ⟨p, l, e, R, s, m, args, below, meth, c, A, nL, Qq⟩ := X
  exact Rg.recv (v := x) hM.1.2.2.2.2.2.1 h.1 0 ls_0 cl_X0
theorem s_recvV {k : Nat} (hk : k < 25) (hM : Sxx X cc D x mL rm) : ∀ H, SW D x tx S Q Xp V T H → ∃ cellB : Cell, H[x + vo k]? = some cellB ∧ cellB.vm.isStatics = false ∧ X.2.2.2.2.1.vm.findClass RX5 = some cellB.cls := by
  intro H h
  obtain ⟨p, l, e, R, s, m, args, below, meth, c, A, nL, Qq⟩ := X
  exact Rg.recv (v := x + vo k) hM.1.2.2.2.2.2.1 (h.2.2.1 k hk) 0 lv_0 cl_X5
/-- the cells that a call on village k may change: its own, and new ones -/
def fpV (x k N : Nat) : Nat → Prop := fun q => (∃ o, o < 33 ∧ q = x + vo k + o) ∨ N ≤ q
theorem fpV_A {k N : Nat} (off : Nat) (kd : Kd) (h : layV off = some kd) : fpV x k N (x + vo k + off) := Or.inl ⟨off, layV_dom h, rfl⟩
theorem s_vcallI {y : MethodName} {bytes : ByteArray} {maxL n index k : Nat} {ret : Option FieldType} {rm1 : Room} {As : List Value} {β : Type} {g : Option β} {f : β → Option α} (hk : k < 25) (vi : β → Int32) (jj : β → Ji) (hM : Sxx X cc D x mL rm) (cw : CallW X.2.2.2.1 X.2.2.2.2.1 X.2.2.2.2.2.2.1 RX0 RX5 index y bytes maxL ret (ws_ y bytes maxL ret) rm1 0 0 n) (hn : As.length = n) {stk0 : List Value} (hst : stk0 = As.reverse ++ .ref (x + vo k) :: stk) (hw : (stk.map fun v => v.category).sum ≤ 8) (hdg : decode cc pc = .ok (.invokevirtual index, 3)) (hE : g.bind f = some out) (hT : ∀ r, g = some r → Ct X.2.1 y (ws_ y bytes maxL ret) rm1 vwCl arTy D (fpV x k T.2.2.2.1) (.ref (x + vo k + 0) :: As) (VP D (x + vo k) (V k) T) (VP D (x + vo k) (jj r) T) (some (.int (vi r))) 0 0) (kk : ∀ r, f r = some out → Wk X 0 0 (SW D x tx S Q Xp (vf_upd V k (jj r)) T) (pc + 3) lv (.int (vi r) :: stk)) : Wk X 0 0 (SW D x tx S Q Xp V T) pc lv stk0 := by
  obtain ⟨r, h1, hE⟩ := ob_ hE
  refine k_callV (C := RX5) hM.1 (hT r h1) cw (s_recvV hk hM) ?_ (fun H h _ q hq => Or.inr (by rw [← h.2.2.2.1.1]; exact hq)) (fun H h => h.VP hk) (fun H H1 h h1 hz hq _ => SW.putV hk H H1 h h1.1 (h1.2.1.1.trans h.2.2.2.1.1.symm) (fun q hn hl => hq q hl (fun z => ?_))) hn hst hw ⟨Nat.zero_le _, Nat.zero_le _⟩ hdg (kk r hE)
  · rintro H h hz q (⟨o, ho, e⟩ | e)
    · rw [e]
      exact s_ftV hk hM o _ (List.getElem?_eq_getElem (l := layV_L) (by exact ho))
    · exact cx_A hM.1 q (Nat.le_trans hz (by rw [h.2.2.2.1.1]; exact e))
  · rcases z with z | z
    · exact hn z
    · rw [← h.2.2.2.1.1] at z
      omega
theorem s_vcallV {y : MethodName} {bytes : ByteArray} {maxL n index k : Nat} {ret : Option FieldType} {rm1 : Room} {As : List Value} {β : Type} {g : Option β} {f : β → Option α} (hk : k < 25) (jj : β → Ji) (hM : Sxx X cc D x mL rm) (cw : CallW X.2.2.2.1 X.2.2.2.2.1 X.2.2.2.2.2.2.1 RX0 RX5 index y bytes maxL ret (ws_ y bytes maxL ret) rm1 0 0 n) (hn : As.length = n) {stk0 : List Value} (hst : stk0 = As.reverse ++ .ref (x + vo k) :: stk) (hw : (stk.map fun v => v.category).sum ≤ 8) (hdg : decode cc pc = .ok (.invokevirtual index, 3)) (hE : g.bind f = some out) (hT : ∀ r, g = some r → Ct X.2.1 y (ws_ y bytes maxL ret) rm1 vwCl arTy D (fpV x k T.2.2.2.1) (.ref (x + vo k + 0) :: As) (VP D (x + vo k) (V k) T) (VP D (x + vo k) (jj r) T) (none) 0 0) (kk : ∀ r, f r = some out → Wk X 0 0 (SW D x tx S Q Xp (vf_upd V k (jj r)) T) (pc + 3) lv (stk)) : Wk X 0 0 (SW D x tx S Q Xp V T) pc lv stk0 := by
  obtain ⟨r, h1, hE⟩ := ob_ hE
  refine k_callV (C := RX5) hM.1 (hT r h1) cw (s_recvV hk hM) ?_ (fun H h _ q hq => Or.inr (by rw [← h.2.2.2.1.1]; exact hq)) (fun H h => h.VP hk) (fun H H1 h h1 hz hq _ => SW.putV hk H H1 h h1.1 (h1.2.1.1.trans h.2.2.2.1.1.symm) (fun q hn hl => hq q hl (fun z => ?_))) hn hst hw ⟨Nat.zero_le _, Nat.zero_le _⟩ hdg (kk r hE)
  · rintro H h hz q (⟨o, ho, e⟩ | e)
    · rw [e]
      exact s_ftV hk hM o _ (List.getElem?_eq_getElem (l := layV_L) (by exact ho))
    · exact cx_A hM.1 q (Nat.le_trans hz (by rw [h.2.2.2.1.1]; exact e))
  · rcases z with z | z
    · exact hn z
    · rw [← h.2.2.2.1.1] at z
      omega
end SR
