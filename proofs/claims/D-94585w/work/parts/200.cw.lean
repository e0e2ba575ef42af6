/-! the dynamic heap and the village's region (printed by gen/cw.py) -/
set_option maxRecDepth 100000
theorem cl_X0 : vwCl[0]? = some (RX0, TX0, 19) := rfl
theorem cl_X1 : vwCl[1]? = some (RX1, TX1, 8) := rfl
theorem cl_X2 : vwCl[2]? = some (RX2, TX2, 8) := rfl
theorem cl_X3 : vwCl[3]? = some (RX3, TX3, 7) := rfl
theorem cl_X4 : vwCl[4]? = some (RX4, TX4, 7) := rfl
theorem cl_X5 : vwCl[5]? = some (RX5, TX5, 14) := rfl
theorem cl_X6 : vwCl[6]? = some (RX6, TX6, 7) := rfl
theorem cl_X7 : vwCl[7]? = some (RX7, TX7, 2) := rfl
theorem cl_X8 : vwCl[8]? = some (RX8, TX8, 83) := rfl
theorem cl_X10 : vwCl[9]? = some (RX10, TX10, 1) := rfl
theorem cl_X11 : vwCl[10]? = some (RX11, TX11, 4) := rfl
theorem cl_X12 : vwCl[11]? = some (RX12, TX12, 2) := rfl
theorem cl_X13 : vwCl[12]? = some (RX13, TX13, 4) := rfl
theorem cl_X14 : vwCl[13]? = some (RX14, TX14, 6) := rfl
theorem cl_X15 : vwCl[14]? = some (RX15, TX15, 5) := rfl
theorem cl_X16 : vwCl[15]? = some (RX16, TX16, 4) := rfl
theorem cl_X18 : vwCl[16]? = some (RX18, TX18, 1) := rfl
theorem cl_X19 : vwCl[17]? = some (RX19, TX19, 1) := rfl
theorem cl_X20 : vwCl[18]? = some (RX20, TX20, 3) := rfl
theorem cl_J5 : vwCl[19]? = some (RJ5, TJ5, 3) := rfl
theorem cl_J6 : vwCl[20]? = some (RJ6, TJ6, 4) := rfl
theorem cl_J11 : vwCl[21]? = some (RJ11, TJ11, 4) := rfl
def isR : Nat → Nat → Bool := fun c k => match c, k with
  | 0, 0 => true
  | 0, 1 => true
  | 0, 2 => true
  | 0, 3 => true
  | 0, 7 => true
  | 0, 8 => true
  | 0, 9 => true
  | 0, 10 => true
  | 0, 11 => true
  | 0, 16 => true
  | 0, 17 => true
  | 0, 18 => true
  | 1, 0 => true
  | 1, 1 => true
  | 1, 2 => true
  | 1, 3 => true
  | 1, 4 => true
  | 2, 0 => true
  | 2, 1 => true
  | 2, 3 => true
  | 2, 4 => true
  | 2, 5 => true
  | 2, 6 => true
  | 3, 0 => true
  | 3, 1 => true
  | 3, 2 => true
  | 4, 0 => true
  | 4, 1 => true
  | 4, 2 => true
  | 4, 3 => true
  | 4, 4 => true
  | 5, 0 => true
  | 5, 1 => true
  | 5, 2 => true
  | 5, 3 => true
  | 5, 4 => true
  | 5, 5 => true
  | 5, 6 => true
  | 5, 7 => true
  | 5, 10 => true
  | 5, 11 => true
  | 5, 12 => true
  | 7, 0 => true
  | 8, 1 => true
  | 8, 3 => true
  | 8, 5 => true
  | 8, 6 => true
  | 8, 7 => true
  | 8, 8 => true
  | 8, 9 => true
  | 8, 21 => true
  | 8, 22 => true
  | 8, 23 => true
  | 8, 24 => true
  | 8, 25 => true
  | 8, 26 => true
  | 8, 27 => true
  | 8, 28 => true
  | 8, 29 => true
  | 8, 30 => true
  | 8, 31 => true
  | 8, 32 => true
  | 8, 33 => true
  | 8, 34 => true
  | 8, 35 => true
  | 8, 36 => true
  | 8, 37 => true
  | 8, 38 => true
  | 8, 39 => true
  | 8, 40 => true
  | 8, 41 => true
  | 8, 42 => true
  | 8, 43 => true
  | 8, 44 => true
  | 8, 45 => true
  | 8, 46 => true
  | 8, 47 => true
  | 8, 48 => true
  | 8, 50 => true
  | 8, 51 => true
  | 8, 52 => true
  | 8, 53 => true
  | 8, 54 => true
  | 8, 55 => true
  | 8, 57 => true
  | 8, 58 => true
  | 8, 59 => true
  | 8, 61 => true
  | 8, 62 => true
  | 8, 64 => true
  | 8, 65 => true
  | 8, 66 => true
  | 8, 67 => true
  | 8, 68 => true
  | 8, 69 => true
  | 8, 70 => true
  | 8, 71 => true
  | 8, 72 => true
  | 8, 73 => true
  | 8, 75 => true
  | 8, 78 => true
  | 8, 79 => true
  | 8, 80 => true
  | 8, 81 => true
  | 8, 82 => true
  | 9, 0 => true
  | 11, 0 => true
  | 12, 0 => true
  | 12, 3 => true
  | 14, 0 => true
  | 14, 4 => true
  | 15, 0 => true
  | 15, 1 => true
  | 15, 2 => true
  | 18, 1 => true
  | 18, 2 => true
  | 19, 1 => true
  | 20, 0 => true
  | 21, 0 => true
  | _, _ => false
abbrev Dk : Type := Nat ⊕ (FieldType × Nat)
/-- kinds, ints, references by absolute address; the heap's size; slots used since the law began; limits of both; where the cells made since begin; the cell of ArrayList's empty array -/
abbrev Th : Type := (Nat → Option Dk) × Ji × Jr × Nat × Nat × Nat × Nat × Nat × Nat
def dV (T : Th) (a ci k : Nat) : Value := if isR ci k = true then va_rf (T.2.2.1 a k) else .int (T.2.1 a k)
def dE (T : Th) (a : Nat) (ty : FieldType) (j : Nat) : Value := match ty with
  | .object _ => va_rf (T.2.2.1 a j)
  | .array _ => va_rf (T.2.2.1 a j)
  | .long => .long 0
  | _ => .int (T.2.1 a j)
def atD (D : Dd) (T : Th) (a : Nat) (dk : Dk) (H : Heap) : Prop := match dk with
  | .inl ci => ∃ r : vw_C, vwCl[ci]? = some r ∧ t_OB a (D.1 ci) r.2.2 (D.2.1 ci) H (dV T a ci)
  | .inr b => H[a]? = some (arrV (D.2.2.1 b.1) b.2 (dE T a b.1))
def Dy (D : Dd) (T : Th) (H : Heap) : Prop := H.size = T.2.2.2.1 ∧ ∀ (a : Nat) (dk : Dk), T.1 a = some dk → atD D T a dk H
theorem atD.kept {D : Dd} {T : Th} {a : Nat} {dk : Dk} {H H1 : Heap} (h : atD D T a dk H) (hq : H1[a]? = H[a]?) : atD D T a dk H1 := by
  rcases dk with ci | b
  · obtain ⟨r, h1, h2⟩ := h
    exact ⟨r, h1, h2.kept hq⟩
  · exact hq.trans h
theorem Dy.kept {D : Dd} {T : Th} {H H1 : Heap} (h : Dy D T H) (hz : H1.size = H.size) (hq : ∀ (a : Nat) (dk : Dk), T.1 a = some dk → H1[a]? = H[a]?) : Dy D T H1 := ⟨hz.trans h.1, fun a dk hk => (h.2 a dk hk).kept (hq a dk hk)⟩
/-! pure reads -/
def dI {α : Type} (T : Th) (a ci k : Nat) (f : Int32 → Option α) : Option α := if T.1 a = some (.inl ci) then f (T.2.1 a k) else none
def dR {α : Type} (T : Th) (a ci k : Nat) (f : Option Nat → Option α) : Option α := if T.1 a = some (.inl ci) then f (T.2.2.1 a k) else none
def dC {α : Type} (T : Th) (a ci : Nat) (f : Option α) : Option α := if T.1 a = some (.inl ci) then f else none
def dA {α : Type} (T : Th) (a : Nat) (ty : FieldType) (i : Int32) (f : Option Nat → Option α) : Option α := match T.1 a with
  | some (.inr b) => if b.1 = ty then (ix i b.2).bind fun q => f (T.2.2.1 a q) else none
  | _ => none
def dB {α : Type} (T : Th) (a : Nat) (ty : FieldType) (i : Int32) (f : Int32 → Option α) : Option α := match T.1 a with
  | some (.inr b) => if b.1 = ty then (ix i b.2).bind fun q => f (T.2.1 a q) else none
  | _ => none
def dL {α : Type} (T : Th) (a : Nat) (ty : FieldType) (f : Int32 → Option α) : Option α := match T.1 a with
  | some (.inr b) => if b.1 = ty then f (Int32.ofNat b.2) else none
  | _ => none
section DY
variable {X : Ctx} {cc : ByteArray} {own : String} {D : Dd} {cells slots : Nat} {P : Heap → Prop} {pc : Nat} {lv : List (Nat × Value)} {stk : List Value} {T : Th} {α : Type} {out : α} {a : Nat}
theorem dC_of {ci : Nat} {f : Option α} (hE : dC T a ci f = some out) : T.1 a = some (.inl ci) ∧ f = some out := by
  unfold dC at hE
  split at hE
  · exact ⟨by assumption, hE⟩
  · cases hE
theorem dI_of {ci k : Nat} {f : Int32 → Option α} (hE : dI T a ci k f = some out) : T.1 a = some (.inl ci) ∧ f (T.2.1 a k) = some out := dC_of hE
theorem dR_of {ci k : Nat} {f : Option Nat → Option α} (hE : dR T a ci k f = some out) : T.1 a = some (.inl ci) ∧ f (T.2.2.1 a k) = some out := dC_of hE
theorem dA_of {ty : FieldType} {i : Int32} {f : Option Nat → Option α} (hE : dA T a ty i f = some out) : ∃ n, T.1 a = some (.inr (ty, n)) ∧ (ix i n).bind (fun q => f (T.2.2.1 a q)) = some out := by
  unfold dA at hE
  split at hE
  · rename_i b hb
    split at hE
    · rename_i h1
      exact ⟨b.2, by rw [hb, ← h1], hE⟩
    · cases hE
  · cases hE
theorem dB_of {ty : FieldType} {i : Int32} {f : Int32 → Option α} (hE : dB T a ty i f = some out) : ∃ n, T.1 a = some (.inr (ty, n)) ∧ (ix i n).bind (fun q => f (T.2.1 a q)) = some out := by
  unfold dB at hE
  split at hE
  · rename_i b hb
    split at hE
    · rename_i h1
      exact ⟨b.2, by rw [hb, ← h1], hE⟩
    · cases hE
  · cases hE
theorem dL_of {ty : FieldType} {f : Int32 → Option α} (hE : dL T a ty f = some out) : ∃ n, T.1 a = some (.inr (ty, n)) ∧ f (Int32.ofNat n) = some out := by
  unfold dL at hE
  split at hE
  · rename_i b hb
    split at hE
    · rename_i h1
      exact ⟨b.2, by rw [hb, ← h1], hE⟩
    · cases hE
  · cases hE
theorem Dy.obj {H : Heap} {ci : Nat} {C : String} {Tt : u_T} {N : Nat} (h : Dy D T H) (ha : T.1 a = some (.inl ci)) (hc : vwCl[ci]? = some (C, Tt, N)) : t_OB a (D.1 ci) N (D.2.1 ci) H (dV T a ci) := by
  obtain ⟨r, h1, h2⟩ := h.2 a _ ha
  cases h1.symm.trans hc
  exact h2
theorem Dy.recv {s : State} {H : Heap} {ci : Nat} {C : String} {Tt : u_T} {N : Nat} (hK : KK vwCl arTy D s) (h : Dy D T H) (ha : T.1 a = some (.inl ci)) (hc : vwCl[ci]? = some (C, Tt, N)) : ∃ cell : Cell, H[a]? = some cell ∧ cell.vm.isStatics = false ∧ s.vm.findClass C = some cell.cls := by
  obtain ⟨cell, q1, q2, q3, q4⟩ := h.obj ha hc
  exact ⟨cell, q1, by rw [q3]; rfl, by rw [q2]; exact (hK.1 ci _ hc).2.1⟩
theorem dy_get {ref C : String} {Tt : u_T} {N ci index : Nat} (hC : Cx X cc own vwCl arTy D) (hDy : ∀ H, P H → Dy D T H) (ha : T.1 a = some (.inl ci)) (hc : vwCl[ci]? = some (C, Tt, N)) (hin : ∀ w ∈ u_ws C Tt N, w ∈ lw_all) (k : Nat) (hk : k < N) (hq : Cond.fieldLink own index ref (Tt k).2.1 (Tt k).2.2.1 ∈ lw_all) (hsame : X.2.2.2.2.1.fieldFound? (Tt k).1 (Tt k).2.1 (Tt k).2.2.1 = X.2.2.2.2.1.fieldFound? ref (Tt k).2.1 (Tt k).2.2.1) (hdg : decode cc pc = .ok (.getfield index, 3)) (kk : Wk X cells slots P (pc + 3) lv (dV T a ci k :: stk)) : Wk X cells slots P pc lv (.ref a :: stk) := by
  obtain ⟨p, l, e, R, s, m, args, below, meth, c, A, nL, Q⟩ := X
  intro H locs ls hP hS hl
  obtain ⟨cell, q1, q2, q3, q4⟩ := (hDy H hP).obj ha hc
  obtain ⟨hSl, hfc, kC, hkC, hkind⟩ := hC.2.2.2.2.2.1.1 ci _ hc
  obtain ⟨cf, kf, fi, f, hi, hsl⟩ := hSl k hk
  refine W.getf hC.1 hC.2.1 hC.2.2.2.1 (hC.2.2.2.2.1 _ hq) (hsame.symm.trans hi) (u_facts hfc hkC (u_lays hC.2.2.2.2.1 hin hk) hi).1 q1 (by rw [q3]; exact fun h => by cases h) (v := dV T a ci k) ?_ rfl rfl hdg (kk H locs ls hP hS hl)
  rw [hsl, q4 k hk]
theorem dy_aald {ty : FieldType} {i : Int32} {f : Option Nat → Option α} (hC : Cx X cc own vwCl arTy D) (hDy : ∀ H, P H → Dy D T H) (hty : ty ∈ arTy) (hr : ty.isReference = true) (hdg : decode cc pc = .ok (.aaload, 1)) (hE : dA T a ty i f = some out) (kk : ∀ x, f x = some out → Wk X cells slots P (pc + 1) lv (va_rf x :: stk)) : Wk X cells slots P pc lv (.int i :: .ref a :: stk) := by
  obtain ⟨n, ha, hE⟩ := dA_of hE
  obtain ⟨q, hi, hE⟩ := ob_ hE
  obtain ⟨hin, rfl⟩ := ix_some hi
  have kk := kk _ hE
  obtain ⟨p, l, e, R, s, m, args, below, meth, c, A, nL, Q⟩ := X
  intro H locs ls hP hS hl
  have hlt : i.toNatClampNeg < n := Nat.not_le.mp fun q => hin (Or.inr q)
  have hv : dE T a ty i.toNatClampNeg = va_rf (T.2.2.1 a i.toNatClampNeg) := by
    cases ty <;> first | rfl | cases hr
  exact W.aald (v := va_rf (T.2.2.1 a i.toNatClampNeg)) (ty := ty) hC.1 hC.2.1 ((hDy H hP).2 a _ ha) ((hC.2.2.2.2.2.1.2.1 _ hty).1 n _) hr (fun q => by cases q) (by show ¬ (i < 0 ∨ (arrV _ _ _).slots.size ≤ _); rw [arrV_size]; exact hin) (by show (arrV _ _ _).slots[_]? = _; rw [arrV_read _ _ hlt, hv]) rfl rfl hdg (kk H locs ls hP hS hl)
theorem dy_bald {i : Int32} {f : Int32 → Option α} (hC : Cx X cc own vwCl arTy D) (hDy : ∀ H, P H → Dy D T H) (hdg : decode cc pc = .ok (.baload, 1)) (hE : dB T a .byte i f = some out) (kk : ∀ x, f x = some out → Wk X cells slots P (pc + 1) lv (.int x :: stk)) : Wk X cells slots P pc lv (.int i :: .ref a :: stk) := by
  obtain ⟨n, ha, hE⟩ := dB_of hE
  obtain ⟨q, hi, hE⟩ := ob_ hE
  obtain ⟨hin, rfl⟩ := ix_some hi
  have kk := kk _ hE
  obtain ⟨p, l, e, R, s, m, args, below, meth, c, A, nL, Q⟩ := X
  intro H locs ls hP hS hl
  have hlt : i.toNatClampNeg < n := Nat.not_le.mp fun q => hin (Or.inr q)
  exact W.bald (v := .int (T.2.1 a i.toNatClampNeg)) hC.1 hC.2.1 ((hDy H hP).2 a _ ha) ((hC.2.2.2.2.2.1.2.1 _ ar_b).1 n _) (fun q => by cases q) (by show ¬ (i < 0 ∨ (arrV _ _ _).slots.size ≤ _); rw [arrV_size]; exact hin) (by show (arrV _ _ _).slots[_]? = _; rw [arrV_read _ _ hlt]; rfl) rfl rfl hdg (kk H locs ls hP hS hl)
theorem dy_alen {ty : FieldType} {f : Int32 → Option α} (hC : Cx X cc own vwCl arTy D) (hDy : ∀ H, P H → Dy D T H) (hty : ty ∈ arTy) (hdg : decode cc pc = .ok (.arraylength, 1)) (hE : dL T a ty f = some out) (kk : ∀ x, f x = some out → Wk X cells slots P (pc + 1) lv (.int x :: stk)) : Wk X cells slots P pc lv (.ref a :: stk) := by
  obtain ⟨n, ha, hE⟩ := dL_of hE
  have kk := kk _ hE
  obtain ⟨p, l, e, R, s, m, args, below, meth, c, A, nL, Q⟩ := X
  intro H locs ls hP hS hl
  exact W.alen (n := Int32.ofNat n) hC.1 hC.2.1 ((hDy H hP).2 a _ ha) ((hC.2.2.2.2.2.1.2.1 _ hty).1 n _) (by show (arrV _ _ _).slots.size.toInt32 = _; rw [arrV_size]) rfl rfl hdg (kk H locs ls hP hS hl)
/-- a reference that isn't null -/
theorem k_nn {r : Option Nat} {f : Nat → Option α} {G : Value → Prop} (hE : r.bind f = some out) (kk : ∀ b, f b = some out → G (.ref b)) : G (va_rf r) := by
  obtain ⟨b, rfl, hE⟩ := ob_ hE
  exact kk b hE
theorem dy_castS {nm : String} {Tt : u_T} {N ci index : Nat} {f : Option α} (hC : Cx X cc own vwCl arTy D) (hDy : ∀ H, P H → Dy D T H) (hc : vwCl[ci]? = some (nm, Tt, N)) (hq : Cond.classLink own index nm ∈ lw_all) (hdg : decode cc pc = .ok (.checkcast index, 3)) (hE : dC T a ci f = some out) (kk : f = some out → Wk X cells slots P (pc + 3) lv (.ref a :: stk)) : Wk X cells slots P pc lv (.ref a :: stk) := by
  obtain ⟨ha, hE⟩ := dC_of hE
  have kk := kk hE
  obtain ⟨p, l, e, R, s, m, args, below, meth, c, A, nL, Q⟩ := X
  intro H locs ls hP hS hl
  exact va_castS hC.1 hC.2.1 hC.2.2.2.1 (hC.2.2.2.2.1 _ hq) (hC.2.2.2.2.2.1.1 ci _ hc).2 ((hDy H hP).recv hC.2.2.2.2.2.1 ha hc) hdg (kk H locs ls hP hS hl)
end DY
theorem gD_X0_107_X4 {X : Ctx} {cc : ByteArray} {D : Dd} {cells slots : Nat} {P : Heap → Prop} {pc : Nat} {lv : List (Nat × Value)} {stk : List Value} {T : Th} {α : Type} {out : α} {a : Nat} {f : Option Nat → Option α} (hC : Cx X cc RX0 vwCl arTy D) (hDy : ∀ H, P H → Dy D T H) (hdg : decode cc pc = .ok (.getfield 107, 3)) (hE : dR T a 4 3 f = some out) (kk : ∀ x, f x = some out → Wk X cells slots P (pc + 3) lv (va_rf x :: stk)) : Wk X cells slots P pc lv (.ref a :: stk) := by
  obtain ⟨ha, hE⟩ := dR_of hE
  exact dy_get (ref := TX4 3 |>.1) hC hDy ha cl_X4 in_X4 3 (by decide) q370 rfl hdg (kk _ hE)
theorem gD_X0_121_X4 {X : Ctx} {cc : ByteArray} {D : Dd} {cells slots : Nat} {P : Heap → Prop} {pc : Nat} {lv : List (Nat × Value)} {stk : List Value} {T : Th} {α : Type} {out : α} {a : Nat} {f : Option Nat → Option α} (hC : Cx X cc RX0 vwCl arTy D) (hDy : ∀ H, P H → Dy D T H) (hdg : decode cc pc = .ok (.getfield 121, 3)) (hE : dR T a 4 4 f = some out) (kk : ∀ x, f x = some out → Wk X cells slots P (pc + 3) lv (va_rf x :: stk)) : Wk X cells slots P pc lv (.ref a :: stk) := by
  obtain ⟨ha, hE⟩ := dR_of hE
  exact dy_get (ref := TX4 4 |>.1) hC hDy ha cl_X4 in_X4 4 (by decide) q375 rfl hdg (kk _ hE)
theorem gD_X0_124_X4 {X : Ctx} {cc : ByteArray} {D : Dd} {cells slots : Nat} {P : Heap → Prop} {pc : Nat} {lv : List (Nat × Value)} {stk : List Value} {T : Th} {α : Type} {out : α} {a : Nat} {f : Option Nat → Option α} (hC : Cx X cc RX0 vwCl arTy D) (hDy : ∀ H, P H → Dy D T H) (hdg : decode cc pc = .ok (.getfield 124, 3)) (hE : dR T a 4 0 f = some out) (kk : ∀ x, f x = some out → Wk X cells slots P (pc + 3) lv (va_rf x :: stk)) : Wk X cells slots P pc lv (.ref a :: stk) := by
  obtain ⟨ha, hE⟩ := dR_of hE
  exact dy_get (ref := TX4 0 |>.1) hC hDy ha cl_X4 in_X4 0 (by decide) q357 rfl hdg (kk _ hE)
theorem gD_X0_140_X13 {X : Ctx} {cc : ByteArray} {D : Dd} {cells slots : Nat} {P : Heap → Prop} {pc : Nat} {lv : List (Nat × Value)} {stk : List Value} {T : Th} {α : Type} {out : α} {a : Nat} {f : Int32 → Option α} (hC : Cx X cc RX0 vwCl arTy D) (hDy : ∀ H, P H → Dy D T H) (hdg : decode cc pc = .ok (.getfield 140, 3)) (hE : dI T a 12 1 f = some out) (kk : ∀ x, f x = some out → Wk X cells slots P (pc + 3) lv (.int x :: stk)) : Wk X cells slots P pc lv (.ref a :: stk) := by
  obtain ⟨ha, hE⟩ := dI_of hE
  exact dy_get (ref := TX13 1 |>.1) hC hDy ha cl_X13 in_X13 1 (by decide) q1046 rfl hdg (kk _ hE)
theorem gD_X0_143_X13 {X : Ctx} {cc : ByteArray} {D : Dd} {cells slots : Nat} {P : Heap → Prop} {pc : Nat} {lv : List (Nat × Value)} {stk : List Value} {T : Th} {α : Type} {out : α} {a : Nat} {f : Option Nat → Option α} (hC : Cx X cc RX0 vwCl arTy D) (hDy : ∀ H, P H → Dy D T H) (hdg : decode cc pc = .ok (.getfield 143, 3)) (hE : dR T a 12 3 f = some out) (kk : ∀ x, f x = some out → Wk X cells slots P (pc + 3) lv (va_rf x :: stk)) : Wk X cells slots P pc lv (.ref a :: stk) := by
  obtain ⟨ha, hE⟩ := dR_of hE
  exact dy_get (ref := TX13 3 |>.1) hC hDy ha cl_X13 in_X13 3 (by decide) q1053 rfl hdg (kk _ hE)
theorem gD_X0_165_X14 {X : Ctx} {cc : ByteArray} {D : Dd} {cells slots : Nat} {P : Heap → Prop} {pc : Nat} {lv : List (Nat × Value)} {stk : List Value} {T : Th} {α : Type} {out : α} {a : Nat} {f : Int32 → Option α} (hC : Cx X cc RX0 vwCl arTy D) (hDy : ∀ H, P H → Dy D T H) (hdg : decode cc pc = .ok (.getfield 165, 3)) (hE : dI T a 13 0 f = some out) (kk : ∀ x, f x = some out → Wk X cells slots P (pc + 3) lv (.int x :: stk)) : Wk X cells slots P pc lv (.ref a :: stk) := by
  obtain ⟨ha, hE⟩ := dI_of hE
  exact dy_get (ref := TX14 0 |>.1) hC hDy ha cl_X14 in_X14 0 (by decide) q1075 rfl hdg (kk _ hE)
theorem gD_X0_168_X14 {X : Ctx} {cc : ByteArray} {D : Dd} {cells slots : Nat} {P : Heap → Prop} {pc : Nat} {lv : List (Nat × Value)} {stk : List Value} {T : Th} {α : Type} {out : α} {a : Nat} {f : Int32 → Option α} (hC : Cx X cc RX0 vwCl arTy D) (hDy : ∀ H, P H → Dy D T H) (hdg : decode cc pc = .ok (.getfield 168, 3)) (hE : dI T a 13 1 f = some out) (kk : ∀ x, f x = some out → Wk X cells slots P (pc + 3) lv (.int x :: stk)) : Wk X cells slots P pc lv (.ref a :: stk) := by
  obtain ⟨ha, hE⟩ := dI_of hE
  exact dy_get (ref := TX14 1 |>.1) hC hDy ha cl_X14 in_X14 1 (by decide) q1078 rfl hdg (kk _ hE)
theorem gD_X0_171_X14 {X : Ctx} {cc : ByteArray} {D : Dd} {cells slots : Nat} {P : Heap → Prop} {pc : Nat} {lv : List (Nat × Value)} {stk : List Value} {T : Th} {α : Type} {out : α} {a : Nat} {f : Int32 → Option α} (hC : Cx X cc RX0 vwCl arTy D) (hDy : ∀ H, P H → Dy D T H) (hdg : decode cc pc = .ok (.getfield 171, 3)) (hE : dI T a 13 2 f = some out) (kk : ∀ x, f x = some out → Wk X cells slots P (pc + 3) lv (.int x :: stk)) : Wk X cells slots P pc lv (.ref a :: stk) := by
  obtain ⟨ha, hE⟩ := dI_of hE
  exact dy_get (ref := TX14 2 |>.1) hC hDy ha cl_X14 in_X14 2 (by decide) q1081 rfl hdg (kk _ hE)
theorem gD_X0_174_X14 {X : Ctx} {cc : ByteArray} {D : Dd} {cells slots : Nat} {P : Heap → Prop} {pc : Nat} {lv : List (Nat × Value)} {stk : List Value} {T : Th} {α : Type} {out : α} {a : Nat} {f : Int32 → Option α} (hC : Cx X cc RX0 vwCl arTy D) (hDy : ∀ H, P H → Dy D T H) (hdg : decode cc pc = .ok (.getfield 174, 3)) (hE : dI T a 13 3 f = some out) (kk : ∀ x, f x = some out → Wk X cells slots P (pc + 3) lv (.int x :: stk)) : Wk X cells slots P pc lv (.ref a :: stk) := by
  obtain ⟨ha, hE⟩ := dI_of hE
  exact dy_get (ref := TX14 3 |>.1) hC hDy ha cl_X14 in_X14 3 (by decide) q1084 rfl hdg (kk _ hE)
theorem gD_X0_177_X14 {X : Ctx} {cc : ByteArray} {D : Dd} {cells slots : Nat} {P : Heap → Prop} {pc : Nat} {lv : List (Nat × Value)} {stk : List Value} {T : Th} {α : Type} {out : α} {a : Nat} {f : Int32 → Option α} (hC : Cx X cc RX0 vwCl arTy D) (hDy : ∀ H, P H → Dy D T H) (hdg : decode cc pc = .ok (.getfield 177, 3)) (hE : dI T a 13 4 f = some out) (kk : ∀ x, f x = some out → Wk X cells slots P (pc + 3) lv (.int x :: stk)) : Wk X cells slots P pc lv (.ref a :: stk) := by
  obtain ⟨ha, hE⟩ := dI_of hE
  exact dy_get (ref := TX14 4 |>.1) hC hDy ha cl_X14 in_X14 4 (by decide) q1088 rfl hdg (kk _ hE)
theorem gD_X0_180_X14 {X : Ctx} {cc : ByteArray} {D : Dd} {cells slots : Nat} {P : Heap → Prop} {pc : Nat} {lv : List (Nat × Value)} {stk : List Value} {T : Th} {α : Type} {out : α} {a : Nat} {f : Int32 → Option α} (hC : Cx X cc RX0 vwCl arTy D) (hDy : ∀ H, P H → Dy D T H) (hdg : decode cc pc = .ok (.getfield 180, 3)) (hE : dI T a 13 5 f = some out) (kk : ∀ x, f x = some out → Wk X cells slots P (pc + 3) lv (.int x :: stk)) : Wk X cells slots P pc lv (.ref a :: stk) := by
  obtain ⟨ha, hE⟩ := dI_of hE
  exact dy_get (ref := TX14 5 |>.1) hC hDy ha cl_X14 in_X14 5 (by decide) q1092 rfl hdg (kk _ hE)
theorem gD_X0_188_X15 {X : Ctx} {cc : ByteArray} {D : Dd} {cells slots : Nat} {P : Heap → Prop} {pc : Nat} {lv : List (Nat × Value)} {stk : List Value} {T : Th} {α : Type} {out : α} {a : Nat} {f : Int32 → Option α} (hC : Cx X cc RX0 vwCl arTy D) (hDy : ∀ H, P H → Dy D T H) (hdg : decode cc pc = .ok (.getfield 188, 3)) (hE : dI T a 14 1 f = some out) (kk : ∀ x, f x = some out → Wk X cells slots P (pc + 3) lv (.int x :: stk)) : Wk X cells slots P pc lv (.ref a :: stk) := by
  obtain ⟨ha, hE⟩ := dI_of hE
  exact dy_get (ref := TX15 1 |>.1) hC hDy ha cl_X15 in_X15 1 (by decide) q1127 rfl hdg (kk _ hE)
theorem gD_X0_206_X4 {X : Ctx} {cc : ByteArray} {D : Dd} {cells slots : Nat} {P : Heap → Prop} {pc : Nat} {lv : List (Nat × Value)} {stk : List Value} {T : Th} {α : Type} {out : α} {a : Nat} {f : Option Nat → Option α} (hC : Cx X cc RX0 vwCl arTy D) (hDy : ∀ H, P H → Dy D T H) (hdg : decode cc pc = .ok (.getfield 206, 3)) (hE : dR T a 4 2 f = some out) (kk : ∀ x, f x = some out → Wk X cells slots P (pc + 3) lv (va_rf x :: stk)) : Wk X cells slots P pc lv (.ref a :: stk) := by
  obtain ⟨ha, hE⟩ := dR_of hE
  exact dy_get (ref := TX4 2 |>.1) hC hDy ha cl_X4 in_X4 2 (by decide) q365 rfl hdg (kk _ hE)
theorem gD_X0_226_X4 {X : Ctx} {cc : ByteArray} {D : Dd} {cells slots : Nat} {P : Heap → Prop} {pc : Nat} {lv : List (Nat × Value)} {stk : List Value} {T : Th} {α : Type} {out : α} {a : Nat} {f : Option Nat → Option α} (hC : Cx X cc RX0 vwCl arTy D) (hDy : ∀ H, P H → Dy D T H) (hdg : decode cc pc = .ok (.getfield 226, 3)) (hE : dR T a 4 1 f = some out) (kk : ∀ x, f x = some out → Wk X cells slots P (pc + 3) lv (va_rf x :: stk)) : Wk X cells slots P pc lv (.ref a :: stk) := by
  obtain ⟨ha, hE⟩ := dR_of hE
  exact dy_get (ref := TX4 1 |>.1) hC hDy ha cl_X4 in_X4 1 (by decide) q362 rfl hdg (kk _ hE)
theorem gD_X0_287_X4 {X : Ctx} {cc : ByteArray} {D : Dd} {cells slots : Nat} {P : Heap → Prop} {pc : Nat} {lv : List (Nat × Value)} {stk : List Value} {T : Th} {α : Type} {out : α} {a : Nat} {f : Int32 → Option α} (hC : Cx X cc RX0 vwCl arTy D) (hDy : ∀ H, P H → Dy D T H) (hdg : decode cc pc = .ok (.getfield 287, 3)) (hE : dI T a 4 5 f = some out) (kk : ∀ x, f x = some out → Wk X cells slots P (pc + 3) lv (.int x :: stk)) : Wk X cells slots P pc lv (.ref a :: stk) := by
  obtain ⟨ha, hE⟩ := dI_of hE
  exact dy_get (ref := TX4 5 |>.1) hC hDy ha cl_X4 in_X4 5 (by decide) q380 rfl hdg (kk _ hE)
theorem gD_X20_7_X20 {X : Ctx} {cc : ByteArray} {D : Dd} {cells slots : Nat} {P : Heap → Prop} {pc : Nat} {lv : List (Nat × Value)} {stk : List Value} {T : Th} {α : Type} {out : α} {a : Nat} {f : Int32 → Option α} (hC : Cx X cc RX20 vwCl arTy D) (hDy : ∀ H, P H → Dy D T H) (hdg : decode cc pc = .ok (.getfield 7, 3)) (hE : dI T a 18 0 f = some out) (kk : ∀ x, f x = some out → Wk X cells slots P (pc + 3) lv (.int x :: stk)) : Wk X cells slots P pc lv (.ref a :: stk) := by
  obtain ⟨ha, hE⟩ := dI_of hE
  exact dy_get (ref := TX20 0 |>.1) hC hDy ha cl_X20 in_X20 0 (by decide) q1225 rfl hdg (kk _ hE)
theorem gD_X20_13_X20 {X : Ctx} {cc : ByteArray} {D : Dd} {cells slots : Nat} {P : Heap → Prop} {pc : Nat} {lv : List (Nat × Value)} {stk : List Value} {T : Th} {α : Type} {out : α} {a : Nat} {f : Option Nat → Option α} (hC : Cx X cc RX20 vwCl arTy D) (hDy : ∀ H, P H → Dy D T H) (hdg : decode cc pc = .ok (.getfield 13, 3)) (hE : dR T a 18 1 f = some out) (kk : ∀ x, f x = some out → Wk X cells slots P (pc + 3) lv (va_rf x :: stk)) : Wk X cells slots P pc lv (.ref a :: stk) := by
  obtain ⟨ha, hE⟩ := dR_of hE
  exact dy_get (ref := TX20 1 |>.1) hC hDy ha cl_X20 in_X20 1 (by decide) q1226 rfl hdg (kk _ hE)
theorem gD_X20_17_X20 {X : Ctx} {cc : ByteArray} {D : Dd} {cells slots : Nat} {P : Heap → Prop} {pc : Nat} {lv : List (Nat × Value)} {stk : List Value} {T : Th} {α : Type} {out : α} {a : Nat} {f : Option Nat → Option α} (hC : Cx X cc RX20 vwCl arTy D) (hDy : ∀ H, P H → Dy D T H) (hdg : decode cc pc = .ok (.getfield 17, 3)) (hE : dR T a 18 2 f = some out) (kk : ∀ x, f x = some out → Wk X cells slots P (pc + 3) lv (va_rf x :: stk)) : Wk X cells slots P pc lv (.ref a :: stk) := by
  obtain ⟨ha, hE⟩ := dR_of hE
  exact dy_get (ref := TX20 2 |>.1) hC hDy ha cl_X20 in_X20 2 (by decide) q1227 rfl hdg (kk _ hE)
theorem gD_X16_11_X16 {X : Ctx} {cc : ByteArray} {D : Dd} {cells slots : Nat} {P : Heap → Prop} {pc : Nat} {lv : List (Nat × Value)} {stk : List Value} {T : Th} {α : Type} {out : α} {a : Nat} {f : Option Nat → Option α} (hC : Cx X cc RX16 vwCl arTy D) (hDy : ∀ H, P H → Dy D T H) (hdg : decode cc pc = .ok (.getfield 11, 3)) (hE : dR T a 15 0 f = some out) (kk : ∀ x, f x = some out → Wk X cells slots P (pc + 3) lv (va_rf x :: stk)) : Wk X cells slots P pc lv (.ref a :: stk) := by
  obtain ⟨ha, hE⟩ := dR_of hE
  exact dy_get (ref := TX16 0 |>.1) hC hDy ha cl_X16 in_X16 0 (by decide) q1159 rfl hdg (kk _ hE)
theorem gD_X16_17_X16 {X : Ctx} {cc : ByteArray} {D : Dd} {cells slots : Nat} {P : Heap → Prop} {pc : Nat} {lv : List (Nat × Value)} {stk : List Value} {T : Th} {α : Type} {out : α} {a : Nat} {f : Option Nat → Option α} (hC : Cx X cc RX16 vwCl arTy D) (hDy : ∀ H, P H → Dy D T H) (hdg : decode cc pc = .ok (.getfield 17, 3)) (hE : dR T a 15 1 f = some out) (kk : ∀ x, f x = some out → Wk X cells slots P (pc + 3) lv (va_rf x :: stk)) : Wk X cells slots P pc lv (.ref a :: stk) := by
  obtain ⟨ha, hE⟩ := dR_of hE
  exact dy_get (ref := TX16 1 |>.1) hC hDy ha cl_X16 in_X16 1 (by decide) q1161 rfl hdg (kk _ hE)
theorem gD_X16_20_X16 {X : Ctx} {cc : ByteArray} {D : Dd} {cells slots : Nat} {P : Heap → Prop} {pc : Nat} {lv : List (Nat × Value)} {stk : List Value} {T : Th} {α : Type} {out : α} {a : Nat} {f : Option Nat → Option α} (hC : Cx X cc RX16 vwCl arTy D) (hDy : ∀ H, P H → Dy D T H) (hdg : decode cc pc = .ok (.getfield 20, 3)) (hE : dR T a 15 2 f = some out) (kk : ∀ x, f x = some out → Wk X cells slots P (pc + 3) lv (va_rf x :: stk)) : Wk X cells slots P pc lv (.ref a :: stk) := by
  obtain ⟨ha, hE⟩ := dR_of hE
  exact dy_get (ref := TX16 2 |>.1) hC hDy ha cl_X16 in_X16 2 (by decide) q1163 rfl hdg (kk _ hE)
theorem gD_X16_29_X16 {X : Ctx} {cc : ByteArray} {D : Dd} {cells slots : Nat} {P : Heap → Prop} {pc : Nat} {lv : List (Nat × Value)} {stk : List Value} {T : Th} {α : Type} {out : α} {a : Nat} {f : Int32 → Option α} (hC : Cx X cc RX16 vwCl arTy D) (hDy : ∀ H, P H → Dy D T H) (hdg : decode cc pc = .ok (.getfield 29, 3)) (hE : dI T a 15 3 f = some out) (kk : ∀ x, f x = some out → Wk X cells slots P (pc + 3) lv (.int x :: stk)) : Wk X cells slots P pc lv (.ref a :: stk) := by
  obtain ⟨ha, hE⟩ := dI_of hE
  exact dy_get (ref := TX16 3 |>.1) hC hDy ha cl_X16 in_X16 3 (by decide) q1165 rfl hdg (kk _ hE)
theorem gD_X15_7_X15 {X : Ctx} {cc : ByteArray} {D : Dd} {cells slots : Nat} {P : Heap → Prop} {pc : Nat} {lv : List (Nat × Value)} {stk : List Value} {T : Th} {α : Type} {out : α} {a : Nat} {f : Int32 → Option α} (hC : Cx X cc RX15 vwCl arTy D) (hDy : ∀ H, P H → Dy D T H) (hdg : decode cc pc = .ok (.getfield 7, 3)) (hE : dI T a 14 2 f = some out) (kk : ∀ x, f x = some out → Wk X cells slots P (pc + 3) lv (.int x :: stk)) : Wk X cells slots P pc lv (.ref a :: stk) := by
  obtain ⟨ha, hE⟩ := dI_of hE
  exact dy_get (ref := TX15 2 |>.1) hC hDy ha cl_X15 in_X15 2 (by decide) q1129 rfl hdg (kk _ hE)
theorem gD_X15_13_X15 {X : Ctx} {cc : ByteArray} {D : Dd} {cells slots : Nat} {P : Heap → Prop} {pc : Nat} {lv : List (Nat × Value)} {stk : List Value} {T : Th} {α : Type} {out : α} {a : Nat} {f : Int32 → Option α} (hC : Cx X cc RX15 vwCl arTy D) (hDy : ∀ H, P H → Dy D T H) (hdg : decode cc pc = .ok (.getfield 13, 3)) (hE : dI T a 14 3 f = some out) (kk : ∀ x, f x = some out → Wk X cells slots P (pc + 3) lv (.int x :: stk)) : Wk X cells slots P pc lv (.ref a :: stk) := by
  obtain ⟨ha, hE⟩ := dI_of hE
  exact dy_get (ref := TX15 3 |>.1) hC hDy ha cl_X15 in_X15 3 (by decide) q1132 rfl hdg (kk _ hE)
theorem gD_X9_7_X10 {X : Ctx} {cc : ByteArray} {D : Dd} {cells slots : Nat} {P : Heap → Prop} {pc : Nat} {lv : List (Nat × Value)} {stk : List Value} {T : Th} {α : Type} {out : α} {a : Nat} {f : Option Nat → Option α} (hC : Cx X cc RX9 vwCl arTy D) (hDy : ∀ H, P H → Dy D T H) (hdg : decode cc pc = .ok (.getfield 7, 3)) (hE : dR T a 9 0 f = some out) (kk : ∀ x, f x = some out → Wk X cells slots P (pc + 3) lv (va_rf x :: stk)) : Wk X cells slots P pc lv (.ref a :: stk) := by
  obtain ⟨ha, hE⟩ := dR_of hE
  exact dy_get (ref := TX10 0 |>.1) hC hDy ha cl_X10 in_X10 0 (by decide) q922 rfl hdg (kk _ hE)
theorem gD_X9_7_X12 {X : Ctx} {cc : ByteArray} {D : Dd} {cells slots : Nat} {P : Heap → Prop} {pc : Nat} {lv : List (Nat × Value)} {stk : List Value} {T : Th} {α : Type} {out : α} {a : Nat} {f : Option Nat → Option α} (hC : Cx X cc RX9 vwCl arTy D) (hDy : ∀ H, P H → Dy D T H) (hdg : decode cc pc = .ok (.getfield 7, 3)) (hE : dR T a 11 0 f = some out) (kk : ∀ x, f x = some out → Wk X cells slots P (pc + 3) lv (va_rf x :: stk)) : Wk X cells slots P pc lv (.ref a :: stk) := by
  obtain ⟨ha, hE⟩ := dR_of hE
  exact dy_get (ref := TX12 0 |>.1) hC hDy ha cl_X12 in_X12 0 (by decide) q922 rfl hdg (kk _ hE)
theorem gD_X9_7_X13 {X : Ctx} {cc : ByteArray} {D : Dd} {cells slots : Nat} {P : Heap → Prop} {pc : Nat} {lv : List (Nat × Value)} {stk : List Value} {T : Th} {α : Type} {out : α} {a : Nat} {f : Option Nat → Option α} (hC : Cx X cc RX9 vwCl arTy D) (hDy : ∀ H, P H → Dy D T H) (hdg : decode cc pc = .ok (.getfield 7, 3)) (hE : dR T a 12 0 f = some out) (kk : ∀ x, f x = some out → Wk X cells slots P (pc + 3) lv (va_rf x :: stk)) : Wk X cells slots P pc lv (.ref a :: stk) := by
  obtain ⟨ha, hE⟩ := dR_of hE
  exact dy_get (ref := TX13 0 |>.1) hC hDy ha cl_X13 in_X13 0 (by decide) q922 rfl hdg (kk _ hE)
theorem gD_X9_7_X15 {X : Ctx} {cc : ByteArray} {D : Dd} {cells slots : Nat} {P : Heap → Prop} {pc : Nat} {lv : List (Nat × Value)} {stk : List Value} {T : Th} {α : Type} {out : α} {a : Nat} {f : Option Nat → Option α} (hC : Cx X cc RX9 vwCl arTy D) (hDy : ∀ H, P H → Dy D T H) (hdg : decode cc pc = .ok (.getfield 7, 3)) (hE : dR T a 14 0 f = some out) (kk : ∀ x, f x = some out → Wk X cells slots P (pc + 3) lv (va_rf x :: stk)) : Wk X cells slots P pc lv (.ref a :: stk) := by
  obtain ⟨ha, hE⟩ := dR_of hE
  exact dy_get (ref := TX15 0 |>.1) hC hDy ha cl_X15 in_X15 0 (by decide) q922 rfl hdg (kk _ hE)
theorem gD_X18_7_X18 {X : Ctx} {cc : ByteArray} {D : Dd} {cells slots : Nat} {P : Heap → Prop} {pc : Nat} {lv : List (Nat × Value)} {stk : List Value} {T : Th} {α : Type} {out : α} {a : Nat} {f : Int32 → Option α} (hC : Cx X cc RX18 vwCl arTy D) (hDy : ∀ H, P H → Dy D T H) (hdg : decode cc pc = .ok (.getfield 7, 3)) (hE : dI T a 16 0 f = some out) (kk : ∀ x, f x = some out → Wk X cells slots P (pc + 3) lv (.int x :: stk)) : Wk X cells slots P pc lv (.ref a :: stk) := by
  obtain ⟨ha, hE⟩ := dI_of hE
  exact dy_get (ref := TX18 0 |>.1) hC hDy ha cl_X18 in_X18 0 (by decide) q1205 rfl hdg (kk _ hE)
theorem gD_X3_109_X4 {X : Ctx} {cc : ByteArray} {D : Dd} {cells slots : Nat} {P : Heap → Prop} {pc : Nat} {lv : List (Nat × Value)} {stk : List Value} {T : Th} {α : Type} {out : α} {a : Nat} {f : Option Nat → Option α} (hC : Cx X cc RX3 vwCl arTy D) (hDy : ∀ H, P H → Dy D T H) (hdg : decode cc pc = .ok (.getfield 109, 3)) (hE : dR T a 4 0 f = some out) (kk : ∀ x, f x = some out → Wk X cells slots P (pc + 3) lv (va_rf x :: stk)) : Wk X cells slots P pc lv (.ref a :: stk) := by
  obtain ⟨ha, hE⟩ := dR_of hE
  exact dy_get (ref := TX4 0 |>.1) hC hDy ha cl_X4 in_X4 0 (by decide) q358 rfl hdg (kk _ hE)
theorem gD_X3_137_X4 {X : Ctx} {cc : ByteArray} {D : Dd} {cells slots : Nat} {P : Heap → Prop} {pc : Nat} {lv : List (Nat × Value)} {stk : List Value} {T : Th} {α : Type} {out : α} {a : Nat} {f : Option Nat → Option α} (hC : Cx X cc RX3 vwCl arTy D) (hDy : ∀ H, P H → Dy D T H) (hdg : decode cc pc = .ok (.getfield 137, 3)) (hE : dR T a 4 2 f = some out) (kk : ∀ x, f x = some out → Wk X cells slots P (pc + 3) lv (va_rf x :: stk)) : Wk X cells slots P pc lv (.ref a :: stk) := by
  obtain ⟨ha, hE⟩ := dR_of hE
  exact dy_get (ref := TX4 2 |>.1) hC hDy ha cl_X4 in_X4 2 (by decide) q366 rfl hdg (kk _ hE)
theorem gD_X3_147_X12 {X : Ctx} {cc : ByteArray} {D : Dd} {cells slots : Nat} {P : Heap → Prop} {pc : Nat} {lv : List (Nat × Value)} {stk : List Value} {T : Th} {α : Type} {out : α} {a : Nat} {f : Int32 → Option α} (hC : Cx X cc RX3 vwCl arTy D) (hDy : ∀ H, P H → Dy D T H) (hdg : decode cc pc = .ok (.getfield 147, 3)) (hE : dI T a 11 1 f = some out) (kk : ∀ x, f x = some out → Wk X cells slots P (pc + 3) lv (.int x :: stk)) : Wk X cells slots P pc lv (.ref a :: stk) := by
  obtain ⟨ha, hE⟩ := dI_of hE
  exact dy_get (ref := TX12 1 |>.1) hC hDy ha cl_X12 in_X12 1 (by decide) q1032 rfl hdg (kk _ hE)
theorem gD_X3_150_X4 {X : Ctx} {cc : ByteArray} {D : Dd} {cells slots : Nat} {P : Heap → Prop} {pc : Nat} {lv : List (Nat × Value)} {stk : List Value} {T : Th} {α : Type} {out : α} {a : Nat} {f : Option Nat → Option α} (hC : Cx X cc RX3 vwCl arTy D) (hDy : ∀ H, P H → Dy D T H) (hdg : decode cc pc = .ok (.getfield 150, 3)) (hE : dR T a 4 3 f = some out) (kk : ∀ x, f x = some out → Wk X cells slots P (pc + 3) lv (va_rf x :: stk)) : Wk X cells slots P pc lv (.ref a :: stk) := by
  obtain ⟨ha, hE⟩ := dR_of hE
  exact dy_get (ref := TX4 3 |>.1) hC hDy ha cl_X4 in_X4 3 (by decide) q371 rfl hdg (kk _ hE)
theorem gD_X3_156_X13 {X : Ctx} {cc : ByteArray} {D : Dd} {cells slots : Nat} {P : Heap → Prop} {pc : Nat} {lv : List (Nat × Value)} {stk : List Value} {T : Th} {α : Type} {out : α} {a : Nat} {f : Int32 → Option α} (hC : Cx X cc RX3 vwCl arTy D) (hDy : ∀ H, P H → Dy D T H) (hdg : decode cc pc = .ok (.getfield 156, 3)) (hE : dI T a 12 1 f = some out) (kk : ∀ x, f x = some out → Wk X cells slots P (pc + 3) lv (.int x :: stk)) : Wk X cells slots P pc lv (.ref a :: stk) := by
  obtain ⟨ha, hE⟩ := dI_of hE
  exact dy_get (ref := TX13 1 |>.1) hC hDy ha cl_X13 in_X13 1 (by decide) q1047 rfl hdg (kk _ hE)
theorem gD_X3_160_X13 {X : Ctx} {cc : ByteArray} {D : Dd} {cells slots : Nat} {P : Heap → Prop} {pc : Nat} {lv : List (Nat × Value)} {stk : List Value} {T : Th} {α : Type} {out : α} {a : Nat} {f : Int32 → Option α} (hC : Cx X cc RX3 vwCl arTy D) (hDy : ∀ H, P H → Dy D T H) (hdg : decode cc pc = .ok (.getfield 160, 3)) (hE : dI T a 12 2 f = some out) (kk : ∀ x, f x = some out → Wk X cells slots P (pc + 3) lv (.int x :: stk)) : Wk X cells slots P pc lv (.ref a :: stk) := by
  obtain ⟨ha, hE⟩ := dI_of hE
  exact dy_get (ref := TX13 2 |>.1) hC hDy ha cl_X13 in_X13 2 (by decide) q1049 rfl hdg (kk _ hE)
theorem gD_X3_172_X4 {X : Ctx} {cc : ByteArray} {D : Dd} {cells slots : Nat} {P : Heap → Prop} {pc : Nat} {lv : List (Nat × Value)} {stk : List Value} {T : Th} {α : Type} {out : α} {a : Nat} {f : Int32 → Option α} (hC : Cx X cc RX3 vwCl arTy D) (hDy : ∀ H, P H → Dy D T H) (hdg : decode cc pc = .ok (.getfield 172, 3)) (hE : dI T a 4 5 f = some out) (kk : ∀ x, f x = some out → Wk X cells slots P (pc + 3) lv (.int x :: stk)) : Wk X cells slots P pc lv (.ref a :: stk) := by
  obtain ⟨ha, hE⟩ := dI_of hE
  exact dy_get (ref := TX4 5 |>.1) hC hDy ha cl_X4 in_X4 5 (by decide) q379 rfl hdg (kk _ hE)
theorem gD_X3_175_X4 {X : Ctx} {cc : ByteArray} {D : Dd} {cells slots : Nat} {P : Heap → Prop} {pc : Nat} {lv : List (Nat × Value)} {stk : List Value} {T : Th} {α : Type} {out : α} {a : Nat} {f : Option Nat → Option α} (hC : Cx X cc RX3 vwCl arTy D) (hDy : ∀ H, P H → Dy D T H) (hdg : decode cc pc = .ok (.getfield 175, 3)) (hE : dR T a 4 1 f = some out) (kk : ∀ x, f x = some out → Wk X cells slots P (pc + 3) lv (va_rf x :: stk)) : Wk X cells slots P pc lv (.ref a :: stk) := by
  obtain ⟨ha, hE⟩ := dR_of hE
  exact dy_get (ref := TX4 1 |>.1) hC hDy ha cl_X4 in_X4 1 (by decide) q361 rfl hdg (kk _ hE)
theorem gD_X3_181_X11 {X : Ctx} {cc : ByteArray} {D : Dd} {cells slots : Nat} {P : Heap → Prop} {pc : Nat} {lv : List (Nat × Value)} {stk : List Value} {T : Th} {α : Type} {out : α} {a : Nat} {f : Int32 → Option α} (hC : Cx X cc RX3 vwCl arTy D) (hDy : ∀ H, P H → Dy D T H) (hdg : decode cc pc = .ok (.getfield 181, 3)) (hE : dI T a 10 0 f = some out) (kk : ∀ x, f x = some out → Wk X cells slots P (pc + 3) lv (.int x :: stk)) : Wk X cells slots P pc lv (.ref a :: stk) := by
  obtain ⟨ha, hE⟩ := dI_of hE
  exact dy_get (ref := TX11 0 |>.1) hC hDy ha cl_X11 in_X11 0 (by decide) q992 rfl hdg (kk _ hE)
theorem gD_X3_183_X11 {X : Ctx} {cc : ByteArray} {D : Dd} {cells slots : Nat} {P : Heap → Prop} {pc : Nat} {lv : List (Nat × Value)} {stk : List Value} {T : Th} {α : Type} {out : α} {a : Nat} {f : Int32 → Option α} (hC : Cx X cc RX3 vwCl arTy D) (hDy : ∀ H, P H → Dy D T H) (hdg : decode cc pc = .ok (.getfield 183, 3)) (hE : dI T a 10 1 f = some out) (kk : ∀ x, f x = some out → Wk X cells slots P (pc + 3) lv (.int x :: stk)) : Wk X cells slots P pc lv (.ref a :: stk) := by
  obtain ⟨ha, hE⟩ := dI_of hE
  exact dy_get (ref := TX11 1 |>.1) hC hDy ha cl_X11 in_X11 1 (by decide) q994 rfl hdg (kk _ hE)
theorem gD_X3_186_X11 {X : Ctx} {cc : ByteArray} {D : Dd} {cells slots : Nat} {P : Heap → Prop} {pc : Nat} {lv : List (Nat × Value)} {stk : List Value} {T : Th} {α : Type} {out : α} {a : Nat} {f : Int32 → Option α} (hC : Cx X cc RX3 vwCl arTy D) (hDy : ∀ H, P H → Dy D T H) (hdg : decode cc pc = .ok (.getfield 186, 3)) (hE : dI T a 10 2 f = some out) (kk : ∀ x, f x = some out → Wk X cells slots P (pc + 3) lv (.int x :: stk)) : Wk X cells slots P pc lv (.ref a :: stk) := by
  obtain ⟨ha, hE⟩ := dI_of hE
  exact dy_get (ref := TX11 2 |>.1) hC hDy ha cl_X11 in_X11 2 (by decide) q996 rfl hdg (kk _ hE)
theorem gD_X3_189_X11 {X : Ctx} {cc : ByteArray} {D : Dd} {cells slots : Nat} {P : Heap → Prop} {pc : Nat} {lv : List (Nat × Value)} {stk : List Value} {T : Th} {α : Type} {out : α} {a : Nat} {f : Int32 → Option α} (hC : Cx X cc RX3 vwCl arTy D) (hDy : ∀ H, P H → Dy D T H) (hdg : decode cc pc = .ok (.getfield 189, 3)) (hE : dI T a 10 3 f = some out) (kk : ∀ x, f x = some out → Wk X cells slots P (pc + 3) lv (.int x :: stk)) : Wk X cells slots P pc lv (.ref a :: stk) := by
  obtain ⟨ha, hE⟩ := dI_of hE
  exact dy_get (ref := TX11 3 |>.1) hC hDy ha cl_X11 in_X11 3 (by decide) q998 rfl hdg (kk _ hE)
theorem gD_X3_200_X13 {X : Ctx} {cc : ByteArray} {D : Dd} {cells slots : Nat} {P : Heap → Prop} {pc : Nat} {lv : List (Nat × Value)} {stk : List Value} {T : Th} {α : Type} {out : α} {a : Nat} {f : Option Nat → Option α} (hC : Cx X cc RX3 vwCl arTy D) (hDy : ∀ H, P H → Dy D T H) (hdg : decode cc pc = .ok (.getfield 200, 3)) (hE : dR T a 12 3 f = some out) (kk : ∀ x, f x = some out → Wk X cells slots P (pc + 3) lv (va_rf x :: stk)) : Wk X cells slots P pc lv (.ref a :: stk) := by
  obtain ⟨ha, hE⟩ := dR_of hE
  exact dy_get (ref := TX13 3 |>.1) hC hDy ha cl_X13 in_X13 3 (by decide) q1054 rfl hdg (kk _ hE)
theorem gD_X3_206_X14 {X : Ctx} {cc : ByteArray} {D : Dd} {cells slots : Nat} {P : Heap → Prop} {pc : Nat} {lv : List (Nat × Value)} {stk : List Value} {T : Th} {α : Type} {out : α} {a : Nat} {f : Int32 → Option α} (hC : Cx X cc RX3 vwCl arTy D) (hDy : ∀ H, P H → Dy D T H) (hdg : decode cc pc = .ok (.getfield 206, 3)) (hE : dI T a 13 0 f = some out) (kk : ∀ x, f x = some out → Wk X cells slots P (pc + 3) lv (.int x :: stk)) : Wk X cells slots P pc lv (.ref a :: stk) := by
  obtain ⟨ha, hE⟩ := dI_of hE
  exact dy_get (ref := TX14 0 |>.1) hC hDy ha cl_X14 in_X14 0 (by decide) q1076 rfl hdg (kk _ hE)
theorem gD_X3_207_X14 {X : Ctx} {cc : ByteArray} {D : Dd} {cells slots : Nat} {P : Heap → Prop} {pc : Nat} {lv : List (Nat × Value)} {stk : List Value} {T : Th} {α : Type} {out : α} {a : Nat} {f : Int32 → Option α} (hC : Cx X cc RX3 vwCl arTy D) (hDy : ∀ H, P H → Dy D T H) (hdg : decode cc pc = .ok (.getfield 207, 3)) (hE : dI T a 13 1 f = some out) (kk : ∀ x, f x = some out → Wk X cells slots P (pc + 3) lv (.int x :: stk)) : Wk X cells slots P pc lv (.ref a :: stk) := by
  obtain ⟨ha, hE⟩ := dI_of hE
  exact dy_get (ref := TX14 1 |>.1) hC hDy ha cl_X14 in_X14 1 (by decide) q1079 rfl hdg (kk _ hE)
theorem gD_X3_210_X14 {X : Ctx} {cc : ByteArray} {D : Dd} {cells slots : Nat} {P : Heap → Prop} {pc : Nat} {lv : List (Nat × Value)} {stk : List Value} {T : Th} {α : Type} {out : α} {a : Nat} {f : Int32 → Option α} (hC : Cx X cc RX3 vwCl arTy D) (hDy : ∀ H, P H → Dy D T H) (hdg : decode cc pc = .ok (.getfield 210, 3)) (hE : dI T a 13 2 f = some out) (kk : ∀ x, f x = some out → Wk X cells slots P (pc + 3) lv (.int x :: stk)) : Wk X cells slots P pc lv (.ref a :: stk) := by
  obtain ⟨ha, hE⟩ := dI_of hE
  exact dy_get (ref := TX14 2 |>.1) hC hDy ha cl_X14 in_X14 2 (by decide) q1082 rfl hdg (kk _ hE)
theorem gD_X3_213_X14 {X : Ctx} {cc : ByteArray} {D : Dd} {cells slots : Nat} {P : Heap → Prop} {pc : Nat} {lv : List (Nat × Value)} {stk : List Value} {T : Th} {α : Type} {out : α} {a : Nat} {f : Int32 → Option α} (hC : Cx X cc RX3 vwCl arTy D) (hDy : ∀ H, P H → Dy D T H) (hdg : decode cc pc = .ok (.getfield 213, 3)) (hE : dI T a 13 3 f = some out) (kk : ∀ x, f x = some out → Wk X cells slots P (pc + 3) lv (.int x :: stk)) : Wk X cells slots P pc lv (.ref a :: stk) := by
  obtain ⟨ha, hE⟩ := dI_of hE
  exact dy_get (ref := TX14 3 |>.1) hC hDy ha cl_X14 in_X14 3 (by decide) q1085 rfl hdg (kk _ hE)
theorem gD_X3_216_X14 {X : Ctx} {cc : ByteArray} {D : Dd} {cells slots : Nat} {P : Heap → Prop} {pc : Nat} {lv : List (Nat × Value)} {stk : List Value} {T : Th} {α : Type} {out : α} {a : Nat} {f : Int32 → Option α} (hC : Cx X cc RX3 vwCl arTy D) (hDy : ∀ H, P H → Dy D T H) (hdg : decode cc pc = .ok (.getfield 216, 3)) (hE : dI T a 13 4 f = some out) (kk : ∀ x, f x = some out → Wk X cells slots P (pc + 3) lv (.int x :: stk)) : Wk X cells slots P pc lv (.ref a :: stk) := by
  obtain ⟨ha, hE⟩ := dI_of hE
  exact dy_get (ref := TX14 4 |>.1) hC hDy ha cl_X14 in_X14 4 (by decide) q1089 rfl hdg (kk _ hE)
theorem gD_X3_223_X14 {X : Ctx} {cc : ByteArray} {D : Dd} {cells slots : Nat} {P : Heap → Prop} {pc : Nat} {lv : List (Nat × Value)} {stk : List Value} {T : Th} {α : Type} {out : α} {a : Nat} {f : Int32 → Option α} (hC : Cx X cc RX3 vwCl arTy D) (hDy : ∀ H, P H → Dy D T H) (hdg : decode cc pc = .ok (.getfield 223, 3)) (hE : dI T a 13 5 f = some out) (kk : ∀ x, f x = some out → Wk X cells slots P (pc + 3) lv (.int x :: stk)) : Wk X cells slots P pc lv (.ref a :: stk) := by
  obtain ⟨ha, hE⟩ := dI_of hE
  exact dy_get (ref := TX14 5 |>.1) hC hDy ha cl_X14 in_X14 5 (by decide) q1093 rfl hdg (kk _ hE)
theorem gD_X3_226_X4 {X : Ctx} {cc : ByteArray} {D : Dd} {cells slots : Nat} {P : Heap → Prop} {pc : Nat} {lv : List (Nat × Value)} {stk : List Value} {T : Th} {α : Type} {out : α} {a : Nat} {f : Option Nat → Option α} (hC : Cx X cc RX3 vwCl arTy D) (hDy : ∀ H, P H → Dy D T H) (hdg : decode cc pc = .ok (.getfield 226, 3)) (hE : dR T a 4 4 f = some out) (kk : ∀ x, f x = some out → Wk X cells slots P (pc + 3) lv (va_rf x :: stk)) : Wk X cells slots P pc lv (.ref a :: stk) := by
  obtain ⟨ha, hE⟩ := dR_of hE
  exact dy_get (ref := TX4 4 |>.1) hC hDy ha cl_X4 in_X4 4 (by decide) q376 rfl hdg (kk _ hE)
theorem gD_X3_232_X15 {X : Ctx} {cc : ByteArray} {D : Dd} {cells slots : Nat} {P : Heap → Prop} {pc : Nat} {lv : List (Nat × Value)} {stk : List Value} {T : Th} {α : Type} {out : α} {a : Nat} {f : Int32 → Option α} (hC : Cx X cc RX3 vwCl arTy D) (hDy : ∀ H, P H → Dy D T H) (hdg : decode cc pc = .ok (.getfield 232, 3)) (hE : dI T a 14 1 f = some out) (kk : ∀ x, f x = some out → Wk X cells slots P (pc + 3) lv (.int x :: stk)) : Wk X cells slots P pc lv (.ref a :: stk) := by
  obtain ⟨ha, hE⟩ := dI_of hE
  exact dy_get (ref := TX15 1 |>.1) hC hDy ha cl_X15 in_X15 1 (by decide) q1128 rfl hdg (kk _ hE)
theorem gD_X3_235_X15 {X : Ctx} {cc : ByteArray} {D : Dd} {cells slots : Nat} {P : Heap → Prop} {pc : Nat} {lv : List (Nat × Value)} {stk : List Value} {T : Th} {α : Type} {out : α} {a : Nat} {f : Int32 → Option α} (hC : Cx X cc RX3 vwCl arTy D) (hDy : ∀ H, P H → Dy D T H) (hdg : decode cc pc = .ok (.getfield 235, 3)) (hE : dI T a 14 2 f = some out) (kk : ∀ x, f x = some out → Wk X cells slots P (pc + 3) lv (.int x :: stk)) : Wk X cells slots P pc lv (.ref a :: stk) := by
  obtain ⟨ha, hE⟩ := dI_of hE
  exact dy_get (ref := TX15 2 |>.1) hC hDy ha cl_X15 in_X15 2 (by decide) q1131 rfl hdg (kk _ hE)
theorem gD_X3_238_X15 {X : Ctx} {cc : ByteArray} {D : Dd} {cells slots : Nat} {P : Heap → Prop} {pc : Nat} {lv : List (Nat × Value)} {stk : List Value} {T : Th} {α : Type} {out : α} {a : Nat} {f : Int32 → Option α} (hC : Cx X cc RX3 vwCl arTy D) (hDy : ∀ H, P H → Dy D T H) (hdg : decode cc pc = .ok (.getfield 238, 3)) (hE : dI T a 14 3 f = some out) (kk : ∀ x, f x = some out → Wk X cells slots P (pc + 3) lv (.int x :: stk)) : Wk X cells slots P pc lv (.ref a :: stk) := by
  obtain ⟨ha, hE⟩ := dI_of hE
  exact dy_get (ref := TX15 3 |>.1) hC hDy ha cl_X15 in_X15 3 (by decide) q1134 rfl hdg (kk _ hE)
theorem gD_X3_241_X4 {X : Ctx} {cc : ByteArray} {D : Dd} {cells slots : Nat} {P : Heap → Prop} {pc : Nat} {lv : List (Nat × Value)} {stk : List Value} {T : Th} {α : Type} {out : α} {a : Nat} {f : Int32 → Option α} (hC : Cx X cc RX3 vwCl arTy D) (hDy : ∀ H, P H → Dy D T H) (hdg : decode cc pc = .ok (.getfield 241, 3)) (hE : dI T a 4 6 f = some out) (kk : ∀ x, f x = some out → Wk X cells slots P (pc + 3) lv (.int x :: stk)) : Wk X cells slots P pc lv (.ref a :: stk) := by
  obtain ⟨ha, hE⟩ := dI_of hE
  exact dy_get (ref := TX4 6 |>.1) hC hDy ha cl_X4 in_X4 6 (by decide) q381 rfl hdg (kk _ hE)
theorem gD_X3_246_X16 {X : Ctx} {cc : ByteArray} {D : Dd} {cells slots : Nat} {P : Heap → Prop} {pc : Nat} {lv : List (Nat × Value)} {stk : List Value} {T : Th} {α : Type} {out : α} {a : Nat} {f : Int32 → Option α} (hC : Cx X cc RX3 vwCl arTy D) (hDy : ∀ H, P H → Dy D T H) (hdg : decode cc pc = .ok (.getfield 246, 3)) (hE : dI T a 15 3 f = some out) (kk : ∀ x, f x = some out → Wk X cells slots P (pc + 3) lv (.int x :: stk)) : Wk X cells slots P pc lv (.ref a :: stk) := by
  obtain ⟨ha, hE⟩ := dI_of hE
  exact dy_get (ref := TX16 3 |>.1) hC hDy ha cl_X16 in_X16 3 (by decide) q1166 rfl hdg (kk _ hE)
theorem gD_X3_249_X16 {X : Ctx} {cc : ByteArray} {D : Dd} {cells slots : Nat} {P : Heap → Prop} {pc : Nat} {lv : List (Nat × Value)} {stk : List Value} {T : Th} {α : Type} {out : α} {a : Nat} {f : Option Nat → Option α} (hC : Cx X cc RX3 vwCl arTy D) (hDy : ∀ H, P H → Dy D T H) (hdg : decode cc pc = .ok (.getfield 249, 3)) (hE : dR T a 15 0 f = some out) (kk : ∀ x, f x = some out → Wk X cells slots P (pc + 3) lv (va_rf x :: stk)) : Wk X cells slots P pc lv (.ref a :: stk) := by
  obtain ⟨ha, hE⟩ := dR_of hE
  exact dy_get (ref := TX16 0 |>.1) hC hDy ha cl_X16 in_X16 0 (by decide) q1160 rfl hdg (kk _ hE)
theorem gD_X3_257_X16 {X : Ctx} {cc : ByteArray} {D : Dd} {cells slots : Nat} {P : Heap → Prop} {pc : Nat} {lv : List (Nat × Value)} {stk : List Value} {T : Th} {α : Type} {out : α} {a : Nat} {f : Option Nat → Option α} (hC : Cx X cc RX3 vwCl arTy D) (hDy : ∀ H, P H → Dy D T H) (hdg : decode cc pc = .ok (.getfield 257, 3)) (hE : dR T a 15 1 f = some out) (kk : ∀ x, f x = some out → Wk X cells slots P (pc + 3) lv (va_rf x :: stk)) : Wk X cells slots P pc lv (.ref a :: stk) := by
  obtain ⟨ha, hE⟩ := dR_of hE
  exact dy_get (ref := TX16 1 |>.1) hC hDy ha cl_X16 in_X16 1 (by decide) q1162 rfl hdg (kk _ hE)
theorem gD_X3_263_X16 {X : Ctx} {cc : ByteArray} {D : Dd} {cells slots : Nat} {P : Heap → Prop} {pc : Nat} {lv : List (Nat × Value)} {stk : List Value} {T : Th} {α : Type} {out : α} {a : Nat} {f : Option Nat → Option α} (hC : Cx X cc RX3 vwCl arTy D) (hDy : ∀ H, P H → Dy D T H) (hdg : decode cc pc = .ok (.getfield 263, 3)) (hE : dR T a 15 2 f = some out) (kk : ∀ x, f x = some out → Wk X cells slots P (pc + 3) lv (va_rf x :: stk)) : Wk X cells slots P pc lv (.ref a :: stk) := by
  obtain ⟨ha, hE⟩ := dR_of hE
  exact dy_get (ref := TX16 2 |>.1) hC hDy ha cl_X16 in_X16 2 (by decide) q1164 rfl hdg (kk _ hE)
theorem gD_X3_266_X15 {X : Ctx} {cc : ByteArray} {D : Dd} {cells slots : Nat} {P : Heap → Prop} {pc : Nat} {lv : List (Nat × Value)} {stk : List Value} {T : Th} {α : Type} {out : α} {a : Nat} {f : Option Nat → Option α} (hC : Cx X cc RX3 vwCl arTy D) (hDy : ∀ H, P H → Dy D T H) (hdg : decode cc pc = .ok (.getfield 266, 3)) (hE : dR T a 14 4 f = some out) (kk : ∀ x, f x = some out → Wk X cells slots P (pc + 3) lv (va_rf x :: stk)) : Wk X cells slots P pc lv (.ref a :: stk) := by
  obtain ⟨ha, hE⟩ := dR_of hE
  exact dy_get (ref := TX15 4 |>.1) hC hDy ha cl_X15 in_X15 4 (by decide) q1136 rfl hdg (kk _ hE)
theorem gD_X6_44_X4 {X : Ctx} {cc : ByteArray} {D : Dd} {cells slots : Nat} {P : Heap → Prop} {pc : Nat} {lv : List (Nat × Value)} {stk : List Value} {T : Th} {α : Type} {out : α} {a : Nat} {f : Option Nat → Option α} (hC : Cx X cc RX6 vwCl arTy D) (hDy : ∀ H, P H → Dy D T H) (hdg : decode cc pc = .ok (.getfield 44, 3)) (hE : dR T a 4 4 f = some out) (kk : ∀ x, f x = some out → Wk X cells slots P (pc + 3) lv (va_rf x :: stk)) : Wk X cells slots P pc lv (.ref a :: stk) := by
  obtain ⟨ha, hE⟩ := dR_of hE
  exact dy_get (ref := TX4 4 |>.1) hC hDy ha cl_X4 in_X4 4 (by decide) q373 rfl hdg (kk _ hE)
theorem gD_X6_58_X15 {X : Ctx} {cc : ByteArray} {D : Dd} {cells slots : Nat} {P : Heap → Prop} {pc : Nat} {lv : List (Nat × Value)} {stk : List Value} {T : Th} {α : Type} {out : α} {a : Nat} {f : Int32 → Option α} (hC : Cx X cc RX6 vwCl arTy D) (hDy : ∀ H, P H → Dy D T H) (hdg : decode cc pc = .ok (.getfield 58, 3)) (hE : dI T a 14 1 f = some out) (kk : ∀ x, f x = some out → Wk X cells slots P (pc + 3) lv (.int x :: stk)) : Wk X cells slots P pc lv (.ref a :: stk) := by
  obtain ⟨ha, hE⟩ := dI_of hE
  exact dy_get (ref := TX15 1 |>.1) hC hDy ha cl_X15 in_X15 1 (by decide) q1126 rfl hdg (kk _ hE)
theorem gD_X6_61_X4 {X : Ctx} {cc : ByteArray} {D : Dd} {cells slots : Nat} {P : Heap → Prop} {pc : Nat} {lv : List (Nat × Value)} {stk : List Value} {T : Th} {α : Type} {out : α} {a : Nat} {f : Option Nat → Option α} (hC : Cx X cc RX6 vwCl arTy D) (hDy : ∀ H, P H → Dy D T H) (hdg : decode cc pc = .ok (.getfield 61, 3)) (hE : dR T a 4 3 f = some out) (kk : ∀ x, f x = some out → Wk X cells slots P (pc + 3) lv (va_rf x :: stk)) : Wk X cells slots P pc lv (.ref a :: stk) := by
  obtain ⟨ha, hE⟩ := dR_of hE
  exact dy_get (ref := TX4 3 |>.1) hC hDy ha cl_X4 in_X4 3 (by decide) q368 rfl hdg (kk _ hE)
theorem gD_X6_66_X13 {X : Ctx} {cc : ByteArray} {D : Dd} {cells slots : Nat} {P : Heap → Prop} {pc : Nat} {lv : List (Nat × Value)} {stk : List Value} {T : Th} {α : Type} {out : α} {a : Nat} {f : Int32 → Option α} (hC : Cx X cc RX6 vwCl arTy D) (hDy : ∀ H, P H → Dy D T H) (hdg : decode cc pc = .ok (.getfield 66, 3)) (hE : dI T a 12 1 f = some out) (kk : ∀ x, f x = some out → Wk X cells slots P (pc + 3) lv (.int x :: stk)) : Wk X cells slots P pc lv (.ref a :: stk) := by
  obtain ⟨ha, hE⟩ := dI_of hE
  exact dy_get (ref := TX13 1 |>.1) hC hDy ha cl_X13 in_X13 1 (by decide) q1045 rfl hdg (kk _ hE)
theorem gD_X6_90_X13 {X : Ctx} {cc : ByteArray} {D : Dd} {cells slots : Nat} {P : Heap → Prop} {pc : Nat} {lv : List (Nat × Value)} {stk : List Value} {T : Th} {α : Type} {out : α} {a : Nat} {f : Option Nat → Option α} (hC : Cx X cc RX6 vwCl arTy D) (hDy : ∀ H, P H → Dy D T H) (hdg : decode cc pc = .ok (.getfield 90, 3)) (hE : dR T a 12 3 f = some out) (kk : ∀ x, f x = some out → Wk X cells slots P (pc + 3) lv (va_rf x :: stk)) : Wk X cells slots P pc lv (.ref a :: stk) := by
  obtain ⟨ha, hE⟩ := dR_of hE
  exact dy_get (ref := TX13 3 |>.1) hC hDy ha cl_X13 in_X13 3 (by decide) q1051 rfl hdg (kk _ hE)
theorem gD_X6_95_X14 {X : Ctx} {cc : ByteArray} {D : Dd} {cells slots : Nat} {P : Heap → Prop} {pc : Nat} {lv : List (Nat × Value)} {stk : List Value} {T : Th} {α : Type} {out : α} {a : Nat} {f : Int32 → Option α} (hC : Cx X cc RX6 vwCl arTy D) (hDy : ∀ H, P H → Dy D T H) (hdg : decode cc pc = .ok (.getfield 95, 3)) (hE : dI T a 13 4 f = some out) (kk : ∀ x, f x = some out → Wk X cells slots P (pc + 3) lv (.int x :: stk)) : Wk X cells slots P pc lv (.ref a :: stk) := by
  obtain ⟨ha, hE⟩ := dI_of hE
  exact dy_get (ref := TX14 4 |>.1) hC hDy ha cl_X14 in_X14 4 (by decide) q1087 rfl hdg (kk _ hE)
theorem gD_X6_116_X14 {X : Ctx} {cc : ByteArray} {D : Dd} {cells slots : Nat} {P : Heap → Prop} {pc : Nat} {lv : List (Nat × Value)} {stk : List Value} {T : Th} {α : Type} {out : α} {a : Nat} {f : Int32 → Option α} (hC : Cx X cc RX6 vwCl arTy D) (hDy : ∀ H, P H → Dy D T H) (hdg : decode cc pc = .ok (.getfield 116, 3)) (hE : dI T a 13 0 f = some out) (kk : ∀ x, f x = some out → Wk X cells slots P (pc + 3) lv (.int x :: stk)) : Wk X cells slots P pc lv (.ref a :: stk) := by
  obtain ⟨ha, hE⟩ := dI_of hE
  exact dy_get (ref := TX14 0 |>.1) hC hDy ha cl_X14 in_X14 0 (by decide) q1074 rfl hdg (kk _ hE)
theorem gD_X6_119_X15 {X : Ctx} {cc : ByteArray} {D : Dd} {cells slots : Nat} {P : Heap → Prop} {pc : Nat} {lv : List (Nat × Value)} {stk : List Value} {T : Th} {α : Type} {out : α} {a : Nat} {f : Option Nat → Option α} (hC : Cx X cc RX6 vwCl arTy D) (hDy : ∀ H, P H → Dy D T H) (hdg : decode cc pc = .ok (.getfield 119, 3)) (hE : dR T a 14 4 f = some out) (kk : ∀ x, f x = some out → Wk X cells slots P (pc + 3) lv (va_rf x :: stk)) : Wk X cells slots P pc lv (.ref a :: stk) := by
  obtain ⟨ha, hE⟩ := dR_of hE
  exact dy_get (ref := TX15 4 |>.1) hC hDy ha cl_X15 in_X15 4 (by decide) q1135 rfl hdg (kk _ hE)
theorem gD_X14_7_X14 {X : Ctx} {cc : ByteArray} {D : Dd} {cells slots : Nat} {P : Heap → Prop} {pc : Nat} {lv : List (Nat × Value)} {stk : List Value} {T : Th} {α : Type} {out : α} {a : Nat} {f : Int32 → Option α} (hC : Cx X cc RX14 vwCl arTy D) (hDy : ∀ H, P H → Dy D T H) (hdg : decode cc pc = .ok (.getfield 7, 3)) (hE : dI T a 13 4 f = some out) (kk : ∀ x, f x = some out → Wk X cells slots P (pc + 3) lv (.int x :: stk)) : Wk X cells slots P pc lv (.ref a :: stk) := by
  obtain ⟨ha, hE⟩ := dI_of hE
  exact dy_get (ref := TX14 4 |>.1) hC hDy ha cl_X14 in_X14 4 (by decide) q1086 rfl hdg (kk _ hE)
theorem gD_X14_13_X14 {X : Ctx} {cc : ByteArray} {D : Dd} {cells slots : Nat} {P : Heap → Prop} {pc : Nat} {lv : List (Nat × Value)} {stk : List Value} {T : Th} {α : Type} {out : α} {a : Nat} {f : Int32 → Option α} (hC : Cx X cc RX14 vwCl arTy D) (hDy : ∀ H, P H → Dy D T H) (hdg : decode cc pc = .ok (.getfield 13, 3)) (hE : dI T a 13 5 f = some out) (kk : ∀ x, f x = some out → Wk X cells slots P (pc + 3) lv (.int x :: stk)) : Wk X cells slots P pc lv (.ref a :: stk) := by
  obtain ⟨ha, hE⟩ := dI_of hE
  exact dy_get (ref := TX14 5 |>.1) hC hDy ha cl_X14 in_X14 5 (by decide) q1090 rfl hdg (kk _ hE)
theorem gD_X13_12_X13 {X : Ctx} {cc : ByteArray} {D : Dd} {cells slots : Nat} {P : Heap → Prop} {pc : Nat} {lv : List (Nat × Value)} {stk : List Value} {T : Th} {α : Type} {out : α} {a : Nat} {f : Option Nat → Option α} (hC : Cx X cc RX13 vwCl arTy D) (hDy : ∀ H, P H → Dy D T H) (hdg : decode cc pc = .ok (.getfield 12, 3)) (hE : dR T a 12 3 f = some out) (kk : ∀ x, f x = some out → Wk X cells slots P (pc + 3) lv (va_rf x :: stk)) : Wk X cells slots P pc lv (.ref a :: stk) := by
  obtain ⟨ha, hE⟩ := dR_of hE
  exact dy_get (ref := TX13 3 |>.1) hC hDy ha cl_X13 in_X13 3 (by decide) q1050 rfl hdg (kk _ hE)
theorem gD_X4_12_X4 {X : Ctx} {cc : ByteArray} {D : Dd} {cells slots : Nat} {P : Heap → Prop} {pc : Nat} {lv : List (Nat × Value)} {stk : List Value} {T : Th} {α : Type} {out : α} {a : Nat} {f : Option Nat → Option α} (hC : Cx X cc RX4 vwCl arTy D) (hDy : ∀ H, P H → Dy D T H) (hdg : decode cc pc = .ok (.getfield 12, 3)) (hE : dR T a 4 0 f = some out) (kk : ∀ x, f x = some out → Wk X cells slots P (pc + 3) lv (va_rf x :: stk)) : Wk X cells slots P pc lv (.ref a :: stk) := by
  obtain ⟨ha, hE⟩ := dR_of hE
  exact dy_get (ref := TX4 0 |>.1) hC hDy ha cl_X4 in_X4 0 (by decide) q355 rfl hdg (kk _ hE)
theorem gD_X4_18_X4 {X : Ctx} {cc : ByteArray} {D : Dd} {cells slots : Nat} {P : Heap → Prop} {pc : Nat} {lv : List (Nat × Value)} {stk : List Value} {T : Th} {α : Type} {out : α} {a : Nat} {f : Option Nat → Option α} (hC : Cx X cc RX4 vwCl arTy D) (hDy : ∀ H, P H → Dy D T H) (hdg : decode cc pc = .ok (.getfield 18, 3)) (hE : dR T a 4 1 f = some out) (kk : ∀ x, f x = some out → Wk X cells slots P (pc + 3) lv (va_rf x :: stk)) : Wk X cells slots P pc lv (.ref a :: stk) := by
  obtain ⟨ha, hE⟩ := dR_of hE
  exact dy_get (ref := TX4 1 |>.1) hC hDy ha cl_X4 in_X4 1 (by decide) q359 rfl hdg (kk _ hE)
theorem gD_X4_21_X4 {X : Ctx} {cc : ByteArray} {D : Dd} {cells slots : Nat} {P : Heap → Prop} {pc : Nat} {lv : List (Nat × Value)} {stk : List Value} {T : Th} {α : Type} {out : α} {a : Nat} {f : Option Nat → Option α} (hC : Cx X cc RX4 vwCl arTy D) (hDy : ∀ H, P H → Dy D T H) (hdg : decode cc pc = .ok (.getfield 21, 3)) (hE : dR T a 4 2 f = some out) (kk : ∀ x, f x = some out → Wk X cells slots P (pc + 3) lv (va_rf x :: stk)) : Wk X cells slots P pc lv (.ref a :: stk) := by
  obtain ⟨ha, hE⟩ := dR_of hE
  exact dy_get (ref := TX4 2 |>.1) hC hDy ha cl_X4 in_X4 2 (by decide) q363 rfl hdg (kk _ hE)
theorem gD_X4_24_X4 {X : Ctx} {cc : ByteArray} {D : Dd} {cells slots : Nat} {P : Heap → Prop} {pc : Nat} {lv : List (Nat × Value)} {stk : List Value} {T : Th} {α : Type} {out : α} {a : Nat} {f : Option Nat → Option α} (hC : Cx X cc RX4 vwCl arTy D) (hDy : ∀ H, P H → Dy D T H) (hdg : decode cc pc = .ok (.getfield 24, 3)) (hE : dR T a 4 3 f = some out) (kk : ∀ x, f x = some out → Wk X cells slots P (pc + 3) lv (va_rf x :: stk)) : Wk X cells slots P pc lv (.ref a :: stk) := by
  obtain ⟨ha, hE⟩ := dR_of hE
  exact dy_get (ref := TX4 3 |>.1) hC hDy ha cl_X4 in_X4 3 (by decide) q367 rfl hdg (kk _ hE)
theorem gD_X4_27_X4 {X : Ctx} {cc : ByteArray} {D : Dd} {cells slots : Nat} {P : Heap → Prop} {pc : Nat} {lv : List (Nat × Value)} {stk : List Value} {T : Th} {α : Type} {out : α} {a : Nat} {f : Option Nat → Option α} (hC : Cx X cc RX4 vwCl arTy D) (hDy : ∀ H, P H → Dy D T H) (hdg : decode cc pc = .ok (.getfield 27, 3)) (hE : dR T a 4 4 f = some out) (kk : ∀ x, f x = some out → Wk X cells slots P (pc + 3) lv (va_rf x :: stk)) : Wk X cells slots P pc lv (.ref a :: stk) := by
  obtain ⟨ha, hE⟩ := dR_of hE
  exact dy_get (ref := TX4 4 |>.1) hC hDy ha cl_X4 in_X4 4 (by decide) q372 rfl hdg (kk _ hE)
theorem gD_X4_30_X4 {X : Ctx} {cc : ByteArray} {D : Dd} {cells slots : Nat} {P : Heap → Prop} {pc : Nat} {lv : List (Nat × Value)} {stk : List Value} {T : Th} {α : Type} {out : α} {a : Nat} {f : Int32 → Option α} (hC : Cx X cc RX4 vwCl arTy D) (hDy : ∀ H, P H → Dy D T H) (hdg : decode cc pc = .ok (.getfield 30, 3)) (hE : dI T a 4 5 f = some out) (kk : ∀ x, f x = some out → Wk X cells slots P (pc + 3) lv (.int x :: stk)) : Wk X cells slots P pc lv (.ref a :: stk) := by
  obtain ⟨ha, hE⟩ := dI_of hE
  exact dy_get (ref := TX4 5 |>.1) hC hDy ha cl_X4 in_X4 5 (by decide) q377 rfl hdg (kk _ hE)
theorem gD_X4_44_X10 {X : Ctx} {cc : ByteArray} {D : Dd} {cells slots : Nat} {P : Heap → Prop} {pc : Nat} {lv : List (Nat × Value)} {stk : List Value} {T : Th} {α : Type} {out : α} {a : Nat} {f : Option Nat → Option α} (hC : Cx X cc RX4 vwCl arTy D) (hDy : ∀ H, P H → Dy D T H) (hdg : decode cc pc = .ok (.getfield 44, 3)) (hE : dR T a 9 0 f = some out) (kk : ∀ x, f x = some out → Wk X cells slots P (pc + 3) lv (va_rf x :: stk)) : Wk X cells slots P pc lv (.ref a :: stk) := by
  obtain ⟨ha, hE⟩ := dR_of hE
  exact dy_get (ref := TX10 0 |>.1) hC hDy ha cl_X10 in_X10 0 (by decide) q923 rfl hdg (kk _ hE)
theorem gD_X4_44_X12 {X : Ctx} {cc : ByteArray} {D : Dd} {cells slots : Nat} {P : Heap → Prop} {pc : Nat} {lv : List (Nat × Value)} {stk : List Value} {T : Th} {α : Type} {out : α} {a : Nat} {f : Option Nat → Option α} (hC : Cx X cc RX4 vwCl arTy D) (hDy : ∀ H, P H → Dy D T H) (hdg : decode cc pc = .ok (.getfield 44, 3)) (hE : dR T a 11 0 f = some out) (kk : ∀ x, f x = some out → Wk X cells slots P (pc + 3) lv (va_rf x :: stk)) : Wk X cells slots P pc lv (.ref a :: stk) := by
  obtain ⟨ha, hE⟩ := dR_of hE
  exact dy_get (ref := TX12 0 |>.1) hC hDy ha cl_X12 in_X12 0 (by decide) q923 rfl hdg (kk _ hE)
theorem gD_X4_44_X13 {X : Ctx} {cc : ByteArray} {D : Dd} {cells slots : Nat} {P : Heap → Prop} {pc : Nat} {lv : List (Nat × Value)} {stk : List Value} {T : Th} {α : Type} {out : α} {a : Nat} {f : Option Nat → Option α} (hC : Cx X cc RX4 vwCl arTy D) (hDy : ∀ H, P H → Dy D T H) (hdg : decode cc pc = .ok (.getfield 44, 3)) (hE : dR T a 12 0 f = some out) (kk : ∀ x, f x = some out → Wk X cells slots P (pc + 3) lv (va_rf x :: stk)) : Wk X cells slots P pc lv (.ref a :: stk) := by
  obtain ⟨ha, hE⟩ := dR_of hE
  exact dy_get (ref := TX13 0 |>.1) hC hDy ha cl_X13 in_X13 0 (by decide) q923 rfl hdg (kk _ hE)
theorem gD_X4_44_X15 {X : Ctx} {cc : ByteArray} {D : Dd} {cells slots : Nat} {P : Heap → Prop} {pc : Nat} {lv : List (Nat × Value)} {stk : List Value} {T : Th} {α : Type} {out : α} {a : Nat} {f : Option Nat → Option α} (hC : Cx X cc RX4 vwCl arTy D) (hDy : ∀ H, P H → Dy D T H) (hdg : decode cc pc = .ok (.getfield 44, 3)) (hE : dR T a 14 0 f = some out) (kk : ∀ x, f x = some out → Wk X cells slots P (pc + 3) lv (va_rf x :: stk)) : Wk X cells slots P pc lv (.ref a :: stk) := by
  obtain ⟨ha, hE⟩ := dR_of hE
  exact dy_get (ref := TX15 0 |>.1) hC hDy ha cl_X15 in_X15 0 (by decide) q923 rfl hdg (kk _ hE)
theorem gD_X19_7_X19 {X : Ctx} {cc : ByteArray} {D : Dd} {cells slots : Nat} {P : Heap → Prop} {pc : Nat} {lv : List (Nat × Value)} {stk : List Value} {T : Th} {α : Type} {out : α} {a : Nat} {f : Int32 → Option α} (hC : Cx X cc RX19 vwCl arTy D) (hDy : ∀ H, P H → Dy D T H) (hdg : decode cc pc = .ok (.getfield 7, 3)) (hE : dI T a 17 0 f = some out) (kk : ∀ x, f x = some out → Wk X cells slots P (pc + 3) lv (.int x :: stk)) : Wk X cells slots P pc lv (.ref a :: stk) := by
  obtain ⟨ha, hE⟩ := dI_of hE
  exact dy_get (ref := TX19 0 |>.1) hC hDy ha cl_X19 in_X19 0 (by decide) q1215 rfl hdg (kk _ hE)
theorem gD_X5_62_X4 {X : Ctx} {cc : ByteArray} {D : Dd} {cells slots : Nat} {P : Heap → Prop} {pc : Nat} {lv : List (Nat × Value)} {stk : List Value} {T : Th} {α : Type} {out : α} {a : Nat} {f : Option Nat → Option α} (hC : Cx X cc RX5 vwCl arTy D) (hDy : ∀ H, P H → Dy D T H) (hdg : decode cc pc = .ok (.getfield 62, 3)) (hE : dR T a 4 1 f = some out) (kk : ∀ x, f x = some out → Wk X cells slots P (pc + 3) lv (va_rf x :: stk)) : Wk X cells slots P pc lv (.ref a :: stk) := by
  obtain ⟨ha, hE⟩ := dR_of hE
  exact dy_get (ref := TX4 1 |>.1) hC hDy ha cl_X4 in_X4 1 (by decide) q360 rfl hdg (kk _ hE)
theorem gD_X5_80_X11 {X : Ctx} {cc : ByteArray} {D : Dd} {cells slots : Nat} {P : Heap → Prop} {pc : Nat} {lv : List (Nat × Value)} {stk : List Value} {T : Th} {α : Type} {out : α} {a : Nat} {f : Int32 → Option α} (hC : Cx X cc RX5 vwCl arTy D) (hDy : ∀ H, P H → Dy D T H) (hdg : decode cc pc = .ok (.getfield 80, 3)) (hE : dI T a 10 3 f = some out) (kk : ∀ x, f x = some out → Wk X cells slots P (pc + 3) lv (.int x :: stk)) : Wk X cells slots P pc lv (.ref a :: stk) := by
  obtain ⟨ha, hE⟩ := dI_of hE
  exact dy_get (ref := TX11 3 |>.1) hC hDy ha cl_X11 in_X11 3 (by decide) q997 rfl hdg (kk _ hE)
theorem gD_X5_83_X4 {X : Ctx} {cc : ByteArray} {D : Dd} {cells slots : Nat} {P : Heap → Prop} {pc : Nat} {lv : List (Nat × Value)} {stk : List Value} {T : Th} {α : Type} {out : α} {a : Nat} {f : Option Nat → Option α} (hC : Cx X cc RX5 vwCl arTy D) (hDy : ∀ H, P H → Dy D T H) (hdg : decode cc pc = .ok (.getfield 83, 3)) (hE : dR T a 4 2 f = some out) (kk : ∀ x, f x = some out → Wk X cells slots P (pc + 3) lv (va_rf x :: stk)) : Wk X cells slots P pc lv (.ref a :: stk) := by
  obtain ⟨ha, hE⟩ := dR_of hE
  exact dy_get (ref := TX4 2 |>.1) hC hDy ha cl_X4 in_X4 2 (by decide) q364 rfl hdg (kk _ hE)
theorem gD_X5_88_X12 {X : Ctx} {cc : ByteArray} {D : Dd} {cells slots : Nat} {P : Heap → Prop} {pc : Nat} {lv : List (Nat × Value)} {stk : List Value} {T : Th} {α : Type} {out : α} {a : Nat} {f : Int32 → Option α} (hC : Cx X cc RX5 vwCl arTy D) (hDy : ∀ H, P H → Dy D T H) (hdg : decode cc pc = .ok (.getfield 88, 3)) (hE : dI T a 11 1 f = some out) (kk : ∀ x, f x = some out → Wk X cells slots P (pc + 3) lv (.int x :: stk)) : Wk X cells slots P pc lv (.ref a :: stk) := by
  obtain ⟨ha, hE⟩ := dI_of hE
  exact dy_get (ref := TX12 1 |>.1) hC hDy ha cl_X12 in_X12 1 (by decide) q1031 rfl hdg (kk _ hE)
theorem gD_X5_91_X4 {X : Ctx} {cc : ByteArray} {D : Dd} {cells slots : Nat} {P : Heap → Prop} {pc : Nat} {lv : List (Nat × Value)} {stk : List Value} {T : Th} {α : Type} {out : α} {a : Nat} {f : Option Nat → Option α} (hC : Cx X cc RX5 vwCl arTy D) (hDy : ∀ H, P H → Dy D T H) (hdg : decode cc pc = .ok (.getfield 91, 3)) (hE : dR T a 4 3 f = some out) (kk : ∀ x, f x = some out → Wk X cells slots P (pc + 3) lv (va_rf x :: stk)) : Wk X cells slots P pc lv (.ref a :: stk) := by
  obtain ⟨ha, hE⟩ := dR_of hE
  exact dy_get (ref := TX4 3 |>.1) hC hDy ha cl_X4 in_X4 3 (by decide) q369 rfl hdg (kk _ hE)
theorem gD_X5_96_X13 {X : Ctx} {cc : ByteArray} {D : Dd} {cells slots : Nat} {P : Heap → Prop} {pc : Nat} {lv : List (Nat × Value)} {stk : List Value} {T : Th} {α : Type} {out : α} {a : Nat} {f : Int32 → Option α} (hC : Cx X cc RX5 vwCl arTy D) (hDy : ∀ H, P H → Dy D T H) (hdg : decode cc pc = .ok (.getfield 96, 3)) (hE : dI T a 12 2 f = some out) (kk : ∀ x, f x = some out → Wk X cells slots P (pc + 3) lv (.int x :: stk)) : Wk X cells slots P pc lv (.ref a :: stk) := by
  obtain ⟨ha, hE⟩ := dI_of hE
  exact dy_get (ref := TX13 2 |>.1) hC hDy ha cl_X13 in_X13 2 (by decide) q1048 rfl hdg (kk _ hE)
theorem gD_X5_98_X4 {X : Ctx} {cc : ByteArray} {D : Dd} {cells slots : Nat} {P : Heap → Prop} {pc : Nat} {lv : List (Nat × Value)} {stk : List Value} {T : Th} {α : Type} {out : α} {a : Nat} {f : Option Nat → Option α} (hC : Cx X cc RX5 vwCl arTy D) (hDy : ∀ H, P H → Dy D T H) (hdg : decode cc pc = .ok (.getfield 98, 3)) (hE : dR T a 4 4 f = some out) (kk : ∀ x, f x = some out → Wk X cells slots P (pc + 3) lv (va_rf x :: stk)) : Wk X cells slots P pc lv (.ref a :: stk) := by
  obtain ⟨ha, hE⟩ := dR_of hE
  exact dy_get (ref := TX4 4 |>.1) hC hDy ha cl_X4 in_X4 4 (by decide) q374 rfl hdg (kk _ hE)
theorem gD_X5_103_X15 {X : Ctx} {cc : ByteArray} {D : Dd} {cells slots : Nat} {P : Heap → Prop} {pc : Nat} {lv : List (Nat × Value)} {stk : List Value} {T : Th} {α : Type} {out : α} {a : Nat} {f : Int32 → Option α} (hC : Cx X cc RX5 vwCl arTy D) (hDy : ∀ H, P H → Dy D T H) (hdg : decode cc pc = .ok (.getfield 103, 3)) (hE : dI T a 14 2 f = some out) (kk : ∀ x, f x = some out → Wk X cells slots P (pc + 3) lv (.int x :: stk)) : Wk X cells slots P pc lv (.ref a :: stk) := by
  obtain ⟨ha, hE⟩ := dI_of hE
  exact dy_get (ref := TX15 2 |>.1) hC hDy ha cl_X15 in_X15 2 (by decide) q1130 rfl hdg (kk _ hE)
theorem gD_X5_105_X15 {X : Ctx} {cc : ByteArray} {D : Dd} {cells slots : Nat} {P : Heap → Prop} {pc : Nat} {lv : List (Nat × Value)} {stk : List Value} {T : Th} {α : Type} {out : α} {a : Nat} {f : Int32 → Option α} (hC : Cx X cc RX5 vwCl arTy D) (hDy : ∀ H, P H → Dy D T H) (hdg : decode cc pc = .ok (.getfield 105, 3)) (hE : dI T a 14 3 f = some out) (kk : ∀ x, f x = some out → Wk X cells slots P (pc + 3) lv (.int x :: stk)) : Wk X cells slots P pc lv (.ref a :: stk) := by
  obtain ⟨ha, hE⟩ := dI_of hE
  exact dy_get (ref := TX15 3 |>.1) hC hDy ha cl_X15 in_X15 3 (by decide) q1133 rfl hdg (kk _ hE)
theorem gD_X5_113_X4 {X : Ctx} {cc : ByteArray} {D : Dd} {cells slots : Nat} {P : Heap → Prop} {pc : Nat} {lv : List (Nat × Value)} {stk : List Value} {T : Th} {α : Type} {out : α} {a : Nat} {f : Option Nat → Option α} (hC : Cx X cc RX5 vwCl arTy D) (hDy : ∀ H, P H → Dy D T H) (hdg : decode cc pc = .ok (.getfield 113, 3)) (hE : dR T a 4 0 f = some out) (kk : ∀ x, f x = some out → Wk X cells slots P (pc + 3) lv (va_rf x :: stk)) : Wk X cells slots P pc lv (.ref a :: stk) := by
  obtain ⟨ha, hE⟩ := dR_of hE
  exact dy_get (ref := TX4 0 |>.1) hC hDy ha cl_X4 in_X4 0 (by decide) q356 rfl hdg (kk _ hE)
theorem gD_X5_117_X11 {X : Ctx} {cc : ByteArray} {D : Dd} {cells slots : Nat} {P : Heap → Prop} {pc : Nat} {lv : List (Nat × Value)} {stk : List Value} {T : Th} {α : Type} {out : α} {a : Nat} {f : Int32 → Option α} (hC : Cx X cc RX5 vwCl arTy D) (hDy : ∀ H, P H → Dy D T H) (hdg : decode cc pc = .ok (.getfield 117, 3)) (hE : dI T a 10 0 f = some out) (kk : ∀ x, f x = some out → Wk X cells slots P (pc + 3) lv (.int x :: stk)) : Wk X cells slots P pc lv (.ref a :: stk) := by
  obtain ⟨ha, hE⟩ := dI_of hE
  exact dy_get (ref := TX11 0 |>.1) hC hDy ha cl_X11 in_X11 0 (by decide) q991 rfl hdg (kk _ hE)
theorem gD_X5_120_X11 {X : Ctx} {cc : ByteArray} {D : Dd} {cells slots : Nat} {P : Heap → Prop} {pc : Nat} {lv : List (Nat × Value)} {stk : List Value} {T : Th} {α : Type} {out : α} {a : Nat} {f : Int32 → Option α} (hC : Cx X cc RX5 vwCl arTy D) (hDy : ∀ H, P H → Dy D T H) (hdg : decode cc pc = .ok (.getfield 120, 3)) (hE : dI T a 10 1 f = some out) (kk : ∀ x, f x = some out → Wk X cells slots P (pc + 3) lv (.int x :: stk)) : Wk X cells slots P pc lv (.ref a :: stk) := by
  obtain ⟨ha, hE⟩ := dI_of hE
  exact dy_get (ref := TX11 1 |>.1) hC hDy ha cl_X11 in_X11 1 (by decide) q993 rfl hdg (kk _ hE)
theorem gD_X5_123_X11 {X : Ctx} {cc : ByteArray} {D : Dd} {cells slots : Nat} {P : Heap → Prop} {pc : Nat} {lv : List (Nat × Value)} {stk : List Value} {T : Th} {α : Type} {out : α} {a : Nat} {f : Int32 → Option α} (hC : Cx X cc RX5 vwCl arTy D) (hDy : ∀ H, P H → Dy D T H) (hdg : decode cc pc = .ok (.getfield 123, 3)) (hE : dI T a 10 2 f = some out) (kk : ∀ x, f x = some out → Wk X cells slots P (pc + 3) lv (.int x :: stk)) : Wk X cells slots P pc lv (.ref a :: stk) := by
  obtain ⟨ha, hE⟩ := dI_of hE
  exact dy_get (ref := TX11 2 |>.1) hC hDy ha cl_X11 in_X11 2 (by decide) q995 rfl hdg (kk _ hE)
theorem gD_X5_132_X13 {X : Ctx} {cc : ByteArray} {D : Dd} {cells slots : Nat} {P : Heap → Prop} {pc : Nat} {lv : List (Nat × Value)} {stk : List Value} {T : Th} {α : Type} {out : α} {a : Nat} {f : Option Nat → Option α} (hC : Cx X cc RX5 vwCl arTy D) (hDy : ∀ H, P H → Dy D T H) (hdg : decode cc pc = .ok (.getfield 132, 3)) (hE : dR T a 12 3 f = some out) (kk : ∀ x, f x = some out → Wk X cells slots P (pc + 3) lv (va_rf x :: stk)) : Wk X cells slots P pc lv (.ref a :: stk) := by
  obtain ⟨ha, hE⟩ := dR_of hE
  exact dy_get (ref := TX13 3 |>.1) hC hDy ha cl_X13 in_X13 3 (by decide) q1052 rfl hdg (kk _ hE)
theorem gD_X5_137_X14 {X : Ctx} {cc : ByteArray} {D : Dd} {cells slots : Nat} {P : Heap → Prop} {pc : Nat} {lv : List (Nat × Value)} {stk : List Value} {T : Th} {α : Type} {out : α} {a : Nat} {f : Int32 → Option α} (hC : Cx X cc RX5 vwCl arTy D) (hDy : ∀ H, P H → Dy D T H) (hdg : decode cc pc = .ok (.getfield 137, 3)) (hE : dI T a 13 1 f = some out) (kk : ∀ x, f x = some out → Wk X cells slots P (pc + 3) lv (.int x :: stk)) : Wk X cells slots P pc lv (.ref a :: stk) := by
  obtain ⟨ha, hE⟩ := dI_of hE
  exact dy_get (ref := TX14 1 |>.1) hC hDy ha cl_X14 in_X14 1 (by decide) q1077 rfl hdg (kk _ hE)
theorem gD_X5_140_X14 {X : Ctx} {cc : ByteArray} {D : Dd} {cells slots : Nat} {P : Heap → Prop} {pc : Nat} {lv : List (Nat × Value)} {stk : List Value} {T : Th} {α : Type} {out : α} {a : Nat} {f : Int32 → Option α} (hC : Cx X cc RX5 vwCl arTy D) (hDy : ∀ H, P H → Dy D T H) (hdg : decode cc pc = .ok (.getfield 140, 3)) (hE : dI T a 13 2 f = some out) (kk : ∀ x, f x = some out → Wk X cells slots P (pc + 3) lv (.int x :: stk)) : Wk X cells slots P pc lv (.ref a :: stk) := by
  obtain ⟨ha, hE⟩ := dI_of hE
  exact dy_get (ref := TX14 2 |>.1) hC hDy ha cl_X14 in_X14 2 (by decide) q1080 rfl hdg (kk _ hE)
theorem gD_X5_143_X14 {X : Ctx} {cc : ByteArray} {D : Dd} {cells slots : Nat} {P : Heap → Prop} {pc : Nat} {lv : List (Nat × Value)} {stk : List Value} {T : Th} {α : Type} {out : α} {a : Nat} {f : Int32 → Option α} (hC : Cx X cc RX5 vwCl arTy D) (hDy : ∀ H, P H → Dy D T H) (hdg : decode cc pc = .ok (.getfield 143, 3)) (hE : dI T a 13 3 f = some out) (kk : ∀ x, f x = some out → Wk X cells slots P (pc + 3) lv (.int x :: stk)) : Wk X cells slots P pc lv (.ref a :: stk) := by
  obtain ⟨ha, hE⟩ := dI_of hE
  exact dy_get (ref := TX14 3 |>.1) hC hDy ha cl_X14 in_X14 3 (by decide) q1083 rfl hdg (kk _ hE)
theorem gD_X5_153_X14 {X : Ctx} {cc : ByteArray} {D : Dd} {cells slots : Nat} {P : Heap → Prop} {pc : Nat} {lv : List (Nat × Value)} {stk : List Value} {T : Th} {α : Type} {out : α} {a : Nat} {f : Int32 → Option α} (hC : Cx X cc RX5 vwCl arTy D) (hDy : ∀ H, P H → Dy D T H) (hdg : decode cc pc = .ok (.getfield 153, 3)) (hE : dI T a 13 5 f = some out) (kk : ∀ x, f x = some out → Wk X cells slots P (pc + 3) lv (.int x :: stk)) : Wk X cells slots P pc lv (.ref a :: stk) := by
  obtain ⟨ha, hE⟩ := dI_of hE
  exact dy_get (ref := TX14 5 |>.1) hC hDy ha cl_X14 in_X14 5 (by decide) q1091 rfl hdg (kk _ hE)
theorem gD_X5_156_X4 {X : Ctx} {cc : ByteArray} {D : Dd} {cells slots : Nat} {P : Heap → Prop} {pc : Nat} {lv : List (Nat × Value)} {stk : List Value} {T : Th} {α : Type} {out : α} {a : Nat} {f : Int32 → Option α} (hC : Cx X cc RX5 vwCl arTy D) (hDy : ∀ H, P H → Dy D T H) (hdg : decode cc pc = .ok (.getfield 156, 3)) (hE : dI T a 4 5 f = some out) (kk : ∀ x, f x = some out → Wk X cells slots P (pc + 3) lv (.int x :: stk)) : Wk X cells slots P pc lv (.ref a :: stk) := by
  obtain ⟨ha, hE⟩ := dI_of hE
  exact dy_get (ref := TX4 5 |>.1) hC hDy ha cl_X4 in_X4 5 (by decide) q378 rfl hdg (kk _ hE)
theorem gD_J10_15_J11 {X : Ctx} {cc : ByteArray} {D : Dd} {cells slots : Nat} {P : Heap → Prop} {pc : Nat} {lv : List (Nat × Value)} {stk : List Value} {T : Th} {α : Type} {out : α} {a : Nat} {f : Option Nat → Option α} (hC : Cx X cc RJ10 vwCl arTy D) (hDy : ∀ H, P H → Dy D T H) (hdg : decode cc pc = .ok (.getfield 15, 3)) (hE : dR T a 21 0 f = some out) (kk : ∀ x, f x = some out → Wk X cells slots P (pc + 3) lv (va_rf x :: stk)) : Wk X cells slots P pc lv (.ref a :: stk) := by
  obtain ⟨ha, hE⟩ := dR_of hE
  exact dy_get (ref := TJ11 0 |>.1) hC hDy ha cl_J11 in_J11 0 (by decide) q737 rfl hdg (kk _ hE)
theorem gD_J10_22_J11 {X : Ctx} {cc : ByteArray} {D : Dd} {cells slots : Nat} {P : Heap → Prop} {pc : Nat} {lv : List (Nat × Value)} {stk : List Value} {T : Th} {α : Type} {out : α} {a : Nat} {f : Int32 → Option α} (hC : Cx X cc RJ10 vwCl arTy D) (hDy : ∀ H, P H → Dy D T H) (hdg : decode cc pc = .ok (.getfield 22, 3)) (hE : dI T a 21 1 f = some out) (kk : ∀ x, f x = some out → Wk X cells slots P (pc + 3) lv (.int x :: stk)) : Wk X cells slots P pc lv (.ref a :: stk) := by
  obtain ⟨ha, hE⟩ := dI_of hE
  exact dy_get (ref := TJ11 1 |>.1) hC hDy ha cl_J11 in_J11 1 (by decide) q738 rfl hdg (kk _ hE)
theorem gD_J10_79_J11 {X : Ctx} {cc : ByteArray} {D : Dd} {cells slots : Nat} {P : Heap → Prop} {pc : Nat} {lv : List (Nat × Value)} {stk : List Value} {T : Th} {α : Type} {out : α} {a : Nat} {f : Int32 → Option α} (hC : Cx X cc RJ10 vwCl arTy D) (hDy : ∀ H, P H → Dy D T H) (hdg : decode cc pc = .ok (.getfield 79, 3)) (hE : dI T a 21 3 f = some out) (kk : ∀ x, f x = some out → Wk X cells slots P (pc + 3) lv (.int x :: stk)) : Wk X cells slots P pc lv (.ref a :: stk) := by
  obtain ⟨ha, hE⟩ := dI_of hE
  exact dy_get (ref := TJ11 3 |>.1) hC hDy ha cl_J11 in_J11 3 (by decide) q740 rfl hdg (kk _ hE)
theorem gD_J6_9_J6 {X : Ctx} {cc : ByteArray} {D : Dd} {cells slots : Nat} {P : Heap → Prop} {pc : Nat} {lv : List (Nat × Value)} {stk : List Value} {T : Th} {α : Type} {out : α} {a : Nat} {f : Option Nat → Option α} (hC : Cx X cc RJ6 vwCl arTy D) (hDy : ∀ H, P H → Dy D T H) (hdg : decode cc pc = .ok (.getfield 9, 3)) (hE : dR T a 20 0 f = some out) (kk : ∀ x, f x = some out → Wk X cells slots P (pc + 3) lv (va_rf x :: stk)) : Wk X cells slots P pc lv (.ref a :: stk) := by
  obtain ⟨ha, hE⟩ := dR_of hE
  exact dy_get (ref := TJ6 0 |>.1) hC hDy ha cl_J6 in_J6 0 (by decide) q871 rfl hdg (kk _ hE)
theorem gD_J6_15_J6 {X : Ctx} {cc : ByteArray} {D : Dd} {cells slots : Nat} {P : Heap → Prop} {pc : Nat} {lv : List (Nat × Value)} {stk : List Value} {T : Th} {α : Type} {out : α} {a : Nat} {f : Int32 → Option α} (hC : Cx X cc RJ6 vwCl arTy D) (hDy : ∀ H, P H → Dy D T H) (hdg : decode cc pc = .ok (.getfield 15, 3)) (hE : dI T a 20 1 f = some out) (kk : ∀ x, f x = some out → Wk X cells slots P (pc + 3) lv (.int x :: stk)) : Wk X cells slots P pc lv (.ref a :: stk) := by
  obtain ⟨ha, hE⟩ := dI_of hE
  exact dy_get (ref := TJ6 1 |>.1) hC hDy ha cl_J6 in_J6 1 (by decide) q872 rfl hdg (kk _ hE)
theorem gD_J6_1048_J11 {X : Ctx} {cc : ByteArray} {D : Dd} {cells slots : Nat} {P : Heap → Prop} {pc : Nat} {lv : List (Nat × Value)} {stk : List Value} {T : Th} {α : Type} {out : α} {a : Nat} {f : Int32 → Option α} (hC : Cx X cc RJ6 vwCl arTy D) (hDy : ∀ H, P H → Dy D T H) (hdg : decode cc pc = .ok (.getfield 1048, 3)) (hE : dI T a 21 2 f = some out) (kk : ∀ x, f x = some out → Wk X cells slots P (pc + 3) lv (.int x :: stk)) : Wk X cells slots P pc lv (.ref a :: stk) := by
  obtain ⟨ha, hE⟩ := dI_of hE
  exact dy_get (ref := TJ11 2 |>.1) hC hDy ha cl_J11 in_J11 2 (by decide) q739 rfl hdg (kk _ hE)
theorem gD_J4_7_J5 {X : Ctx} {cc : ByteArray} {D : Dd} {cells slots : Nat} {P : Heap → Prop} {pc : Nat} {lv : List (Nat × Value)} {stk : List Value} {T : Th} {α : Type} {out : α} {a : Nat} {f : Int32 → Option α} (hC : Cx X cc RJ4 vwCl arTy D) (hDy : ∀ H, P H → Dy D T H) (hdg : decode cc pc = .ok (.getfield 7, 3)) (hE : dI T a 19 0 f = some out) (kk : ∀ x, f x = some out → Wk X cells slots P (pc + 3) lv (.int x :: stk)) : Wk X cells slots P pc lv (.ref a :: stk) := by
  obtain ⟨ha, hE⟩ := dI_of hE
  exact dy_get (ref := TJ5 0 |>.1) hC hDy ha cl_J5 in_J5 0 (by decide) q345 rfl hdg (kk _ hE)
theorem gD_J5_9_J5 {X : Ctx} {cc : ByteArray} {D : Dd} {cells slots : Nat} {P : Heap → Prop} {pc : Nat} {lv : List (Nat × Value)} {stk : List Value} {T : Th} {α : Type} {out : α} {a : Nat} {f : Option Nat → Option α} (hC : Cx X cc RJ5 vwCl arTy D) (hDy : ∀ H, P H → Dy D T H) (hdg : decode cc pc = .ok (.getfield 9, 3)) (hE : dR T a 19 1 f = some out) (kk : ∀ x, f x = some out → Wk X cells slots P (pc + 3) lv (va_rf x :: stk)) : Wk X cells slots P pc lv (.ref a :: stk) := by
  obtain ⟨ha, hE⟩ := dR_of hE
  exact dy_get (ref := TJ5 1 |>.1) hC hDy ha cl_J5 in_J5 1 (by decide) q343 rfl hdg (kk _ hE)
theorem gD_J5_48_J5 {X : Ctx} {cc : ByteArray} {D : Dd} {cells slots : Nat} {P : Heap → Prop} {pc : Nat} {lv : List (Nat × Value)} {stk : List Value} {T : Th} {α : Type} {out : α} {a : Nat} {f : Int32 → Option α} (hC : Cx X cc RJ5 vwCl arTy D) (hDy : ∀ H, P H → Dy D T H) (hdg : decode cc pc = .ok (.getfield 48, 3)) (hE : dI T a 19 2 f = some out) (kk : ∀ x, f x = some out → Wk X cells slots P (pc + 3) lv (.int x :: stk)) : Wk X cells slots P pc lv (.ref a :: stk) := by
  obtain ⟨ha, hE⟩ := dI_of hE
  exact dy_get (ref := TJ5 2 |>.1) hC hDy ha cl_J5 in_J5 2 (by decide) q344 rfl hdg (kk _ hE)
def rfV : Nat → Option (Option Nat) := fun k => match k with
  | 0 => some (some 1)
  | 1 => some (some 8)
  | 2 => some (some 9)
  | 3 => some (some 10)
  | 4 => some (some 11)
  | 5 => some (some 12)
  | 6 => some (some 13)
  | 7 => some (some 14)
  | 10 => some (some 15)
  | 11 => some (some 24)
  | 12 => some (some 31)
  | _ => none
def rfS : Nat → Option (Option Nat) := fun _ => none
def rfA : Nat → Option (Option Nat) := fun k => match k with
  | 0 => some (some 32)
  | _ => none
def layV_L : List Kd := [.inr (.inl (5, rfV)), .inr (.inr (.array .int, 6, fun j => 2 + j)), .inl (.int, 6), .inl (.int, 6), .inl (.int, 6), .inl (.int, 6), .inl (.int, 6), .inl (.int, 6), .inl (.int, 6), .inl (.int, 6), .inl (.int, 6), .inl (.int, 6), .inl (.int, 6), .inl (.int, 6), .inl (.int, 6), .inr (.inr (.array .int, 8, fun j => 16 + j)), .inl (.int, 8), .inl (.int, 8), .inl (.int, 8), .inl (.int, 8), .inl (.int, 8), .inl (.int, 8), .inl (.int, 8), .inl (.int, 8), .inr (.inr (.object "SleepWork$Sleeper", 6, fun j => 25 + j)), .inr (.inl (6, rfS)), .inr (.inl (6, rfS)), .inr (.inl (6, rfS)), .inr (.inl (6, rfS)), .inr (.inl (6, rfS)), .inr (.inl (6, rfS)), .inr (.inl (7, rfA)), .inl (.int, 6)]
def layV : Lay := fun o => layV_L[o]?
theorem lv_0 : layV 0 = some (.inr (.inl (5, rfV))) := rfl
theorem lv_1 : layV 1 = some (.inr (.inr (.array .int, 6, fun j => 2 + j))) := rfl
theorem lv_8 : layV 8 = some (.inl (.int, 6)) := rfl
theorem lv_9 : layV 9 = some (.inl (.int, 6)) := rfl
theorem lv_10 : layV 10 = some (.inl (.int, 6)) := rfl
theorem lv_11 : layV 11 = some (.inl (.int, 6)) := rfl
theorem lv_12 : layV 12 = some (.inl (.int, 6)) := rfl
theorem lv_13 : layV 13 = some (.inl (.int, 6)) := rfl
theorem lv_14 : layV 14 = some (.inl (.int, 6)) := rfl
theorem lv_32 : layV 32 = some (.inl (.int, 6)) := rfl
theorem lv_15 : layV 15 = some (.inr (.inr (.array .int, 8, fun j => 16 + j))) := rfl
theorem lv_24 : layV 24 = some (.inr (.inr (.object "SleepWork$Sleeper", 6, fun j => 25 + j))) := rfl
theorem lv_31 : layV 31 = some (.inr (.inl (7, rfA))) := rfl
theorem lv_done : ∀ {q : Nat}, q < 6 → layV (2 + q) = some (.inl (.int, 6))
  | 0, _ => rfl
  | 1, _ => rfl
  | 2, _ => rfl
  | 3, _ => rfl
  | 4, _ => rfl
  | 5, _ => rfl
  | q + 6, h => absurd h (by omega)
theorem lv_apart : ∀ {q : Nat}, q < 8 → layV (16 + q) = some (.inl (.int, 8))
  | 0, _ => rfl
  | 1, _ => rfl
  | 2, _ => rfl
  | 3, _ => rfl
  | 4, _ => rfl
  | 5, _ => rfl
  | 6, _ => rfl
  | 7, _ => rfl
  | q + 8, h => absurd h (by omega)
theorem lv_slp : ∀ {q : Nat}, q < 6 → layV (25 + q) = some (.inr (.inl (6, rfS)))
  | 0, _ => rfl
  | 1, _ => rfl
  | 2, _ => rfl
  | 3, _ => rfl
  | 4, _ => rfl
  | 5, _ => rfl
  | q + 6, h => absurd h (by omega)
def VP (D : Dd) (v : Nat) (J : Ji) (T : Th) (H : Heap) : Prop := Rg vwCl D layV v J (fun _ _ => 0) (fun _ _ => none) H ∧ Dy D T H ∧ ∀ (off : Nat) (kd : Kd), layV off = some kd → T.1 (v + off) = none
/-- what a walk in the village's world stands on -/
def Vx (X : Ctx) (cc : ByteArray) (own : String) (D : Dd) (v maxL : Nat) (rm : Room) : Prop := Cx X cc own vwCl arTy D ∧ Ft X layV v ∧ X.2.2.2.2.2.2.2.2.2.2.2.1 = maxL ∧ X.2.2.2.1 = rm
theorem VP.put {D : Dd} {v : Nat} {J J1 : Ji} {T : Th} {off : Nat} {kd : Kd} (hly : layV off = some kd) : ∀ H H1 : Heap, VP D v J T H → Rg vwCl D layV v J1 (fun _ _ => 0) (fun _ _ => none) H1 → H1.size = H.size → (∀ q, q ≠ v + off → H1[q]? = H[q]?) → sz_ H H1 → VP D v J1 T H1 := fun H H1 h hr hz hq _ => ⟨hr, h.2.1.kept hz (fun a dk ha => hq a (fun e => by rw [e, h.2.2 off kd hly] at ha; cases ha)), h.2.2⟩
section VW
variable {X : Ctx} {cc : ByteArray} {own : String} {D : Dd} {v mL : Nat} {rm : Room} {J : Ji} {T : Th} {pc : Nat} {lv : List (Nat × Value)} {stk : List Value} {α : Type} {out : α}
theorem v_iald {n : Nat} {i : Int32} {f : Int32 → Option α} (off : Nat) (hly : layV off = some (.inl (.int, n))) (hM : Vx X cc own D v mL rm) (hdg : decode cc pc = .ok (.iaload, 1)) (hE : ldI J off n i f = some out) (kk : ∀ x, f x = some out → Wk X 0 0 (VP D v J T) (pc + 1) lv (.int x :: stk)) : Wk X 0 0 (VP D v J T) pc lv (.int i :: .ref (v + off) :: stk) :=
  k_iald (v := v) (J := J) hM.1 (fun _ h => h.1) off hly ar_i hdg hE (fun q h => kk _ h)
theorem v_iast {n : Nat} {i x : Int32} {f : Ji → Option α} (off : Nat) (hly : layV off = some (.inl (.int, n))) (hM : Vx X cc own D v mL rm) (hdg : decode cc pc = .ok (.iastore, 1)) (hE : stI J off n i x f = some out) (kk : ∀ J, f J = some out → Wk X 0 0 (VP D v J T) (pc + 1) lv stk) : Wk X 0 0 (VP D v J T) pc lv (.int x :: .int i :: .ref (v + off) :: stk) :=
  k_iast (v := v) (J := J) (P1 := fun q => VP D v (uJ J off q x) T) hM.1 (fun _ h => h.1) off hM.2.1 hly ar_i hdg hE (fun _ => VP.put hly) (fun q h => kk _ h)
theorem v_aald {ty : FieldType} {n : Nat} {g : Nat → Nat} {i : Int32} {f : Nat → Option α} (off : Nat) (hly : layV off = some (.inr (.inr (ty, n, g)))) (hty : ty ∈ arTy) (hr : ty.isReference = true) (hM : Vx X cc own D v mL rm) (hdg : decode cc pc = .ok (.aaload, 1)) (hE : (ix i n).bind f = some out) (kk : ∀ q, q < n → f q = some out → Wk X 0 0 (VP D v J T) (pc + 1) lv (.ref (v + g q) :: stk)) : Wk X 0 0 (VP D v J T) pc lv (.int i :: .ref (v + off) :: stk) :=
  k_aald (v := v) (J := J) hM.1 (fun _ h => h.1) off hly hty hr hdg hE kk
theorem v_recv {C : String} {Tt : u_T} {N ci : Nat} {rf : Nat → Option (Option Nat)} (off : Nat) (hly : layV off = some (.inr (.inl (ci, rf)))) (hc : vwCl[ci]? = some (C, Tt, N)) (hM : Vx X cc own D v mL rm) : ∀ H, VP D v J T H → ∃ cellB : Cell, H[v + off]? = some cellB ∧ cellB.vm.isStatics = false ∧ X.2.2.2.2.1.vm.findClass C = some cellB.cls := by
  intro H h
  obtain ⟨p, l, e, R, s, m, args, below, meth, c, A, nL, Q⟩ := X
  exact Rg.recv (v := v) hM.1.2.2.2.2.2.1 h.1 off hly hc
end VW
theorem gV_X0_146 {X : Ctx} {cc : ByteArray} {D : Dd} {v mL : Nat} {rm : Room} {J : Ji} {T : Th} {pc : Nat} {lv : List (Nat × Value)} {stk : List Value} (off : Nat) (hly : layV off = some (.inr (.inl (5, rfV)))) (hM : Vx X cc RX0 D v mL rm) (hdg : decode cc pc = .ok (.getfield 146, 3)) (kk : Wk X 0 0 (VP D v J T) (pc + 3) lv (.ref (v + 8) :: stk)) : Wk X 0 0 (VP D v J T) pc lv (.ref (v + off) :: stk) := k_getS (v := v) (J := J) (ref := RX5) (C := RX5) (T := TX5) (N := 14) hM.1 (fun _ h => h.1) off hly cl_X5 in_X5 1 (by decide) rfl (by exact q457) rfl hdg kk
theorem gV_X0_161 {X : Ctx} {cc : ByteArray} {D : Dd} {v mL : Nat} {rm : Room} {J : Ji} {T : Th} {pc : Nat} {lv : List (Nat × Value)} {stk : List Value} (off : Nat) (hly : layV off = some (.inr (.inl (5, rfV)))) (hM : Vx X cc RX0 D v mL rm) (hdg : decode cc pc = .ok (.getfield 161, 3)) (kk : Wk X 0 0 (VP D v J T) (pc + 3) lv (.ref (v + 1) :: stk)) : Wk X 0 0 (VP D v J T) pc lv (.ref (v + off) :: stk) := k_getS (v := v) (J := J) (ref := RX5) (C := RX5) (T := TX5) (N := 14) hM.1 (fun _ h => h.1) off hly cl_X5 in_X5 0 (by decide) rfl (by exact q454) rfl hdg kk
theorem gV_X0_191 {X : Ctx} {cc : ByteArray} {D : Dd} {v mL : Nat} {rm : Room} {J : Ji} {T : Th} {pc : Nat} {lv : List (Nat × Value)} {stk : List Value} (off : Nat) (hly : layV off = some (.inr (.inl (5, rfV)))) (hM : Vx X cc RX0 D v mL rm) (hdg : decode cc pc = .ok (.getfield 191, 3)) (kk : Wk X 0 0 (VP D v J T) (pc + 3) lv (.ref (v + 9) :: stk)) : Wk X 0 0 (VP D v J T) pc lv (.ref (v + off) :: stk) := k_getS (v := v) (J := J) (ref := RX5) (C := RX5) (T := TX5) (N := 14) hM.1 (fun _ h => h.1) off hly cl_X5 in_X5 2 (by decide) rfl (by exact q460) rfl hdg kk
theorem gV_X0_194 {X : Ctx} {cc : ByteArray} {D : Dd} {v mL : Nat} {rm : Room} {J : Ji} {T : Th} {pc : Nat} {lv : List (Nat × Value)} {stk : List Value} (off : Nat) (hly : layV off = some (.inr (.inl (5, rfV)))) (hM : Vx X cc RX0 D v mL rm) (hdg : decode cc pc = .ok (.getfield 194, 3)) (kk : Wk X 0 0 (VP D v J T) (pc + 3) lv (.ref (v + 10) :: stk)) : Wk X 0 0 (VP D v J T) pc lv (.ref (v + off) :: stk) := k_getS (v := v) (J := J) (ref := RX5) (C := RX5) (T := TX5) (N := 14) hM.1 (fun _ h => h.1) off hly cl_X5 in_X5 3 (by decide) rfl (by exact q463) rfl hdg kk
theorem gV_X0_197 {X : Ctx} {cc : ByteArray} {D : Dd} {v mL : Nat} {rm : Room} {J : Ji} {T : Th} {pc : Nat} {lv : List (Nat × Value)} {stk : List Value} (off : Nat) (hly : layV off = some (.inr (.inl (5, rfV)))) (hM : Vx X cc RX0 D v mL rm) (hdg : decode cc pc = .ok (.getfield 197, 3)) (kk : Wk X 0 0 (VP D v J T) (pc + 3) lv (.ref (v + 12) :: stk)) : Wk X 0 0 (VP D v J T) pc lv (.ref (v + off) :: stk) := k_getS (v := v) (J := J) (ref := RX5) (C := RX5) (T := TX5) (N := 14) hM.1 (fun _ h => h.1) off hly cl_X5 in_X5 5 (by decide) rfl (by exact q468) rfl hdg kk
theorem gV_X0_200 {X : Ctx} {cc : ByteArray} {D : Dd} {v mL : Nat} {rm : Room} {J : Ji} {T : Th} {pc : Nat} {lv : List (Nat × Value)} {stk : List Value} (off : Nat) (hly : layV off = some (.inr (.inl (5, rfV)))) (hM : Vx X cc RX0 D v mL rm) (hdg : decode cc pc = .ok (.getfield 200, 3)) (kk : Wk X 0 0 (VP D v J T) (pc + 3) lv (.ref (v + 13) :: stk)) : Wk X 0 0 (VP D v J T) pc lv (.ref (v + off) :: stk) := k_getS (v := v) (J := J) (ref := RX5) (C := RX5) (T := TX5) (N := 14) hM.1 (fun _ h => h.1) off hly cl_X5 in_X5 6 (by decide) rfl (by exact q471) rfl hdg kk
theorem gV_X0_203 {X : Ctx} {cc : ByteArray} {D : Dd} {v mL : Nat} {rm : Room} {J : Ji} {T : Th} {pc : Nat} {lv : List (Nat × Value)} {stk : List Value} (off : Nat) (hly : layV off = some (.inr (.inl (5, rfV)))) (hM : Vx X cc RX0 D v mL rm) (hdg : decode cc pc = .ok (.getfield 203, 3)) (kk : Wk X 0 0 (VP D v J T) (pc + 3) lv (.ref (v + 14) :: stk)) : Wk X 0 0 (VP D v J T) pc lv (.ref (v + off) :: stk) := k_getS (v := v) (J := J) (ref := RX5) (C := RX5) (T := TX5) (N := 14) hM.1 (fun _ h => h.1) off hly cl_X5 in_X5 7 (by decide) rfl (by exact q474) rfl hdg kk
theorem gV_X0_209 {X : Ctx} {cc : ByteArray} {D : Dd} {v mL : Nat} {rm : Room} {J : Ji} {T : Th} {pc : Nat} {lv : List (Nat × Value)} {stk : List Value} (off : Nat) (hly : layV off = some (.inr (.inl (5, rfV)))) (hM : Vx X cc RX0 D v mL rm) (hdg : decode cc pc = .ok (.getfield 209, 3)) (kk : Wk X 0 0 (VP D v J T) (pc + 3) lv (.ref (v + 11) :: stk)) : Wk X 0 0 (VP D v J T) pc lv (.ref (v + off) :: stk) := k_getS (v := v) (J := J) (ref := RX5) (C := RX5) (T := TX5) (N := 14) hM.1 (fun _ h => h.1) off hly cl_X5 in_X5 4 (by decide) rfl (by exact q465) rfl hdg kk
theorem gV_X0_229 {X : Ctx} {cc : ByteArray} {D : Dd} {v mL : Nat} {rm : Room} {J : Ji} {T : Th} {pc : Nat} {lv : List (Nat × Value)} {stk : List Value} (off : Nat) (hly : layV off = some (.inr (.inl (5, rfV)))) (hM : Vx X cc RX0 D v mL rm) (hdg : decode cc pc = .ok (.getfield 229, 3)) (kk : Wk X 0 0 (VP D v J T) (pc + 3) lv (.int (J off 8) :: stk)) : Wk X 0 0 (VP D v J T) pc lv (.ref (v + off) :: stk) := k_getI (v := v) (J := J) (ref := RX5) (C := RX5) (T := TX5) (N := 14) hM.1 (fun _ h => h.1) off hly cl_X5 in_X5 8 (by decide) rfl (by exact q476) rfl hdg kk
theorem pV_X0_229 {X : Ctx} {cc : ByteArray} {D : Dd} {v mL : Nat} {rm : Room} {J : Ji} {T : Th} {pc : Nat} {lv : List (Nat × Value)} {stk : List Value} {x : Int32} {α : Type} {out : α} {f : Ji → Option α} (off : Nat) (hly : layV off = some (.inr (.inl (5, rfV)))) (hM : Vx X cc RX0 D v mL rm) (hdg : decode cc pc = .ok (.putfield 229, 3)) (hE : lt_ (uJ J off 8 x) f = some out) (kk : ∀ J, f J = some out → Wk X 0 0 (VP D v J T) (pc + 3) lv stk) : Wk X 0 0 (VP D v J T) pc lv (.int x :: .ref (v + off) :: stk) := k_putI (v := v) (J := J) (ref := RX5) (C := RX5) (T := TX5) (N := 14) (P1 := VP D v (uJ J off 8 x) T) hM.1 (fun _ h => h.1) off hly cl_X5 in_X5 8 (by decide) hM.2.1 rfl tyX5 tyX5_ok nmX5 (by exact q476) rfl rfl rfl rfl hdg (VP.put hly) (kk _ hE)
theorem gV_X0_308 {X : Ctx} {cc : ByteArray} {D : Dd} {v mL : Nat} {rm : Room} {J : Ji} {T : Th} {pc : Nat} {lv : List (Nat × Value)} {stk : List Value} (off : Nat) (hly : layV off = some (.inr (.inl (5, rfV)))) (hM : Vx X cc RX0 D v mL rm) (hdg : decode cc pc = .ok (.getfield 308, 3)) (kk : Wk X 0 0 (VP D v J T) (pc + 3) lv (.int (J off 9) :: stk)) : Wk X 0 0 (VP D v J T) pc lv (.ref (v + off) :: stk) := k_getI (v := v) (J := J) (ref := RX5) (C := RX5) (T := TX5) (N := 14) hM.1 (fun _ h => h.1) off hly cl_X5 in_X5 9 (by decide) rfl (by exact q478) rfl hdg kk
theorem pV_X0_308 {X : Ctx} {cc : ByteArray} {D : Dd} {v mL : Nat} {rm : Room} {J : Ji} {T : Th} {pc : Nat} {lv : List (Nat × Value)} {stk : List Value} {x : Int32} {α : Type} {out : α} {f : Ji → Option α} (off : Nat) (hly : layV off = some (.inr (.inl (5, rfV)))) (hM : Vx X cc RX0 D v mL rm) (hdg : decode cc pc = .ok (.putfield 308, 3)) (hE : lt_ (uJ J off 9 x) f = some out) (kk : ∀ J, f J = some out → Wk X 0 0 (VP D v J T) (pc + 3) lv stk) : Wk X 0 0 (VP D v J T) pc lv (.int x :: .ref (v + off) :: stk) := k_putI (v := v) (J := J) (ref := RX5) (C := RX5) (T := TX5) (N := 14) (P1 := VP D v (uJ J off 9 x) T) hM.1 (fun _ h => h.1) off hly cl_X5 in_X5 9 (by decide) hM.2.1 rfl tyX5 tyX5_ok nmX5 (by exact q478) rfl rfl rfl rfl hdg (VP.put hly) (kk _ hE)
theorem gV_X7_7 {X : Ctx} {cc : ByteArray} {D : Dd} {v mL : Nat} {rm : Room} {J : Ji} {T : Th} {pc : Nat} {lv : List (Nat × Value)} {stk : List Value} (off : Nat) (hly : layV off = some (.inr (.inl (7, rfA)))) (hM : Vx X cc RX7 D v mL rm) (hdg : decode cc pc = .ok (.getfield 7, 3)) (kk : Wk X 0 0 (VP D v J T) (pc + 3) lv (.ref (v + 32) :: stk)) : Wk X 0 0 (VP D v J T) pc lv (.ref (v + off) :: stk) := k_getS (v := v) (J := J) (ref := RX7) (C := RX7) (T := TX7) (N := 2) hM.1 (fun _ h => h.1) off hly cl_X7 in_X7 0 (by decide) rfl (by exact q441) rfl hdg kk
theorem gV_X20_24 {X : Ctx} {cc : ByteArray} {D : Dd} {v mL : Nat} {rm : Room} {J : Ji} {T : Th} {pc : Nat} {lv : List (Nat × Value)} {stk : List Value} (off : Nat) (hly : layV off = some (.inr (.inl (7, rfA)))) (hM : Vx X cc RX20 D v mL rm) (hdg : decode cc pc = .ok (.getfield 24, 3)) (kk : Wk X 0 0 (VP D v J T) (pc + 3) lv (.int (J off 1) :: stk)) : Wk X 0 0 (VP D v J T) pc lv (.ref (v + off) :: stk) := k_getI (v := v) (J := J) (ref := RX7) (C := RX7) (T := TX7) (N := 2) hM.1 (fun _ h => h.1) off hly cl_X7 in_X7 1 (by decide) rfl (by exact q446) rfl hdg kk
theorem pV_X20_24 {X : Ctx} {cc : ByteArray} {D : Dd} {v mL : Nat} {rm : Room} {J : Ji} {T : Th} {pc : Nat} {lv : List (Nat × Value)} {stk : List Value} {x : Int32} {α : Type} {out : α} {f : Ji → Option α} (off : Nat) (hly : layV off = some (.inr (.inl (7, rfA)))) (hx : x = 0 ∨ x = 1) (hM : Vx X cc RX20 D v mL rm) (hdg : decode cc pc = .ok (.putfield 24, 3)) (hE : lt_ (uJ J off 1 x) f = some out) (kk : ∀ J, f J = some out → Wk X 0 0 (VP D v J T) (pc + 3) lv stk) : Wk X 0 0 (VP D v J T) pc lv (.int x :: .ref (v + off) :: stk) := k_putI (v := v) (J := J) (ref := RX7) (C := RX7) (T := TX7) (N := 2) (P1 := VP D v (uJ J off 1 x) T) hM.1 (fun _ h => h.1) off hly cl_X7 in_X7 1 (by decide) hM.2.1 rfl tyX7 tyX7_ok nmX7 (by exact q446) rfl rfl (by rcases hx with h | h <;> rw [h] <;> rfl) (by rcases hx with h | h <;> rw [h] <;> rfl) hdg (VP.put hly) (kk _ hE)
theorem gV_X16_23 {X : Ctx} {cc : ByteArray} {D : Dd} {v mL : Nat} {rm : Room} {J : Ji} {T : Th} {pc : Nat} {lv : List (Nat × Value)} {stk : List Value} (off : Nat) (hly : layV off = some (.inr (.inl (7, rfA)))) (hM : Vx X cc RX16 D v mL rm) (hdg : decode cc pc = .ok (.getfield 23, 3)) (kk : Wk X 0 0 (VP D v J T) (pc + 3) lv (.int (J off 1) :: stk)) : Wk X 0 0 (VP D v J T) pc lv (.ref (v + off) :: stk) := k_getI (v := v) (J := J) (ref := RX7) (C := RX7) (T := TX7) (N := 2) hM.1 (fun _ h => h.1) off hly cl_X7 in_X7 1 (by decide) rfl (by exact q445) rfl hdg kk
theorem pV_X16_23 {X : Ctx} {cc : ByteArray} {D : Dd} {v mL : Nat} {rm : Room} {J : Ji} {T : Th} {pc : Nat} {lv : List (Nat × Value)} {stk : List Value} {x : Int32} {α : Type} {out : α} {f : Ji → Option α} (off : Nat) (hly : layV off = some (.inr (.inl (7, rfA)))) (hx : x = 0 ∨ x = 1) (hM : Vx X cc RX16 D v mL rm) (hdg : decode cc pc = .ok (.putfield 23, 3)) (hE : lt_ (uJ J off 1 x) f = some out) (kk : ∀ J, f J = some out → Wk X 0 0 (VP D v J T) (pc + 3) lv stk) : Wk X 0 0 (VP D v J T) pc lv (.int x :: .ref (v + off) :: stk) := k_putI (v := v) (J := J) (ref := RX7) (C := RX7) (T := TX7) (N := 2) (P1 := VP D v (uJ J off 1 x) T) hM.1 (fun _ h => h.1) off hly cl_X7 in_X7 1 (by decide) hM.2.1 rfl tyX7 tyX7_ok nmX7 (by exact q445) rfl rfl (by rcases hx with h | h <;> rw [h] <;> rfl) (by rcases hx with h | h <;> rw [h] <;> rfl) hdg (VP.put hly) (kk _ hE)
theorem gV_X16_37 {X : Ctx} {cc : ByteArray} {D : Dd} {v mL : Nat} {rm : Room} {J : Ji} {T : Th} {pc : Nat} {lv : List (Nat × Value)} {stk : List Value} (off : Nat) (hly : layV off = some (.inr (.inl (7, rfA)))) (hM : Vx X cc RX16 D v mL rm) (hdg : decode cc pc = .ok (.getfield 37, 3)) (kk : Wk X 0 0 (VP D v J T) (pc + 3) lv (.ref (v + 32) :: stk)) : Wk X 0 0 (VP D v J T) pc lv (.ref (v + off) :: stk) := k_getS (v := v) (J := J) (ref := RX7) (C := RX7) (T := TX7) (N := 2) hM.1 (fun _ h => h.1) off hly cl_X7 in_X7 0 (by decide) rfl (by exact q443) rfl hdg kk
theorem gV_X6_9 {X : Ctx} {cc : ByteArray} {D : Dd} {v mL : Nat} {rm : Room} {J : Ji} {T : Th} {pc : Nat} {lv : List (Nat × Value)} {stk : List Value} (off : Nat) (hly : layV off = some (.inr (.inl (5, rfV)))) (hM : Vx X cc RX6 D v mL rm) (hdg : decode cc pc = .ok (.getfield 9, 3)) (kk : Wk X 0 0 (VP D v J T) (pc + 3) lv (.ref (v + 12) :: stk)) : Wk X 0 0 (VP D v J T) pc lv (.ref (v + off) :: stk) := k_getS (v := v) (J := J) (ref := RX5) (C := RX5) (T := TX5) (N := 14) hM.1 (fun _ h => h.1) off hly cl_X5 in_X5 5 (by decide) rfl (by exact q467) rfl hdg kk
theorem gV_X6_15 {X : Ctx} {cc : ByteArray} {D : Dd} {v mL : Nat} {rm : Room} {J : Ji} {T : Th} {pc : Nat} {lv : List (Nat × Value)} {stk : List Value} (off : Nat) (hly : layV off = some (.inr (.inl (5, rfV)))) (hM : Vx X cc RX6 D v mL rm) (hdg : decode cc pc = .ok (.getfield 15, 3)) (kk : Wk X 0 0 (VP D v J T) (pc + 3) lv (.ref (v + 14) :: stk)) : Wk X 0 0 (VP D v J T) pc lv (.ref (v + off) :: stk) := k_getS (v := v) (J := J) (ref := RX5) (C := RX5) (T := TX5) (N := 14) hM.1 (fun _ h => h.1) off hly cl_X5 in_X5 7 (by decide) rfl (by exact q473) rfl hdg kk
theorem gV_X6_18 {X : Ctx} {cc : ByteArray} {D : Dd} {v mL : Nat} {rm : Room} {J : Ji} {T : Th} {pc : Nat} {lv : List (Nat × Value)} {stk : List Value} (off : Nat) (hly : layV off = some (.inr (.inl (6, rfS)))) (hM : Vx X cc RX6 D v mL rm) (hdg : decode cc pc = .ok (.getfield 18, 3)) (kk : Wk X 0 0 (VP D v J T) (pc + 3) lv (.int (J off 6) :: stk)) : Wk X 0 0 (VP D v J T) pc lv (.ref (v + off) :: stk) := k_getI (v := v) (J := J) (ref := RX6) (C := RX6) (T := TX6) (N := 7) hM.1 (fun _ h => h.1) off hly cl_X6 in_X6 6 (by decide) rfl (by exact q418) rfl hdg kk
theorem pV_X6_18 {X : Ctx} {cc : ByteArray} {D : Dd} {v mL : Nat} {rm : Room} {J : Ji} {T : Th} {pc : Nat} {lv : List (Nat × Value)} {stk : List Value} {x : Int32} {α : Type} {out : α} {f : Ji → Option α} (off : Nat) (hly : layV off = some (.inr (.inl (6, rfS)))) (hx : x = 0 ∨ x = 1) (hM : Vx X cc RX6 D v mL rm) (hdg : decode cc pc = .ok (.putfield 18, 3)) (hE : lt_ (uJ J off 6 x) f = some out) (kk : ∀ J, f J = some out → Wk X 0 0 (VP D v J T) (pc + 3) lv stk) : Wk X 0 0 (VP D v J T) pc lv (.int x :: .ref (v + off) :: stk) := k_putI (v := v) (J := J) (ref := RX6) (C := RX6) (T := TX6) (N := 7) (P1 := VP D v (uJ J off 6 x) T) hM.1 (fun _ h => h.1) off hly cl_X6 in_X6 6 (by decide) hM.2.1 rfl tyX6 tyX6_ok nmX6 (by exact q418) rfl rfl (by rcases hx with h | h <;> rw [h] <;> rfl) (by rcases hx with h | h <;> rw [h] <;> rfl) hdg (VP.put hly) (kk _ hE)
theorem gV_X6_24 {X : Ctx} {cc : ByteArray} {D : Dd} {v mL : Nat} {rm : Room} {J : Ji} {T : Th} {pc : Nat} {lv : List (Nat × Value)} {stk : List Value} (off : Nat) (hly : layV off = some (.inr (.inl (6, rfS)))) (hM : Vx X cc RX6 D v mL rm) (hdg : decode cc pc = .ok (.getfield 24, 3)) (kk : Wk X 0 0 (VP D v J T) (pc + 3) lv (.int (J off 0) :: stk)) : Wk X 0 0 (VP D v J T) pc lv (.ref (v + off) :: stk) := k_getI (v := v) (J := J) (ref := RX6) (C := RX6) (T := TX6) (N := 7) hM.1 (fun _ h => h.1) off hly cl_X6 in_X6 0 (by decide) rfl (by exact q412) rfl hdg kk
theorem pV_X6_24 {X : Ctx} {cc : ByteArray} {D : Dd} {v mL : Nat} {rm : Room} {J : Ji} {T : Th} {pc : Nat} {lv : List (Nat × Value)} {stk : List Value} {x : Int32} {α : Type} {out : α} {f : Ji → Option α} (off : Nat) (hly : layV off = some (.inr (.inl (6, rfS)))) (hM : Vx X cc RX6 D v mL rm) (hdg : decode cc pc = .ok (.putfield 24, 3)) (hE : lt_ (uJ J off 0 x) f = some out) (kk : ∀ J, f J = some out → Wk X 0 0 (VP D v J T) (pc + 3) lv stk) : Wk X 0 0 (VP D v J T) pc lv (.int x :: .ref (v + off) :: stk) := k_putI (v := v) (J := J) (ref := RX6) (C := RX6) (T := TX6) (N := 7) (P1 := VP D v (uJ J off 0 x) T) hM.1 (fun _ h => h.1) off hly cl_X6 in_X6 0 (by decide) hM.2.1 rfl tyX6 tyX6_ok nmX6 (by exact q412) rfl rfl rfl rfl hdg (VP.put hly) (kk _ hE)
theorem gV_X6_28 {X : Ctx} {cc : ByteArray} {D : Dd} {v mL : Nat} {rm : Room} {J : Ji} {T : Th} {pc : Nat} {lv : List (Nat × Value)} {stk : List Value} (off : Nat) (hly : layV off = some (.inr (.inl (5, rfV)))) (hM : Vx X cc RX6 D v mL rm) (hdg : decode cc pc = .ok (.getfield 28, 3)) (kk : Wk X 0 0 (VP D v J T) (pc + 3) lv (.ref (v + 9) :: stk)) : Wk X 0 0 (VP D v J T) pc lv (.ref (v + off) :: stk) := k_getS (v := v) (J := J) (ref := RX5) (C := RX5) (T := TX5) (N := 14) hM.1 (fun _ h => h.1) off hly cl_X5 in_X5 2 (by decide) rfl (by exact q459) rfl hdg kk
theorem gV_X6_31 {X : Ctx} {cc : ByteArray} {D : Dd} {v mL : Nat} {rm : Room} {J : Ji} {T : Th} {pc : Nat} {lv : List (Nat × Value)} {stk : List Value} (off : Nat) (hly : layV off = some (.inr (.inl (6, rfS)))) (hM : Vx X cc RX6 D v mL rm) (hdg : decode cc pc = .ok (.getfield 31, 3)) (kk : Wk X 0 0 (VP D v J T) (pc + 3) lv (.int (J off 1) :: stk)) : Wk X 0 0 (VP D v J T) pc lv (.ref (v + off) :: stk) := k_getI (v := v) (J := J) (ref := RX6) (C := RX6) (T := TX6) (N := 7) hM.1 (fun _ h => h.1) off hly cl_X6 in_X6 1 (by decide) rfl (by exact q413) rfl hdg kk
theorem pV_X6_31 {X : Ctx} {cc : ByteArray} {D : Dd} {v mL : Nat} {rm : Room} {J : Ji} {T : Th} {pc : Nat} {lv : List (Nat × Value)} {stk : List Value} {x : Int32} {α : Type} {out : α} {f : Ji → Option α} (off : Nat) (hly : layV off = some (.inr (.inl (6, rfS)))) (hM : Vx X cc RX6 D v mL rm) (hdg : decode cc pc = .ok (.putfield 31, 3)) (hE : lt_ (uJ J off 1 x) f = some out) (kk : ∀ J, f J = some out → Wk X 0 0 (VP D v J T) (pc + 3) lv stk) : Wk X 0 0 (VP D v J T) pc lv (.int x :: .ref (v + off) :: stk) := k_putI (v := v) (J := J) (ref := RX6) (C := RX6) (T := TX6) (N := 7) (P1 := VP D v (uJ J off 1 x) T) hM.1 (fun _ h => h.1) off hly cl_X6 in_X6 1 (by decide) hM.2.1 rfl tyX6 tyX6_ok nmX6 (by exact q413) rfl rfl rfl rfl hdg (VP.put hly) (kk _ hE)
theorem gV_X6_34 {X : Ctx} {cc : ByteArray} {D : Dd} {v mL : Nat} {rm : Room} {J : Ji} {T : Th} {pc : Nat} {lv : List (Nat × Value)} {stk : List Value} (off : Nat) (hly : layV off = some (.inr (.inl (5, rfV)))) (hM : Vx X cc RX6 D v mL rm) (hdg : decode cc pc = .ok (.getfield 34, 3)) (kk : Wk X 0 0 (VP D v J T) (pc + 3) lv (.ref (v + 10) :: stk)) : Wk X 0 0 (VP D v J T) pc lv (.ref (v + off) :: stk) := k_getS (v := v) (J := J) (ref := RX5) (C := RX5) (T := TX5) (N := 14) hM.1 (fun _ h => h.1) off hly cl_X5 in_X5 3 (by decide) rfl (by exact q462) rfl hdg kk
theorem gV_X6_37 {X : Ctx} {cc : ByteArray} {D : Dd} {v mL : Nat} {rm : Room} {J : Ji} {T : Th} {pc : Nat} {lv : List (Nat × Value)} {stk : List Value} (off : Nat) (hly : layV off = some (.inr (.inl (6, rfS)))) (hM : Vx X cc RX6 D v mL rm) (hdg : decode cc pc = .ok (.getfield 37, 3)) (kk : Wk X 0 0 (VP D v J T) (pc + 3) lv (.int (J off 2) :: stk)) : Wk X 0 0 (VP D v J T) pc lv (.ref (v + off) :: stk) := k_getI (v := v) (J := J) (ref := RX6) (C := RX6) (T := TX6) (N := 7) hM.1 (fun _ h => h.1) off hly cl_X6 in_X6 2 (by decide) rfl (by exact q414) rfl hdg kk
theorem pV_X6_37 {X : Ctx} {cc : ByteArray} {D : Dd} {v mL : Nat} {rm : Room} {J : Ji} {T : Th} {pc : Nat} {lv : List (Nat × Value)} {stk : List Value} {x : Int32} {α : Type} {out : α} {f : Ji → Option α} (off : Nat) (hly : layV off = some (.inr (.inl (6, rfS)))) (hM : Vx X cc RX6 D v mL rm) (hdg : decode cc pc = .ok (.putfield 37, 3)) (hE : lt_ (uJ J off 2 x) f = some out) (kk : ∀ J, f J = some out → Wk X 0 0 (VP D v J T) (pc + 3) lv stk) : Wk X 0 0 (VP D v J T) pc lv (.int x :: .ref (v + off) :: stk) := k_putI (v := v) (J := J) (ref := RX6) (C := RX6) (T := TX6) (N := 7) (P1 := VP D v (uJ J off 2 x) T) hM.1 (fun _ h => h.1) off hly cl_X6 in_X6 2 (by decide) hM.2.1 rfl tyX6 tyX6_ok nmX6 (by exact q414) rfl rfl rfl rfl hdg (VP.put hly) (kk _ hE)
theorem gV_X6_69 {X : Ctx} {cc : ByteArray} {D : Dd} {v mL : Nat} {rm : Room} {J : Ji} {T : Th} {pc : Nat} {lv : List (Nat × Value)} {stk : List Value} (off : Nat) (hly : layV off = some (.inr (.inl (6, rfS)))) (hM : Vx X cc RX6 D v mL rm) (hdg : decode cc pc = .ok (.getfield 69, 3)) (kk : Wk X 0 0 (VP D v J T) (pc + 3) lv (.int (J off 4) :: stk)) : Wk X 0 0 (VP D v J T) pc lv (.ref (v + off) :: stk) := k_getI (v := v) (J := J) (ref := RX6) (C := RX6) (T := TX6) (N := 7) hM.1 (fun _ h => h.1) off hly cl_X6 in_X6 4 (by decide) rfl (by exact q416) rfl hdg kk
theorem pV_X6_69 {X : Ctx} {cc : ByteArray} {D : Dd} {v mL : Nat} {rm : Room} {J : Ji} {T : Th} {pc : Nat} {lv : List (Nat × Value)} {stk : List Value} {x : Int32} {α : Type} {out : α} {f : Ji → Option α} (off : Nat) (hly : layV off = some (.inr (.inl (6, rfS)))) (hM : Vx X cc RX6 D v mL rm) (hdg : decode cc pc = .ok (.putfield 69, 3)) (hE : lt_ (uJ J off 4 x) f = some out) (kk : ∀ J, f J = some out → Wk X 0 0 (VP D v J T) (pc + 3) lv stk) : Wk X 0 0 (VP D v J T) pc lv (.int x :: .ref (v + off) :: stk) := k_putI (v := v) (J := J) (ref := RX6) (C := RX6) (T := TX6) (N := 7) (P1 := VP D v (uJ J off 4 x) T) hM.1 (fun _ h => h.1) off hly cl_X6 in_X6 4 (by decide) hM.2.1 rfl tyX6 tyX6_ok nmX6 (by exact q416) rfl rfl rfl rfl hdg (VP.put hly) (kk _ hE)
theorem gV_X6_77 {X : Ctx} {cc : ByteArray} {D : Dd} {v mL : Nat} {rm : Room} {J : Ji} {T : Th} {pc : Nat} {lv : List (Nat × Value)} {stk : List Value} (off : Nat) (hly : layV off = some (.inr (.inl (6, rfS)))) (hM : Vx X cc RX6 D v mL rm) (hdg : decode cc pc = .ok (.getfield 77, 3)) (kk : Wk X 0 0 (VP D v J T) (pc + 3) lv (.int (J off 5) :: stk)) : Wk X 0 0 (VP D v J T) pc lv (.ref (v + off) :: stk) := k_getI (v := v) (J := J) (ref := RX6) (C := RX6) (T := TX6) (N := 7) hM.1 (fun _ h => h.1) off hly cl_X6 in_X6 5 (by decide) rfl (by exact q417) rfl hdg kk
theorem pV_X6_77 {X : Ctx} {cc : ByteArray} {D : Dd} {v mL : Nat} {rm : Room} {J : Ji} {T : Th} {pc : Nat} {lv : List (Nat × Value)} {stk : List Value} {x : Int32} {α : Type} {out : α} {f : Ji → Option α} (off : Nat) (hly : layV off = some (.inr (.inl (6, rfS)))) (hM : Vx X cc RX6 D v mL rm) (hdg : decode cc pc = .ok (.putfield 77, 3)) (hE : lt_ (uJ J off 5 x) f = some out) (kk : ∀ J, f J = some out → Wk X 0 0 (VP D v J T) (pc + 3) lv stk) : Wk X 0 0 (VP D v J T) pc lv (.int x :: .ref (v + off) :: stk) := k_putI (v := v) (J := J) (ref := RX6) (C := RX6) (T := TX6) (N := 7) (P1 := VP D v (uJ J off 5 x) T) hM.1 (fun _ h => h.1) off hly cl_X6 in_X6 5 (by decide) hM.2.1 rfl tyX6 tyX6_ok nmX6 (by exact q417) rfl rfl rfl rfl hdg (VP.put hly) (kk _ hE)
theorem gV_X6_80 {X : Ctx} {cc : ByteArray} {D : Dd} {v mL : Nat} {rm : Room} {J : Ji} {T : Th} {pc : Nat} {lv : List (Nat × Value)} {stk : List Value} (off : Nat) (hly : layV off = some (.inr (.inl (6, rfS)))) (hM : Vx X cc RX6 D v mL rm) (hdg : decode cc pc = .ok (.getfield 80, 3)) (kk : Wk X 0 0 (VP D v J T) (pc + 3) lv (.int (J off 3) :: stk)) : Wk X 0 0 (VP D v J T) pc lv (.ref (v + off) :: stk) := k_getI (v := v) (J := J) (ref := RX6) (C := RX6) (T := TX6) (N := 7) hM.1 (fun _ h => h.1) off hly cl_X6 in_X6 3 (by decide) rfl (by exact q415) rfl hdg kk
theorem pV_X6_80 {X : Ctx} {cc : ByteArray} {D : Dd} {v mL : Nat} {rm : Room} {J : Ji} {T : Th} {pc : Nat} {lv : List (Nat × Value)} {stk : List Value} {x : Int32} {α : Type} {out : α} {f : Ji → Option α} (off : Nat) (hly : layV off = some (.inr (.inl (6, rfS)))) (hM : Vx X cc RX6 D v mL rm) (hdg : decode cc pc = .ok (.putfield 80, 3)) (hE : lt_ (uJ J off 3 x) f = some out) (kk : ∀ J, f J = some out → Wk X 0 0 (VP D v J T) (pc + 3) lv stk) : Wk X 0 0 (VP D v J T) pc lv (.int x :: .ref (v + off) :: stk) := k_putI (v := v) (J := J) (ref := RX6) (C := RX6) (T := TX6) (N := 7) (P1 := VP D v (uJ J off 3 x) T) hM.1 (fun _ h => h.1) off hly cl_X6 in_X6 3 (by decide) hM.2.1 rfl tyX6 tyX6_ok nmX6 (by exact q415) rfl rfl rfl rfl hdg (VP.put hly) (kk _ hE)
theorem gV_X6_87 {X : Ctx} {cc : ByteArray} {D : Dd} {v mL : Nat} {rm : Room} {J : Ji} {T : Th} {pc : Nat} {lv : List (Nat × Value)} {stk : List Value} (off : Nat) (hly : layV off = some (.inr (.inl (5, rfV)))) (hM : Vx X cc RX6 D v mL rm) (hdg : decode cc pc = .ok (.getfield 87, 3)) (kk : Wk X 0 0 (VP D v J T) (pc + 3) lv (.ref (v + 13) :: stk)) : Wk X 0 0 (VP D v J T) pc lv (.ref (v + off) :: stk) := k_getS (v := v) (J := J) (ref := RX5) (C := RX5) (T := TX5) (N := 14) hM.1 (fun _ h => h.1) off hly cl_X5 in_X5 6 (by decide) rfl (by exact q470) rfl hdg kk
theorem gV_X6_109 {X : Ctx} {cc : ByteArray} {D : Dd} {v mL : Nat} {rm : Room} {J : Ji} {T : Th} {pc : Nat} {lv : List (Nat × Value)} {stk : List Value} (off : Nat) (hly : layV off = some (.inr (.inl (5, rfV)))) (hM : Vx X cc RX6 D v mL rm) (hdg : decode cc pc = .ok (.getfield 109, 3)) (kk : Wk X 0 0 (VP D v J T) (pc + 3) lv (.ref (v + 8) :: stk)) : Wk X 0 0 (VP D v J T) pc lv (.ref (v + off) :: stk) := k_getS (v := v) (J := J) (ref := RX5) (C := RX5) (T := TX5) (N := 14) hM.1 (fun _ h => h.1) off hly cl_X5 in_X5 1 (by decide) rfl (by exact q456) rfl hdg kk
theorem gV_X6_127 {X : Ctx} {cc : ByteArray} {D : Dd} {v mL : Nat} {rm : Room} {J : Ji} {T : Th} {pc : Nat} {lv : List (Nat × Value)} {stk : List Value} (off : Nat) (hly : layV off = some (.inr (.inl (7, rfA)))) (hM : Vx X cc RX6 D v mL rm) (hdg : decode cc pc = .ok (.getfield 127, 3)) (kk : Wk X 0 0 (VP D v J T) (pc + 3) lv (.ref (v + 32) :: stk)) : Wk X 0 0 (VP D v J T) pc lv (.ref (v + off) :: stk) := k_getS (v := v) (J := J) (ref := RX7) (C := RX7) (T := TX7) (N := 2) hM.1 (fun _ h => h.1) off hly cl_X7 in_X7 0 (by decide) rfl (by exact q444) rfl hdg kk
theorem gV_X6_132 {X : Ctx} {cc : ByteArray} {D : Dd} {v mL : Nat} {rm : Room} {J : Ji} {T : Th} {pc : Nat} {lv : List (Nat × Value)} {stk : List Value} (off : Nat) (hly : layV off = some (.inr (.inl (5, rfV)))) (hM : Vx X cc RX6 D v mL rm) (hdg : decode cc pc = .ok (.getfield 132, 3)) (kk : Wk X 0 0 (VP D v J T) (pc + 3) lv (.ref (v + 1) :: stk)) : Wk X 0 0 (VP D v J T) pc lv (.ref (v + off) :: stk) := k_getS (v := v) (J := J) (ref := RX5) (C := RX5) (T := TX5) (N := 14) hM.1 (fun _ h => h.1) off hly cl_X5 in_X5 0 (by decide) rfl (by exact q453) rfl hdg kk
theorem gV_X19_13 {X : Ctx} {cc : ByteArray} {D : Dd} {v mL : Nat} {rm : Room} {J : Ji} {T : Th} {pc : Nat} {lv : List (Nat × Value)} {stk : List Value} (off : Nat) (hly : layV off = some (.inr (.inl (7, rfA)))) (hM : Vx X cc RX19 D v mL rm) (hdg : decode cc pc = .ok (.getfield 13, 3)) (kk : Wk X 0 0 (VP D v J T) (pc + 3) lv (.ref (v + 32) :: stk)) : Wk X 0 0 (VP D v J T) pc lv (.ref (v + off) :: stk) := k_getS (v := v) (J := J) (ref := RX7) (C := RX7) (T := TX7) (N := 2) hM.1 (fun _ h => h.1) off hly cl_X7 in_X7 0 (by decide) rfl (by exact q442) rfl hdg kk
theorem gV_X5_11 {X : Ctx} {cc : ByteArray} {D : Dd} {v mL : Nat} {rm : Room} {J : Ji} {T : Th} {pc : Nat} {lv : List (Nat × Value)} {stk : List Value} (off : Nat) (hly : layV off = some (.inr (.inl (5, rfV)))) (hM : Vx X cc RX5 D v mL rm) (hdg : decode cc pc = .ok (.getfield 11, 3)) (kk : Wk X 0 0 (VP D v J T) (pc + 3) lv (.ref (v + 1) :: stk)) : Wk X 0 0 (VP D v J T) pc lv (.ref (v + off) :: stk) := k_getS (v := v) (J := J) (ref := RX5) (C := RX5) (T := TX5) (N := 14) hM.1 (fun _ h => h.1) off hly cl_X5 in_X5 0 (by decide) rfl (by exact q452) rfl hdg kk
theorem gV_X5_16 {X : Ctx} {cc : ByteArray} {D : Dd} {v mL : Nat} {rm : Room} {J : Ji} {T : Th} {pc : Nat} {lv : List (Nat × Value)} {stk : List Value} (off : Nat) (hly : layV off = some (.inr (.inl (5, rfV)))) (hM : Vx X cc RX5 D v mL rm) (hdg : decode cc pc = .ok (.getfield 16, 3)) (kk : Wk X 0 0 (VP D v J T) (pc + 3) lv (.ref (v + 8) :: stk)) : Wk X 0 0 (VP D v J T) pc lv (.ref (v + off) :: stk) := k_getS (v := v) (J := J) (ref := RX5) (C := RX5) (T := TX5) (N := 14) hM.1 (fun _ h => h.1) off hly cl_X5 in_X5 1 (by decide) rfl (by exact q455) rfl hdg kk
theorem gV_X5_20 {X : Ctx} {cc : ByteArray} {D : Dd} {v mL : Nat} {rm : Room} {J : Ji} {T : Th} {pc : Nat} {lv : List (Nat × Value)} {stk : List Value} (off : Nat) (hly : layV off = some (.inr (.inl (5, rfV)))) (hM : Vx X cc RX5 D v mL rm) (hdg : decode cc pc = .ok (.getfield 20, 3)) (kk : Wk X 0 0 (VP D v J T) (pc + 3) lv (.ref (v + 9) :: stk)) : Wk X 0 0 (VP D v J T) pc lv (.ref (v + off) :: stk) := k_getS (v := v) (J := J) (ref := RX5) (C := RX5) (T := TX5) (N := 14) hM.1 (fun _ h => h.1) off hly cl_X5 in_X5 2 (by decide) rfl (by exact q458) rfl hdg kk
theorem gV_X5_23 {X : Ctx} {cc : ByteArray} {D : Dd} {v mL : Nat} {rm : Room} {J : Ji} {T : Th} {pc : Nat} {lv : List (Nat × Value)} {stk : List Value} (off : Nat) (hly : layV off = some (.inr (.inl (5, rfV)))) (hM : Vx X cc RX5 D v mL rm) (hdg : decode cc pc = .ok (.getfield 23, 3)) (kk : Wk X 0 0 (VP D v J T) (pc + 3) lv (.ref (v + 10) :: stk)) : Wk X 0 0 (VP D v J T) pc lv (.ref (v + off) :: stk) := k_getS (v := v) (J := J) (ref := RX5) (C := RX5) (T := TX5) (N := 14) hM.1 (fun _ h => h.1) off hly cl_X5 in_X5 3 (by decide) rfl (by exact q461) rfl hdg kk
theorem gV_X5_26 {X : Ctx} {cc : ByteArray} {D : Dd} {v mL : Nat} {rm : Room} {J : Ji} {T : Th} {pc : Nat} {lv : List (Nat × Value)} {stk : List Value} (off : Nat) (hly : layV off = some (.inr (.inl (5, rfV)))) (hM : Vx X cc RX5 D v mL rm) (hdg : decode cc pc = .ok (.getfield 26, 3)) (kk : Wk X 0 0 (VP D v J T) (pc + 3) lv (.ref (v + 11) :: stk)) : Wk X 0 0 (VP D v J T) pc lv (.ref (v + off) :: stk) := k_getS (v := v) (J := J) (ref := RX5) (C := RX5) (T := TX5) (N := 14) hM.1 (fun _ h => h.1) off hly cl_X5 in_X5 4 (by decide) rfl (by exact q464) rfl hdg kk
theorem gV_X5_29 {X : Ctx} {cc : ByteArray} {D : Dd} {v mL : Nat} {rm : Room} {J : Ji} {T : Th} {pc : Nat} {lv : List (Nat × Value)} {stk : List Value} (off : Nat) (hly : layV off = some (.inr (.inl (5, rfV)))) (hM : Vx X cc RX5 D v mL rm) (hdg : decode cc pc = .ok (.getfield 29, 3)) (kk : Wk X 0 0 (VP D v J T) (pc + 3) lv (.ref (v + 12) :: stk)) : Wk X 0 0 (VP D v J T) pc lv (.ref (v + off) :: stk) := k_getS (v := v) (J := J) (ref := RX5) (C := RX5) (T := TX5) (N := 14) hM.1 (fun _ h => h.1) off hly cl_X5 in_X5 5 (by decide) rfl (by exact q466) rfl hdg kk
theorem gV_X5_32 {X : Ctx} {cc : ByteArray} {D : Dd} {v mL : Nat} {rm : Room} {J : Ji} {T : Th} {pc : Nat} {lv : List (Nat × Value)} {stk : List Value} (off : Nat) (hly : layV off = some (.inr (.inl (5, rfV)))) (hM : Vx X cc RX5 D v mL rm) (hdg : decode cc pc = .ok (.getfield 32, 3)) (kk : Wk X 0 0 (VP D v J T) (pc + 3) lv (.ref (v + 13) :: stk)) : Wk X 0 0 (VP D v J T) pc lv (.ref (v + off) :: stk) := k_getS (v := v) (J := J) (ref := RX5) (C := RX5) (T := TX5) (N := 14) hM.1 (fun _ h => h.1) off hly cl_X5 in_X5 6 (by decide) rfl (by exact q469) rfl hdg kk
theorem gV_X5_35 {X : Ctx} {cc : ByteArray} {D : Dd} {v mL : Nat} {rm : Room} {J : Ji} {T : Th} {pc : Nat} {lv : List (Nat × Value)} {stk : List Value} (off : Nat) (hly : layV off = some (.inr (.inl (5, rfV)))) (hM : Vx X cc RX5 D v mL rm) (hdg : decode cc pc = .ok (.getfield 35, 3)) (kk : Wk X 0 0 (VP D v J T) (pc + 3) lv (.ref (v + 14) :: stk)) : Wk X 0 0 (VP D v J T) pc lv (.ref (v + off) :: stk) := k_getS (v := v) (J := J) (ref := RX5) (C := RX5) (T := TX5) (N := 14) hM.1 (fun _ h => h.1) off hly cl_X5 in_X5 7 (by decide) rfl (by exact q472) rfl hdg kk
theorem gV_X5_38 {X : Ctx} {cc : ByteArray} {D : Dd} {v mL : Nat} {rm : Room} {J : Ji} {T : Th} {pc : Nat} {lv : List (Nat × Value)} {stk : List Value} (off : Nat) (hly : layV off = some (.inr (.inl (5, rfV)))) (hM : Vx X cc RX5 D v mL rm) (hdg : decode cc pc = .ok (.getfield 38, 3)) (kk : Wk X 0 0 (VP D v J T) (pc + 3) lv (.ref (v + 15) :: stk)) : Wk X 0 0 (VP D v J T) pc lv (.ref (v + off) :: stk) := k_getS (v := v) (J := J) (ref := RX5) (C := RX5) (T := TX5) (N := 14) hM.1 (fun _ h => h.1) off hly cl_X5 in_X5 10 (by decide) rfl (by exact q479) rfl hdg kk
theorem gV_X5_44 {X : Ctx} {cc : ByteArray} {D : Dd} {v mL : Nat} {rm : Room} {J : Ji} {T : Th} {pc : Nat} {lv : List (Nat × Value)} {stk : List Value} (off : Nat) (hly : layV off = some (.inr (.inl (5, rfV)))) (hM : Vx X cc RX5 D v mL rm) (hdg : decode cc pc = .ok (.getfield 44, 3)) (kk : Wk X 0 0 (VP D v J T) (pc + 3) lv (.ref (v + 24) :: stk)) : Wk X 0 0 (VP D v J T) pc lv (.ref (v + off) :: stk) := k_getS (v := v) (J := J) (ref := RX5) (C := RX5) (T := TX5) (N := 14) hM.1 (fun _ h => h.1) off hly cl_X5 in_X5 11 (by decide) rfl (by exact q482) rfl hdg kk
theorem gV_X5_51 {X : Ctx} {cc : ByteArray} {D : Dd} {v mL : Nat} {rm : Room} {J : Ji} {T : Th} {pc : Nat} {lv : List (Nat × Value)} {stk : List Value} (off : Nat) (hly : layV off = some (.inr (.inl (5, rfV)))) (hM : Vx X cc RX5 D v mL rm) (hdg : decode cc pc = .ok (.getfield 51, 3)) (kk : Wk X 0 0 (VP D v J T) (pc + 3) lv (.ref (v + 31) :: stk)) : Wk X 0 0 (VP D v J T) pc lv (.ref (v + off) :: stk) := k_getS (v := v) (J := J) (ref := RX5) (C := RX5) (T := TX5) (N := 14) hM.1 (fun _ h => h.1) off hly cl_X5 in_X5 12 (by decide) rfl (by exact q483) rfl hdg kk
theorem gV_X5_55 {X : Ctx} {cc : ByteArray} {D : Dd} {v mL : Nat} {rm : Room} {J : Ji} {T : Th} {pc : Nat} {lv : List (Nat × Value)} {stk : List Value} (off : Nat) (hly : layV off = some (.inr (.inl (5, rfV)))) (hM : Vx X cc RX5 D v mL rm) (hdg : decode cc pc = .ok (.getfield 55, 3)) (kk : Wk X 0 0 (VP D v J T) (pc + 3) lv (.int (J off 8) :: stk)) : Wk X 0 0 (VP D v J T) pc lv (.ref (v + off) :: stk) := k_getI (v := v) (J := J) (ref := RX5) (C := RX5) (T := TX5) (N := 14) hM.1 (fun _ h => h.1) off hly cl_X5 in_X5 8 (by decide) rfl (by exact q475) rfl hdg kk
theorem pV_X5_55 {X : Ctx} {cc : ByteArray} {D : Dd} {v mL : Nat} {rm : Room} {J : Ji} {T : Th} {pc : Nat} {lv : List (Nat × Value)} {stk : List Value} {x : Int32} {α : Type} {out : α} {f : Ji → Option α} (off : Nat) (hly : layV off = some (.inr (.inl (5, rfV)))) (hM : Vx X cc RX5 D v mL rm) (hdg : decode cc pc = .ok (.putfield 55, 3)) (hE : lt_ (uJ J off 8 x) f = some out) (kk : ∀ J, f J = some out → Wk X 0 0 (VP D v J T) (pc + 3) lv stk) : Wk X 0 0 (VP D v J T) pc lv (.int x :: .ref (v + off) :: stk) := k_putI (v := v) (J := J) (ref := RX5) (C := RX5) (T := TX5) (N := 14) (P1 := VP D v (uJ J off 8 x) T) hM.1 (fun _ h => h.1) off hly cl_X5 in_X5 8 (by decide) hM.2.1 rfl tyX5 tyX5_ok nmX5 (by exact q475) rfl rfl rfl rfl hdg (VP.put hly) (kk _ hE)
theorem gV_X5_59 {X : Ctx} {cc : ByteArray} {D : Dd} {v mL : Nat} {rm : Room} {J : Ji} {T : Th} {pc : Nat} {lv : List (Nat × Value)} {stk : List Value} (off : Nat) (hly : layV off = some (.inr (.inl (5, rfV)))) (hM : Vx X cc RX5 D v mL rm) (hdg : decode cc pc = .ok (.getfield 59, 3)) (kk : Wk X 0 0 (VP D v J T) (pc + 3) lv (.int (J off 9) :: stk)) : Wk X 0 0 (VP D v J T) pc lv (.ref (v + off) :: stk) := k_getI (v := v) (J := J) (ref := RX5) (C := RX5) (T := TX5) (N := 14) hM.1 (fun _ h => h.1) off hly cl_X5 in_X5 9 (by decide) rfl (by exact q477) rfl hdg kk
theorem pV_X5_59 {X : Ctx} {cc : ByteArray} {D : Dd} {v mL : Nat} {rm : Room} {J : Ji} {T : Th} {pc : Nat} {lv : List (Nat × Value)} {stk : List Value} {x : Int32} {α : Type} {out : α} {f : Ji → Option α} (off : Nat) (hly : layV off = some (.inr (.inl (5, rfV)))) (hM : Vx X cc RX5 D v mL rm) (hdg : decode cc pc = .ok (.putfield 59, 3)) (hE : lt_ (uJ J off 9 x) f = some out) (kk : ∀ J, f J = some out → Wk X 0 0 (VP D v J T) (pc + 3) lv stk) : Wk X 0 0 (VP D v J T) pc lv (.int x :: .ref (v + off) :: stk) := k_putI (v := v) (J := J) (ref := RX5) (C := RX5) (T := TX5) (N := 14) (P1 := VP D v (uJ J off 9 x) T) hM.1 (fun _ h => h.1) off hly cl_X5 in_X5 9 (by decide) hM.2.1 rfl tyX5 tyX5_ok nmX5 (by exact q477) rfl rfl rfl rfl hdg (VP.put hly) (kk _ hE)
theorem gV_X5_167 {X : Ctx} {cc : ByteArray} {D : Dd} {v mL : Nat} {rm : Room} {J : Ji} {T : Th} {pc : Nat} {lv : List (Nat × Value)} {stk : List Value} (off : Nat) (hly : layV off = some (.inr (.inl (5, rfV)))) (hM : Vx X cc RX5 D v mL rm) (hdg : decode cc pc = .ok (.getfield 167, 3)) (kk : Wk X 0 0 (VP D v J T) (pc + 3) lv (.int (J off 13) :: stk)) : Wk X 0 0 (VP D v J T) pc lv (.ref (v + off) :: stk) := k_getI (v := v) (J := J) (ref := RX5) (C := RX5) (T := TX5) (N := 14) hM.1 (fun _ h => h.1) off hly cl_X5 in_X5 13 (by decide) rfl (by exact q486) rfl hdg kk
theorem pV_X5_167 {X : Ctx} {cc : ByteArray} {D : Dd} {v mL : Nat} {rm : Room} {J : Ji} {T : Th} {pc : Nat} {lv : List (Nat × Value)} {stk : List Value} {x : Int32} {α : Type} {out : α} {f : Ji → Option α} (off : Nat) (hly : layV off = some (.inr (.inl (5, rfV)))) (hM : Vx X cc RX5 D v mL rm) (hdg : decode cc pc = .ok (.putfield 167, 3)) (hE : lt_ (uJ J off 13 x) f = some out) (kk : ∀ J, f J = some out → Wk X 0 0 (VP D v J T) (pc + 3) lv stk) : Wk X 0 0 (VP D v J T) pc lv (.int x :: .ref (v + off) :: stk) := k_putI (v := v) (J := J) (ref := RX5) (C := RX5) (T := TX5) (N := 14) (P1 := VP D v (uJ J off 13 x) T) hM.1 (fun _ h => h.1) off hly cl_X5 in_X5 13 (by decide) hM.2.1 rfl tyX5 tyX5_ok nmX5 (by exact q486) rfl rfl rfl rfl hdg (VP.put hly) (kk _ hE)
theorem gV_X0_218 {X : Ctx} {cc : ByteArray} {D : Dd} {v mL : Nat} {rm : Room} {J : Ji} {T : Th} {pc : Nat} {lv : List (Nat × Value)} {stk : List Value} (off : Nat) (hly : layV off = some (.inr (.inl (5, rfV)))) (hM : Vx X cc RX0 D v mL rm) (hdg : decode cc pc = .ok (.getfield 218, 3)) (kk : Wk X 0 0 (VP D v J T) (pc + 3) lv (.ref (v + 15) :: stk)) : Wk X 0 0 (VP D v J T) pc lv (.ref (v + off) :: stk) := k_getSN (v := v) (J := J) (ref := RX5) (C := RX5) (T := TX5) (N := 14) hM.1 (fun _ h => h.1) off hly cl_X5 in_X5 10 (by decide) rfl (host := "SleepWork") (by exact q481) rfl hdg kk
theorem gV_X6_40 {X : Ctx} {cc : ByteArray} {D : Dd} {v mL : Nat} {rm : Room} {J : Ji} {T : Th} {pc : Nat} {lv : List (Nat × Value)} {stk : List Value} (off : Nat) (hly : layV off = some (.inr (.inl (5, rfV)))) (hM : Vx X cc RX6 D v mL rm) (hdg : decode cc pc = .ok (.getfield 40, 3)) (kk : Wk X 0 0 (VP D v J T) (pc + 3) lv (.ref (v + 15) :: stk)) : Wk X 0 0 (VP D v J T) pc lv (.ref (v + off) :: stk) := k_getSN (v := v) (J := J) (ref := RX5) (C := RX5) (T := TX5) (N := 14) hM.1 (fun _ h => h.1) off hly cl_X5 in_X5 10 (by decide) rfl (host := "SleepWork") (by exact q480) rfl hdg kk
theorem gV_X6_98 {X : Ctx} {cc : ByteArray} {D : Dd} {v mL : Nat} {rm : Room} {J : Ji} {T : Th} {pc : Nat} {lv : List (Nat × Value)} {stk : List Value} (off : Nat) (hly : layV off = some (.inr (.inl (5, rfV)))) (hM : Vx X cc RX6 D v mL rm) (hdg : decode cc pc = .ok (.getfield 98, 3)) (kk : Wk X 0 0 (VP D v J T) (pc + 3) lv (.int (J off 13) :: stk)) : Wk X 0 0 (VP D v J T) pc lv (.ref (v + off) :: stk) := k_getIN (v := v) (J := J) (ref := RX5) (C := RX5) (T := TX5) (N := 14) hM.1 (fun _ h => h.1) off hly cl_X5 in_X5 13 (by decide) rfl (host := "SleepWork") (by exact q485) rfl hdg kk
theorem pV_X6_98 {X : Ctx} {cc : ByteArray} {D : Dd} {v mL : Nat} {rm : Room} {J : Ji} {T : Th} {pc : Nat} {lv : List (Nat × Value)} {stk : List Value} {x : Int32} {α : Type} {out : α} {f : Ji → Option α} (off : Nat) (hly : layV off = some (.inr (.inl (5, rfV)))) (hM : Vx X cc RX6 D v mL rm) (hdg : decode cc pc = .ok (.putfield 98, 3)) (hE : lt_ (uJ J off 13 x) f = some out) (kk : ∀ J, f J = some out → Wk X 0 0 (VP D v J T) (pc + 3) lv stk) : Wk X 0 0 (VP D v J T) pc lv (.int x :: .ref (v + off) :: stk) := k_putIN (v := v) (J := J) (ref := RX5) (C := RX5) (T := TX5) (N := 14) (P1 := VP D v (uJ J off 13 x) T) hM.1 (fun _ h => h.1) off hly cl_X5 in_X5 13 (by decide) hM.2.1 rfl tyX5 tyX5_ok nmX5 (host := "SleepWork") (by exact q485) rfl rfl rfl rfl hdg (VP.put hly) (kk _ hE)
theorem gV_X6_123 {X : Ctx} {cc : ByteArray} {D : Dd} {v mL : Nat} {rm : Room} {J : Ji} {T : Th} {pc : Nat} {lv : List (Nat × Value)} {stk : List Value} (off : Nat) (hly : layV off = some (.inr (.inl (5, rfV)))) (hM : Vx X cc RX6 D v mL rm) (hdg : decode cc pc = .ok (.getfield 123, 3)) (kk : Wk X 0 0 (VP D v J T) (pc + 3) lv (.ref (v + 31) :: stk)) : Wk X 0 0 (VP D v J T) pc lv (.ref (v + off) :: stk) := k_getSN (v := v) (J := J) (ref := RX5) (C := RX5) (T := TX5) (N := 14) hM.1 (fun _ h => h.1) off hly cl_X5 in_X5 12 (by decide) rfl (host := "SleepWork") (by exact q484) rfl hdg kk
