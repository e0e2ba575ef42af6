/-! rows of references; calls in the worlds of the component (printed by gen/crow.py) -/
set_option maxRecDepth 100000
def ush (x y : Int32) : Int32 := (x.toUInt32 >>> (y.toUInt32 &&& Int32.toUInt32 31)).toInt32
theorem k_iushr {X : Ctx} {cc : ByteArray} {own : String} {cl : List vw_C} {tl : List FieldType} {D : Dd} {cells slots : Nat} {P : Heap → Prop} {pc : Nat} {lv : List (Nat × Value)} {stk : List Value} {x y : Int32} (hC : Cx X cc own cl tl D) (hdg : decode cc pc = .ok (.iushr, 1)) (kk : Wk X cells slots P (pc + 1) lv (.int (ush x y) :: stk)) : Wk X cells slots P pc lv (.int y :: .int x :: stk) := by
  obtain ⟨p, l, e, R, s, m, args, below, meth, c, A, nL, Q⟩ := X
  intro H locs ls hP hS hl
  exact lv_iushr hC.1 hC.2.1 hdg rfl (kk H locs ls hP hS hl)
def rC {α : Type} (r : Option Nat) (f : Option α) (g : Nat → Option α) : Option α := match r with
  | none => f
  | some b => g b
section CR
variable {X : Ctx} {cc : ByteArray} {own : String} {cl : List vw_C} {tl : List FieldType} {D : Dd} {cells slots : Nat} {P : Heap → Prop} {pc : Nat} {lv : List (Nat × Value)} {stk : List Value} {α : Type} {out : α}
theorem k_rc {r : Option Nat} {f : Option α} {g : Nat → Option α} {G : Value → Prop} (hE : rC r f g = some out) (k1 : f = some out → G .null) (k2 : ∀ b, g b = some out → G (.ref b)) : G (va_rf r) := by
  cases r with
  | none => exact k1 hE
  | some b => exact k2 b hE
theorem k_aloadR_n {k : Fin 4} {i : Nat} {r : Option Nat} (hC : Cx X cc own cl tl D) (hdg : decode cc pc = .ok (.aload_n k, 1)) (hi : (k : Nat) = i) (j : Nat) (hj : lv[j]? = some (i, va_rf r)) (kk : Wk X cells slots P (pc + 1) lv (va_rf r :: stk)) : Wk X cells slots P pc lv stk := by
  cases r with
  | none => exact k_aloadN_n hC hdg hi j hj kk
  | some b => exact k_aload_n hC hdg hi j hj kk
theorem k_aloadR {i : Nat} {r : Option Nat} (hC : Cx X cc own cl tl D) (hdg : decode cc pc = .ok (.aload i, 2)) (j : Nat) (hj : lv[j]? = some (i, va_rf r)) (kk : Wk X cells slots P (pc + 2) lv (va_rf r :: stk)) : Wk X cells slots P pc lv stk := by
  cases r with
  | none => exact k_aloadN hC hdg j hj kk
  | some b => exact k_aload hC hdg j hj kk
theorem k_astoreN_n {k : Fin 4} {i : Nat} {lv' : List (Nat × Value)} (hC : Cx X cc own cl tl D) (hdg : decode cc pc = .ok (.astore_n k, 1)) (hi : (k : Nat) = i) (hn : i < X.2.2.2.2.2.2.2.2.2.2.2.1) (hl' : (i, Value.null) :: lv.filter (fun q => !(q.1 == i) && !(q.1 + 1 == i && q.2.category == 2)) = lv') (kk : Wk X cells slots P (pc + 1) lv' stk) : Wk X cells slots P pc lv (.null :: stk) := by
  obtain ⟨p, l, e, R, s, m, args, below, meth, c, A, nL, Q⟩ := X
  intro H locs ls hP hS hl
  exact lv_astore_nN hC.1 hC.2.1 hdg hi hl hn hl' (fun ls hl => kk H locs ls hP hS hl)
theorem k_astoreN {i : Nat} {lv' : List (Nat × Value)} (hC : Cx X cc own cl tl D) (hdg : decode cc pc = .ok (.astore i, 2)) (hn : i < X.2.2.2.2.2.2.2.2.2.2.2.1) (hl' : (i, Value.null) :: lv.filter (fun q => !(q.1 == i) && !(q.1 + 1 == i && q.2.category == 2)) = lv') (kk : Wk X cells slots P (pc + 2) lv' stk) : Wk X cells slots P pc lv (.null :: stk) := by
  obtain ⟨p, l, e, R, s, m, args, below, meth, c, A, nL, Q⟩ := X
  intro H locs ls hP hS hl
  exact lv_astoreN hC.1 hC.2.1 hdg hl hn hl' (fun ls hl => kk H locs ls hP hS hl)
theorem k_astoreR_n {k : Fin 4} {i : Nat} {r : Option Nat} {lv' : List (Nat × Value)} (hC : Cx X cc own cl tl D) (hdg : decode cc pc = .ok (.astore_n k, 1)) (hi : (k : Nat) = i) (hn : i < X.2.2.2.2.2.2.2.2.2.2.2.1) (hl' : (i, va_rf r) :: lv.filter (fun q => !(q.1 == i) && !(q.1 + 1 == i && q.2.category == 2)) = lv') (kk : Wk X cells slots P (pc + 1) lv' stk) : Wk X cells slots P pc lv (va_rf r :: stk) := by
  cases r with
  | none => exact k_astoreN_n hC hdg hi hn hl' kk
  | some b => exact k_astore_n hC hdg hi hn hl' kk
theorem k_astoreR {i : Nat} {r : Option Nat} {lv' : List (Nat × Value)} (hC : Cx X cc own cl tl D) (hdg : decode cc pc = .ok (.astore i, 2)) (hn : i < X.2.2.2.2.2.2.2.2.2.2.2.1) (hl' : (i, va_rf r) :: lv.filter (fun q => !(q.1 == i) && !(q.1 + 1 == i && q.2.category == 2)) = lv') (kk : Wk X cells slots P (pc + 2) lv' stk) : Wk X cells slots P pc lv (va_rf r :: stk) := by
  cases r with
  | none => exact k_astoreN hC hdg hn hl' kk
  | some b => exact k_astore hC hdg hn hl' kk
theorem va_rfv (r : Option Nat) : va_rf r = .null ∨ ∃ a, va_rf r = .ref a := by
  cases r with
  | none => exact Or.inl rfl
  | some a => exact Or.inr ⟨a, rfl⟩
end CR
def Tx (X : Ctx) (cc : ByteArray) (own : String) (D : Dd) (maxL : Nat) (rm : Room) : Prop := Cx X cc own vwCl arTy D ∧ X.2.2.2.2.2.2.2.2.2.2.2.1 = maxL ∧ X.2.2.2.1 = rm
section CC
variable {X : Ctx} {cc : ByteArray} {own : String} {D : Dd} {cells slots : Nat} {P : Heap → Prop} {pc : Nat} {lv : List (Nat × Value)} {stk : List Value} {α β : Type} {out : α} {T : Th} {a : Nat} {y : MethodName} {bytes : ByteArray} {maxL n index : Nat} {ret : Option FieldType} {rm1 : Room} {As : List Value} {g : Option β} {f : β → Option α}
theorem t_callVI {C : String} {Tt : u_T} {N : Nat} (ci : Nat) (vi : β → Int32) (hC : Cx X cc own vwCl arTy D) (hDy : ∀ H, P H → Dy D T H) (hc : vwCl[ci]? = some (C, Tt, N)) (cw : CallW X.2.2.2.1 X.2.2.2.2.1 X.2.2.2.2.2.2.1 own C index y bytes maxL ret (ws_ y bytes maxL ret) rm1 0 0 n) (hn : As.length = n) {stk0 : List Value} (hst : stk0 = As.reverse ++ .ref a :: stk) (hw : (stk.map fun v => v.category).sum ≤ 8) (hcs : cells ≤ X.2.2.2.1.cells ∧ slots ≤ X.2.2.2.1.slots) (hdg : decode cc pc = .ok (.invokevirtual index, 3)) (hE : dC T a ci (g.bind f) = some out) (hT : ∀ r, g = some r → Ct X.2.1 y (ws_ y bytes maxL ret) rm1 vwCl arTy D (cxA X) (.ref a :: As) P P (some (.int (vi r))) 0 0) (kk : ∀ r, f r = some out → Wk X cells slots P (pc + 3) lv (.int (vi r) :: stk)) : Wk X cells slots P pc lv stk0 := by
  obtain ⟨ha, hE⟩ := dC_of hE
  obtain ⟨r, h1, hE⟩ := ob_ hE
  refine k_callV (C := C) hC (hT r h1) cw ?_ (fun _ _ _ _ h => h) (fun H _ h q hq => cx_A hC q (Nat.le_trans h hq)) (fun _ h => h) (fun _ _ _ h _ _ _ => h) hn hst hw hcs hdg (kk r hE)
  intro H h
  obtain ⟨p, l, e, R, s, m, args, below, meth, c, A, nL, Q⟩ := X
  exact (hDy H h).recv hC.2.2.2.2.2.1 ha hc
theorem t_callVR {C : String} {Tt : u_T} {N : Nat} (ci : Nat) (vi : β → Option Nat) (hC : Cx X cc own vwCl arTy D) (hDy : ∀ H, P H → Dy D T H) (hc : vwCl[ci]? = some (C, Tt, N)) (cw : CallW X.2.2.2.1 X.2.2.2.2.1 X.2.2.2.2.2.2.1 own C index y bytes maxL ret (ws_ y bytes maxL ret) rm1 0 0 n) (hn : As.length = n) {stk0 : List Value} (hst : stk0 = As.reverse ++ .ref a :: stk) (hw : (stk.map fun v => v.category).sum ≤ 8) (hcs : cells ≤ X.2.2.2.1.cells ∧ slots ≤ X.2.2.2.1.slots) (hdg : decode cc pc = .ok (.invokevirtual index, 3)) (hE : dC T a ci (g.bind f) = some out) (hT : ∀ r, g = some r → Ct X.2.1 y (ws_ y bytes maxL ret) rm1 vwCl arTy D (cxA X) (.ref a :: As) P P (some (va_rf (vi r))) 0 0) (kk : ∀ r, f r = some out → Wk X cells slots P (pc + 3) lv (va_rf (vi r) :: stk)) : Wk X cells slots P pc lv stk0 := by
  obtain ⟨ha, hE⟩ := dC_of hE
  obtain ⟨r, h1, hE⟩ := ob_ hE
  refine k_callV (C := C) hC (hT r h1) cw ?_ (fun _ _ _ _ h => h) (fun H _ h q hq => cx_A hC q (Nat.le_trans h hq)) (fun _ h => h) (fun _ _ _ h _ _ _ => h) hn hst hw hcs hdg (kk r hE)
  intro H h
  obtain ⟨p, l, e, R, s, m, args, below, meth, c, A, nL, Q⟩ := X
  exact (hDy H h).recv hC.2.2.2.2.2.1 ha hc
theorem t_callSR (vi : β → Option Nat) (hC : Cx X cc own vwCl arTy D) (cw : CallB X.2.2.2.1 X.2.2.2.2.1 X.2.2.2.2.2.2.1 own index y bytes maxL ret (ws_ y bytes maxL ret) rm1 0 0 n ∧ (Cond.static y).before X.2.2.2.2.2.2.1 X.2.2.2.2.1 = true) (hn : As.length = n) {stk0 : List Value} (hst : stk0 = As.reverse ++ stk) (hw : (stk.map fun v => v.category).sum ≤ 8) (hcs : cells ≤ X.2.2.2.1.cells ∧ slots ≤ X.2.2.2.1.slots) (hdg : decode cc pc = .ok (.invokestatic index, 3)) (hE : g.bind f = some out) (hT : ∀ r, g = some r → Ct X.2.1 y (ws_ y bytes maxL ret) rm1 vwCl arTy D (cxA X) As P P (some (va_rf (vi r))) 0 0) (kk : ∀ r, f r = some out → Wk X cells slots P (pc + 3) lv (va_rf (vi r) :: stk)) : Wk X cells slots P pc lv stk0 := by
  obtain ⟨r, h1, hE⟩ := ob_ hE
  exact k_callS (C := "") (b := 0) hC (hT r h1) cw (fun _ _ _ _ h => h) (fun H _ h q hq => cx_A hC q (Nat.le_trans h hq)) (fun _ h => h) (fun _ _ _ h _ _ _ => h) hn hst hw hcs hdg (kk r hE)
theorem v_callI {C : String} {Tt : u_T} {N ci v mL : Nat} {rm : Room} {J : Ji} {rf : Nat → Option (Option Nat)} (vi : β → Int32) (jj : β → Ji) (off : Nat) (hly : layV off = some (.inr (.inl (ci, rf)))) (hc : vwCl[ci]? = some (C, Tt, N)) (hM : Vx X cc own D v mL rm) (cw : CallW X.2.2.2.1 X.2.2.2.2.1 X.2.2.2.2.2.2.1 own C index y bytes maxL ret (ws_ y bytes maxL ret) rm1 0 0 n) (hn : As.length = n) {stk0 : List Value} (hst : stk0 = As.reverse ++ .ref (v + off) :: stk) (hw : (stk.map fun v => v.category).sum ≤ 8) (hdg : decode cc pc = .ok (.invokevirtual index, 3)) (hE : g.bind f = some out) (hT : ∀ r, g = some r → Ct X.2.1 y (ws_ y bytes maxL ret) rm1 vwCl arTy D (cxA X) (.ref (v + off) :: As) (VP D v J T) (VP D v (jj r) T) (some (.int (vi r))) 0 0) (kk : ∀ r, f r = some out → Wk X 0 0 (VP D v (jj r) T) (pc + 3) lv (.int (vi r) :: stk)) : Wk X 0 0 (VP D v J T) pc lv stk0 := by
  obtain ⟨r, h1, hE⟩ := ob_ hE
  exact k_callV (C := C) hM.1 (hT r h1) cw (v_recv off hly hc hM) (fun _ _ _ _ h => h) (fun H _ h q hq => cx_A hM.1 q (Nat.le_trans h hq)) (fun _ h => h) (fun _ _ _ h _ _ _ => h) hn hst hw ⟨Nat.zero_le _, Nat.zero_le _⟩ hdg (kk r hE)
theorem vt_callI {C : String} {Tt : u_T} {N v mL : Nat} {rm : Room} {J : Ji} (ci : Nat) (vi : β → Int32) (jj : β → Ji) (hc : vwCl[ci]? = some (C, Tt, N)) (hM : Vx X cc own D v mL rm) (cw : CallW X.2.2.2.1 X.2.2.2.2.1 X.2.2.2.2.2.2.1 own C index y bytes maxL ret (ws_ y bytes maxL ret) rm1 0 0 n) (hn : As.length = n) {stk0 : List Value} (hst : stk0 = As.reverse ++ .ref a :: stk) (hw : (stk.map fun v => v.category).sum ≤ 8) (hdg : decode cc pc = .ok (.invokevirtual index, 3)) (hE : dC T a ci (g.bind f) = some out) (hT : ∀ r, g = some r → Ct X.2.1 y (ws_ y bytes maxL ret) rm1 vwCl arTy D (cxA X) (.ref a :: As) (VP D v J T) (VP D v (jj r) T) (some (.int (vi r))) 0 0) (kk : ∀ r, f r = some out → Wk X 0 0 (VP D v (jj r) T) (pc + 3) lv (.int (vi r) :: stk)) : Wk X 0 0 (VP D v J T) pc lv stk0 := by
  obtain ⟨ha, hE⟩ := dC_of hE
  obtain ⟨r, h1, hE⟩ := ob_ hE
  refine k_callV (C := C) hM.1 (hT r h1) cw ?_ (fun _ _ _ _ h => h) (fun H _ h q hq => cx_A hM.1 q (Nat.le_trans h hq)) (fun _ h => h) (fun _ _ _ h _ _ _ => h) hn hst hw ⟨Nat.zero_le _, Nat.zero_le _⟩ hdg (kk r hE)
  intro H h
  obtain ⟨p, l, e, R, s, m, args, below, meth, c, A, nL, Q⟩ := X
  exact h.2.1.recv hM.1.2.2.2.2.2.1 ha hc
theorem v_callV {C : String} {Tt : u_T} {N ci v mL : Nat} {rm : Room} {J : Ji} {rf : Nat → Option (Option Nat)} (jj : β → Ji) (off : Nat) (hly : layV off = some (.inr (.inl (ci, rf)))) (hc : vwCl[ci]? = some (C, Tt, N)) (hM : Vx X cc own D v mL rm) (cw : CallW X.2.2.2.1 X.2.2.2.2.1 X.2.2.2.2.2.2.1 own C index y bytes maxL ret (ws_ y bytes maxL ret) rm1 0 0 n) (hn : As.length = n) {stk0 : List Value} (hst : stk0 = As.reverse ++ .ref (v + off) :: stk) (hw : (stk.map fun v => v.category).sum ≤ 8) (hdg : decode cc pc = .ok (.invokevirtual index, 3)) (hE : g.bind f = some out) (hT : ∀ r, g = some r → Ct X.2.1 y (ws_ y bytes maxL ret) rm1 vwCl arTy D (cxA X) (.ref (v + off) :: As) (VP D v J T) (VP D v (jj r) T) (none) 0 0) (kk : ∀ r, f r = some out → Wk X 0 0 (VP D v (jj r) T) (pc + 3) lv (stk)) : Wk X 0 0 (VP D v J T) pc lv stk0 := by
  obtain ⟨r, h1, hE⟩ := ob_ hE
  exact k_callV (C := C) hM.1 (hT r h1) cw (v_recv off hly hc hM) (fun _ _ _ _ h => h) (fun H _ h q hq => cx_A hM.1 q (Nat.le_trans h hq)) (fun _ h => h) (fun _ _ _ h _ _ _ => h) hn hst hw ⟨Nat.zero_le _, Nat.zero_le _⟩ hdg (kk r hE)
theorem vt_callV {C : String} {Tt : u_T} {N v mL : Nat} {rm : Room} {J : Ji} (ci : Nat) (jj : β → Ji) (hc : vwCl[ci]? = some (C, Tt, N)) (hM : Vx X cc own D v mL rm) (cw : CallW X.2.2.2.1 X.2.2.2.2.1 X.2.2.2.2.2.2.1 own C index y bytes maxL ret (ws_ y bytes maxL ret) rm1 0 0 n) (hn : As.length = n) {stk0 : List Value} (hst : stk0 = As.reverse ++ .ref a :: stk) (hw : (stk.map fun v => v.category).sum ≤ 8) (hdg : decode cc pc = .ok (.invokevirtual index, 3)) (hE : dC T a ci (g.bind f) = some out) (hT : ∀ r, g = some r → Ct X.2.1 y (ws_ y bytes maxL ret) rm1 vwCl arTy D (cxA X) (.ref a :: As) (VP D v J T) (VP D v (jj r) T) (none) 0 0) (kk : ∀ r, f r = some out → Wk X 0 0 (VP D v (jj r) T) (pc + 3) lv (stk)) : Wk X 0 0 (VP D v J T) pc lv stk0 := by
  obtain ⟨ha, hE⟩ := dC_of hE
  obtain ⟨r, h1, hE⟩ := ob_ hE
  refine k_callV (C := C) hM.1 (hT r h1) cw ?_ (fun _ _ _ _ h => h) (fun H _ h q hq => cx_A hM.1 q (Nat.le_trans h hq)) (fun _ h => h) (fun _ _ _ h _ _ _ => h) hn hst hw ⟨Nat.zero_le _, Nat.zero_le _⟩ hdg (kk r hE)
  intro H h
  obtain ⟨p, l, e, R, s, m, args, below, meth, c, A, nL, Q⟩ := X
  exact h.2.1.recv hM.1.2.2.2.2.2.1 ha hc
theorem k_mmax {x z : Int32} {rm : Room} (hC : Cx X cc own vwCl arTy D) (hq : Cond.methodLink own index Lib.Math.max.name ∈ lw_all) (hrm : X.2.2.2.1 = rm) (h1 : 1 ≤ rm.frames) (h2 : (stk.map fun v => v.category).sum + 13 ≤ rm.locals) (hcs : cells ≤ X.2.2.2.1.cells ∧ slots ≤ X.2.2.2.1.slots) (hdg : decode cc pc = .ok (.invokestatic index, 3)) (kk : Wk X cells slots P (pc + 3) lv (.int (if x < z then z else x) :: stk)) : Wk X cells slots P pc lv (.int z :: .int x :: stk) := by
  obtain ⟨p, l, e, R, s, m, args, below, meth, c, A, nL, Q⟩ := X
  intro H locs ls hP hS hl
  have hrm : R = rm := hrm
  exact va_mmax hC.1 hC.2.1 (hC.2.2.1.trans hl.1.symm) hC.2.2.2.1 (hC.2.2.2.2.1 _ hq) (hC.2.2.2.2.1 _ q769) (hC.2.2.2.2.1 _ q138) (hC.2.2.2.2.1 _ q770) (by rw [hrm]; exact h1) (by rw [hrm]; exact h2) hcs.1 hcs.2 hdg (kk H locs ls hP hS hl)
theorem k_mmin {x z : Int32} {rm : Room} (hC : Cx X cc own vwCl arTy D) (hq : Cond.methodLink own index Lib.Math.min.name ∈ lw_all) (hrm : X.2.2.2.1 = rm) (h1 : 1 ≤ rm.frames) (h2 : (stk.map fun v => v.category).sum + 13 ≤ rm.locals) (hcs : cells ≤ X.2.2.2.1.cells ∧ slots ≤ X.2.2.2.1.slots) (hdg : decode cc pc = .ok (.invokestatic index, 3)) (kk : Wk X cells slots P (pc + 3) lv (.int (if z < x then z else x) :: stk)) : Wk X cells slots P pc lv (.int z :: .int x :: stk) := by
  obtain ⟨p, l, e, R, s, m, args, below, meth, c, A, nL, Q⟩ := X
  intro H locs ls hP hS hl
  have hrm : R = rm := hrm
  exact va_mmin hC.1 hC.2.1 (hC.2.2.1.trans hl.1.symm) hC.2.2.2.1 (hC.2.2.2.2.1 _ hq) (hC.2.2.2.2.1 _ q787) (hC.2.2.2.2.1 _ q138) (hC.2.2.2.2.1 _ q788) (by rw [hrm]; exact h1) (by rw [hrm]; exact h2) hcs.1 hcs.2 hdg (kk H locs ls hP hS hl)
theorem k_callU {C owner : String} {x : MethodName} {mc ms : Nat} {ws : List Cond} {rm : Room} {A1 : Nat → Prop} {b : Nat} {Pc P' P1 : Heap → Prop} {o : Option Value} (hC : Cx X cc own vwCl arTy D) (hM : Ct X.2.1 y ws rm vwCl arTy D A1 (.ref b :: As) Pc P' o mc ms) (cw : va_CU X.2.2.2.1 X.2.2.2.2.1 X.2.2.2.2.2.2.1 own C owner index x y bytes maxL ret ws rm mc ms n) (hrecv : ∀ H, P H → ∃ cellB : Cell, H[b]? = some cellB ∧ cellB.vm.isStatics = false ∧ X.2.2.2.2.1.vm.findClass C = some cellB.cls) (hA1 : ∀ H : Heap, P H → X.2.2.2.2.1.heap.size ≤ H.size → ∀ q, A1 q → X.2.2.2.2.2.2.2.2.2.2.1 q) (hA2 : ∀ H : Heap, P H → X.2.2.2.2.1.heap.size ≤ H.size → ∀ q, H.size ≤ q → A1 q) (hpre : ∀ H, P H → Pc H) (hpost : ∀ H H1, P H → P' H1 → H.size ≤ H1.size → (∀ q : Nat, q < H.size → ¬ A1 q → H1[q]? = H[q]?) → sz_ H H1 → P1 H1) (hn : As.length = n) {stk0 : List Value} (hst : stk0 = As.reverse ++ .ref b :: stk) (hw : (stk.map fun v => v.category).sum ≤ 8) (hf : cells + mc ≤ X.2.2.2.1.cells ∧ slots + ms ≤ X.2.2.2.1.slots) (hdg : decode cc pc = .ok (.invokevirtual index, 3)) (kk : Wk X (cells + mc) (slots + ms) P1 (pc + 3) lv (o.toList ++ stk)) : Wk X cells slots P pc lv stk0 := by
  subst hst
  obtain ⟨p, l, e, R, s, m, args, below, meth, c, A, nL, Q⟩ := X
  intro H locs ls hP hS hl
  have hr := va_runU (rest := stk) (H := H) (locs := locs) (cells := cells) (slots := slots) (l := l) (e := e) (below := below) (meth := meth) (g := F0 m pc ls (As.reverse ++ .ref b :: stk)) ⟨hC.1, hC.2.1, hC.2.2.1, hC.2.2.2.1, hC.2.2.2.2.1⟩ hM cw ⟨va_fb, hrecv H hP, fun U hU hW => ⟨rfl, by rw [hU]; exact hpre H hP, KK.warm hW hC.2.2.2.2.2.1, by rw [hU]; exact hA2 H hP hS.1.1⟩⟩ rfl hn hl.1 rfl (lv_room hw) hdg hf
  intro T hT Z
  obtain ⟨v, st₀, t, T', L, h0, X', hL, e1, e2, ⟨hv, hp, ⟨hz, hk⟩, hzs⟩, st⟩ := hr T hT Z
  cases hv
  rw [h0] at hz hk hzs
  rw [← e1] at hz hk hp hzs
  obtain ⟨t2, a1, b1⟩ := kk T'.heap (locs ++ L) ls (hpost H _ hP hp hz hk hzs) ⟨⟨Nat.le_trans hS.1.1 hz, fun q h1 h2 => (hk q (Nat.lt_of_lt_of_le h1 hS.1.1) (fun z => h2 (hA1 H hP hS.1.1 q z))).trans (hS.1.2.1 q h1 h2), fun q hq => by
      rcases List.mem_append.mp hq with h | h
      · exact hS.1.2.2 q h
      · exact hA1 H hP hS.1.1 _ (hL q h)⟩, hS.2.trans hzs⟩ hl T' rfl X'
  exact ⟨t2, st t2 a1, b1⟩
def ySum_of : MethodName := ⟨"SleepWork$Sum", "of", "(LSleepWork$Asked;)I"⟩
/-- what the tree's walk gives at any node -/
def SofH (l : Launch) (D : Dd) (A : Nat → Prop) (v : Nat) (T : Th) (sof : Nat → Ji → Option (Int32 × Ji)) (rm : Room) : Prop := ∀ (a : Nat) (J : Ji) (r : Int32 × Ji), sof a J = some r →
  (T.1 a = some (.inl 16) ∧ Ct l yX18_of (ws_ yX18_of cX18_of 2 (some .int)) rm vwCl arTy D A [.ref a, .ref (v + 31)] (VP D v J T) (VP D v r.2 T) (some (.int r.1)) 0 0) ∨
  (T.1 a = some (.inl 17) ∧ Ct l yX19_of (ws_ yX19_of cX19_of 2 (some .int)) rm vwCl arTy D A [.ref a, .ref (v + 31)] (VP D v J T) (VP D v r.2 T) (some (.int r.1)) 0 0) ∨
  (T.1 a = some (.inl 18) ∧ Ct l yX20_of (ws_ yX20_of cX20_of 4 (some .int)) rm vwCl arTy D A [.ref a, .ref (v + 31)] (VP D v J T) (VP D v r.2 T) (some (.int r.1)) 0 0)
theorem cw_sum {rm rm1 : Room} (C : String) (hC : Cx X cc own vwCl arTy D) (hq : Cond.methodLink own index ySum_of ∈ lw_all) (hs : Cond.selects C ySum_of y ∈ lw_all) (hi : Cond.instanceMethod y ∈ lw_all) (hn : Cond.initialized y.cls ∈ lw_all) (hco : Cond.code y bytes maxL (some .int) ∈ lw_all) (hc : rm1.cells = 0) (hsl : rm1.slots = 0) (hrm : X.2.2.2.1 = rm) (h1 : rm1.frames + 1 ≤ rm.frames) (h2 : 8 + (4 + 11) + rm1.locals ≤ rm.locals) (hm : maxL ≤ 4) : va_CU X.2.2.2.1 X.2.2.2.2.1 X.2.2.2.2.2.2.1 own C "SleepWork$Sum" index ySum_of y bytes maxL (some .int) (ws_ y bytes maxL (some .int)) rm1 0 0 1 := by
  refine va_cwA 1 (cx_w hC) ?_ rfl hc hsl ?_ (by decide +kernel) (by rw [hrm]; exact ⟨h1, by omega⟩)
  · refine lw_app ?_ (lw_meth hco)
    intro w hw
    simp only [List.mem_cons, List.not_mem_nil, or_false] at hw
    rcases hw with e | e | e | e | e
    · rw [e]; exact hq
    · rw [e]; exact q1400
    · rw [e]; exact hs
    · rw [e]; exact hi
    · rw [e]; exact hn
  · obtain ⟨p, l, e, R, s, m, args, below, meth, c, A, nL, Q⟩ := X
    exact hC.2.2.2.2.2.1.2.2.1 _ q1399 rfl
theorem v_callSum {v mL : Nat} {rm rm1 : Room} {J : Ji} {sof : Nat → Ji → Option (Int32 × Ji)} {f : Int32 × Ji → Option α} (hM : Vx X cc own D v mL rm) (hq : Cond.methodLink own index ySum_of ∈ lw_all) (hS : SofH X.2.1 D (cxA X) v T sof rm1) (hc : rm1.cells = 0) (hsl : rm1.slots = 0) (h1 : rm1.frames + 1 ≤ rm.frames) (h2 : 8 + (4 + 11) + rm1.locals ≤ rm.locals) (hw : (stk.map fun v => v.category).sum ≤ 8) (hdg : decode cc pc = .ok (.invokevirtual index, 3)) (hE : (sof a J).bind f = some out) (kk : ∀ r, f r = some out → Wk X 0 0 (VP D v r.2 T) (pc + 3) lv (.int r.1 :: stk)) : Wk X 0 0 (VP D v J T) pc lv (.ref (v + 31) :: .ref a :: stk) := by
  obtain ⟨r, hr, hE⟩ := ob_ hE
  have hC := hM.1
  have recv : ∀ {C : String} {Tt : u_T} {N ci : Nat}, vwCl[ci]? = some (C, Tt, N) → T.1 a = some (.inl ci) → ∀ H, VP D v J T H → ∃ cellB : Cell, H[a]? = some cellB ∧ cellB.vm.isStatics = false ∧ X.2.2.2.2.1.vm.findClass C = some cellB.cls := by
    intro C Tt N ci hc ha H h
    obtain ⟨p, l, e, R, s, m, args, below, meth, c, A, nL, Q⟩ := X
    exact h.2.1.recv hM.1.2.2.2.2.2.1 ha hc
  rcases hS a J r hr with ⟨ha, hT⟩ | ⟨ha, hT⟩ | ⟨ha, hT⟩
  · exact k_callU (As := [.ref (v + 31)]) hC hT (cw_sum RX18 hC hq (by exact q1409) (by exact q1405) (by exact q149) (by exact q1406) hc hsl hM.2.2.2 h1 h2 (by decide)) (recv cl_X18 ha) (fun _ _ _ _ h => h) (fun H _ h q hq => cx_A hM.1 q (Nat.le_trans h hq)) (fun _ h => h) (fun _ _ _ h _ _ _ => h) rfl rfl hw ⟨Nat.zero_le _, Nat.zero_le _⟩ hdg (kk r hE)
  · exact k_callU (As := [.ref (v + 31)]) hC hT (cw_sum RX19 hC hq (by exact q1410) (by exact q1407) (by exact q150) (by exact q1408) hc hsl hM.2.2.2 h1 h2 (by decide)) (recv cl_X19 ha) (fun _ _ _ _ h => h) (fun H _ h q hq => cx_A hM.1 q (Nat.le_trans h hq)) (fun _ h => h) (fun _ _ _ h _ _ _ => h) rfl rfl hw ⟨Nat.zero_le _, Nat.zero_le _⟩ hdg (kk r hE)
  · exact k_callU (As := [.ref (v + 31)]) hC hT (cw_sum RX20 hC hq (by exact q1401) (by exact q1402) (by exact q151) (by exact q1403) hc hsl hM.2.2.2 h1 h2 (by decide)) (recv cl_X20 ha) (fun _ _ _ _ h => h) (fun H _ h q hq => cx_A hM.1 q (Nat.le_trans h hq)) (fun _ h => h) (fun _ _ _ h _ _ _ => h) rfl rfl hw ⟨Nat.zero_le _, Nat.zero_le _⟩ hdg (kk r hE)
end CC
