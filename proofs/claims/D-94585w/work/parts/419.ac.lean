/-! System.arraycopy over the dynamic heap; class objects (printed by gen/ac.py; w_copyg turned from the kit's va_copyi) -/
set_option maxRecDepth 100000
section AC
variable {p : Program} {l : Launch} {e : Env} {R : Room} {s : State} {m : MethodId} {args : Array Value} {below : List Frame} {meth : Method} {c : Code} {H : Heap} {locs : List Loc} {cells slots : Nat} {Q : State → Prop} {pc : Nat} {ls : Array Slot} {rest : List Value}
theorem w_copyg {α : Type} (mk : α → Value) {ty : FieldType} {cc : ByteArray} (hexec : p.tables.exec = Jvm.exec) (hb : c.code = cc) (hml : c.maxLocals = ls.size) {own : String} {index : Nat} (hown : s.vm.findClass own = some m.cls) (hlink : (Cond.methodLink own index arraycopyName).before args s = true) (hnat : (Cond.native arraycopyName).before args s = true) (hstat : (Cond.static arraycopyName).before args s = true) (hini : (Cond.initialized "java/lang/System").before args s = true)
    {a0 a : Nat} {c0 c1 : ClassId} {n0 n1 : Nat} {f g : Nat → α} (hc0 : H[a0]? = some (arrV c0 n0 (fun j => mk (f j)))) (hc1 : H[a]? = some (arrV c1 n1 (fun j => mk (g j)))) (ht0 : ArrOfT s c0 ty) (ht1 : ArrOfT s c1 ty)
    {sp dp n : Int32} (h1 : ¬ sp < 0) (h2 : ¬ dp < 0) (h3 : ¬ n < 0) (h4 : sp.toNatClampNeg + n.toNatClampNeg ≤ n0) (h5 : dp.toNatClampNeg + n.toNatClampNeg ≤ n1)
    (hv : ∀ (T : State) (vm' : Vm), T.heap = H → s.vm.Alike vm' → ∀ i, i < n.toNatClampNeg → fits ty (mk (f (sp.toNatClampNeg + i))) = true ∧ ∀ (k1 : Class) (comp : ClassId), s.vm.classes[c1]? = some k1 → k1.kind = .array comp ty → (T.setVm vm').takes comp (mk (f (sp.toNatClampNeg + i))))
    (hframes : 1 ≤ R.frames) (hlocals : (rest.map fun v => v.category).sum + (nativeFrameWords "java/lang/System" "arraycopy" 5 + 11) ≤ R.locals) (hdg : decode cc pc = .ok (.invokestatic index, 3))
    (kk : ∀ (H1 : Heap) (locs1 : List Loc), H1[a]? = some (arrV c1 n1 (fun j => mk (va_cpy f g sp.toNatClampNeg dp.toNatClampNeg n.toNatClampNeg j))) → H1.size = H.size → (∀ q : Nat, q ≠ a → H1[q]? = H[q]?) → (∀ z ∈ locs1, z ∈ locs ∨ z.base = a) → W p l e R s m args below meth c H1 locs1 cells slots Q (F0 m (pc + 3) ls rest)) : W p l e R s m args below meth c H locs cells slots Q (F0 m pc ls (.int n :: .int dp :: .ref a :: .int sp :: .ref a0 :: rest)) := by
  have nn : ∀ z : Int32, ¬ z < 0 → z.toInt = (z.toNatClampNeg : Int) := by
    intro z hz
    have hz0 : (0 : Int) ≤ z.toInt := by
      have := Int32.not_lt.mp hz
      simpa using Int32.le_iff_toInt_le.mp this
    show z.toInt = ((z.toInt.toNat : Nat) : Int)
    omega
  intro T hT X
  obtain ⟨-, k0, hk0, cm0, hkk0⟩ := ht0 n0 (fun j => mk (f j))
  obtain ⟨-, k1, hk1, cm1, hkk1⟩ := ht1 n1 (fun j => mk (g j))
  obtain ⟨vm', X', step⟩ := X.arraycopy hexec hown hlink hnat hstat hini (src := a0) (dst := a) (cs := arrV c0 n0 (fun j => mk (f j))) (cd := arrV c1 n1 (fun j => mk (g j))) (srcPos := sp) (destPos := dp) (n := n) (by rw [hT]; exact hc0) (by rw [hT]; exact hc1)
    (fun _ h => by cases h) (fun _ h => by cases h) (fun h => by cases h) (fun h => by cases h) hk0 hk1 hkk0 hkk1 (by simp) h1 h2 h3
    (by rw [nn sp h1, nn n h3, arrV_size]; omega)
    (by rw [nn dp h2, nn n h3, arrV_size]; omega)
    (fun vm₁ hal i hi => by
      have e : (arrV c0 n0 (fun j => mk (f j))).slots.getD (sp.toNatClampNeg + i) .null = mk (f (sp.toNatClampNeg + i)) := by
        rw [Array.getD_eq_getD_getElem?, arrV_read _ _ (by omega)]
        rfl
      rw [e]
      have h9 := hv T vm₁ hT hal i hi
      exact ⟨h9.1, h9.2 k1 cm1 hk1 hkk1⟩)
    (g := F0 m pc ls (.int n :: .int dp :: .ref a :: .int sp :: .ref a0 :: rest)) rfl (by rw [hml]) (rest := rest) rfl (by rw [hb]; exact hdg) hframes (by show 2 * 0 + _ + _ ≤ _; omega)
  have e1 : copied (arrV c0 n0 (fun j => mk (f j))) (arrV c1 n1 (fun j => mk (g j))) sp dp n = arrV c1 n1 (fun j => mk (va_cpy f g sp.toNatClampNeg dp.toNatClampNeg n.toNatClampNeg j)) := va_copied mk c0 c1 f g h4
  rw [e1] at X' step
  have hl : a < H.size := (Array.getElem?_eq_some_iff.mp hc1).1
  generalize hce : arrV c1 n1 (fun j => mk (va_cpy f g sp.toNatClampNeg dp.toNatClampNeg n.toNatClampNeg j)) = ce at X' step kk
  have hheap : ((T.setVm vm').setCell a ce).heap = H.setIfInBounds a ce := by rw [← hT]; rfl
  have oq : ∀ q : Nat, q ≠ a → (H.setIfInBounds a ce)[q]? = H[q]? := fun q hq => by simp [Array.getElem?_setIfInBounds, Ne.symm hq]
  obtain ⟨t, a1, b1⟩ := kk _ _ (show (H.setIfInBounds a _)[a]? = some _ by simp [Array.getElem?_setIfInBounds, hl]) (by simp) oq (fun z hz => by
      rcases List.mem_append.mp hz with h | h
      · exact Or.inl h
      · obtain ⟨y, -, hy⟩ := List.mem_map.mp h
        rw [← hy]
        exact Or.inr rfl) _ hheap X'
  exact ⟨t, step t a1, b1⟩
end AC
def tC (T : Th) (a : Nat) (g : Nat → Int32) : Th := (T.1, vf_upd T.2.1 a g, T.2.2)
def tCR (T : Th) (a : Nat) (g : Nat → Option Nat) : Th := (T.1, T.2.1, vf_upd T.2.2.1 a g, T.2.2.2)
def cB {α : Type} (T : Th) (a0 : Nat) (sp : Int32) (a : Nat) (dp n : Int32) (f : Th → Option α) : Option α := match T.1 a0, T.1 a with
  | some (.inr x), some (.inr y) => if x.1 = .byte ∧ y.1 = .byte ∧ (tL T).2.2.1 ≤ a ∧ ¬ sp < 0 ∧ ¬ dp < 0 ∧ ¬ n < 0 ∧ sp.toNatClampNeg + n.toNatClampNeg ≤ x.2 ∧ dp.toNatClampNeg + n.toNatClampNeg ≤ y.2 ∧ (∀ i, i < n.toNatClampNeg → fits .byte (.int (T.2.1 a0 (sp.toNatClampNeg + i))) = true) then f (tC T a (va_cpy (T.2.1 a0) (T.2.1 a) sp.toNatClampNeg dp.toNatClampNeg n.toNatClampNeg)) else none
  | _, _ => none
/-- what may lie in an array of Objects -/
def okE (T : Th) (r : Option Nat) : Bool := match r with
  | none => true
  | some y => match T.1 y with
    | some (.inl ci) => decide (ci ∈ elk (.object "java/lang/Object"))
    | _ => false
def cR {α : Type} (T : Th) (a0 : Nat) (sp : Int32) (a : Nat) (dp n : Int32) (f : Th → Option α) : Option α := match T.1 a0, T.1 a with
  | some (.inr x), some (.inr y) => if x.1 = .object "java/lang/Object" ∧ y.1 = .object "java/lang/Object" ∧ (tL T).2.2.1 ≤ a ∧ ¬ sp < 0 ∧ ¬ dp < 0 ∧ ¬ n < 0 ∧ sp.toNatClampNeg + n.toNatClampNeg ≤ x.2 ∧ dp.toNatClampNeg + n.toNatClampNeg ≤ y.2 ∧ (∀ i, i < n.toNatClampNeg → okE T (T.2.2.1 a0 (sp.toNatClampNeg + i)) = true) then f (tCR T a (va_cpy (T.2.2.1 a0) (T.2.2.1 a) sp.toNatClampNeg dp.toNatClampNeg n.toNatClampNeg)) else none
  | _, _ => none
section ACR
variable {X : Ctx} {cc : ByteArray} {own : String} {D : Dd} {c z : Nat} {R : Heap → Prop} {d : Nat → Prop} {L : Nat × Nat × Nat × Nat} {mL fr lo : Nat} {T : Th} {pc : Nat} {lv : List (Nat × Value)} {stk : List Value} {α : Type} {out : α} {a0 a index : Nat} {sp dp n : Int32} {f : Th → Option α}
theorem a_copyB (hX : Ax X cc own D d L mL fr lo) (hSt : Stb R d) (hq : Cond.methodLink own index arraycopyName ∈ lw_all) (h1 : 1 ≤ fr) (h2 : (stk.map fun v => v.category).sum + (nativeFrameWords "java/lang/System" "arraycopy" 5 + 11) ≤ lo) (hdg : decode cc pc = .ok (.invokestatic index, 3)) (hE : cB T a0 sp a dp n f = some out) (kk : ∀ T1, f T1 = some out → Wk X c z (RD D R d L T1) (pc + 3) lv stk) : Wk X c z (RD D R d L T) pc lv (.int n :: .int dp :: .ref a :: .int sp :: .ref a0 :: stk) := by
  unfold cB at hE
  split at hE
  · rename_i x y hx hy
    obtain ⟨⟨e0, e1, hbb, g1, g2, g3, g4, g5, g6⟩, hE2⟩ := ite_of hE
    obtain ⟨ty0, n0⟩ := x
    obtain ⟨ty1, n1⟩ := y
    have e0 : ty0 = .byte := e0
    have e1 : ty1 = .byte := e1
    subst e0
    subst e1
    have kk := kk _ hE2
    obtain ⟨hC, hA, hnL, hfr, hlo, -⟩ := hX
    obtain ⟨p, l, e, Rr, s, m, args, below, meth, c0, A, nL, Q⟩ := X
    intro H locs ls hP hS hl
    have hfr : Rr.frames = fr := hfr
    have hlo : Rr.locals = lo := hlo
    have ht := (hC.2.2.2.2.2.1.2.1 _ ar_b).1
    have hc0 : H[a0]? = some (arrV (D.2.2.1 .byte) n0 (dE T a0 .byte)) := hP.2.1.2 a0 _ hx
    have hc1 : H[a]? = some (arrV (D.2.2.1 .byte) n1 (dE T a .byte)) := hP.2.1.2 a _ hy
    refine w_copyg (fun z => Value.int z) (f := T.2.1 a0) (g := T.2.1 a) hC.1 hC.2.1 (hC.2.2.1.trans hl.1.symm) hC.2.2.2.1 (hC.2.2.2.2.1 _ hq) (hC.2.2.2.2.1 _ q791) (hC.2.2.2.2.1 _ q790) (hC.2.2.2.2.1 _ q140) hc0 hc1 ht ht g1 g2 g3 g4 g5 (fun _ _ _ _ i hi => ⟨g6 i hi, fun _ _ _ _ => trivial⟩) (by rw [hfr]; exact h1) (by rw [hlo]; exact h2) hdg ?_
    intro H1 locs1 e1 z1 oq hlc
    have hw := RD.put (T1 := tC T a (va_cpy (T.2.1 a0) (T.2.1 a) sp.toNatClampNeg dp.toNatClampNeg n.toNatClampNeg)) hSt hP hy hbb rfl rfl (fun b hb => vf_ne _ _ hb) (fun _ _ => rfl) (by
      show H1[a]? = some (arrV _ _ _)
      rw [e1]
      congr 2
      funext j
      simp [dE, tC, vf_self]) z1 oq (sz_.one hc1 e1 (by rw [arrV_size, arrV_size]) oq)
    exact kk H1 _ ls hw ⟨⟨by rw [z1]; exact hS.1.1, fun q h3 h4 => by rw [oq q (fun e => h4 (by rw [e]; exact hA a (hP.2.2.2.1 a (by rw [hy]; exact fun h => by cases h) (by rw [← hP.2.2.2.2.2.2.2.1]; exact hbb))))]; exact hS.1.2.1 q h3 h4, fun z hz => by
      rcases hlc z hz with h | h
      · exact hS.1.2.2 z h
      · rw [h]; exact hA a (hP.2.2.2.1 a (by rw [hy]; exact fun h => by cases h) (by rw [← hP.2.2.2.2.2.2.2.1]; exact hbb))⟩, hS.2.trans (sz_.one hc1 e1 (by rw [arrV_size, arrV_size]) oq)⟩ hl
  · cases hE
theorem a_copyR (hX : Ax X cc own D d L mL fr lo) (hSt : Stb R d) (hq : Cond.methodLink own index arraycopyName ∈ lw_all) (h1 : 1 ≤ fr) (h2 : (stk.map fun v => v.category).sum + (nativeFrameWords "java/lang/System" "arraycopy" 5 + 11) ≤ lo) (hdg : decode cc pc = .ok (.invokestatic index, 3)) (hE : cR T a0 sp a dp n f = some out) (kk : ∀ T1, f T1 = some out → Wk X c z (RD D R d L T1) (pc + 3) lv stk) : Wk X c z (RD D R d L T) pc lv (.int n :: .int dp :: .ref a :: .int sp :: .ref a0 :: stk) := by
  unfold cR at hE
  split at hE
  · rename_i x y hx hy
    obtain ⟨⟨e0, e1, hbb, g1, g2, g3, g4, g5, g6⟩, hE2⟩ := ite_of hE
    obtain ⟨ty0, n0⟩ := x
    obtain ⟨ty1, n1⟩ := y
    have e0 : ty0 = .object "java/lang/Object" := e0
    have e1 : ty1 = .object "java/lang/Object" := e1
    subst e0
    subst e1
    have kk := kk _ hE2
    obtain ⟨hC, hA, hnL, hfr, hlo, -⟩ := hX
    obtain ⟨p, l, e, Rr, s, m, args, below, meth, c0, A, nL, Q⟩ := X
    intro H locs ls hP hS hl
    have hfr : Rr.frames = fr := hfr
    have hlo : Rr.locals = lo := hlo
    have ht := hC.2.2.2.2.2.1.2.1 (.object "java/lang/Object") (by simp [arTy])
    have hc0 : H[a0]? = some (arrV (D.2.2.1 (.object "java/lang/Object")) n0 (dE T a0 (.object "java/lang/Object"))) := hP.2.1.2 a0 _ hx
    have hc1 : H[a]? = some (arrV (D.2.2.1 (.object "java/lang/Object")) n1 (dE T a (.object "java/lang/Object"))) := hP.2.1.2 a _ hy
    refine w_copyg (fun z => va_rf z) (f := T.2.2.1 a0) (g := T.2.2.1 a) hC.1 hC.2.1 (hC.2.2.1.trans hl.1.symm) hC.2.2.2.1 (hC.2.2.2.2.1 _ hq) (hC.2.2.2.2.1 _ q791) (hC.2.2.2.2.1 _ q790) (hC.2.2.2.2.1 _ q140) hc0 hc1 ht.1 ht.1 g1 g2 g3 g4 g5 ?_ (by rw [hfr]; exact h1) (by rw [hlo]; exact h2) hdg ?_
    · intro T0 vm' hT hal i hi
      have h9 := g6 i hi
      cases hv : T.2.2.1 a0 (sp.toNatClampNeg + i) with
      | none => exact ⟨rfl, fun _ _ _ _ => trivial⟩
      | some b =>
        rw [hv] at h9
        refine ⟨rfl, fun k1 comp hk1 hkk1 => ?_⟩
        unfold okE at h9
        simp only at h9
        split at h9
        · rename_i ci hci
          have h9 := of_decide_eq_true h9
          obtain ⟨r, hr, cellV, f1, f2, f3, -⟩ := hP.2.1.2 b _ hci
          obtain ⟨C, Tt, N⟩ := r
          have hcls := (hC.2.2.2.2.2.1.1 ci _ hr).2
          obtain ⟨kA, comp2, r1, r2, r3, -⟩ := ht.2
          cases hk1.symm.trans r1
          cases hkk1.symm.trans r2
          obtain ⟨kC, hkC, -⟩ := Vm.findClass_spec hcls.1
          obtain ⟨kE, hkE, -⟩ := Vm.findClass_spec r3
          obtain ⟨kC', hkC', -⟩ := hal.2.2 _ _ hkC
          obtain ⟨kE', hkE', -⟩ := hal.2.2 _ _ hkE
          refine ⟨cellV, (show T0.heap[b]? = some cellV by rw [hT]; exact f1), (fun q h => by rw [f3] at h; cases h), ⟨kC', by rw [f2]; exact hkC'⟩, ⟨kE', hkE'⟩, ?_⟩
          show vm'.assignable _ _ = true
          rw [hal.assignable, f2]
          exact vb_asgC (hC.2.2.2.2.2.1.2.2.1 _ (elk_cast rfl h9 hr) rfl) _ (D.1 ci) r3 hcls.1
        · cases h9
    · intro H1 locs1 e1 z1 oq hlc
      have hw := RD.put (T1 := tCR T a (va_cpy (T.2.2.1 a0) (T.2.2.1 a) sp.toNatClampNeg dp.toNatClampNeg n.toNatClampNeg)) hSt hP hy hbb rfl rfl (fun _ _ => rfl) (fun b hb => vf_ne _ _ hb) (by
        show H1[a]? = some (arrV _ _ _)
        rw [e1]
        congr 2
        funext j
        simp [dE, tCR, vf_self]) z1 oq (sz_.one hc1 e1 (by rw [arrV_size, arrV_size]) oq)
      exact kk H1 _ ls hw ⟨⟨by rw [z1]; exact hS.1.1, fun q h3 h4 => by rw [oq q (fun e => h4 (by rw [e]; exact hA a (hP.2.2.2.1 a (by rw [hy]; exact fun h => by cases h) (by rw [← hP.2.2.2.2.2.2.2.1]; exact hbb))))]; exact hS.1.2.1 q h3 h4, fun z hz => by
        rcases hlc z hz with h | h
        · exact hS.1.2.2 z h
        · rw [h]; exact hA a (hP.2.2.2.1 a (by rw [hy]; exact fun h => by cases h) (by rw [← hP.2.2.2.2.2.2.2.1]; exact hbb))⟩, hS.2.trans (sz_.one hc1 e1 (by rw [arrV_size, arrV_size]) oq)⟩ hl
  · cases hE
end ACR
/-- the class object of Object[] -/
def miO (D : Dd) : Nat := match D.2.2.2.1.vm.findClass "[Ljava/lang/Object;" with
  | some c => match D.2.2.2.1.vm.classes[c]? with
    | some k => k.mirror.getD 0
    | none => 0
  | none => 0
def dOA {α : Type} (T : Th) (a : Nat) (f : Option α) : Option α := match T.1 a with
  | some (.inr x) => if x.1 = .object "java/lang/Object" then f else none
  | _ => none
section ACM
variable {X : Ctx} {cc : ByteArray} {own : String} {D : Dd} {c z : Nat} {R P : Heap → Prop} {d : Nat → Prop} {L : Nat × Nat × Nat × Nat} {mL fr lo : Nat} {T : Th} {pc : Nat} {lv : List (Nat × Value)} {stk : List Value} {α : Type} {out : α} {a index : Nat} {f : Option α}
theorem a_mi (hX : Ax X cc own D d L mL fr lo) : va_Mi "[Ljava/lang/Object;" (miO D) X.2.2.2.2.1 := by
  obtain ⟨mi, hm⟩ := hX.2.2.2.2.2.2.2.2.1.2.2.2.1
  have e : miO D = mi := by
    obtain ⟨c0, k0, h1, h2, h3⟩ := hm
    unfold miO
    rw [h1]
    simp only [h2, h3]
    rfl
  rw [e]
  exact hm.moved hX.1.K.2.2.2.1
theorem dOA_of (hE : dOA T a f = some out) : (∃ n, T.1 a = some (.inr (.object "java/lang/Object", n))) ∧ f = some out := by
  unfold dOA at hE
  split at hE
  · rename_i x hx
    obtain ⟨h1, h2⟩ := ite_of hE
    obtain ⟨ty, n⟩ := x
    have h1 : ty = .object "java/lang/Object" := h1
    subst h1
    exact ⟨⟨n, hx⟩, h2⟩
  · cases hE
theorem a_rcvO (hX : Ax X cc own D d L mL fr lo) {n : Nat} (ha : T.1 a = some (.inr (.object "java/lang/Object", n))) : ∀ H, RD D R d L T H → ∃ cell : Cell, H[a]? = some cell ∧ cell.vm.isStatics = false ∧ X.2.2.2.2.1.vm.findClass "[Ljava/lang/Object;" = some cell.cls := fun H h =>
  ⟨_, h.2.1.2 a _ ha, rfl, va_nmO (hX.1.K.2.1 (.object "java/lang/Object") (by simp [arTy])).2 rfl⟩
theorem a_getC (hX : Ax X cc own D d L mL fr lo) (hq : Cond.methodLink own index ⟨"java/lang/Object", "getClass", "()Ljava/lang/Class;"⟩ ∈ lw_all) (h1 : 1 ≤ fr) (h2 : (stk.map fun v => v.category).sum + 14 ≤ lo) (hdg : decode cc pc = .ok (.invokevirtual index, 3)) (hE : dOA T a f = some out) (kk : f = some out → Wk X c z (RD D R d L T) (pc + 3) lv (.ref (miO D) :: stk)) : Wk X c z (RD D R d L T) pc lv (.ref a :: stk) := by
  obtain ⟨⟨n, ha⟩, hE⟩ := dOA_of hE
  have kk := kk hE
  have hm := a_mi hX
  have hr := a_rcvO (R := R) (L := L) hX ha
  obtain ⟨hC, hA, hnL, hfr, hlo, -⟩ := hX
  obtain ⟨p, l, e, Rr, s, m, args, below, meth, c0, A, nL, Q⟩ := X
  intro H locs ls hP hS hl
  have hfr : Rr.frames = fr := hfr
  have hlo : Rr.locals = lo := hlo
  exact va_getC hC.1 hC.2.1 (hC.2.2.1.trans hl.1.symm) hC.2.2.2.1 (hC.2.2.2.2.1 _ hq) (va_Nw.use rfl (hC.2.2.2.2.2.1.2.2.1 _ q2235 rfl)) (hC.2.2.2.2.1 _ q2234) (hC.2.2.2.2.1 _ q948) (hC.2.2.2.2.1 _ q972) hm (hr H hP) (by rw [hfr]; exact h1) (by rw [hlo]; exact h2) hdg (kk H locs ls hP hS hl)
theorem a_ldcM (hX : Ax X cc own D d L mL fr lo) (hq : Cond.classLink own index "[Ljava/lang/Object;" ∈ lw_all) (hdg : decode cc pc = .ok (.ldc index, 2)) (kk : Wk X c z (RD D R d L T) (pc + 2) lv (.ref (miO D) :: stk)) : Wk X c z (RD D R d L T) pc lv stk := by
  have hm := a_mi hX
  obtain ⟨hC, -⟩ := hX
  obtain ⟨p, l, e, Rr, s, m, args, below, meth, c0, A, nL, Q⟩ := X
  intro H locs ls hP hS hl
  exact va_ldcM hC.1 hC.2.1 hC.2.2.2.1 (hC.2.2.2.2.1 _ hq) hm hdg (kk H locs ls hP hS hl)
theorem a_castO (hX : Ax X cc own D d L mL fr lo) (hq : Cond.classLink own index "[Ljava/lang/Object;" ∈ lw_all) (hdg : decode cc pc = .ok (.checkcast index, 3)) (hE : dOA T a f = some out) (kk : f = some out → Wk X c z (RD D R d L T) (pc + 3) lv (.ref a :: stk)) : Wk X c z (RD D R d L T) pc lv (.ref a :: stk) := by
  obtain ⟨⟨n, ha⟩, hE⟩ := dOA_of hE
  have kk := kk hE
  have hr := a_rcvO (R := R) (L := L) hX ha
  obtain ⟨hC, -⟩ := hX
  obtain ⟨p, l, e, Rr, s, m, args, below, meth, c0, A, nL, Q⟩ := X
  intro H locs ls hP hS hl
  exact va_castE hC.1 hC.2.1 hC.2.2.2.1 (hC.2.2.2.2.1 _ hq) (hr H hP) hdg (kk H locs ls hP hS hl)
theorem k_acmp_neS {r : Nat} {off : Int} {tgt : Nat} (hC : Cx X cc own vwCl arTy D) (hdg : decode cc pc = .ok (.if_acmp .ne off, 3)) (ht : (pc : Int) + off = (tgt : Int)) (kk : Wk X c z P (pc + 3) lv stk) : Wk X c z P pc lv (.ref r :: .ref r :: stk) := by
  obtain ⟨p, l, e, Rr, s, m, args, below, meth, c0, A, nL, Qq⟩ := X
  intro H locs ls hP hS hl
  exact lv_acmp_ne (rx := some r) (ry := some r) hC.1 hC.2.1 hdg ht (fun h => absurd rfl h) (fun _ => kk H locs ls hP hS hl)
end ACM
section ACN
variable {X : Ctx} {cc : ByteArray} {own : String} {D : Dd} {c z : Nat} {R : Heap → Prop} {d : Nat → Prop} {L : Nat × Nat × Nat × Nat} {mL fr lo : Nat} {T : Th} {pc : Nat} {lv : List (Nat × Value)} {stk : List Value} {α : Type} {out : α} {a : Nat}
theorem a_newI {i : Int32} {f : Th → Option α} (hX : Ax X cc own D d L mL fr lo) (hSt : Stb R d) (hdg : decode cc pc = .ok (.newarray .int, 2)) (hE : nA T .int i f = some out) (kk : ∀ T1, T1 = tNew T (.inr (.int, i.toNatClampNeg)) i.toNatClampNeg → f T1 = some out → ∀ c z, Wk X c z (RD D R d L T1) (pc + 2) lv (.ref (tN T) :: stk)) : Wk X c z (RD D R d L T) pc lv (.int i :: stk) := by
  obtain ⟨⟨hi, hm, hl⟩, hE⟩ := ite_of hE
  have kk := kk _ rfl hE
  refine a_tight hX (a_know (a_hcs hX) fun hcs => ?_)
  obtain ⟨hC, hA, hnL, hfr, hlo, h1, h2, h3, -⟩ := hX
  obtain ⟨p, l, e, Rr, s, m, args, below, meth, c0, A, nL, Q⟩ := X
  intro H locs ls hP hS hlv
  have e1 : H.size = tN T := hP.2.1.1
  have hL : tL T = L := hP.2.2.2.2.2.2.2.1
  have hcs : (tN T - s.heap.size) + (L.1 - tN T) ≤ Rr.cells ∧ (tZ T - zs D s.heap) + (L.2.1 - tZ T) ≤ Rr.slots := hcs
  rw [hL] at hl
  have hAr := hC.2.2.2.2.2.1.2.1 (.int) (by simp [arTy])
  refine W.newa (atype := .int) hC.1 hC.2.1 (hC.2.2.2.2.1 _ q434) rfl hdg rfl hi (by show i.toNatClampNeg * 4 ≤ _; omega) (by show tN T - s.heap.size + 1 ≤ Rr.cells; omega) (by show tZ T - zs D s.heap + i.toNatClampNeg ≤ Rr.slots; omega) fun cA kA comp f1 f2 f3 => ?_
  have hcA : cA = D.2.2.1 .int := by
    have h9 : s.vm.findClass ("[" ++ (FieldType.int).toString) = some (D.2.2.1 .int) := hAr.2
    exact Option.some.inj (f1.symm.trans h9)
  subst hcA
  have hw := RD.new (dk := .inr (.int, i.toNatClampNeg)) (n := i.toNatClampNeg) (cell := { cls := D.2.2.1 .int, slots := Array.replicate i.toNatClampNeg (defaultValue (newarray.typeOf .int)), vm := .none }) hSt hP (by rw [hL]; exact hl) (by simp) (by
    have hd : dE (tNew T (.inr (.int, i.toNatClampNeg)) i.toNatClampNeg) H.size .int = fun _ => defaultValue (newarray.typeOf .int) := by
      funext j
      simp only [dE, tNew]
      first | (rw [← e1, vf_self]; rfl) | rfl
    show (H.push _)[tN T]? = some (arrV _ _ (dE _ _ .int))
    rw [← e1, hd, Array.getElem?_push_size]
    first | rw [arrV_new] | rw [← arrV_new])
  rw [show (Value.ref H.size :: stk) = (Value.ref (tN T) :: stk) by rw [e1]]
  exact kk _ _ _ locs ls hw (vs_push hS) hlv
theorem a_newS {i : Int32} {f : Th → Option α} (hX : Ax X cc own D d L mL fr lo) (hSt : Stb R d) (hdg : decode cc pc = .ok (.newarray .short, 2)) (hE : nA T .short i f = some out) (kk : ∀ T1, T1 = tNew T (.inr (.short, i.toNatClampNeg)) i.toNatClampNeg → f T1 = some out → ∀ c z, Wk X c z (RD D R d L T1) (pc + 2) lv (.ref (tN T) :: stk)) : Wk X c z (RD D R d L T) pc lv (.int i :: stk) := by
  obtain ⟨⟨hi, hm, hl⟩, hE⟩ := ite_of hE
  have kk := kk _ rfl hE
  refine a_tight hX (a_know (a_hcs hX) fun hcs => ?_)
  obtain ⟨hC, hA, hnL, hfr, hlo, h1, h2, h3, -⟩ := hX
  obtain ⟨p, l, e, Rr, s, m, args, below, meth, c0, A, nL, Q⟩ := X
  intro H locs ls hP hS hlv
  have e1 : H.size = tN T := hP.2.1.1
  have hL : tL T = L := hP.2.2.2.2.2.2.2.1
  have hcs : (tN T - s.heap.size) + (L.1 - tN T) ≤ Rr.cells ∧ (tZ T - zs D s.heap) + (L.2.1 - tZ T) ≤ Rr.slots := hcs
  rw [hL] at hl
  have hAr := hC.2.2.2.2.2.1.2.1 (.short) (by simp [arTy])
  refine W.newa (atype := .short) hC.1 hC.2.1 (hC.2.2.2.2.1 _ q294) rfl hdg rfl hi (by show i.toNatClampNeg * 2 ≤ _; omega) (by show tN T - s.heap.size + 1 ≤ Rr.cells; omega) (by show tZ T - zs D s.heap + i.toNatClampNeg ≤ Rr.slots; omega) fun cA kA comp f1 f2 f3 => ?_
  have hcA : cA = D.2.2.1 .short := by
    have h9 : s.vm.findClass ("[" ++ (FieldType.short).toString) = some (D.2.2.1 .short) := hAr.2
    exact Option.some.inj (f1.symm.trans h9)
  subst hcA
  have hw := RD.new (dk := .inr (.short, i.toNatClampNeg)) (n := i.toNatClampNeg) (cell := { cls := D.2.2.1 .short, slots := Array.replicate i.toNatClampNeg (defaultValue (newarray.typeOf .short)), vm := .none }) hSt hP (by rw [hL]; exact hl) (by simp) (by
    have hd : dE (tNew T (.inr (.short, i.toNatClampNeg)) i.toNatClampNeg) H.size .short = fun _ => defaultValue (newarray.typeOf .short) := by
      funext j
      simp only [dE, tNew]
      first | (rw [← e1, vf_self]; rfl) | rfl
    show (H.push _)[tN T]? = some (arrV _ _ (dE _ _ .short))
    rw [← e1, hd, Array.getElem?_push_size]
    first | rw [arrV_new] | rw [← arrV_new])
  rw [show (Value.ref H.size :: stk) = (Value.ref (tN T) :: stk) by rw [e1]]
  exact kk _ _ _ locs ls hw (vs_push hS) hlv
theorem a_newZ {i : Int32} {f : Th → Option α} (hX : Ax X cc own D d L mL fr lo) (hSt : Stb R d) (hdg : decode cc pc = .ok (.newarray .boolean, 2)) (hE : nA T .boolean i f = some out) (kk : ∀ T1, T1 = tNew T (.inr (.boolean, i.toNatClampNeg)) i.toNatClampNeg → f T1 = some out → ∀ c z, Wk X c z (RD D R d L T1) (pc + 2) lv (.ref (tN T) :: stk)) : Wk X c z (RD D R d L T) pc lv (.int i :: stk) := by
  obtain ⟨⟨hi, hm, hl⟩, hE⟩ := ite_of hE
  have kk := kk _ rfl hE
  refine a_tight hX (a_know (a_hcs hX) fun hcs => ?_)
  obtain ⟨hC, hA, hnL, hfr, hlo, h1, h2, h3, -⟩ := hX
  obtain ⟨p, l, e, Rr, s, m, args, below, meth, c0, A, nL, Q⟩ := X
  intro H locs ls hP hS hlv
  have e1 : H.size = tN T := hP.2.1.1
  have hL : tL T = L := hP.2.2.2.2.2.2.2.1
  have hcs : (tN T - s.heap.size) + (L.1 - tN T) ≤ Rr.cells ∧ (tZ T - zs D s.heap) + (L.2.1 - tZ T) ≤ Rr.slots := hcs
  rw [hL] at hl
  have hAr := hC.2.2.2.2.2.1.2.1 (.boolean) (by simp [arTy])
  refine W.newa (atype := .boolean) hC.1 hC.2.1 (hC.2.2.2.2.1 _ q575) rfl hdg rfl hi (by show i.toNatClampNeg * 1 ≤ _; omega) (by show tN T - s.heap.size + 1 ≤ Rr.cells; omega) (by show tZ T - zs D s.heap + i.toNatClampNeg ≤ Rr.slots; omega) fun cA kA comp f1 f2 f3 => ?_
  have hcA : cA = D.2.2.1 .boolean := by
    have h9 : s.vm.findClass ("[" ++ (FieldType.boolean).toString) = some (D.2.2.1 .boolean) := hAr.2
    exact Option.some.inj (f1.symm.trans h9)
  subst hcA
  have hw := RD.new (dk := .inr (.boolean, i.toNatClampNeg)) (n := i.toNatClampNeg) (cell := { cls := D.2.2.1 .boolean, slots := Array.replicate i.toNatClampNeg (defaultValue (newarray.typeOf .boolean)), vm := .none }) hSt hP (by rw [hL]; exact hl) (by simp) (by
    have hd : dE (tNew T (.inr (.boolean, i.toNatClampNeg)) i.toNatClampNeg) H.size .boolean = fun _ => defaultValue (newarray.typeOf .boolean) := by
      funext j
      simp only [dE, tNew]
      first | (rw [← e1, vf_self]; rfl) | rfl
    show (H.push _)[tN T]? = some (arrV _ _ (dE _ _ .boolean))
    rw [← e1, hd, Array.getElem?_push_size]
    first | rw [arrV_new] | rw [← arrV_new])
  rw [show (Value.ref H.size :: stk) = (Value.ref (tN T) :: stk) by rw [e1]]
  exact kk _ _ _ locs ls hw (vs_push hS) hlv
theorem a_newJ {i : Int32} {f : Th → Option α} (hX : Ax X cc own D d L mL fr lo) (hSt : Stb R d) (hdg : decode cc pc = .ok (.newarray .long, 2)) (hE : nA T .long i f = some out) (kk : ∀ T1, T1 = tNew T (.inr (.long, i.toNatClampNeg)) i.toNatClampNeg → f T1 = some out → ∀ c z, Wk X c z (RD D R d L T1) (pc + 2) lv (.ref (tN T) :: stk)) : Wk X c z (RD D R d L T) pc lv (.int i :: stk) := by
  obtain ⟨⟨hi, hm, hl⟩, hE⟩ := ite_of hE
  have kk := kk _ rfl hE
  refine a_tight hX (a_know (a_hcs hX) fun hcs => ?_)
  obtain ⟨hC, hA, hnL, hfr, hlo, h1, h2, h3, -⟩ := hX
  obtain ⟨p, l, e, Rr, s, m, args, below, meth, c0, A, nL, Q⟩ := X
  intro H locs ls hP hS hlv
  have e1 : H.size = tN T := hP.2.1.1
  have hL : tL T = L := hP.2.2.2.2.2.2.2.1
  have hcs : (tN T - s.heap.size) + (L.1 - tN T) ≤ Rr.cells ∧ (tZ T - zs D s.heap) + (L.2.1 - tZ T) ≤ Rr.slots := hcs
  rw [hL] at hl
  have hAr := hC.2.2.2.2.2.1.2.1 (.long) (by simp [arTy])
  refine W.newa (atype := .long) hC.1 hC.2.1 (hC.2.2.2.2.1 _ q1803) rfl hdg rfl hi (by show i.toNatClampNeg * 8 ≤ _; omega) (by show tN T - s.heap.size + 1 ≤ Rr.cells; omega) (by show tZ T - zs D s.heap + i.toNatClampNeg ≤ Rr.slots; omega) fun cA kA comp f1 f2 f3 => ?_
  have hcA : cA = D.2.2.1 .long := by
    have h9 : s.vm.findClass ("[" ++ (FieldType.long).toString) = some (D.2.2.1 .long) := hAr.2
    exact Option.some.inj (f1.symm.trans h9)
  subst hcA
  have hw := RD.new (dk := .inr (.long, i.toNatClampNeg)) (n := i.toNatClampNeg) (cell := { cls := D.2.2.1 .long, slots := Array.replicate i.toNatClampNeg (defaultValue (newarray.typeOf .long)), vm := .none }) hSt hP (by rw [hL]; exact hl) (by simp) (by
    have hd : dE (tNew T (.inr (.long, i.toNatClampNeg)) i.toNatClampNeg) H.size .long = fun _ => defaultValue (newarray.typeOf .long) := by
      funext j
      simp only [dE, tNew]
      first | (rw [← e1, vf_self]; rfl) | rfl
    show (H.push _)[tN T]? = some (arrV _ _ (dE _ _ .long))
    rw [← e1, hd, Array.getElem?_push_size]
    first | rw [arrV_new] | rw [← arrV_new])
  rw [show (Value.ref H.size :: stk) = (Value.ref (tN T) :: stk) by rw [e1]]
  exact kk _ _ _ locs ls hw (vs_push hS) hlv
end ACN
/-- an int[n][k]: the outer array, then its rows -/
def tNewM (T : Th) (n k : Nat) : Th := (fun a => if a = tN T then some (.inr (.array .int, n)) else if tN T < a ∧ a ≤ tN T + n then some (.inr (.int, k)) else T.1 a, fun a => if tN T ≤ a ∧ a ≤ tN T + n then fun _ => 0 else T.2.1 a, fun a => if a = tN T then fun j => some (tN T + 1 + j) else if tN T < a ∧ a ≤ tN T + n then fun _ => none else T.2.2.1 a, tN T + 1 + n, tZ T + (n + n * k), tL T)
def nM {α : Type} (T : Th) (n k : Int32) (f : Th → Option α) : Option α := if ¬ n < 0 ∧ ¬ k < 0 ∧ n.toNatClampNeg ≤ 65536 ∧ k.toNatClampNeg ≤ 65536 ∧ tN T + 1 + n.toNatClampNeg ≤ (tL T).1 ∧ tZ T + (n.toNatClampNeg + n.toNatClampNeg * k.toNatClampNeg) ≤ (tL T).2.1 then f (tNewM T n.toNatClampNeg k.toNatClampNeg) else none
theorem nz_rows {H H1 : Heap} {n k : Nat} {co ci : Cell} (hz : H1.size = H.size + 1 + n) (ho : H1[H.size]? = some co) (hi : ∀ j, j < n → H1[H.size + 1 + j]? = some ci) (h1 : co.slots.size = n) (h2 : ci.slots.size = k) : nz H.size H1 = n + n * k := by
  unfold nz
  have e : (H1.toList.drop H.size).map (·.slots.size) = n :: List.replicate n k := by
    apply List.ext_getElem?
    intro i
    simp only [List.getElem?_map, List.getElem?_drop, Array.getElem?_toList]
    cases i with
    | zero => simp [ho, h1]
    | succ i =>
      by_cases hl : i < n
      · rw [show H.size + (i + 1) = H.size + 1 + i by omega, hi i hl]
        simp [h2, List.getElem?_replicate, hl]
      · rw [Array.getElem?_eq_none (by omega)]
        simp [List.getElem?_replicate, hl]
  rw [e]
  simp
theorem RD.newM {D : Dd} {R : Heap → Prop} {d : Nat → Prop} {L : Nat × Nat × Nat × Nat} {T : Th} {H H1 : Heap} {n k : Nat} (hSt : Stb R d) (h : RD D R d L T H) (hl : tN T + 1 + n ≤ (tL T).1 ∧ tZ T + (n + n * k) ≤ (tL T).2.1) (hz : H1.size = H.size + 1 + n) (ho : H1[H.size]? = some (arrV (D.2.2.1 (.array .int)) n (fun j => .ref (H.size + 1 + j)))) (hi : ∀ j, j < n → H1[H.size + 1 + j]? = some (arrV (D.2.2.1 .int) k (fun _ => .int 0))) (hq : ∀ a : Nat, a < H.size → H1[a]? = H[a]?) : RD D R d L (tNewM T n k) H1 := by
  obtain ⟨g1, g2, g3, g4, g5, g6, g7, g8, g9, g10, g11⟩ := h
  have e1 : H.size = tN T := g2.1
  have hsz : sz_ H H1 := fun q x hx => ⟨x, (hq q (Array.getElem?_eq_some_iff.mp hx).1).trans hx, rfl⟩
  rw [g8] at hl
  refine ⟨hSt H H1 g1 (fun q h1 _ => hq q h1), ⟨by rw [hz, e1]; rfl, fun b dk hb => ?_⟩, ?_, fun b hb hbb => ?_, fun q hq => g5 q (by have : tN T + 1 + n ≤ q := hq; omega), hl.1, hl.2, g8, Nat.le_trans g9 (by show tN T ≤ tN T + 1 + n; omega), g10, g11.kept (fun q h1 => hq q (by omega))⟩
  · by_cases c1 : b = tN T
    · subst c1
      have e : (tNewM T n k).1 (tN T) = some (.inr (.array .int, n)) := if_pos rfl
      cases e.symm.trans hb
      show H1[tN T]? = some (arrV _ _ _)
      rw [← e1, ho]
      congr 2
      funext j
      simp [dE, tNewM, e1, va_rf]
    · by_cases c2 : tN T < b ∧ b ≤ tN T + n
      · have e : (tNewM T n k).1 b = some (.inr (.int, k)) := by show (if b = tN T then _ else if _ then _ else _) = _; rw [if_neg c1, if_pos c2]
        cases e.symm.trans hb
        show H1[b]? = some (arrV _ _ _)
        have h9 := hi (b - (tN T + 1)) (by omega)
        rw [show H.size + 1 + (b - (tN T + 1)) = b by omega] at h9
        rw [h9]
        congr 2
        funext j
        have c3 : tN T ≤ b ∧ b ≤ tN T + n := ⟨by omega, c2.2⟩
        simp [dE, tNewM, c3]
      · have e : (tNewM T n k).1 b = T.1 b := by show (if b = tN T then _ else if _ then _ else _) = _; rw [if_neg c1, if_neg c2]
        rw [e] at hb
        have hx := g2.2 b dk hb
        have hlt := hx.lt
        have c3 : ¬ (tN T ≤ b ∧ b ≤ tN T + n) := by omega
        exact (hx.kept (hq b hlt)).ext (by show (if _ then _ else _) = _; rw [if_neg c3]) (by show (if b = tN T then _ else if _ then _ else _) = _; rw [if_neg c1, if_neg c2])
  · show nz _ _ = tZ T + (n + n * k)
    rw [nz_split rfl (by rw [e1]; exact g9) hsz (by omega), nz_rows hz ho hi (by rw [arrV_size]) (by rw [arrV_size])]
    have : nz D.2.2.2.1.heap.size H = tZ T := g3
    rw [this]
  · by_cases c1 : tN T ≤ b
    · exact g5 b c1
    · have e : (tNewM T n k).1 b = T.1 b := by show (if b = tN T then _ else if _ then _ else _) = _; rw [if_neg (by omega), if_neg (by omega)]
      rw [e] at hb
      exact g4 b hb hbb
theorem outer_arr0 (cA : ClassId) (n h0 : Nat) : ∀ i, Jvm.Free.Multi.outerC cA n h0 i = arrV cA n (fun j => if j < i then .ref (h0 + 1 + j) else .null)
  | 0 => by
    show _ = arrV cA n (fun j => if j < 0 then _ else .null)
    have e : (fun j => if j < 0 then Value.ref (h0 + 1 + j) else .null) = fun _ => Value.null := by funext j; rw [if_neg (Nat.not_lt_zero _)]
    rw [e]
    unfold Jvm.Free.Multi.outerC
    first | rw [arrV_new] | rw [← arrV_new]
  | i + 1 => by
    show (Jvm.Free.Multi.outerC cA n h0 i).setSlot i (.ref (h0 + 1 + i)) = _
    rw [outer_arr0 cA n h0 i, arrV_store]
    congr 1
    funext j
    unfold updV
    by_cases e : j = i
    · subst e
      rw [if_pos rfl, if_pos (by omega)]
    · rw [if_neg e]
      show (if j < i then _ else _) = _
      by_cases h : j < i
      · rw [if_pos h, if_pos (by omega)]
      · rw [if_neg h, if_neg (by omega)]
theorem outer_arr (cA : ClassId) (n h0 : Nat) : Jvm.Free.Multi.outerC cA n h0 n = arrV cA n (fun j => .ref (h0 + 1 + j)) := by
  rw [outer_arr0]
  unfold arrV
  congr 1
  apply Array.ext
  · simp
  · intro i h1 h2
    simp at h1
    simp [h1]
section ACMM
variable {X : Ctx} {cc : ByteArray} {own : String} {D : Dd} {c z : Nat} {R : Heap → Prop} {d : Nat → Prop} {L : Nat × Nat × Nat × Nat} {mL fr lo : Nat} {T : Th} {pc : Nat} {lv : List (Nat × Value)} {stk : List Value} {α : Type} {out : α} {index : Nat} {n k : Int32} {f : Th → Option α}
theorem a_newM (hX : Ax X cc own D d L mL fr lo) (hSt : Stb R d) (hq : Cond.classLink own index "[[I" ∈ lw_all) (hdg : decode cc pc = .ok (.multianewarray index 2, 4)) (hE : nM T n k f = some out) (kk : ∀ T1, T1 = tNewM T n.toNatClampNeg k.toNatClampNeg → f T1 = some out → ∀ c z, Wk X c z (RD D R d L T1) (pc + 4) lv (.ref (tN T) :: stk)) : Wk X c z (RD D R d L T) pc lv (.int k :: .int n :: stk) := by
  obtain ⟨⟨hn, hk, hm1, hm2, hl⟩, hE⟩ := ite_of hE
  have kk := kk _ rfl hE
  refine a_tight hX (a_know (a_hcs hX) fun hcs => ?_)
  obtain ⟨hC, hA, hnL, hfr, hlo, h1, h2, h3, -⟩ := hX
  obtain ⟨p, l, e, Rr, s, m, args, below, meth, c0, A, nL, Q⟩ := X
  intro H locs ls hP hS hlv
  have e1 : H.size = tN T := hP.2.1.1
  have hL : tL T = L := hP.2.2.2.2.2.2.2.1
  have hcs : (tN T - s.heap.size) + (L.1 - tN T) ≤ Rr.cells ∧ (tZ T - zs D s.heap) + (L.2.1 - tZ T) ≤ Rr.slots := hcs
  have hl2 := hl
  rw [hL] at hl
  have hArO := (hC.2.2.2.2.2.1.2.1 (.array .int) (by simp [arTy])).2
  have hArI := (hC.2.2.2.2.2.1.2.1 .int (by simp [arTy])).2
  intro T0 hT Z
  obtain ⟨vm₁, cA, comp, hW, hfA, hfC, hO, hI, X1, step⟩ := Z.multianewarray2F hC.1 (ty := .int) hC.2.2.2.1 (hC.2.2.2.2.1 _ hq) (hC.2.2.2.2.2.1.2.2.1 _ q404 rfl) (hC.2.2.2.2.1 _ q434) (g := F0 m pc ls (.int k :: .int n :: stk)) rfl (by rw [hC.2.1]; exact hdg) rfl hn hk (by omega) (by show k.toNatClampNeg * 4 ≤ _; omega) (by omega) rfl rfl (by show tN T - s.heap.size + (1 + n.toNatClampNeg) ≤ Rr.cells; omega) (by show tZ T - zs D s.heap + (n.toNatClampNeg + n.toNatClampNeg * k.toNatClampNeg) ≤ Rr.slots; omega)
  have hcA : cA = D.2.2.1 (.array .int) := Option.some.inj (hfA.symm.trans hArO)
  have hcC : comp = D.2.2.1 .int := Option.some.inj (hfC.symm.trans hArI)
  subst hcA
  subst hcC
  have hh : (T0.setVm vm₁).heap = H := hT
  generalize hS2 : T0.setVm vm₁ = S2 at X1 step hh
  have ff := Jvm.Free.Multi.fill_facts S2 (D.2.2.1 (.array .int)) (D.2.2.1 .int) n.toNatClampNeg k.toNatClampNeg (defaultValue .int) n.toNatClampNeg
  have fi := Jvm.Free.Multi.fill_inner S2 (D.2.2.1 (.array .int)) (D.2.2.1 .int) n.toNatClampNeg k.toNatClampNeg (defaultValue .int) n.toNatClampNeg
  have fo := fun a (ha : a < S2.heap.size) => Jvm.Free.Multi.fill_old S2 (D.2.2.1 (.array .int)) (D.2.2.1 .int) n.toNatClampNeg k.toNatClampNeg (defaultValue .int) ha n.toNatClampNeg
  generalize hF : Jvm.Free.Multi.fill S2 (D.2.2.1 (.array .int)) (D.2.2.1 .int) n.toNatClampNeg k.toNatClampNeg (defaultValue .int) n.toNatClampNeg = F at X1 step ff fi fo
  rw [hh] at ff fi fo
  have hw := RD.newM (H1 := F.heap) (n := n.toNatClampNeg) (k := k.toNatClampNeg) hSt hP hl2 ff.1 (by rw [ff.2.1, outer_arr]) (fun j hj => by rw [fi j hj]; unfold Jvm.Free.Multi.innerC; show some _ = some (arrV _ _ fun _ => defaultValue .int); congr 1; first | rw [arrV_new] | rw [← arrV_new]) fo
  have hsz : sz_ H F.heap := fun q x hx => ⟨x, (fo q (Array.getElem?_eq_some_iff.mp hx).1).trans hx, rfl⟩
  have hvs : vs_ A s.heap F.heap locs := ⟨⟨Nat.le_trans hS.1.1 (by rw [ff.1]; omega), fun q g1 g2 => (fo q (Nat.lt_of_lt_of_le g1 hS.1.1)).trans (hS.1.2.1 q g1 g2), hS.1.2.2⟩, hS.2.trans hsz⟩
  obtain ⟨t, a1, b1⟩ := kk _ _ F.heap locs ls hw hvs hlv F rfl X1
  refine ⟨t, step t ?_, b1⟩
  rw [hT, e1]
  exact a1
end ACMM
def sS {α : Type} (T : Th) (a : Nat) (ty : FieldType) (ci : Nat) (i : Int32) (b : Nat) (f : Th → Option α) : Option α := match T.1 a with
  | some (.inr x) => if x.1 = ty ∧ T.1 b = some (.inl ci) ∧ (tL T).2.2.1 ≤ a then (ix i x.2).bind fun q => f (tR T a q (some b)) else none
  | _ => none
section ACS
variable {X : Ctx} {cc : ByteArray} {own : String} {D : Dd} {c z : Nat} {R : Heap → Prop} {d : Nat → Prop} {L : Nat × Nat × Nat × Nat} {mL fr lo : Nat} {T : Th} {pc : Nat} {lv : List (Nat × Value)} {stk : List Value} {α : Type} {out : α} {a : Nat}
theorem a_aastS {E : String} {Tt0 : u_T} {N0 ci : Nat} (hc0 : vwCl[ci]? = some (E, Tt0, N0)) {i : Int32} {b0 : Nat} {f : Th → Option α} (hX : Ax X cc own D d L mL fr lo) (hSt : Stb R d) (hty : FieldType.object E ∈ arTy) (hdg : decode cc pc = .ok (.aastore, 1)) (hE : sS T a (.object E) ci i b0 f = some out) (kk : ∀ T1, f T1 = some out → Wk X c z (RD D R d L T1) (pc + 1) lv stk) : Wk X c z (RD D R d L T) pc lv (.ref b0 :: .int i :: .ref a :: stk) := by
  unfold sS at hE
  split at hE
  · rename_i x hb
    obtain ⟨⟨h1, hb0, hbb⟩, hE⟩ := ite_of hE
    obtain ⟨ty, n⟩ := x
    have h1 : ty = .object E := h1
    subst h1
    obtain ⟨q, hi, hE⟩ := ob_ hE
    obtain ⟨hin, rfl⟩ := ix_some hi
    have hin : vp_in i n := hin
    have kk := kk _ hE
    have hlt : i.toNatClampNeg < n := Nat.not_le.mp fun q => hin (Or.inr q)
    have h0 : ¬ i < 0 := fun q => hin (Or.inl q)
    obtain ⟨hC, hA, -⟩ := hX
    obtain ⟨p, l, e, Rr, s, m, args, below, meth, c0, A, nL, Q⟩ := X
    intro H locs ls hP hS hl
    have hcell : H[a]? = some (arrV (D.2.2.1 (.object E)) n (dE T a (.object E))) := hP.2.1.2 a _ hb
    obtain ⟨r, hr, cellV, g1, g2, g3, -⟩ := hP.2.1.2 b0 _ hb0
    cases hc0.symm.trans hr
    have hcls := (hC.2.2.2.2.2.1.1 ci _ hr).2
    obtain ⟨kC, hkC, -⟩ := hcls.2
    obtain ⟨hAr, kA, comp, k1, k2, k3, k4⟩ := hC.2.2.2.2.2.1.2.1 _ hty
    have hkcomp : ∃ kc, s.vm.classes[comp]? = some kc := by
      obtain ⟨k9, h9, -⟩ := Vm.findClass_spec k3
      exact ⟨k9, h9⟩
    obtain ⟨kc, hkc⟩ := hkcomp
    have ecomp : comp = D.1 ci := Option.some.inj (k3.symm.trans hcls.1)
    have hasg : s.vm.assignable (D.1 ci) comp = true := by rw [ecomp]; exact va_asg _ _
    refine W.aast hC.1 hC.2.1 hcell (fun q h => by cases h) (fun h => by cases h) k1 k2 rfl hkc ⟨h0, by rw [arrV_size]; exact hlt⟩ g1 (fun q h => by rw [g3] at h; cases h) (by rw [g2]; exact hkC) (by rw [g2]; exact hasg) rfl rfl hdg fun H1 e1 z1 oq => ?_
    have hw := RD.put (T1 := tR T a i.toNatClampNeg (some b0)) hSt hP hb hbb rfl rfl (fun _ _ => rfl) (fun b hb => vf_ne _ _ hb) (by
      show H1[a]? = some (arrV _ _ _)
      rw [e1, arrV_store]
      congr 2
      funext j
      by_cases hj : j = i.toNatClampNeg
      · subst hj
        simp [updV, dE, tR, uR, vf_self, va_rf]
      · simp [updV, dE, hj, tR, uR, vf_self, vf_ne]) z1 oq (sz_.one hcell e1 (sz_slot _ _ _) oq)
    exact kk H1 _ ls hw (hS.put hcell e1 (sz_slot _ _ _) z1 oq (hA a (hP.2.2.2.1 a (by rw [hb]; exact fun h => by cases h) (by rw [← hP.2.2.2.2.2.2.2.1]; exact hbb)))) hl
  · cases hE
end ACS
