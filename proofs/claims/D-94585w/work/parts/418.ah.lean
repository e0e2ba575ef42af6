/-! helpers of the walks that allocate or throw (printed by gen/ah.py) -/
set_option maxRecDepth 100000
/-- an answer or a throw -/
def RtX {ε α : Type} (X : Ctx) (ret : Option FieldType) (D : Dd) (L : Nat × Nat × Nat × Nat) (x : Nat) (P' : α → Heap → Prop) (o : α → Option Value) (PX : ε → Heap → Prop) : ε ⊕ α → Prop
  | .inl e => RtT X (PX e) (x + 1) D L
  | .inr r => RtA X ret (P' r) (o r) D L
/-- what a contract in the parser's world asks of its frame -/
def Pf (D : Dd) (A : Nat → Prop) (x : Nat) (R0 : Heap → Prop) (d : Nat → Prop) : Prop := (∀ q, d q → A q) ∧ (∀ q, A q → D.2.2.2.1.heap.size ≤ q) ∧ (∀ (o : Nat) (kd : Kd), layP o = some kd → A (x + o) ∧ ¬ d (x + o) ∧ D.2.2.2.1.heap.size ≤ x + o) ∧ Stb R0 (fun q => d q ∨ ∃ (o : Nat) (kd : Kd), layP o = some kd ∧ q = x + o)
abbrev tE (T : Th) : Nat := (tL T).2.2.2
section AH
variable {X : Ctx} {cc : ByteArray} {own : String} {D : Dd} {x : Nat} {R R0 : Heap → Prop} {c z : Nat} {d : Nat → Prop} {L : Nat × Nat × Nat × Nat} {mL fr lo : Nat} {Q : Ji} {Xp : Jr} {T : Th} {pc : Nat} {lv : List (Nat × Value)} {stk : List Value} {α : Type} {out : α} {a : Nat} {A : Nat → Prop}
theorem Pf.px (hp : Pf D A x R0 d) (hX : Ax X cc own D d L mL fr lo) (hXA : cxA X = A) : Px X cc own D x R0 d L mL fr lo := ⟨hX, fun o kd h => by have := (hp.2.2.1 o kd h).1; rw [← hXA] at this; exact this, fun o kd h => (hp.2.2.1 o kd h).2, hp.2.2.2⟩
theorem pxf (hP : Px X cc own D x R0 d L mL fr lo) : Pf D (cxA X) x R0 d := ⟨hP.1.2.1, hP.1.2.2.2.2.2.2.2.2.2, fun o kd h => ⟨hP.2.1 o kd h, hP.2.2.1 o kd h⟩, hP.2.2.2⟩
theorem p_tt (hX : Ax X cc own D d L mL fr lo) : ∀ H : Heap, RD D R d L T H → sz_ X.2.2.2.2.1.heap H → X.2.2.2.2.1.heap.size ≤ H.size → H.size ≤ X.2.2.2.2.1.heap.size + (L.1 - X.2.2.2.2.1.heap.size) ∧ nz X.2.2.2.2.1.heap.size H ≤ L.2.1 - zs D X.2.2.2.2.1.heap := fun H h hs hz => by
  have h1 := hX.room h hs hz
  have h2 : tN T ≤ L.1 := h.2.2.2.2.2.1
  have h3 : tZ T ≤ L.2.1 := h.2.2.2.2.2.2.1
  omega
theorem a_e0 (hX : Ax X cc own D d L mL fr lo) : ∀ H, RD D R d L T H → X.2.2.2.2.1.heap.size ≤ H.size → sz_ X.2.2.2.2.1.heap H → tE T = D.2.2.2.2.2.1 := fun H h _ _ => by
  have h1 : tL T = L := h.2.2.2.2.2.2.2.1
  show (tL T).2.2.2 = _
  rw [h1]
  exact h.2.2.2.2.2.2.2.2.2.1.2
theorem a_recv {C : String} {Tt : u_T} {N ci : Nat} (hC : Cx X cc own vwCl arTy D) (hc : vwCl[ci]? = some (C, Tt, N)) (ha : T.1 a = some (.inl ci)) : ∀ H, RD D R d L T H → ∃ cellB : Cell, H[a]? = some cellB ∧ cellB.vm.isStatics = false ∧ X.2.2.2.2.1.vm.findClass C = some cellB.cls := fun H h => by
  obtain ⟨cell, q1, q2, q3, q4⟩ := h.2.1.obj ha hc
  exact ⟨cell, q1, by rw [q3]; rfl, by rw [q2]; exact (hC.K.1 ci _ hc).2.1⟩
theorem k_acmp_eq {P : Heap → Prop} {r1 r2 : Nat} {off : Int} {tgt : Nat} {ta tb : Option α} (hC : Cx X cc own vwCl arTy D) (hdg : decode cc pc = .ok (.if_acmp .eq off, 3)) (ht : (pc : Int) + off = (tgt : Int)) (hE : (if r1 = r2 then ta else tb) = some out) (k1 : ta = some out → Wk X c z P tgt lv stk) (k2 : tb = some out → Wk X c z P (pc + 3) lv stk) : Wk X c z P pc lv (.ref r2 :: .ref r1 :: stk) := by
  have q1 : r1 = r2 → Wk X c z P tgt lv stk := fun h => k1 (by rw [if_pos h] at hE; exact hE)
  have q2 : ¬ r1 = r2 → Wk X c z P (pc + 3) lv stk := fun h => k2 (by rw [if_neg h] at hE; exact hE)
  obtain ⟨p, l, e, Rr, s, m, args, below, meth, c0, A, nL, Qq⟩ := X
  intro H locs ls hP hS hl
  exact lv_acmp_eq (rx := some r1) (ry := some r2) hC.1 hC.2.1 hdg ht (fun h => q1 (Option.some.inj h) H locs ls hP hS hl) (fun h => q2 (fun h2 => h (by rw [h2])) H locs ls hP hS hl)
theorem k_acmp_ne {P : Heap → Prop} {r1 r2 : Nat} {off : Int} {tgt : Nat} {ta tb : Option α} (hC : Cx X cc own vwCl arTy D) (hdg : decode cc pc = .ok (.if_acmp .ne off, 3)) (ht : (pc : Int) + off = (tgt : Int)) (hE : (if r1 = r2 then ta else tb) = some out) (k1 : ta = some out → Wk X c z P (pc + 3) lv stk) (k2 : tb = some out → Wk X c z P tgt lv stk) : Wk X c z P pc lv (.ref r2 :: .ref r1 :: stk) := by
  have q1 : r1 = r2 → Wk X c z P (pc + 3) lv stk := fun h => k1 (by rw [if_pos h] at hE; exact hE)
  have q2 : ¬ r1 = r2 → Wk X c z P tgt lv stk := fun h => k2 (by rw [if_neg h] at hE; exact hE)
  obtain ⟨p, l, e, Rr, s, m, args, below, meth, c0, A, nL, Qq⟩ := X
  intro H locs ls hP hS hl
  exact lv_acmp_ne (rx := some r1) (ry := some r2) hC.1 hC.2.1 hdg ht (fun h => q2 (fun h2 => h (by rw [h2])) H locs ls hP hS hl) (fun h => q1 (Option.some.inj h) H locs ls hP hS hl)
end AH
section CSU
variable {X : Ctx} {cc : ByteArray} {own : String} {cl : List vw_C} {tl : List FieldType} {D : Dd} {cells slots : Nat} {P P1 : Heap → Prop} {pc : Nat} {lv : List (Nat × Value)} {stk : List Value}
theorem k_callSU {C : String} {cC : ClassId} {y : MethodName} {bytes : ByteArray} {maxL mc ms n index : Nat} {ret : Option FieldType} {ws : List Cond} {rm : Room} {A1 : Nat → Prop} {As : List Value} {b : Nat} {Pc P' : Heap → Prop} {o : Option Value} (hC : Cx X cc own cl tl D) (hM : Ct X.2.1 y ws rm cl tl D A1 (.ref b :: As) Pc P' o mc ms) (cw : va_CS X.2.2.2.1 X.2.2.2.2.1 X.2.2.2.2.2.2.1 own index y bytes maxL ret ws rm mc ms n) (hat : ClassAt X.2.2.2.2.1 C cC) (hrecv : ∀ H, P H → ∃ cellB : Cell, H[b]? = some cellB ∧ cellB.vm.isStatics = false ∧ X.2.2.2.2.1.vm.findClass C = some cellB.cls) (hA1 : ∀ H : Heap, P H → X.2.2.2.2.1.heap.size ≤ H.size → ∀ q, A1 q → X.2.2.2.2.2.2.2.2.2.2.1 q) (hA2 : ∀ H : Heap, P H → X.2.2.2.2.1.heap.size ≤ H.size → ∀ q, H.size ≤ q → A1 q) (hpre : ∀ H, P H → Pc H) (hpost : ∀ H H1, P H → P' H1 → H.size ≤ H1.size → (∀ q : Nat, q < H.size → ¬ A1 q → H1[q]? = H[q]?) → sz_ H H1 → P1 H1) (hn : As.length = n) {stk0 : List Value} (hst : stk0 = As.reverse ++ .ref b :: stk) (hw : (stk.map fun v => v.category).sum ≤ 8) (hf : cells + mc ≤ X.2.2.2.1.cells ∧ slots + ms ≤ X.2.2.2.1.slots) (hdg : decode cc pc = .ok (.invokespecial index, 3)) (kk : Wk X (cells + mc) (slots + ms) P1 (pc + 3) lv (o.toList ++ stk)) : Wk X cells slots P pc lv stk0 := by
  subst hst
  obtain ⟨p, l, e, R, s, m, args, below, meth, c, A, nL, Q⟩ := X
  intro H locs ls hP hS hl
  have hr := va_runSU (rest := stk) (H := H) (locs := locs) (cells := cells) (slots := slots) (l := l) (e := e) (below := below) (meth := meth) (g := F0 m pc ls (As.reverse ++ .ref b :: stk)) hat ⟨hC.1, hC.2.1, hC.2.2.1, hC.2.2.2.1, hC.2.2.2.2.1⟩ hM cw ⟨va_fb, hrecv H hP, fun U hU hW => ⟨rfl, by rw [hU]; exact hpre H hP, KK.warm hW hC.2.2.2.2.2.1, by rw [hU]; exact hA2 H hP hS.1.1⟩⟩ rfl hn hl.1 rfl (lv_room hw) hdg hf
  intro T hT Z
  obtain ⟨v, st₀, t, T', L, h0, X', hL, e1, e2, ⟨hv, hp, ⟨hz, hk⟩, hzs⟩, st⟩ := hr T hT Z
  cases hv
  rw [h0] at hz hk hzs
  rw [← e1] at hz hk hp hzs
  obtain ⟨t2, a1, b1⟩ := kk T'.heap (locs ++ L) ls (hpost H _ hP hp hz hk hzs) ⟨⟨Nat.le_trans hS.1.1 hz, fun q h1 h2 => (hk q (Nat.lt_of_lt_of_le h1 hS.1.1) (fun z => h2 (hA1 H hP hS.1.1 q z))).trans (hS.1.2.1 q h1 h2), fun q hq => by
      rcases List.mem_append.mp hq with h | h
      · exact hS.1.2.2 q h
      · exact hA1 H hP hS.1.1 _ (hL q h)⟩, hS.2.trans hzs⟩ hl T' rfl X'
  exact ⟨t2, st t2 a1, b1⟩
end CSU
theorem lw_SU {own : String} {idx : Nat} {y : MethodName} {b : ByteArray} {L : Nat} {r : Option FieldType} (h1 : Cond.methodLink own idx y ∈ lw_all) (h2 : Cond.sameMethod y.cls y.cls y.name y.desc ∈ lw_all) (h3 : Cond.superclass own y.cls ∈ lw_all) (h4 : Cond.instanceMethod y ∈ lw_all) (h5 : Cond.initialized y.cls ∈ lw_all) (h6 : Cond.code y b L r ∈ lw_all) : GoodIn lw_all (va_wsSU own idx y (ws_ y b L r)) := by
  refine lw_app ?_ (lw_meth h6)
  intro w hw
  simp only [List.mem_cons, List.not_mem_nil, or_false] at hw
  rcases hw with e | e | e | e | e
  · rw [e]; exact h1
  · rw [e]; exact h2
  · rw [e]; exact h3
  · rw [e]; exact h4
  · rw [e]; exact h5
theorem lw_O {own C owner : String} {idx : Nat} {x y : MethodName} {b : ByteArray} {L : Nat} {r : Option FieldType} (h1 : Cond.methodLink own idx x ∈ lw_all) (h2 : Cond.sameMethod x.cls owner x.name x.desc ∈ lw_all) (h3 : Cond.instanceMethod ⟨owner, x.name, x.desc⟩ ∈ lw_all) (h4 : Cond.selects C x y ∈ lw_all) (h5 : Cond.instanceMethod y ∈ lw_all) (h6 : Cond.initialized y.cls ∈ lw_all) (h7 : Cond.code y b L r ∈ lw_all) : GoodIn lw_all (va_wsO own idx C owner x y (ws_ y b L r)) := by
  refine lw_app ?_ (lw_meth h7)
  intro w hw
  simp only [List.mem_cons, List.not_mem_nil, or_false] at hw
  rcases hw with e | e | e | e | e | e
  · rw [e]; exact h1
  · rw [e]; exact h2
  · rw [e]; exact h3
  · rw [e]; exact h4
  · rw [e]; exact h5
  · rw [e]; exact h6
theorem lw_U {own C owner : String} {idx : Nat} {x y : MethodName} {b : ByteArray} {L : Nat} {r : Option FieldType} (h1 : Cond.methodLink own idx x ∈ lw_all) (h2 : Cond.sameMethod x.cls owner x.name x.desc ∈ lw_all) (h4 : Cond.selects C x y ∈ lw_all) (h5 : Cond.instanceMethod y ∈ lw_all) (h6 : Cond.initialized y.cls ∈ lw_all) (h7 : Cond.code y b L r ∈ lw_all) : GoodIn lw_all (va_wsU own idx C owner x y (ws_ y b L r)) := by
  refine lw_app ?_ (lw_meth h7)
  intro w hw
  simp only [List.mem_cons, List.not_mem_nil, or_false] at hw
  rcases hw with e | e | e | e | e
  · rw [e]; exact h1
  · rw [e]; exact h2
  · rw [e]; exact h4
  · rw [e]; exact h5
  · rw [e]; exact h6
theorem selP {y y2 : MethodName} {s : State} {args : Array Value} {C : String} {n : Nat} (hy : y.cls ≠ "java/lang/invoke/MethodHandle" ∧ y.cls ≠ "java/lang/invoke/VarHandle") (hins : (Cond.instantiable C n).before args s = true) (hpriv : (Cond.privateMethod y).before args s = true) (hinst : (Cond.instanceMethod y).before args s = true) (he : y2.cls = y.cls) (hi2 : (Cond.instanceMethod y2).before args s = true) (hs2 : (Cond.selects C y2 y2).before args s = true) : (Cond.selects C y y).before args s = true := by
  obtain ⟨c, k, hc, hk, -, hniab, -, -⟩ := Cond.instantiable_spec hins
  have hni : k.isInterface = false := (Bool.or_eq_false_iff.mp hniab).1
  obtain ⟨mk, methM, hnamed, hmethM, -, -⟩ := Cond.instanceMethod_spec hinst
  have hfound : s.methodFound? y.cls y.name y.desc = some mk := State.methodFound?_of_named hnamed hy
  have hsel : selectMethod {} s.vm c mk = .method mk := selectMethod_private hmethM (Cond.privateMethod_at hpriv mk methM hnamed hmethM)
  obtain ⟨mk2, methM2, hnamed2, hmethM2, -, -⟩ := Cond.instanceMethod_spec hi2
  obtain ⟨kP, hkP, hkPi⟩ := Jvm.Free.notFace_of_selects hs2 mk2 hnamed2
  have e2 : mk2.cls = mk.cls := Option.some.inj ((findClass_of_methodNamed hnamed2).symm.trans (by rw [he]; exact findClass_of_methodNamed hnamed))
  rw [e2] at hkP
  simp only [Cond.before, Cond.holds, Cond.value, hc, hfound, hnamed, hsel, hk]
  simp [hkP, hkPi]
theorem cuP {y2 : MethodName} {X : Ctx} {cc : ByteArray} {own C : String} {D : Dd} {n0 n maxL index mc ms : Nat} {y : MethodName} {bytes : ByteArray} {ret : Option FieldType} {rm : Room} (hC : Cx X cc own vwCl arTy D) (h1 : Cond.methodLink own index y ∈ lw_all) (h2 : Cond.sameMethod y.cls y.cls y.name y.desc ∈ lw_all) (hp : Cond.privateMethod y ∈ lw_tbl) (hins : Cond.instantiable C n0 ∈ lw_all) (h5 : Cond.instanceMethod y ∈ lw_all) (h6 : Cond.initialized y.cls ∈ lw_all) (h7 : Cond.code y bytes maxL ret ∈ lw_all) (he : y2.cls = y.cls) (h8 : Cond.instanceMethod y2 ∈ lw_all) (h9 : Cond.selects C y2 y2 ∈ lw_all) (hrc : rm.cells = mc) (hrs : rm.slots = ms) (hd : y.cls ≠ "java/lang/invoke/MethodHandle" ∧ y.cls ≠ "java/lang/invoke/VarHandle" ∧ (parseMethodDescriptor y.desc).map (fun d => d.parameters.length) = some n) (hR : rm.frames + 1 ≤ X.2.2.2.1.frames ∧ 8 + (maxL + 11) + rm.locals ≤ X.2.2.2.1.locals) : va_CU X.2.2.2.1 X.2.2.2.2.1 X.2.2.2.2.2.2.1 own C y.cls index y y bytes maxL ret (ws_ y bytes maxL ret) rm mc ms n := by
  refine ⟨⟨hrc, hrs, hR.1, hR.2, pay_in (cx_w hC) (lw_meth h7), List.mem_cons_self⟩, cx_w hC _ h7, cx_w hC _ h6, ⟨hd.1, hd.2.1⟩, fun sig h => ?_, cx_w hC _ h1, cx_w hC _ h2, va_Decl.of (cx_w hC _ h5) (cx_w hC _ h7), selP ⟨hd.1, hd.2.1⟩ (cx_w hC _ hins) (va_Nw.use rfl (hC.K.2.2.1 _ hp rfl)) (cx_w hC _ h5) he (cx_w hC _ h8) (cx_w hC _ h9), cx_w hC _ h5⟩
  have h9 := hd.2.2
  rw [h] at h9
  exact (Option.some.inj h9).symm
section AS
variable {X : Ctx} {cc : ByteArray} {own : String} {D : Dd} {c z : Nat} {R : Heap → Prop} {d : Nat → Prop} {L : Nat × Nat × Nat × Nat} {mL fr lo : Nat} {T : Th} {pc : Nat} {lv : List (Nat × Value)} {stk : List Value} {P' : Heap → Prop} {o : Option Value} {y : MethodName} {bytes : ByteArray} {maxL n index fr1 lo1 : Nat} {ret : Option FieldType} {As : List Value} {b : Nat}
theorem a_callSU {C : String} {Tt : u_T} {N ci : Nat} (hc : vwCl[ci]? = some (C, Tt, N)) (hX : Ax X cc own D d L mL fr lo) (hM : Ct X.2.1 y (ws_ y bytes maxL ret) (rmA fr1 lo1 L T) vwCl arTy D (cxA X) (.ref b :: As) (RD D R d L T) P' o (L.1 - tN T) (L.2.1 - tZ T)) (cw : va_CS X.2.2.2.1 X.2.2.2.2.1 X.2.2.2.2.2.2.1 own index y bytes maxL ret (ws_ y bytes maxL ret) (rmA fr1 lo1 L T) (L.1 - tN T) (L.2.1 - tZ T) n) (hrecv : ∀ H, RD D R d L T H → ∃ cellB : Cell, H[b]? = some cellB ∧ cellB.vm.isStatics = false ∧ X.2.2.2.2.1.vm.findClass C = some cellB.cls) (hn : As.length = n) {stk0 : List Value} (hst : stk0 = As.reverse ++ .ref b :: stk) (hw : (stk.map fun v => v.category).sum ≤ 8) (hdg : decode cc pc = .ok (.invokespecial index, 3)) (kk : ∀ c z, Wk X c z P' (pc + 3) lv (o.toList ++ stk)) : Wk X c z (RD D R d L T) pc lv stk0 := by
  refine a_tight hX (a_know (a_hcs hX) fun hcs => ?_)
  exact k_callSU (C := C) hX.1 hM cw (hX.1.K.1 ci _ hc).2 hrecv (fun _ _ _ _ h => h) (fun H _ h q hq => cx_A hX.1 q (Nat.le_trans h hq)) (fun _ h => h) (fun _ _ _ h _ _ _ => h) hn hst hw hcs hdg (kk _ _)
theorem a_callU {C owner : String} {x : MethodName} (hX : Ax X cc own D d L mL fr lo) (hM : Ct X.2.1 y (ws_ y bytes maxL ret) (rmA fr1 lo1 L T) vwCl arTy D (cxA X) (.ref b :: As) (RD D R d L T) P' o (L.1 - tN T) (L.2.1 - tZ T)) (cw : va_CU X.2.2.2.1 X.2.2.2.2.1 X.2.2.2.2.2.2.1 own C owner index x y bytes maxL ret (ws_ y bytes maxL ret) (rmA fr1 lo1 L T) (L.1 - tN T) (L.2.1 - tZ T) n) (hrecv : ∀ H, RD D R d L T H → ∃ cellB : Cell, H[b]? = some cellB ∧ cellB.vm.isStatics = false ∧ X.2.2.2.2.1.vm.findClass C = some cellB.cls) (hn : As.length = n) {stk0 : List Value} (hst : stk0 = As.reverse ++ .ref b :: stk) (hw : (stk.map fun v => v.category).sum ≤ 8) (hdg : decode cc pc = .ok (.invokevirtual index, 3)) (kk : ∀ c z, Wk X c z P' (pc + 3) lv (o.toList ++ stk)) : Wk X c z (RD D R d L T) pc lv stk0 := by
  refine a_tight hX (a_know (a_hcs hX) fun hcs => ?_)
  exact k_callU (C := C) hX.1 hM cw hrecv (fun _ _ _ _ h => h) (fun H _ h q hq => cx_A hX.1 q (Nat.le_trans h hq)) (fun _ h => h) (fun _ _ _ h _ _ _ => h) hn hst hw hcs hdg (kk _ _)
end AS
def cz (v : Int32) : Option Int32 := if v.toUInt32.toUInt16.toUInt32.toInt32 = v then some v else none
def yz (v : Int32) : Option Int32 := if v.toInt8.toInt32 = v then some v else none
theorem cz_some {v r : Int32} (h : cz v = some r) : v = r ∧ narrow .char (.int r) = .int r := by
  obtain ⟨h1, h2⟩ := ite_of h
  cases h2
  exact ⟨rfl, by show Value.int _ = _; rw [h1]⟩
theorem yz_some {v r : Int32} (h : yz v = some r) : v = r ∧ narrow .byte (.int r) = .int r := by
  obtain ⟨h1, h2⟩ := ite_of h
  cases h2
  exact ⟨rfl, by show Value.int _ = _; rw [h1]⟩
/-- a thing with a name: its kind is one of these -/
def nmd : List Nat := [9, 11, 12, 14]
def dQ {α : Type} (T : Th) (a : Nat) (f : Option α) : Option α := match T.1 a with
  | some (.inl ci) => if ci ∈ nmd then f else none
  | _ => none
def dM {α : Type} (T : Th) (a : Nat) (f : Option Nat → Option α) : Option α := dQ T a (f (T.2.2.1 a 0))
theorem dQ_of {α : Type} {T : Th} {a : Nat} {f : Option α} {out : α} (h : dQ T a f = some out) : (T.1 a = some (.inl 9) ∨ T.1 a = some (.inl 11) ∨ T.1 a = some (.inl 12) ∨ T.1 a = some (.inl 14)) ∧ f = some out := by
  unfold dQ at h
  split at h
  · rename_i ci hc
    obtain ⟨h1, h2⟩ := ite_of h
    refine ⟨?_, h2⟩
    simp only [nmd, List.mem_cons, List.not_mem_nil, or_false] at h1
    rw [hc]
    rcases h1 with e | e | e | e <;> subst e <;> simp
  · cases h
section AN
variable {X : Ctx} {cc : ByteArray} {own : String} {D : Dd} {c z : Nat} {R P : Heap → Prop} {d : Nat → Prop} {L : Nat × Nat × Nat × Nat} {mL fr lo : Nat} {T : Th} {pc : Nat} {lv : List (Nat × Value)} {stk : List Value} {P' : Heap → Prop} {o : Option Value} {α : Type} {out : α} {a : Nat}
theorem k_nret {mc ms : Nat} {v : Int32} {ty : FieldType} (hv : narrow ty (.int v) = .int v) (hC : Cx X cc own vwCl arTy D) (hR : Rt X (some ty) P' o mc ms) (hc : c ≤ mc ∧ z ≤ ms) (hdg : decode cc pc = .ok (.ireturn, 1)) (ho : o = some (.int v)) (hP' : ∀ H, P H → P' H) : Wk X c z P pc lv [.int v] := by
  obtain ⟨p, l, e, Rr, s, m, args, below, meth, c0, A, nL, Q⟩ := X
  obtain ⟨hr, hQ⟩ := hR
  subst hQ
  subst ho
  intro H locs ls hP hS hl
  refine W.widen hc.1 hc.2 ?_
  exact W.zret hC.1 hC.2.1 hr hv (fun t ht hW => ⟨rfl, by rw [ht]; exact hP' H hP, hS.1.F ht, by rw [ht]; exact hS.2⟩) hS.1.2.2 hdg hC.2.2.2.2.2.2.1
theorem a_nret {v : Int32} {ty : FieldType} (hv : narrow ty (.int v) = .int v) (hX : Ax X cc own D d L mL fr lo) (hR : RtA X (some ty) P' o D L) (hdg : decode cc pc = .ok (.ireturn, 1)) (ho : o = some (.int v)) (hP' : ∀ H, RD D R d L T H → P' H) : Wk X c z (RD D R d L T) pc lv [.int v] := a_tight hX (a_know (a_ok hX) fun hc => k_nret hv hX.1 hR hc hdg ho hP')
theorem a_getsU {index : Nat} (hX : Ax X cc own D d L mL fr lo) (hq : Cond.fieldLink own index "jdk/internal/util/Preconditions" "SIOOBE_FORMATTER" "Ljava/util/function/BiFunction;" ∈ lw_all) (hdg : decode cc pc = .ok (.getstatic index, 3)) (kk : ∀ r, Wk X c z (RD D R d L T) (pc + 3) lv (va_rf r :: stk)) : Wk X c z (RD D R d L T) pc lv stk := by
  obtain ⟨hC, hA, hnL, hfr, hlo, h1, h2, h3, h4, h5⟩ := hX
  obtain ⟨p, l, e, Rr, s, m, args, below, meth, c0, A, nL, Q⟩ := X
  intro H locs ls hP hS hl
  obtain ⟨r, hZ⟩ := h4.2.2.1
  exact va_gets hC.1 hC.2.1 ((hZ.moved hC.2.2.2.2.2.1.2.2.2.1).narrow h5) hS.1 hC.2.2.2.1 (hC.2.2.2.2.1 _ hq) (fun _ h => h) hdg (kk r H locs ls hP hS hl)
theorem dy_instS {nm : String} {Tt : u_T} {N ci index : Nat} {f : Option α} (hC : Cx X cc own vwCl arTy D) (hDy : ∀ H, P H → Dy D T H) (hc : vwCl[ci]? = some (nm, Tt, N)) (hq : Cond.classLink own index nm ∈ lw_all) (hdg : decode cc pc = .ok (.instanceof index, 3)) (hE : dC T a ci f = some out) (kk : f = some out → Wk X c z P (pc + 3) lv (.int 1 :: stk)) : Wk X c z P pc lv (.ref a :: stk) := by
  obtain ⟨ha, hE⟩ := dC_of hE
  have kk := kk hE
  obtain ⟨p, l, e, Rr, s, m, args, below, meth, c0, A, nL, Q⟩ := X
  intro H locs ls hP hS hl
  exact va_instS hC.1 hC.2.1 hC.2.2.2.1 (hC.2.2.2.2.1 _ hq) (hC.2.2.2.2.2.1.1 ci _ hc).2 ((hDy H hP).recv hC.2.2.2.2.2.1 ha hc) hdg (kk H locs ls hP hS hl)
theorem dy_castY {C nm : String} {Tt : u_T} {N ci index : Nat} (hC : Cx X cc own vwCl arTy D) (hDy : ∀ H, P H → Dy D T H) (hc : vwCl[ci]? = some (C, Tt, N)) (hw : Cond.castable C nm ∈ lw_tbl) (hq : Cond.classLink own index nm ∈ lw_all) (hdg : decode cc pc = .ok (.checkcast index, 3)) (ha : T.1 a = some (.inl ci)) (kk : Wk X c z P (pc + 3) lv (.ref a :: stk)) : Wk X c z P pc lv (.ref a :: stk) := by
  obtain ⟨p, l, e, Rr, s, m, args, below, meth, c0, A, nL, Q⟩ := X
  intro H locs ls hP hS hl
  exact va_castY hC.1 hC.2.1 hC.2.2.2.1 (hC.2.2.2.2.1 _ hq) (hC.2.2.2.2.2.1.2.2.1 _ hw rfl) ((hDy H hP).recv hC.2.2.2.2.2.1 ha hc) hdg (kk H locs ls hP hS hl)
theorem dy_castN {index : Nat} {f : Option α} (hC : Cx X cc own vwCl arTy D) (hDy : ∀ H, P H → Dy D T H) (hq : Cond.classLink own index "SleepWork$Named" ∈ lw_all) (hdg : decode cc pc = .ok (.checkcast index, 3)) (hE : dQ T a f = some out) (kk : f = some out → Wk X c z P (pc + 3) lv (.ref a :: stk)) : Wk X c z P pc lv (.ref a :: stk) := by
  obtain ⟨h, hE⟩ := dQ_of hE
  rcases h with h | h | h | h
  · exact dy_castY hC hDy cl_X10 (by exact q2203) hq hdg h (kk hE)
  · exact dy_castY hC hDy cl_X12 (by exact q2205) hq hdg h (kk hE)
  · exact dy_castY hC hDy cl_X13 (by exact q2204) hq hdg h (kk hE)
  · exact dy_castY hC hDy cl_X15 (by exact q2202) hq hdg h (kk hE)
end AN
theorem gDN_X4_44 {X : Ctx} {cc : ByteArray} {D : Dd} {c z : Nat} {P : Heap → Prop} {pc : Nat} {lv : List (Nat × Value)} {stk : List Value} {T : Th} {α : Type} {out : α} {a : Nat} {f : Option Nat → Option α} (hC : Cx X cc RX4 vwCl arTy D) (hDy : ∀ H, P H → Dy D T H) (hdg : decode cc pc = .ok (.getfield 44, 3)) (hE : dM T a f = some out) (kk : ∀ x, f x = some out → Wk X c z P (pc + 3) lv (va_rf x :: stk)) : Wk X c z P pc lv (.ref a :: stk) := by
  obtain ⟨h, hE⟩ := dQ_of hE
  rcases h with h | h | h | h
  · exact dy_get (ref := TX10 0 |>.1) hC hDy h cl_X10 in_X10 0 (by decide) q923 rfl hdg (kk _ hE)
  · exact dy_get (ref := TX12 0 |>.1) hC hDy h cl_X12 in_X12 0 (by decide) q923 rfl hdg (kk _ hE)
  · exact dy_get (ref := TX13 0 |>.1) hC hDy h cl_X13 in_X13 0 (by decide) q923 rfl hdg (kk _ hE)
  · exact dy_get (ref := TX15 0 |>.1) hC hDy h cl_X15 in_X15 0 (by decide) q923 rfl hdg (kk _ hE)
section APM
variable {X : Ctx} {cc : ByteArray} {own : String} {D : Dd} {c z : Nat} {R : Heap → Prop} {d : Nat → Prop} {L : Nat × Nat × Nat × Nat} {mL fr lo : Nat} {T : Th} {pc : Nat} {lv : List (Nat × Value)} {stk : List Value} {α : Type} {out : α} {a : Nat}
theorem a_putIM {ref C : String} {Tt : u_T} {N ci index : Nat} {y : Int32} {f : Th → Option α} (hX : Ax X cc own D d L mL fr lo) (hSt : Stb R d) (hc : vwCl[ci]? = some (C, Tt, N)) (hin : ∀ w ∈ u_ws C Tt N, w ∈ lw_all) (k : Nat) (hk : k < N) (hr : isR ci k = false) (tyT : Nat → FieldType) (hty : ∀ k, k < N → parseFieldDescriptor (Tt k).2.2.1 = some (tyT k)) (hnm : ∀ a, a < N → ∀ b, b < N → a ≠ b → (Tt a).2.1 ≠ (Tt b).2.1) (hq : Cond.fieldLink own index ref (Tt k).2.1 (Tt k).2.2.1 ∈ lw_all) (hsame : Cond.sameField ref (Tt k).1 (Tt k).2.1 (Tt k).2.2.1 ∈ lw_all) (hfin : (Tt k).2.2.2 = false) (hn : narrow (tyT k) (.int y) = .int y) (hfit : fits (tyT k) (.int y) = true) (hdg : decode cc pc = .ok (.putfield index, 3)) (hE : pI T a ci k y f = some out) (kk : ∀ T1, T1 = tI T a k y → f T1 = some out → Wk X c z (RD D R d L T1) (pc + 3) lv stk) : Wk X c z (RD D R d L T) pc lv (.int y :: .ref a :: stk) := by
  obtain ⟨⟨ha, hbb⟩, hE⟩ := ite_of hE
  have kk := kk _ rfl hE
  obtain ⟨hC, hA, -⟩ := hX
  obtain ⟨p, l, e, Rr, s, m, args, below, meth, c0, A, nL, Q⟩ := X
  intro H locs ls hP hS hl
  obtain ⟨cell, q1, q2, q3, q4⟩ := hP.2.1.obj ha hc
  have hts := hC.2.2.2.2.1
  obtain ⟨hSl, hfc, kC, hkC, hkind⟩ := hC.2.2.2.2.2.1.1 ci _ hc
  have hap : ∀ x y, x < N → y < N → x ≠ y → (D.2.1 ci) x ≠ (D.2.1 ci) y := by
    intro x y hx hy hne
    obtain ⟨_, _, _, fa, hia, ea⟩ := hSl x hx
    obtain ⟨_, _, _, fb, hib, eb⟩ := hSl y hy
    rw [← ea, ← eb]
    refine u_apart (u_lays hts hin hx) (u_lays hts hin hy) hia hib ?_
    rw [(State.fieldFound?_type hia (hty x hx)).1, (State.fieldFound?_type hib (hty y hy)).1]
    exact hnm x hx y hy hne
  obtain ⟨cf, kf, fi, f, hi, hsl⟩ := hSl k hk
  have hlay := hts _ (hin _ (u_in_lay hk))
  unfold u_lay at hlay
  rw [if_neg (by rw [hfin]; decide)] at hlay
  have hst := (u_facts hfc hkC (u_lays hts hin hk) hi).1
  have h6 := u_store hfc hkC hkind hlay hi (hty k hk) hn hfit
  refine W.putK hC.1 hC.2.1 (f := f) ⟨hC.2.2.2.1, hts _ hq, ⟨_, _, _, u_same (hts _ hsame) _ hi⟩, hst⟩ (by rw [q2]; exact h6) q1 q3 (by rw [hsl]; exact k2_hasslot (q4 k hk)) rfl rfl hdg fun H' e1 e2 e3 => ?_
  rw [hsl] at e1 ⊢
  have hw := RD.put (T1 := tI T a k y) hSt hP ha hbb rfl rfl (fun b hb => by first | rfl | exact vf_ne _ _ hb) (fun b hb => by first | rfl | exact vf_ne _ _ hb) ⟨_, hc, t_OB.to (V := updV (dV T a ci) k (.int y)) ⟨_, e1, q2, q3, t_set q4 hap hk _⟩ (fun j _ => by
      by_cases hj : j = k
      · subst hj
        simp [updV, dV, hr, tI, uJ, vf_self]
      · simp [updV, dV, hj, tI, uJ, vf_self, vf_ne])⟩ e2 e3 (sz_.one q1 e1 (sz_slot _ _ _) e3)
  exact kk H' _ ls hw (hS.put q1 e1 (sz_slot _ _ _) e2 e3 (hA a (hP.2.2.2.1 a (by rw [ha]; exact fun h => by cases h) (by rw [← hP.2.2.2.2.2.2.2.1]; exact hbb)))) hl
end APM
theorem gD_J5_63_J5 {X : Ctx} {cc : ByteArray} {D : Dd} {c z : Nat} {P : Heap → Prop} {pc : Nat} {lv : List (Nat × Value)} {stk : List Value} {T : Th} {α : Type} {out : α} {a : Nat} {f : Int32 → Option α} (hC : Cx X cc RJ5 vwCl arTy D) (hDy : ∀ H, P H → Dy D T H) (hdg : decode cc pc = .ok (.getfield 63, 3)) (hE : dI T a 19 0 f = some out) (kk : ∀ x, f x = some out → Wk X c z P (pc + 3) lv (.int x :: stk)) : Wk X c z P pc lv (.ref a :: stk) := by
  obtain ⟨ha, hE⟩ := dI_of hE
  obtain ⟨x, hx⟩ : ∃ x, X.2.2.2.2.1.fieldFound? (TJ5 0).1 (TJ5 0).2.1 (TJ5 0).2.2.1 = some x := by
    obtain ⟨cf, kf, fi, f, hi, hsl⟩ := (hC.K.1 19 _ cl_J5).1 0 (by decide)
    exact ⟨_, hi⟩
  exact dy_get (ref := RJ5) hC hDy ha cl_J5 in_J5 0 (by decide) q346 (by rw [hx]; exact (u_same (cx_w hC _ q347) _ hx).symm) hdg (kk _ hE)
theorem pPR_X3_83 {X : Ctx} {cc : ByteArray} {D : Dd} {x : Nat} {Xp : Jr} {R0 : Heap → Prop} {c z : Nat} {d : Nat → Prop} {L : Nat × Nat × Nat × Nat} {mL fr lo : Nat} {Q : Ji} {T : Th} {pc : Nat} {lv : List (Nat × Value)} {stk : List Value} {y : Option Nat} {α : Type} {out : α} {f : Jr → Option α} (hP : Px X cc RX3 D x R0 d L mL fr lo) (hdg : decode cc pc = .ok (.putfield 83, 3)) (hE : lt_ (uR Xp 9 2 y) f = some out) (kk : ∀ Xp, f Xp = some out → Wk X c z (RD D (RP D x Xp R0 Q) d L T) (pc + 3) lv stk) : Wk X c z (RD D (RP D x Xp R0 Q) d L T) pc lv (va_rf y :: .ref (x + 9) :: stk) := k_putR (P1 := RD D (RP D x (uR Xp 9 2 y) R0 Q) d L T) (v := x) (J := Q) (K := fun _ _ => 0) (Xr := Xp) (ref := RX3) (C := RX3) (T := TX3) (N := 7) hP.1.1 (fun _ h => h.1.1) 9 lp_9 cl_X3 in_X3 2 (by decide) hP.2.1 rfl tyX3 tyX3_ok nmX3 (by exact q303) rfl rfl (by cases y <;> rfl) (by cases y <;> rfl) hdg (hP.put lp_9) (kk _ hE)
theorem dv_X4 : ∀ k, k < 7 → defaultValue (tyX4 k) = if isR 4 k = true then .null else .int 0 := by
  intro k hk
  match k, hk with
  | 0, _ => rfl
  | 1, _ => rfl
  | 2, _ => rfl
  | 3, _ => rfl
  | 4, _ => rfl
  | 5, _ => rfl
  | 6, _ => rfl
theorem dv_X10 : ∀ k, k < 1 → defaultValue (tyX10 k) = if isR 9 k = true then .null else .int 0 := by
  intro k hk
  match k, hk with
  | 0, _ => rfl
theorem dv_X11 : ∀ k, k < 4 → defaultValue (tyX11 k) = if isR 10 k = true then .null else .int 0 := by
  intro k hk
  match k, hk with
  | 0, _ => rfl
  | 1, _ => rfl
  | 2, _ => rfl
  | 3, _ => rfl
theorem dv_X12 : ∀ k, k < 2 → defaultValue (tyX12 k) = if isR 11 k = true then .null else .int 0 := by
  intro k hk
  match k, hk with
  | 0, _ => rfl
  | 1, _ => rfl
theorem dv_X13 : ∀ k, k < 4 → defaultValue (tyX13 k) = if isR 12 k = true then .null else .int 0 := by
  intro k hk
  match k, hk with
  | 0, _ => rfl
  | 1, _ => rfl
  | 2, _ => rfl
  | 3, _ => rfl
theorem dv_X14 : ∀ k, k < 6 → defaultValue (tyX14 k) = if isR 13 k = true then .null else .int 0 := by
  intro k hk
  match k, hk with
  | 0, _ => rfl
  | 1, _ => rfl
  | 2, _ => rfl
  | 3, _ => rfl
  | 4, _ => rfl
  | 5, _ => rfl
theorem dv_X15 : ∀ k, k < 5 → defaultValue (tyX15 k) = if isR 14 k = true then .null else .int 0 := by
  intro k hk
  match k, hk with
  | 0, _ => rfl
  | 1, _ => rfl
  | 2, _ => rfl
  | 3, _ => rfl
  | 4, _ => rfl
theorem dv_X16 : ∀ k, k < 4 → defaultValue (tyX16 k) = if isR 15 k = true then .null else .int 0 := by
  intro k hk
  match k, hk with
  | 0, _ => rfl
  | 1, _ => rfl
  | 2, _ => rfl
  | 3, _ => rfl
theorem dv_X18 : ∀ k, k < 1 → defaultValue (tyX18 k) = if isR 16 k = true then .null else .int 0 := by
  intro k hk
  match k, hk with
  | 0, _ => rfl
theorem dv_X19 : ∀ k, k < 1 → defaultValue (tyX19 k) = if isR 17 k = true then .null else .int 0 := by
  intro k hk
  match k, hk with
  | 0, _ => rfl
theorem dv_X20 : ∀ k, k < 3 → defaultValue (tyX20 k) = if isR 18 k = true then .null else .int 0 := by
  intro k hk
  match k, hk with
  | 0, _ => rfl
  | 1, _ => rfl
  | 2, _ => rfl
theorem dv_J5 : ∀ k, k < 3 → defaultValue (tyJ5 k) = if isR 19 k = true then .null else .int 0 := by
  intro k hk
  match k, hk with
  | 0, _ => rfl
  | 1, _ => rfl
  | 2, _ => rfl
theorem dv_J6 : ∀ k, k < 4 → defaultValue (tyJ6 k) = if isR 20 k = true then .null else .int 0 := by
  intro k hk
  match k, hk with
  | 0, _ => rfl
  | 1, _ => rfl
  | 2, _ => rfl
  | 3, _ => rfl
theorem dv_J11 : ∀ k, k < 4 → defaultValue (tyJ11 k) = if isR 21 k = true then .null else .int 0 := by
  intro k hk
  match k, hk with
  | 0, _ => rfl
  | 1, _ => rfl
  | 2, _ => rfl
  | 3, _ => rfl
