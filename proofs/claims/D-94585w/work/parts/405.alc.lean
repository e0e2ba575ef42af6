/-! contracts that allocate (printed by gen/alc.py) -/
set_option maxRecDepth 100000
section CIN
variable {X : Ctx} {cc : ByteArray} {own : String} {cl : List vw_C} {tl : List FieldType} {D : Dd} {cells slots : Nat} {P P1 : Heap → Prop} {pc : Nat} {lv : List (Nat × Value)} {stk : List Value}
theorem k_callIN {host : String} {C : String} {y : MethodName} {bytes : ByteArray} {maxL mc ms n index : Nat} {ret : Option FieldType} {ws : List Cond} {rm : Room} {A1 : Nat → Prop} {As : List Value} {b : Nat} {Pc P' : Heap → Prop} {o : Option Value} (hC : Cx X cc own cl tl D) (hM : Ct X.2.1 y ws rm cl tl D A1 (.ref b :: As) Pc P' o mc ms) (cw : va_CN X.2.2.2.1 X.2.2.2.2.1 X.2.2.2.2.2.2.1 own index y host bytes maxL none ws rm mc ms n ∧ y.name = "<init>" ∧ (Cond.instanceMethod y).before X.2.2.2.2.2.2.1 X.2.2.2.2.1 = true) (hA1 : ∀ H : Heap, P H → X.2.2.2.2.1.heap.size ≤ H.size → ∀ q, A1 q → X.2.2.2.2.2.2.2.2.2.2.1 q) (hA2 : ∀ H : Heap, P H → X.2.2.2.2.1.heap.size ≤ H.size → ∀ q, H.size ≤ q → A1 q) (hpre : ∀ H, P H → Pc H) (hpost : ∀ H H1, P H → P' H1 → H.size ≤ H1.size → (∀ q : Nat, q < H.size → ¬ A1 q → H1[q]? = H[q]?) → sz_ H H1 → P1 H1) (hn : As.length = n) {stk0 : List Value} (hst : stk0 = As.reverse ++ .ref b :: stk) (hw : (stk.map fun v => v.category).sum ≤ 8) (hf : cells + mc ≤ X.2.2.2.1.cells ∧ slots + ms ≤ X.2.2.2.1.slots) (hdg : decode cc pc = .ok (.invokespecial index, 3)) (kk : Wk X (cells + mc) (slots + ms) P1 (pc + 3) lv (o.toList ++ stk)) : Wk X cells slots P pc lv stk0 := by
  subst hst
  obtain ⟨p, l, e, R, s, m, args, below, meth, c, A, nL, Q⟩ := X
  intro H locs ls hP hS hl
  have hr := va_runIN (rest := stk) (H := H) (locs := locs) (cells := cells) (slots := slots) (l := l) (e := e) (below := below) (meth := meth) (g := F0 m pc ls (As.reverse ++ .ref b :: stk)) ⟨hC.1, hC.2.1, hC.2.2.1, hC.2.2.2.1, hC.2.2.2.2.1⟩ hM cw ⟨va_fb, fun U hU hW => ⟨rfl, by rw [hU]; exact hpre H hP, KK.warm hW hC.2.2.2.2.2.1, by rw [hU]; exact hA2 H hP hS.1.1⟩⟩ rfl hn hl.1 rfl (lv_room hw) hdg hf
  intro T hT Z
  obtain ⟨v, st₀, t, T', L, h0, X', hL, e1, e2, ⟨hv, hp, ⟨hz, hk⟩, hzs⟩, st⟩ := hr T hT Z
  cases hv
  rw [h0] at hz hk hzs
  rw [← e1] at hz hk hp hzs
  obtain ⟨t2, a1, b1⟩ := kk T'.heap (locs ++ L) ls (hpost H _ hP hp hz hk hzs) ⟨⟨Nat.le_trans hS.1.1 hz, fun q h1 h2 => (hk q (Nat.lt_of_lt_of_le h1 hS.1.1) (fun z => h2 (hA1 H hP hS.1.1 q z))).trans (hS.1.2.1 q h1 h2), fun q hq => by
      rcases List.mem_append.mp hq with h | h
      · exact hS.1.2.2 q h
      · exact hA1 H hP hS.1.1 _ (hL q h)⟩, hS.2.trans hzs⟩ hl T' rfl X'
  exact ⟨t2, st t2 a1, b1⟩
end CIN

def RtA (X : Ctx) (ret : Option FieldType) (P' : Heap → Prop) (o : Option Value) (D : Dd) (L : Nat × Nat × Nat × Nat) : Prop := Rt X ret P' o (L.1 - X.2.2.2.2.1.heap.size) (L.2.1 - zs D X.2.2.2.2.1.heap)
theorem Ct.ofA {l : Launch} {y : MethodName} {D : Dd} {A : Nat → Prop} {As : List Value} {R : Heap → Prop} {d : Nat → Prop} {L : Nat × Nat × Nat × Nat} {T : Th} {P' : Heap → Prop} {o : Option Value} {cc : ByteArray} {maxL fr lo : Nat} {ret : Option FieldType} (hy : plainName y.cls = true) (hAs : (lg_sl As).length ≤ maxL) {lv : List (Nat × Value)} (hlv : lv_args 0 As = lv) (hdA : ∀ q, d q → A q) (hAB : ∀ q, A q → D.2.2.2.1.heap.size ≤ q)
    (body : ∀ X : Ctx, X.2.1 = l → Ax X cc y.cls D d L maxL fr lo → RtA X ret P' o D L → cxA X = A → (y.name = "<init>" → X.2.2.2.2.2.2.2.2.1.name = "<init>") → ∀ c z, Wk X c z (RD D R d L T) 0 lv []) : Ct l y (ws_ y cc maxL ret) (rmA fr lo L T) vwCl arTy D A As (RD D R d L T) P' o (L.1 - tN T) (L.2.1 - tZ T) := by
  subst hlv
  refine Met.ofW (cc := cc) (maxL := maxL) (ret := ret) hy rfl ?_
  intro p e s m args below meth c s₁ B hml hv
  obtain ⟨rfl, hP, hK, hA⟩ := hv
  have hts := atoms_spec (ws := ws_ y cc maxL ret) B.pre
  have hts : ∀ w ∈ lw_all, w.before _ s = true := fun w h => hts w (List.mem_cons_of_mem _ h)
  have hown : s.vm.findClass y.cls = some m.cls := findClass_of_methodNamed B.named
  have hl := lv_entry As (n := maxL) hAs
  rw [lg_entry_eq]
  have hin : y.name = "<init>" → meth.name = "<init>" := fun h => by rw [(name_of_methodNamed B.named B.method).1]; exact h
  have e1 : s.heap.size = tN T := hP.2.1.1
  have e2 : zs D s.heap = tZ T := hP.2.2.1
  have e3 : tN T ≤ L.1 := hP.2.2.2.2.2.1
  have e4 : tZ T ≤ L.2.1 := hP.2.2.2.2.2.2.1
  have hb := body (p, l, e, rmA fr lo L T, s, m, As.toArray, below, meth, c, A, maxL, MQ below (fun _ st oc t => oc = .returned o ∧ P' t.heap ∧ va_F A st t ∧ sz_ st.heap t.heap) As.toArray s (L.1 - tN T) (L.2.1 - tZ T) A) rfl ⟨⟨B.exec, B.bytes, hml, hown, hts, hK, B.notSynchronized, hA⟩, hdA, rfl, rfl, rfl, by show L.1 ≤ s.heap.size + (L.1 - tN T); omega, by show L.2.1 ≤ zs D s.heap + (L.2.1 - tZ T); omega, by show D.2.2.2.1.heap.size ≤ s.heap.size; rw [e1]; exact hP.2.2.2.2.2.2.2.2.1, hP.2.2.2.2.2.2.2.2.2.2, hAB⟩ ⟨B.returns, by show _ = MQ _ _ _ _ (L.1 - s.heap.size) (L.2.1 - zs D s.heap) _; rw [e1, e2]⟩ rfl hin 0 0
  exact hb s.heap [] _ hP ⟨va_S.rf, sz_.rf⟩ hl
section AC
variable {X : Ctx} {cc : ByteArray} {own : String} {D : Dd} {c z : Nat} {R : Heap → Prop} {d : Nat → Prop} {L : Nat × Nat × Nat × Nat} {mL fr lo : Nat} {T : Th} {pc : Nat} {lv : List (Nat × Value)} {stk : List Value} {α : Type} {out : α} {a : Nat} {P' : Heap → Prop} {o : Option Value}
theorem a_ok (hX : Ax X cc own D d L mL fr lo) : ∀ H, RD D R d L T H → X.2.2.2.2.1.heap.size ≤ H.size → sz_ X.2.2.2.2.1.heap H → tN T - X.2.2.2.2.1.heap.size ≤ L.1 - X.2.2.2.2.1.heap.size ∧ tZ T - zs D X.2.2.2.2.1.heap ≤ L.2.1 - zs D X.2.2.2.2.1.heap := by
  intro H h hz hs
  have e5 : tN T ≤ L.1 := h.2.2.2.2.2.1
  have e6 : tZ T ≤ L.2.1 := h.2.2.2.2.2.2.1
  omega
theorem a_iret {v : Int32} (hX : Ax X cc own D d L mL fr lo) (hR : RtA X (some .int) P' o D L) (hdg : decode cc pc = .ok (.ireturn, 1)) (ho : o = some (.int v)) (hP' : ∀ H, RD D R d L T H → P' H) : Wk X c z (RD D R d L T) pc lv [.int v] := a_tight hX (a_know (a_ok hX) fun hc => k_iret hX.1 hR hc hdg ho hP')
theorem a_zret {v : Int32} (hv : v = 0 ∨ v = 1) (hX : Ax X cc own D d L mL fr lo) (hR : RtA X (some .boolean) P' o D L) (hdg : decode cc pc = .ok (.ireturn, 1)) (ho : o = some (.int v)) (hP' : ∀ H, RD D R d L T H → P' H) : Wk X c z (RD D R d L T) pc lv [.int v] := a_tight hX (a_know (a_ok hX) fun hc => k_zret hv hX.1 hR hc hdg ho hP')
theorem a_vret (hX : Ax X cc own D d L mL fr lo) (hR : RtA X none P' o D L) (hdg : decode cc pc = .ok (.return_, 1)) (ho : o = none) (hP' : ∀ H, RD D R d L T H → P' H) : Wk X c z (RD D R d L T) pc lv [] := a_tight hX (a_know (a_ok hX) fun hc => k_vret hX.1 hR hc hdg ho hP')
theorem a_aret {v : Value} {rt : FieldType} (hrt : (∃ n, rt = .object n) ∨ ∃ t, rt = .array t) (hv : v = .null ∨ ∃ a, v = .ref a) (hX : Ax X cc own D d L mL fr lo) (hR : RtA X (some rt) P' o D L) (hdg : decode cc pc = .ok (.areturn, 1)) (ho : o = some v) (hP' : ∀ H, RD D R d L T H → P' H) : Wk X c z (RD D R d L T) pc lv [v] := a_tight hX (a_know (a_ok hX) fun hc => k_aret hrt hv hX.1 hR hc hdg ho hP')
variable {y : MethodName} {bytes : ByteArray} {maxL n index fr1 lo1 : Nat} {ret : Option FieldType} {As : List Value} {b : Nat}
theorem a_callV {C : String} (hX : Ax X cc own D d L mL fr lo) (hM : Ct X.2.1 y (ws_ y bytes maxL ret) (rmA fr1 lo1 L T) vwCl arTy D (cxA X) (.ref b :: As) (RD D R d L T) P' o (L.1 - tN T) (L.2.1 - tZ T)) (cw : CallW X.2.2.2.1 X.2.2.2.2.1 X.2.2.2.2.2.2.1 own C index y bytes maxL ret (ws_ y bytes maxL ret) (rmA fr1 lo1 L T) (L.1 - tN T) (L.2.1 - tZ T) n) (hrecv : ∀ H, RD D R d L T H → ∃ cellB : Cell, H[b]? = some cellB ∧ cellB.vm.isStatics = false ∧ X.2.2.2.2.1.vm.findClass C = some cellB.cls) (hn : As.length = n) {stk0 : List Value} (hst : stk0 = As.reverse ++ .ref b :: stk) (hw : (stk.map fun v => v.category).sum ≤ 8) (hdg : decode cc pc = .ok (.invokevirtual index, 3)) (kk : ∀ c z, Wk X c z P' (pc + 3) lv (o.toList ++ stk)) : Wk X c z (RD D R d L T) pc lv stk0 := by
  refine a_tight hX (a_know (a_hcs hX) fun hcs => ?_)
  exact k_callV (C := C) hX.1 hM cw hrecv (fun _ _ _ _ h => h) (fun H _ h q hq => cx_A hX.1 q (Nat.le_trans h hq)) (fun _ h => h) (fun _ _ _ h _ _ _ => h) hn hst hw hcs hdg (kk _ _)
theorem a_callS (hX : Ax X cc own D d L mL fr lo) (hM : Ct X.2.1 y (ws_ y bytes maxL ret) (rmA fr1 lo1 L T) vwCl arTy D (cxA X) As (RD D R d L T) P' o (L.1 - tN T) (L.2.1 - tZ T)) (cw : CallB X.2.2.2.1 X.2.2.2.2.1 X.2.2.2.2.2.2.1 own index y bytes maxL ret (ws_ y bytes maxL ret) (rmA fr1 lo1 L T) (L.1 - tN T) (L.2.1 - tZ T) n ∧ (Cond.static y).before X.2.2.2.2.2.2.1 X.2.2.2.2.1 = true) (hn : As.length = n) {stk0 : List Value} (hst : stk0 = As.reverse ++ stk) (hw : (stk.map fun v => v.category).sum ≤ 8) (hdg : decode cc pc = .ok (.invokestatic index, 3)) (kk : ∀ c z, Wk X c z P' (pc + 3) lv (o.toList ++ stk)) : Wk X c z (RD D R d L T) pc lv stk0 := by
  refine a_tight hX (a_know (a_hcs hX) fun hcs => ?_)
  exact k_callS (C := "") (b := 0) hX.1 hM cw (fun _ _ _ _ h => h) (fun H _ h q hq => cx_A hX.1 q (Nat.le_trans h hq)) (fun _ h => h) (fun _ _ _ h _ _ _ => h) hn hst hw hcs hdg (kk _ _)
theorem a_callI (hX : Ax X cc own D d L mL fr lo) (hM : Ct X.2.1 y (ws_ y bytes maxL none) (rmA fr1 lo1 L T) vwCl arTy D (cxA X) (.ref b :: As) (RD D R d L T) P' o (L.1 - tN T) (L.2.1 - tZ T)) (cw : CallB X.2.2.2.1 X.2.2.2.2.1 X.2.2.2.2.2.2.1 own index y bytes maxL none (ws_ y bytes maxL none) (rmA fr1 lo1 L T) (L.1 - tN T) (L.2.1 - tZ T) n ∧ y.name = "<init>" ∧ (Cond.instanceMethod y).before X.2.2.2.2.2.2.1 X.2.2.2.2.1 = true) (hn : As.length = n) {stk0 : List Value} (hst : stk0 = As.reverse ++ .ref b :: stk) (hw : (stk.map fun v => v.category).sum ≤ 8) (hdg : decode cc pc = .ok (.invokespecial index, 3)) (kk : ∀ c z, Wk X c z P' (pc + 3) lv (o.toList ++ stk)) : Wk X c z (RD D R d L T) pc lv stk0 := by
  refine a_tight hX (a_know (a_hcs hX) fun hcs => ?_)
  exact k_callI (C := "") (ret := none) hX.1 hM cw (fun _ _ _ _ h => h) (fun H _ h q hq => cx_A hX.1 q (Nat.le_trans h hq)) (fun _ h => h) (fun _ _ _ h _ _ _ => h) hn hst hw hcs hdg (kk _ _)
theorem a_callIN {host : String} (hX : Ax X cc own D d L mL fr lo) (hM : Ct X.2.1 y (ws_ y bytes maxL none) (rmA fr1 lo1 L T) vwCl arTy D (cxA X) (.ref b :: As) (RD D R d L T) P' o (L.1 - tN T) (L.2.1 - tZ T)) (cw : va_CN X.2.2.2.1 X.2.2.2.2.1 X.2.2.2.2.2.2.1 own index y host bytes maxL none (ws_ y bytes maxL none) (rmA fr1 lo1 L T) (L.1 - tN T) (L.2.1 - tZ T) n ∧ y.name = "<init>" ∧ (Cond.instanceMethod y).before X.2.2.2.2.2.2.1 X.2.2.2.2.1 = true) (hn : As.length = n) {stk0 : List Value} (hst : stk0 = As.reverse ++ .ref b :: stk) (hw : (stk.map fun v => v.category).sum ≤ 8) (hdg : decode cc pc = .ok (.invokespecial index, 3)) (kk : ∀ c z, Wk X c z P' (pc + 3) lv (o.toList ++ stk)) : Wk X c z (RD D R d L T) pc lv stk0 := by
  refine a_tight hX (a_know (a_hcs hX) fun hcs => ?_)
  exact k_callIN (C := "") (ret := none) hX.1 hM cw (fun _ _ _ _ h => h) (fun H _ h q hq => cx_A hX.1 q (Nat.le_trans h hq)) (fun _ h => h) (fun _ _ _ h _ _ _ => h) hn hst hw hcs hdg (kk _ _)
/-- a class's Object.<init> -/
theorem a_objInit {idx : Nat} (hX : Ax X cc own D d L mL fr lo) (hq : Cond.methodLink own idx Lib.objectInit ∈ lw_all) (hdg : decode cc pc = .ok (.invokespecial idx, 3)) (h1 : 1 ≤ fr) (h2 : (stk.map fun v => v.category).sum + 12 ≤ lo) (kk : Wk X c z (RD D R d L T) (pc + 3) lv stk) : Wk X c z (RD D R d L T) pc lv (.ref a :: stk) := by
  obtain ⟨hC, hA, hnL, hfr, hlo, -⟩ := hX
  obtain ⟨p, l, e, Rr, s, m, args, below, meth, c0, A, nL, Q⟩ := X
  intro H locs ls hP hS hl
  have hfr : Rr.frames = fr := hfr
  have hlo : Rr.locals = lo := hlo
  exact W.objInit hC.1 hC.2.1 hC.2.2.2.1 (hC.2.2.2.2.1 _ hq) (hC.2.2.2.2.1 _ q159) (hC.2.2.2.2.1 _ q160) rfl (by rw [hC.2.2.1]; exact hl.1) rfl hdg (by rw [hfr]; exact h1) (by show 2 * 0 + _ + 12 ≤ _; rw [hlo]; omega) (kk H locs ls hP hS hl)
theorem a_gets {C n d0 : String} {v : Value} {index : Nat} (hX : Ax X cc own D d L mL fr lo) (hZ : ∀ H, Zf D H → va_Z C n d0 v (fun q => D.2.2.2.1.heap.size ≤ q) D.2.2.2.1 H) (hq : Cond.fieldLink own index C n d0 ∈ lw_all) (hdg : decode cc pc = .ok (.getstatic index, 3)) (kk : Wk X c z (RD D R d L T) (pc + 3) lv (v :: stk)) : Wk X c z (RD D R d L T) pc lv stk := by
  obtain ⟨hC, hA, hnL, hfr, hlo, h1, h2, h3, h4, h5⟩ := hX
  obtain ⟨p, l, e, Rr, s, m, args, below, meth, c0, A, nL, Q⟩ := X
  intro H locs ls hP hS hl
  exact va_gets hC.1 hC.2.1 (((hZ _ h4).moved hC.2.2.2.2.2.1.2.2.2.1).narrow h5) hS.1 hC.2.2.2.1 (hC.2.2.2.2.1 _ hq) (fun _ h => h) hdg (kk H locs ls hP hS hl)
theorem a_ldcS {tx : String} {index q : Nat} (hX : Ax X cc own D d L mL fr lo) (hs : (own, index, tx, q) ∈ D.2.2.2.2.1) (hdg : decode cc pc = .ok (.ldc index, 2)) (kk : Wk X c z (RD D R d L T) (pc + 2) lv (.ref q :: stk)) : Wk X c z (RD D R d L T) pc lv stk := by
  obtain ⟨hC, -⟩ := hX
  obtain ⟨p, l, e, Rr, s, m, args, below, meth, c0, A, nL, Q⟩ := X
  intro H locs ls hP hS hl
  exact va_ldcS hC.1 hC.2.1 hC.2.2.2.1 (hC.2.2.2.2.2.1.2.2.2.2 _ hs) hdg (kk H locs ls hP hS hl)
def sB {α : Type} (T : Th) (a : Nat) (i v : Int32) (f : Th → Option α) : Option α := match T.1 a with
  | some (.inr b) => if b.1 = .byte ∧ (tL T).2.2.1 ≤ a then (ix i b.2).bind fun q => f (tI T a q v.toInt8.toInt32) else none
  | _ => none
theorem a_bast {i y : Int32} {f : Th → Option α} (hX : Ax X cc own D d L mL fr lo) (hSt : Stb R d) (hdg : decode cc pc = .ok (.bastore, 1)) (hE : sB T a i y f = some out) (kk : ∀ T1, f T1 = some out → Wk X c z (RD D R d L T1) (pc + 1) lv stk) : Wk X c z (RD D R d L T) pc lv (.int y :: .int i :: .ref a :: stk) := by
  unfold sB at hE
  split at hE
  · rename_i b hb
    obtain ⟨⟨h1, hbb⟩, hE⟩ := ite_of hE
    obtain ⟨ty, n⟩ := b
    have h1 : ty = .byte := h1
    subst h1
    obtain ⟨q, hi, hE⟩ := ob_ hE
    obtain ⟨hin, rfl⟩ := ix_some hi
    have hin : vp_in i n := hin
    have kk := kk _ hE
    obtain ⟨hC, hA, -⟩ := hX
    obtain ⟨p, l, e, Rr, s, m, args, below, meth, c0, A, nL, Q⟩ := X
    intro H locs ls hP hS hl
    have hcell : H[a]? = some (arrV (D.2.2.1 .byte) n (dE T a .byte)) := hP.2.1.2 a _ hb
    refine W.bast hC.1 hC.2.1 hcell ((hC.2.2.2.2.2.1.2.1 _ ar_b).1 n _) (fun q => by cases q) (by rw [arrV_size]; exact hin) rfl rfl hdg fun H1 e1 z1 oq => ?_
    have hw := RD.put (T1 := tI T a i.toNatClampNeg y.toInt8.toInt32) hSt hP hb hbb rfl rfl (fun b hb => vf_ne _ _ hb) (fun _ _ => rfl) (by
      show H1[a]? = some (arrV _ _ _)
      rw [e1, arrV_store]
      congr 2
      funext j
      by_cases hj : j = i.toNatClampNeg
      · subst hj
        simp [updV, dE, tI, uJ, vf_self, narrow]
      · simp [updV, dE, hj, tI, uJ, vf_self, vf_ne]) z1 oq (sz_.one hcell e1 (sz_slot _ _ _) oq)
    exact kk H1 _ ls hw (hS.put hcell e1 (sz_slot _ _ _) z1 oq (hA a (hP.2.2.2.1 a (by rw [hb]; exact fun h => by cases h) (by rw [← hP.2.2.2.2.2.2.2.1]; exact hbb)))) hl
  · cases hE
/-- which kinds may lie in an array of references -/
def elk (ty : FieldType) : List Nat := if ty = .object "java/lang/Object" then [9, 10, 11, 12, 13, 14] else if ty = .object "SleepWork$Sum" then [16, 17, 18] else []
def sA {α : Type} (T : Th) (a : Nat) (ty : FieldType) (i : Int32) (b : Nat) (f : Th → Option α) : Option α := match T.1 a, T.1 b with
  | some (.inr x), some (.inl ci) => if x.1 = ty ∧ ci ∈ elk ty ∧ (tL T).2.2.1 ≤ a then (ix i x.2).bind fun q => f (tR T a q (some b)) else none
  | _, _ => none
theorem elk_cast {ty : FieldType} {C E : String} {Tt : u_T} {N ci : Nat} (hE : ty = .object E) (h : ci ∈ elk ty) (hc : vwCl[ci]? = some (C, Tt, N)) : Cond.castable C E ∈ lw_tbl := by
  subst hE
  unfold elk at h
  split at h
  · rename_i e
    have e : E = "java/lang/Object" := by injection e
    subst e
    simp only [List.mem_cons, List.not_mem_nil, or_false] at h
    rcases h with e | e | e | e | e | e <;> subst e
    · cases (cl_X10).symm.trans hc; exact q2218
    · cases (cl_X11).symm.trans hc; exact q2220
    · cases (cl_X12).symm.trans hc; exact q2221
    · cases (cl_X13).symm.trans hc; exact q2222
    · cases (cl_X14).symm.trans hc; exact q2223
    · cases (cl_X15).symm.trans hc; exact q2224
  · split at h
    · rename_i e
      have e : E = "SleepWork$Sum" := by injection e
      subst e
      simp only [List.mem_cons, List.not_mem_nil, or_false] at h
      rcases h with e | e | e <;> subst e
      · cases (cl_X18).symm.trans hc; exact q2230
      · cases (cl_X19).symm.trans hc; exact q2231
      · cases (cl_X20).symm.trans hc; exact q2232
    · cases h
theorem a_aast {E : String} {i : Int32} {b0 : Nat} {f : Th → Option α} (hX : Ax X cc own D d L mL fr lo) (hSt : Stb R d) (hty : FieldType.object E ∈ arTy) (hdg : decode cc pc = .ok (.aastore, 1)) (hE : sA T a (.object E) i b0 f = some out) (kk : ∀ T1, f T1 = some out → Wk X c z (RD D R d L T1) (pc + 1) lv stk) : Wk X c z (RD D R d L T) pc lv (.ref b0 :: .int i :: .ref a :: stk) := by
  unfold sA at hE
  split at hE
  · rename_i x ci hb hb0
    obtain ⟨⟨h1, hci, hbb⟩, hE⟩ := ite_of hE
    obtain ⟨ty, n⟩ := x
    have h1 : ty = .object E := h1
    subst h1
    obtain ⟨q, hi, hE⟩ := ob_ hE
    obtain ⟨hin, rfl⟩ := ix_some hi
    have hin : vp_in i n := hin
    have kk := kk _ hE
    have hlt : i.toNatClampNeg < n := Nat.not_le.mp fun q => hin (Or.inr q)
    have h0 : ¬ i < 0 := fun q => hin (Or.inl q)
    obtain ⟨hC, hA, -⟩ := hX
    obtain ⟨p, l, e, Rr, s, m, args, below, meth, c0, A, nL, Q⟩ := X
    intro H locs ls hP hS hl
    have hcell : H[a]? = some (arrV (D.2.2.1 (.object E)) n (dE T a (.object E))) := hP.2.1.2 a _ hb
    obtain ⟨r, hr, cellV, g1, g2, g3, -⟩ := hP.2.1.2 b0 _ hb0
    obtain ⟨C, Tt, N⟩ := r
    have hcls := (hC.2.2.2.2.2.1.1 ci _ hr).2
    obtain ⟨kC, hkC, -⟩ := hcls.2
    obtain ⟨hAr, kA, comp, k1, k2, k3, k4⟩ := hC.2.2.2.2.2.1.2.1 _ hty
    have hkcomp : ∃ kc, s.vm.classes[comp]? = some kc := by
      obtain ⟨k9, h9, -⟩ := Vm.findClass_spec k3
      exact ⟨k9, h9⟩
    obtain ⟨kc, hkc⟩ := hkcomp
    have hasg : s.vm.assignable (D.1 ci) comp = true := vb_asgC (hC.2.2.2.2.2.1.2.2.1 _ (elk_cast rfl hci hr) rfl) comp (D.1 ci) k3 hcls.1
    refine W.aast hC.1 hC.2.1 hcell (fun q h => by cases h) (fun h => by cases h) k1 k2 rfl hkc ⟨h0, by rw [arrV_size]; exact hlt⟩ g1 (fun q h => by rw [g3] at h; cases h) (by rw [g2]; exact hkC) (by rw [g2]; exact hasg) rfl rfl hdg fun H1 e1 z1 oq => ?_
    have hw := RD.put (T1 := tR T a i.toNatClampNeg (some b0)) hSt hP hb hbb rfl rfl (fun _ _ => rfl) (fun b hb => vf_ne _ _ hb) (by
      show H1[a]? = some (arrV _ _ _)
      rw [e1, arrV_store]
      congr 2
      funext j
      by_cases hj : j = i.toNatClampNeg
      · subst hj
        simp [updV, dE, tR, uR, vf_self, va_rf]
      · simp [updV, dE, hj, tR, uR, vf_self, vf_ne]) z1 oq (sz_.one hcell e1 (sz_slot _ _ _) oq)
    exact kk H1 _ ls hw (hS.put hcell e1 (sz_slot _ _ _) z1 oq (hA a (hP.2.2.2.1 a (by rw [hb]; exact fun h => by cases h) (by rw [← hP.2.2.2.2.2.2.2.1]; exact hbb)))) hl
  · cases hE
end AC
