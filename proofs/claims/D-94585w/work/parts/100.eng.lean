/-! ENGINE: regions of cells at one base, walks over them (Wk), contracts (Ct). -/
set_option maxRecDepth 100000
abbrev Ji : Type := Nat → Nat → Int32
abbrev Jl : Type := Nat → Nat → Int64
abbrev Jr : Type := Nat → Nat → Option Nat
/-- kinds' numbers, slots, array kinds; the state in which the law began; its String constants (whose pool, entry, text, cell); the cell of ArrayList's empty array -/
abbrev Dd : Type := (Nat → ClassId) × (Nat → Nat → Nat) × (FieldType → ClassId) × State × List (String × Nat × String × Nat) × Nat × Option Nat × Option Nat
/-- a cell's kind: an array of a primitive type, an object of a listed kind (its fields: int, a fixed reference into the region, any reference), an array of fixed references -/
abbrev Kd : Type := (FieldType × Nat) ⊕ ((Nat × (Nat → Option (Option Nat))) ⊕ (FieldType × Nat × (Nat → Nat)))
abbrev Lay : Type := Nat → Option Kd
def uJ (J : Ji) (a i : Nat) (v : Int32) : Ji := vf_upd J a (vf_upd (J a) i v)
def uL (K : Jl) (a i : Nat) (v : Int64) : Jl := vf_upd K a (vf_upd (K a) i v)
def uR (X : Jr) (a i : Nat) (v : Option Nat) : Jr := vf_upd X a (vf_upd (X a) i v)
def ix (i : Int32) (n : Nat) : Option Nat := if i < 0 ∨ n ≤ i.toNatClampNeg then none else some i.toNatClampNeg
def bz (v : Int32) : Option Int32 := if v = 0 then some 0 else if v = 1 then some 1 else none
def lt_ {α β : Type} (a : α) (f : α → β) : β := f a
theorem ix_some {i : Int32} {n q : Nat} (h : ix i n = some q) : vp_in i n ∧ q = i.toNatClampNeg := by
  unfold ix at h
  split at h
  · cases h
  · rename_i h1
    exact ⟨h1, (Option.some.inj h).symm⟩
theorem bz_some {v r : Int32} (h : bz v = some r) : v = r ∧ (r = 0 ∨ r = 1) := by
  unfold bz at h
  split at h
  · rename_i h1
    cases h
    exact ⟨h1, Or.inl rfl⟩
  · split at h
    · rename_i h1
      cases h
      exact ⟨h1, Or.inr rfl⟩
    · cases h
theorem ob_ {α β : Type} {x : Option α} {f : α → Option β} {r : β} (h : x.bind f = some r) : ∃ a, x = some a ∧ f a = some r := by
  cases x with
  | none => cases h
  | some a => exact ⟨a, rfl, h⟩
def fV (v : Nat) (J : Ji) (X : Jr) (rf : Nat → Option (Option Nat)) (off k : Nat) : Value := match rf k with
  | none => .int (J off k)
  | some (some o) => .ref (v + o)
  | some none => va_rf (X off k)
def aV (ty : FieldType) (J : Ji) (K : Jl) (off j : Nat) : Value := match ty with
  | .long => .long (K off j)
  | _ => .int (J off j)
def atK (cl : List vw_C) (D : Dd) (v : Nat) (J : Ji) (K : Jl) (X : Jr) (off : Nat) (kd : Kd) (H : Heap) : Prop := match kd with
  | .inl a => H[v + off]? = some (arrV (D.2.2.1 a.1) a.2 (aV a.1 J K off))
  | .inr (.inl o) => ∃ r : vw_C, cl[o.1]? = some r ∧ t_OB (v + off) (D.1 o.1) r.2.2 (D.2.1 o.1) H (fV v J X o.2 off)
  | .inr (.inr a) => H[v + off]? = some (arrV (D.2.2.1 a.1) a.2.1 (fun j => .ref (v + a.2.2 j)))
/-- the region at base v holds J, K, X -/
def Rg (cl : List vw_C) (D : Dd) (lay : Lay) (v : Nat) (J : Ji) (K : Jl) (X : Jr) (H : Heap) : Prop := ∀ (off : Nat) (kd : Kd), lay off = some kd → atK cl D v J K X off kd H
/-- words of the tables that no list carries, and that hold on all the same -/
def isNw : Cond → Bool
  | .fieldLinkNest _ _ _ _ _ _ => true
  | .methodLinkNest _ _ _ _ => true
  | .castable _ _ => true
  | .declares _ => true
  | .arrayOver (.object _) => true
  | .privateMethod _ => true
  | .arrayOver (.array _) => true
  | _ => false
def KK (cl : List vw_C) (tl : List FieldType) (D : Dd) (U : State) : Prop := (∀ (c : Nat) (q : vw_C), cl[c]? = some q → u_Kn U q.1 q.2.1 q.2.2 (D.1 c) (D.2.1 c)) ∧ (∀ ty ∈ tl, ArrOfT U (D.2.2.1 ty) ty ∧ va_RA U (D.2.2.1 ty) ty) ∧ (∀ w ∈ lw_tbl, isNw w = true → va_Nw w U) ∧ D.2.2.2.1.vm.Alike U.vm ∧ ∀ x ∈ D.2.2.2.2.1, vk_R x.1 x.2.1 x.2.2.1 x.2.2.2 U
theorem isNw.warm {w : Cond} (h : isNw w = true) {s U : State} (hW : s.WarmedH U.vm) (hZ : va_Nw w s) : va_Nw w U := by
  unfold isNw at h
  split at h
  · exact va_Nw.warmF hW hZ
  · exact va_Nw.warmM hW hZ
  · exact va_Nw.warmC hW hZ
  · exact va_Nw.warmD hW hZ
  · exact va_AO.moved hW.alike hZ
  · exact Cond.privateMethod_warm (args := #[]) (args' := #[]) hW hZ
  · exact over_moved hW.alike hZ
  · cases h
theorem isNw.same {w : Cond} (h : isNw w = true) {u U : State} (hv : u.vm = U.vm) (hZ : va_Nw w u) : va_Nw w U := by
  unfold isNw at h
  split at h
  · exact va_Nw.same rfl hv hZ
  · exact va_Nw.same rfl hv hZ
  · exact va_Nw.same rfl hv hZ
  · exact va_Nw.same rfl hv hZ
  · exact va_AO.moved (by rw [hv]; exact Vm.Alike.refl U.vm) hZ
  · exact va_Nw.same rfl hv hZ
  · exact over_moved (by rw [hv]; exact Vm.Alike.refl U.vm) hZ
  · cases h
theorem KK.warm {cl : List vw_C} {tl : List FieldType} {D : Dd} {s U : State} (hW : s.WarmedH U.vm) (h : KK cl tl D s) : KK cl tl D U := ⟨fun c q hq => u_Kn_moved hW.alike (h.1 c q hq), fun ty hk => ⟨arrOfT_moved hW.alike (h.2.1 ty hk).1, (h.2.1 ty hk).2.moved hW.alike⟩, fun w hw hn => hn |> fun hn => isNw.warm hn hW (h.2.2.1 w hw hn), h.2.2.2.1.trans hW.alike, fun x hx => vk_R.warm hW (h.2.2.2.2 x hx)⟩
theorem KK.same {cl : List vw_C} {tl : List FieldType} {D : Dd} {u U : State} (hv : u.vm = U.vm) (h : KK cl tl D u) : KK cl tl D U := by
  have ha : u.vm.Alike U.vm := by rw [hv]; exact Vm.Alike.refl U.vm
  exact ⟨fun c q hq => u_Kn_moved ha (h.1 c q hq), fun ty hk => ⟨arrOfT_moved ha (h.2.1 ty hk).1, (h.2.1 ty hk).2.moved ha⟩, fun w hw hn => isNw.same hn hv (h.2.2.1 w hw hn), h.2.2.2.1.trans ha, fun x hx => vk_R.same hv.symm (h.2.2.2.2 x hx)⟩
theorem atK.kept {cl : List vw_C} {D : Dd} {v : Nat} {J : Ji} {K : Jl} {X : Jr} {off : Nat} {kd : Kd} {H H1 : Heap} (h : atK cl D v J K X off kd H) (hq : H1[v + off]? = H[v + off]?) : atK cl D v J K X off kd H1 := by
  rcases kd with a | o | a
  · exact hq.trans h
  · obtain ⟨r, h1, h2⟩ := h
    exact ⟨r, h1, h2.kept hq⟩
  · exact hq.trans h
theorem Rg.kept {cl : List vw_C} {D : Dd} {lay : Lay} {v : Nat} {J : Ji} {K : Jl} {X : Jr} {H H1 : Heap} (h : Rg cl D lay v J K X H) (hq : ∀ (off : Nat) (kd : Kd), lay off = some kd → H1[v + off]? = H[v + off]?) : Rg cl D lay v J K X H1 := fun off kd hk => (h off kd hk).kept (hq off kd hk)
theorem atK.ext {cl : List vw_C} {D : Dd} {v : Nat} {J J1 : Ji} {K K1 : Jl} {X X1 : Jr} {off : Nat} {kd : Kd} {H : Heap} (h : atK cl D v J K X off kd H) (h1 : J1 off = J off) (h2 : K1 off = K off) (h3 : X1 off = X off) : atK cl D v J1 K1 X1 off kd H := by
  have e1 : ∀ ty : FieldType, aV ty J1 K1 off = aV ty J K off := by
    intro ty; funext j; unfold aV; rw [h1, h2]
  have e2 : ∀ rf : Nat → Option (Option Nat), fV v J1 X1 rf off = fV v J X rf off := by
    intro rf; funext k; unfold fV; rw [h1, h3]
  rcases kd with a | o | a
  · show H[v + off]? = some (arrV _ _ (aV a.1 J1 K1 off)); rw [e1]; exact h
  · obtain ⟨r, g1, g2⟩ := h
    exact ⟨r, g1, by rw [e2]; exact g2⟩
  · exact h
/-- one cell of the region changed -/
theorem Rg.put {cl : List vw_C} {D : Dd} {lay : Lay} {v : Nat} {J J1 : Ji} {K K1 : Jl} {X X1 : Jr} {H H1 : Heap} (off : Nat) {kd : Kd} (h : Rg cl D lay v J K X H) (hl : lay off = some kd) (hc : atK cl D v J1 K1 X1 off kd H1) (h1 : ∀ o, o ≠ off → J1 o = J o) (h2 : ∀ o, o ≠ off → K1 o = K o) (h3 : ∀ o, o ≠ off → X1 o = X o) (oq : ∀ q : Nat, q ≠ v + off → H1[q]? = H[q]?) : Rg cl D lay v J1 K1 X1 H1 := by
  intro o kd' hk
  by_cases ho : o = off
  · subst ho
    cases hl.symm.trans hk
    exact hc
  · exact ((h o kd' hk).kept (oq _ (by omega))).ext (h1 o ho) (h2 o ho) (h3 o ho)
theorem vf_self {α : Type} (f : Nat → α) (k : Nat) (x : α) : vf_upd f k x k = x := by simp [vf_upd]
theorem vf_ne {α : Type} (f : Nat → α) {k j : Nat} (x : α) (h : j ≠ k) : vf_upd f k x j = f j := by simp [vf_upd, h]
/-- old cells keep their sizes -/
def sz_ (H0 H : Heap) : Prop := ∀ (q : Nat) (c : Cell), H0[q]? = some c → ∃ c1 : Cell, H[q]? = some c1 ∧ c1.slots.size = c.slots.size
theorem sz_.rf {H : Heap} : sz_ H H := fun _ c h => ⟨c, h, rfl⟩
theorem sz_.trans {H0 H1 H2 : Heap} (h : sz_ H0 H1) (h2 : sz_ H1 H2) : sz_ H0 H2 := fun q c hc => by
  obtain ⟨c1, a1, b1⟩ := h q c hc
  obtain ⟨c2, a2, b2⟩ := h2 q c1 a1
  exact ⟨c2, a2, b2.trans b1⟩
theorem sz_.one {H H1 : Heap} {a : Nat} {cell cell1 : Cell} (hc : H[a]? = some cell) (hc1 : H1[a]? = some cell1) (hz : cell1.slots.size = cell.slots.size) (oq : ∀ q : Nat, q ≠ a → H1[q]? = H[q]?) : sz_ H H1 := fun q c h => by
  by_cases e : q = a
  · subst e
    cases hc.symm.trans h
    exact ⟨cell1, hc1, hz⟩
  · exact ⟨c, by rw [oq q e]; exact h, rfl⟩
def vs_ (A : Nat → Prop) (H0 H : Heap) (locs : List Loc) : Prop := va_S A H0 H locs ∧ sz_ H0 H
theorem vs_.put {A : Nat → Prop} {H0 H H1 : Heap} {locs : List Loc} {a k : Nat} (h : vs_ A H0 H locs) {cell cell1 : Cell} (hc : H[a]? = some cell) (hc1 : H1[a]? = some cell1) (hs : cell1.slots.size = cell.slots.size) (z : H1.size = H.size) (oq : ∀ q : Nat, q ≠ a → H1[q]? = H[q]?) (ha : A a) : vs_ A H0 H1 (locs ++ [⟨a, k⟩]) := ⟨h.1.put z oq ha, h.2.trans (sz_.one hc hc1 hs oq)⟩
theorem sz_slot (cell : Cell) (i : Nat) (v : Value) : (cell.setSlot i v).slots.size = cell.slots.size := by simp [Cell.setSlot]
/-! the walk's own judgement -/
abbrev Ctx : Type := Program × Launch × Env × Room × State × MethodId × Array Value × List Frame × Method × Code × (Nat → Prop) × Nat × (State → Prop)
def Wk (X : Ctx) (cells slots : Nat) (P : Heap → Prop) (pc : Nat) (lv : List (Nat × Value)) (stk : List Value) : Prop := match X with
  | (p, l, e, R, s, m, args, below, meth, c, A, nL, Q) => ∀ (H : Heap) (locs : List Loc) (ls : Array Slot), P H → vs_ A s.heap H locs → lv_has ls nL lv → W p l e R s m args below meth c H locs cells slots Q (F0 m pc ls stk)
/-- what a method's walk stands on -/
def Cx (X : Ctx) (cc : ByteArray) (own : String) (cl : List vw_C) (tl : List FieldType) (D : Dd) : Prop := match X with
  | (p, _, _, _, s, m, args, _, meth, c, A, nL, _) => p.tables.exec = Jvm.exec ∧ c.code = cc ∧ c.maxLocals = nL ∧ s.vm.findClass own = some m.cls ∧ (∀ w ∈ lw_all, w.before args s = true) ∧ KK cl tl D s ∧ meth.locks = false ∧ ∀ q, s.heap.size ≤ q → A q
/-- what its end must show -/
def Rt (X : Ctx) (ret : Option FieldType) (P' : Heap → Prop) (o : Option Value) (mc ms : Nat) : Prop := match X with
  | (_, _, _, _, s, _, args, below, meth, _, A, _, Q) => meth.sig.returnType = ret ∧ Q = MQ below (fun _ st oc t => oc = .returned o ∧ P' t.heap ∧ va_F A st t ∧ sz_ st.heap t.heap) args s mc ms A
def Ct (l : Launch) (y : MethodName) (ws : List Cond) (rm : Room) (cl : List vw_C) (tl : List FieldType) (D : Dd) (A : Nat → Prop) (As : List Value) (P P' : Heap → Prop) (o : Option Value) (mc ms : Nat) : Prop :=
  Met l y ws rm (va_Pc As (fun U => P U.heap ∧ KK cl tl D U ∧ ∀ q, U.heap.size ≤ q → A q)) (fun _ st oc t => oc = .returned o ∧ P' t.heap ∧ va_F A st t ∧ sz_ st.heap t.heap) mc ms A
theorem Ct.of {l : Launch} {y : MethodName} {rm : Room} {cl : List vw_C} {tl : List FieldType} {D : Dd} {A : Nat → Prop} {As : List Value} {P P' : Heap → Prop} {o : Option Value} {mc ms : Nat} {cc : ByteArray} {maxL : Nat} {ret : Option FieldType} (hy : plainName y.cls = true) (hAs : (lg_sl As).length ≤ maxL) {lv : List (Nat × Value)} (hlv : lv_args 0 As = lv)
    (body : ∀ X : Ctx, X.2.1 = l → X.2.2.2.1 = rm → Cx X cc y.cls cl tl D → Rt X ret P' o mc ms → X.2.2.2.2.2.2.2.2.2.2.1 = A → X.2.2.2.2.2.2.2.2.2.2.2.1 = maxL → (y.name = "<init>" → X.2.2.2.2.2.2.2.2.1.name = "<init>") → Wk X 0 0 P 0 lv []) : Ct l y (ws_ y cc maxL ret) rm cl tl D A As P P' o mc ms := by
  subst hlv
  refine Met.ofW (cc := cc) (maxL := maxL) (ret := ret) hy rfl ?_
  intro p e s m args below meth c s₁ B hml hv
  obtain ⟨rfl, hP, hK, hA⟩ := hv
  have hts := atoms_spec (ws := ws_ y cc maxL ret) B.pre
  have hts : ∀ w ∈ lw_all, w.before _ s = true := fun w h => hts w (List.mem_cons_of_mem _ h)
  have hown : s.vm.findClass y.cls = some m.cls := findClass_of_methodNamed B.named
  have hl := lv_entry As (n := maxL) hAs
  rw [lg_entry_eq]
  have hin : y.name = "<init>" → meth.name = "<init>" := fun h => by rw [(name_of_methodNamed B.named B.method).1]; exact h
  have hb := body (p, l, e, rm, s, m, As.toArray, below, meth, c, A, maxL, MQ below (fun _ st oc t => oc = .returned o ∧ P' t.heap ∧ va_F A st t ∧ sz_ st.heap t.heap) As.toArray s mc ms A) rfl rfl ⟨B.exec, B.bytes, hml, hown, hts, hK, B.notSynchronized, hA⟩ ⟨B.returns, rfl⟩ rfl rfl hin
  exact hb s.heap [] _ hP ⟨va_S.rf, sz_.rf⟩ hl
