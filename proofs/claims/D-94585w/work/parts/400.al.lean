/-! ALLOCATION: counters tightened by the world; the world RD of the dynamic heap that grows, over any stable rest R -/
set_option maxRecDepth 100000
def nz (n : Nat) (H : Heap) : Nat := ((H.toList.drop n).map (·.slots.size)).sum
/-- slots of the cells made since the law began -/
def zs (D : Dd) (H : Heap) : Nat := nz D.2.2.2.1.heap.size H
theorem nz_push (n : Nat) (H : Heap) (c : Cell) (h : n ≤ H.size) : nz n (H.push c) = nz n H + c.slots.size := by
  unfold nz
  rw [Array.toList_push, List.drop_append_of_le_length (by simpa using h)]
  simp
theorem nz_len {H : Heap} : nz H.size H = 0 := by
  unfold nz
  rw [List.drop_eq_nil_of_le (by simp)]
  rfl
theorem nz_split {n k : Nat} {H0 H : Heap} (hk : H0.size = k) (hn : n ≤ k) (h : sz_ H0 H) (hz : k ≤ H.size) : nz n H = nz n H0 + nz k H := by
  subst hk
  unfold nz
  have e : H.toList.drop n = (H.toList.drop n).take (H0.size - n) ++ H.toList.drop H0.size := by
    have h1 := (List.take_append_drop (H0.size - n) (H.toList.drop n)).symm
    rw [List.drop_drop, show n + (H0.size - n) = H0.size by omega] at h1
    exact h1
  rw [e, List.map_append, List.sum_append]
  congr 2
  apply List.ext_getElem?
  intro i
  simp only [List.getElem?_map, List.getElem?_take, List.getElem?_drop, Array.getElem?_toList]
  by_cases hi : i < H0.size - n
  · rw [if_pos hi]
    have hl : n + i < H0.size := by omega
    obtain ⟨c1, a1, b1⟩ := h (n + i) _ (Array.getElem?_eq_getElem hl)
    rw [a1, Array.getElem?_eq_getElem hl]
    simp [b1]
  · rw [if_neg hi, Array.getElem?_eq_none (by omega)]
theorem nz_same {n : Nat} {H H1 : Heap} (h : sz_ H H1) (hz : H1.size = H.size) (hn : n ≤ H.size) : nz n H1 = nz n H := by
  rw [nz_split rfl hn h (by omega), ← hz, nz_len, Nat.add_zero]
theorem stand_tight {p : Program} {l : Launch} {e : Env} {R : Room} {s : State} {m : MethodId} {args : Array Value} {below : List Frame} {meth : Method} {c : Code} {T : State} {locs : List Loc} {cells slots k n : Nat} (X : Stand p l e R s m args below meth c T locs cells slots) (h1 : T.heap.size ≤ s.heap.size + k) (h2 : nz s.heap.size T.heap ≤ n) : Stand p l e R s m args below meth c T locs k n :=
  { X with same := ⟨X.same.1, X.same.2.1, h1, X.same.2.2.2.1, h2, X.same.2.2.2.2.2⟩ }
/-- whatever the counters say, they may be read off the world -/
theorem Wk.tight {X : Ctx} {cells slots k n : Nat} {P : Heap → Prop} {pc : Nat} {lv : List (Nat × Value)} {stk : List Value} (h : ∀ H : Heap, P H → sz_ X.2.2.2.2.1.heap H → X.2.2.2.2.1.heap.size ≤ H.size → H.size ≤ X.2.2.2.2.1.heap.size + k ∧ nz X.2.2.2.2.1.heap.size H ≤ n) (kk : Wk X k n P pc lv stk) : Wk X cells slots P pc lv stk := by
  obtain ⟨p, l, e, R, s, m, args, below, meth, c, A, nL, Q⟩ := X
  intro H locs ls hP hS hl T hT Z
  have h1 := h H hP hS.2 hS.1.1
  exact kk H locs ls hP hS hl T hT (stand_tight Z (by rw [hT]; exact h1.1) (by rw [hT]; exact h1.2))
/-- R lives in cells that d doesn't name -/
def Stb (R : Heap → Prop) (d : Nat → Prop) : Prop := ∀ H H1 : Heap, R H → (∀ q : Nat, q < H.size → ¬ d q → H1[q]? = H[q]?) → R H1
abbrev tN (T : Th) : Nat := T.2.2.2.1
abbrev tZ (T : Th) : Nat := T.2.2.2.2.1
abbrev tL (T : Th) : Nat × Nat × Nat × Nat := T.2.2.2.2.2
/-- statics that are read: their cells are old ones -/
def Zf (D : Dd) (H : Heap) : Prop := va_Z "java/lang/String" "COMPACT_STRINGS" "Z" (.int 1) (fun q => D.2.2.2.1.heap.size ≤ q) D.2.2.2.1 H ∧ va_Z "java/util/ArrayList" "DEFAULTCAPACITY_EMPTY_ELEMENTDATA" "[Ljava/lang/Object;" (.ref D.2.2.2.2.2.1) (fun q => D.2.2.2.1.heap.size ≤ q) D.2.2.2.1 H ∧ (∃ r : Option Nat, va_Z "jdk/internal/util/Preconditions" "SIOOBE_FORMATTER" "Ljava/util/function/BiFunction;" (va_rf r) (fun q => D.2.2.2.1.heap.size ≤ q) D.2.2.2.1 H) ∧ (∃ mi : Nat, va_Mi "[Ljava/lang/Object;" mi D.2.2.2.1) ∧ va_Z "java/lang/Throwable" "UNASSIGNED_STACK" "[Ljava/lang/StackTraceElement;" (va_rf D.2.2.2.2.2.2.1) (fun q => D.2.2.2.1.heap.size ≤ q) D.2.2.2.1 H ∧ va_Z "java/lang/Throwable" "SUPPRESSED_SENTINEL" "Ljava/util/List;" (va_rf D.2.2.2.2.2.2.2) (fun q => D.2.2.2.1.heap.size ≤ q) D.2.2.2.1 H
theorem Zf.kept {D : Dd} {H H1 : Heap} (h : Zf D H) (hq : ∀ a : Nat, a < D.2.2.2.1.heap.size → H1[a]? = H[a]?) : Zf D H1 := by
  obtain ⟨⟨c1, k1, i1, f1, a1, l1, h1, h2, h3, h4, h5, h6, h7, h8⟩, ⟨c2, k2, i2, f2, a2, l2, g1, g2, g3, g4, g5, g6, g7, g8⟩, ⟨r, ⟨c3, k3, i3, f3, a3, l3, j1, j2, j3, j4, j5, j6, j7, j8⟩⟩, hmi, ⟨c4, k4, i4, f4, a4, l4, m1, m2, m3, m4, m5, m6, m7, m8⟩, ⟨c5, k5, i5, f5, a5, l5, n1, n2, n3, n4, n5, n6, n7, n8⟩⟩ := h
  exact ⟨⟨c1, k1, i1, f1, a1, l1, h1, h2, h3, h4, by rw [hq _ (Nat.not_le.mp h8)]; exact h5, h6, h7, h8⟩, ⟨c2, k2, i2, f2, a2, l2, g1, g2, g3, g4, by rw [hq _ (Nat.not_le.mp g8)]; exact g5, g6, g7, g8⟩, ⟨r, ⟨c3, k3, i3, f3, a3, l3, j1, j2, j3, j4, by rw [hq _ (Nat.not_le.mp j8)]; exact j5, j6, j7, j8⟩⟩, hmi, ⟨c4, k4, i4, f4, a4, l4, m1, m2, m3, m4, by rw [hq _ (Nat.not_le.mp m8)]; exact m5, m6, m7, m8⟩, ⟨c5, k5, i5, f5, a5, l5, n1, n2, n3, n4, by rw [hq _ (Nat.not_le.mp n8)]; exact n5, n6, n7, n8⟩⟩
def RD (D : Dd) (R : Heap → Prop) (d : Nat → Prop) (L : Nat × Nat × Nat × Nat) (T : Th) (H : Heap) : Prop := R H ∧ Dy D T H ∧ zs D H = tZ T ∧ (∀ a, T.1 a ≠ none → L.2.2.1 ≤ a → d a) ∧ (∀ q, tN T ≤ q → d q) ∧ tN T ≤ L.1 ∧ tZ T ≤ L.2.1 ∧ tL T = L ∧ D.2.2.2.1.heap.size ≤ tN T ∧ (L.2.2.1 = D.2.2.2.1.heap.size ∧ L.2.2.2 = D.2.2.2.2.2.1) ∧ Zf D H
/-- what a walk that allocates stands on -/
def Ax (X : Ctx) (cc : ByteArray) (own : String) (D : Dd) (d : Nat → Prop) (L : Nat × Nat × Nat × Nat) (maxL fr lo : Nat) : Prop := Cx X cc own vwCl arTy D ∧ (∀ q, d q → cxA X q) ∧ X.2.2.2.2.2.2.2.2.2.2.2.1 = maxL ∧ X.2.2.2.1.frames = fr ∧ X.2.2.2.1.locals = lo ∧ L.1 ≤ X.2.2.2.2.1.heap.size + X.2.2.2.1.cells ∧ L.2.1 ≤ zs D X.2.2.2.2.1.heap + X.2.2.2.1.slots ∧ D.2.2.2.1.heap.size ≤ X.2.2.2.2.1.heap.size ∧ Zf D X.2.2.2.2.1.heap ∧ ∀ q, cxA X q → D.2.2.2.1.heap.size ≤ q
abbrev rmA (fr lo : Nat) (L : Nat × Nat × Nat × Nat) (T : Th) : Room := { frames := fr, cells := L.1 - tN T, slots := L.2.1 - tZ T, locals := lo }
section AL
variable {X : Ctx} {cc : ByteArray} {own : String} {D : Dd} {c z : Nat} {R : Heap → Prop} {d : Nat → Prop} {L : Nat × Nat × Nat × Nat} {mL fr lo : Nat} {T : Th} {pc : Nat} {lv : List (Nat × Value)} {stk : List Value} {α : Type} {out : α} {a : Nat}
theorem Ax.room (hX : Ax X cc own D d L mL fr lo) {H : Heap} (h : RD D R d L T H) (hs : sz_ X.2.2.2.2.1.heap H) (hz : X.2.2.2.2.1.heap.size ≤ H.size) : H.size ≤ X.2.2.2.2.1.heap.size + (tN T - X.2.2.2.2.1.heap.size) ∧ nz X.2.2.2.2.1.heap.size H ≤ tZ T - zs D X.2.2.2.2.1.heap := by
  have e1 : H.size = tN T := h.2.1.1
  have e2 : zs D H = tZ T := h.2.2.1
  have e3 := nz_split rfl hX.2.2.2.2.2.2.2.1 hs hz
  have e4 : zs D H = zs D X.2.2.2.2.1.heap + nz X.2.2.2.2.1.heap.size H := e3
  omega
theorem a_tight (hX : Ax X cc own D d L mL fr lo) (kk : Wk X (tN T - X.2.2.2.2.1.heap.size) (tZ T - zs D X.2.2.2.2.1.heap) (RD D R d L T) pc lv stk) : Wk X c z (RD D R d L T) pc lv stk := Wk.tight (fun _ h hs hz => hX.room h hs hz) kk
/-- facts of the world that don't hang on the heap may be used ahead -/
theorem a_know {P : Heap → Prop} {G : Prop} (hG : ∀ H, P H → X.2.2.2.2.1.heap.size ≤ H.size → sz_ X.2.2.2.2.1.heap H → G) (kk : G → Wk X c z P pc lv stk) : Wk X c z P pc lv stk := by
  obtain ⟨p, l, e, Rr, s, m, args, below, meth, cc, A, nL, Q⟩ := X
  intro H locs ls hP hS hl
  exact kk (hG H hP hS.1.1 hS.2) H locs ls hP hS hl
end AL
/-! the heap's moves -/
def tI (T : Th) (a k : Nat) (v : Int32) : Th := (T.1, uJ T.2.1 a k v, T.2.2)
def tR (T : Th) (a k : Nat) (v : Option Nat) : Th := (T.1, T.2.1, uR T.2.2.1 a k v, T.2.2.2)
def tNew (T : Th) (dk : Dk) (n : Nat) : Th := (vf_upd T.1 (tN T) (some dk), vf_upd T.2.1 (tN T) (fun _ => 0), vf_upd T.2.2.1 (tN T) (fun _ => none), tN T + 1, tZ T + n, tL T)
def nO {α : Type} (T : Th) (ci n : Nat) (f : Th → Option α) : Option α := if tN T + 1 ≤ (tL T).1 ∧ tZ T + n ≤ (tL T).2.1 then f (tNew T (.inl ci) n) else none
def nA {α : Type} (T : Th) (ty : FieldType) (i : Int32) (f : Th → Option α) : Option α := if ¬ i < 0 ∧ i.toNatClampNeg ≤ 65536 ∧ tN T + 1 ≤ (tL T).1 ∧ tZ T + i.toNatClampNeg ≤ (tL T).2.1 then f (tNew T (.inr (ty, i.toNatClampNeg)) i.toNatClampNeg) else none
def pI {α : Type} (T : Th) (a ci k : Nat) (v : Int32) (f : Th → Option α) : Option α := if T.1 a = some (.inl ci) ∧ (tL T).2.2.1 ≤ a then f (tI T a k v) else none
def pR {α : Type} (T : Th) (a ci k : Nat) (v : Option Nat) (f : Th → Option α) : Option α := if T.1 a = some (.inl ci) ∧ (tL T).2.2.1 ≤ a then f (tR T a k v) else none
theorem atD.ext {D : Dd} {T T1 : Th} {a : Nat} {dk : Dk} {H : Heap} (h : atD D T a dk H) (h1 : T1.2.1 a = T.2.1 a) (h2 : T1.2.2.1 a = T.2.2.1 a) : atD D T1 a dk H := by
  have e1 : ∀ ci, dV T1 a ci = dV T a ci := by intro ci; funext k; unfold dV; rw [h1, h2]
  have e2 : ∀ ty, dE T1 a ty = dE T a ty := by intro ty; funext k; unfold dE; rw [h1, h2]
  rcases dk with ci | b
  · obtain ⟨r, g1, g2⟩ := h
    exact ⟨r, g1, by rw [e1]; exact g2⟩
  · show H[a]? = some (arrV _ _ (dE T1 a b.1))
    rw [e2]
    exact h
theorem atD.lt {D : Dd} {T : Th} {a : Nat} {dk : Dk} {H : Heap} (h : atD D T a dk H) : a < H.size := by
  rcases dk with ci | b
  · obtain ⟨r, h1, cell, h2, -⟩ := h
    exact (Array.getElem?_eq_some_iff.mp h2).1
  · exact (Array.getElem?_eq_some_iff.mp h).1
/-- one cell of the dynamic heap changed -/
theorem RD.put {D : Dd} {R : Heap → Prop} {d : Nat → Prop} {L : Nat × Nat × Nat × Nat} {T T1 : Th} {H H1 : Heap} {a : Nat} {dk : Dk} (hSt : Stb R d) (h : RD D R d L T H) (ha : T.1 a = some dk) (hba : (tL T).2.2.1 ≤ a) (h0 : T1.1 = T.1) (h3 : T1.2.2.2 = T.2.2.2) (hI : ∀ b, b ≠ a → T1.2.1 b = T.2.1 b) (hR : ∀ b, b ≠ a → T1.2.2.1 b = T.2.2.1 b) (hc : atD D T1 a dk H1) (hz : H1.size = H.size) (oq : ∀ q : Nat, q ≠ a → H1[q]? = H[q]?) (hs : sz_ H H1) : RD D R d L T1 H1 := by
  obtain ⟨g1, g2, g3, g4, g5, g6, g7, g8, g9, g10, g11⟩ := h
  rw [g8] at hba
  have hN : tN T1 = tN T := by unfold tN; rw [h3]
  have hZ : tZ T1 = tZ T := by unfold tZ; rw [h3]
  refine ⟨hSt H H1 g1 (fun q _ hq => oq q (fun e => hq (by rw [e]; exact g4 a (by rw [ha]; exact fun h => by cases h) hba))), ⟨hz.trans (by rw [g2.1]; exact hN.symm), fun b dk' hb => ?_⟩, ?_, by rw [h0]; exact g4, by rw [hN]; exact g5, by rw [hN]; exact g6, by rw [hZ]; exact g7, by unfold tL; rw [h3]; exact g8, by rw [hN]; exact g9, g10, g11.kept (fun q hq => oq q (by have := g10.1; omega))⟩
  · rw [h0] at hb
    by_cases e : b = a
    · subst e
      cases ha.symm.trans hb
      exact hc
    · exact ((g2.2 b dk' hb).kept (oq b e)).ext (hI b e) (hR b e)
  · rw [hZ, ← g3]
    exact nz_same hs hz (by rw [g2.1]; exact g9)
/-- a cell more -/
theorem RD.new {D : Dd} {R : Heap → Prop} {d : Nat → Prop} {L : Nat × Nat × Nat × Nat} {T : Th} {H : Heap} {dk : Dk} {n : Nat} {cell : Cell} (hSt : Stb R d) (h : RD D R d L T H) (hl : tN T + 1 ≤ (tL T).1 ∧ tZ T + n ≤ (tL T).2.1) (hcs : cell.slots.size = n) (hc : atD D (tNew T dk n) (tN T) dk (H.push cell)) : RD D R d L (tNew T dk n) (H.push cell) := by
  obtain ⟨g1, g2, g3, g4, g5, g6, g7, g8, g9, g10, g11⟩ := h
  have e1 : H.size = tN T := g2.1
  rw [g8] at hl
  refine ⟨hSt H _ g1 (fun q hq _ => by rw [Array.getElem?_push, if_neg (Nat.ne_of_lt hq)]), ⟨by rw [Array.size_push, e1]; rfl, fun b dk' hb => ?_⟩, ?_, fun b hb hbb => ?_, fun q hq => g5 q (Nat.le_trans (Nat.le_succ _) hq), hl.1, hl.2, g8, Nat.le_trans g9 (Nat.le_succ _), g10, g11.kept (fun q hq => by rw [Array.getElem?_push, if_neg (by omega)])⟩
  · by_cases e : b = tN T
    · subst e
      have : (tNew T dk n).1 (tN T) = some dk := vf_self _ _ _
      cases this.symm.trans hb
      exact hc
    · have e2 : (tNew T dk n).1 b = T.1 b := vf_ne _ _ e
      rw [e2] at hb
      have hx := g2.2 b dk' hb
      have hlt := hx.lt
      exact (hx.kept (by rw [Array.getElem?_push, if_neg (Nat.ne_of_lt hlt)])).ext (vf_ne _ _ e) (vf_ne _ _ e)
  · show nz _ _ = tZ T + n
    rw [nz_push _ _ _ (by rw [e1]; exact g9), hcs]
    have : nz D.2.2.2.1.heap.size H = tZ T := g3
    rw [this]
  · by_cases e : b = tN T
    · rw [e]; exact g5 _ (Nat.le_refl _)
    · have e2 : (tNew T dk n).1 b = T.1 b := vf_ne _ _ e
      rw [e2] at hb
      exact g4 b hb hbb
theorem sz_push {H : Heap} {c : Cell} : sz_ H (H.push c) := fun q x h => ⟨x, by rw [Array.getElem?_push, if_neg (Nat.ne_of_lt (Array.getElem?_eq_some_iff.mp h).1)]; exact h, rfl⟩
section AR
variable {X : Ctx} {cc : ByteArray} {own : String} {D : Dd} {c z : Nat} {R : Heap → Prop} {d : Nat → Prop} {L : Nat × Nat × Nat × Nat} {mL fr lo : Nat} {T : Th} {pc : Nat} {lv : List (Nat × Value)} {stk : List Value} {α : Type} {out : α} {a : Nat}
theorem ite_of {p : Prop} [Decidable p] {x : Option α} (h : (if p then x else none) = some out) : p ∧ x = some out := by
  by_cases e : p
  · rw [if_pos e] at h; exact ⟨e, h⟩
  · rw [if_neg e] at h; cases h
theorem vs_push {A : Nat → Prop} {H0 H : Heap} {locs : List Loc} {cell : Cell} (h : vs_ A H0 H locs) : vs_ A H0 (H.push cell) locs := ⟨⟨Nat.le_trans h.1.1 (by simp), fun q h1 h2 => by rw [Array.getElem?_push, if_neg (Nat.ne_of_lt (Nat.lt_of_lt_of_le h1 h.1.1))]; exact h.1.2.1 q h1 h2, h.1.2.2⟩, h.2.trans sz_push⟩
theorem a_new {C : String} {Tt : u_T} {N ci index : Nat} {f : Th → Option α} (hX : Ax X cc own D d L mL fr lo) (hSt : Stb R d) (hc : vwCl[ci]? = some (C, Tt, N)) (hin : ∀ w ∈ u_ws C Tt N, w ∈ lw_all) (ty : Nat → FieldType) (hty : ∀ k, k < N → parseFieldDescriptor (Tt k).2.2.1 = some (ty k)) (hdv : ∀ k, k < N → defaultValue (ty k) = if isR ci k = true then .null else .int 0) (hq : Cond.classLink own index C ∈ lw_all) (hq2 : Cond.instantiable C N ∈ lw_all) (hq3 : Cond.initialized C ∈ lw_all) (hdg : decode cc pc = .ok (.new index, 3)) (hE : nO T ci N f = some out) (kk : ∀ T1, T1 = tNew T (.inl ci) N → f T1 = some out → ∀ c z, Wk X c z (RD D R d L T1) (pc + 3) lv (.ref (tN T) :: stk)) : Wk X c z (RD D R d L T) pc lv stk := by
  obtain ⟨hl, hE⟩ := ite_of hE
  have kk := kk _ rfl hE
  refine a_tight hX ?_
  obtain ⟨hC, hA, hnL, hfr, hlo, h1, h2, h3, -⟩ := hX
  obtain ⟨p, l, e, Rr, s, m, args, below, meth, c0, A, nL, Q⟩ := X
  intro H locs ls hP hS hlv
  have e1 : H.size = tN T := hP.2.1.1
  have hL : tL T = L := hP.2.2.2.2.2.2.2.1
  have hsz : s.heap.size ≤ H.size := hS.1.1
  have hzz : zs D s.heap ≤ tZ T := by
    have h9 : zs D H = zs D s.heap + nz s.heap.size H := nz_split rfl h3 hS.2 hS.1.1
    have h8 : zs D H = tZ T := hP.2.2.1
    omega
  have h1 : L.1 ≤ s.heap.size + Rr.cells := h1
  have h2 : L.2.1 ≤ zs D s.heap + Rr.slots := h2
  rw [hL] at hl
  have hKn := hC.2.2.2.2.2.1.1 ci _ hc
  refine W.newc hC.1 hC.2.1 hC.2.2.2.1 (hC.2.2.2.2.1 _ hq) (hC.2.2.2.2.1 _ hq2) (hC.2.2.2.2.1 _ hq3) rfl hdg (by show tN T - s.heap.size + 1 ≤ Rr.cells; omega) (by show tZ T - zs D s.heap + N ≤ Rr.slots; omega) fun cC kC f1 f2 f3 f4 => ?_
  cases hKn.2.1.symm.trans f1
  have hb := u_born (o := H.size) (H := H.push (blank (D.1 ci) kC)) ty hC.2.2.2.2.1 hin hKn f2 (by rw [Array.getElem?_push_size]) hty
  have hw := RD.new (dk := .inl ci) (cell := { cls := D.1 ci, slots := kC.instanceTypes.map defaultValue, vm := .none }) hSt hP (by rw [hL]; exact hl) (by simp [f4]) ⟨_, hc, by
    rw [← e1]
    refine hb.to (fun k hk => ?_)
    rw [hdv k hk]
    simp only [dV, tNew]
    rw [← e1, vf_self, vf_self]
    by_cases e9 : isR ci k = true
    · rw [if_pos e9, if_pos e9]; rfl
    · rw [if_neg e9, if_neg e9]⟩
  rw [show (Value.ref H.size :: stk) = (Value.ref (tN T) :: stk) by rw [e1]]
  exact kk _ _ _ locs ls hw (vs_push hS) hlv
/-- room for what comes, at the world's own counters -/
theorem a_hcs (hX : Ax X cc own D d L mL fr lo) : ∀ H, RD D R d L T H → X.2.2.2.2.1.heap.size ≤ H.size → sz_ X.2.2.2.2.1.heap H → (tN T - X.2.2.2.2.1.heap.size) + (L.1 - tN T) ≤ X.2.2.2.1.cells ∧ (tZ T - zs D X.2.2.2.2.1.heap) + (L.2.1 - tZ T) ≤ X.2.2.2.1.slots := by
  intro H h hz hs
  have e1 : H.size = tN T := h.2.1.1
  have e2 : zs D H = tZ T := h.2.2.1
  have e4 : zs D H = zs D X.2.2.2.2.1.heap + nz X.2.2.2.2.1.heap.size H := nz_split rfl hX.2.2.2.2.2.2.2.1 hs hz
  have e5 : tN T ≤ L.1 := h.2.2.2.2.2.1
  have e6 : tZ T ≤ L.2.1 := h.2.2.2.2.2.2.1
  have h1 := hX.2.2.2.2.2.1
  have h2 := hX.2.2.2.2.2.2.1
  omega
theorem a_hc0 {A B C D : Nat} {x y : Nat} (h : A + B ≤ x ∧ C + D ≤ y) : A ≤ x ∧ C ≤ y := ⟨by omega, by omega⟩
/-- a new array of bytes -/
theorem a_newb {i : Int32} {f : Th → Option α} (hX : Ax X cc own D d L mL fr lo) (hSt : Stb R d) (hdg : decode cc pc = .ok (.newarray .byte, 2)) (hE : nA T .byte i f = some out) (kk : ∀ T1, T1 = tNew T (.inr (.byte, i.toNatClampNeg)) i.toNatClampNeg → f T1 = some out → ∀ c z, Wk X c z (RD D R d L T1) (pc + 2) lv (.ref (tN T) :: stk)) : Wk X c z (RD D R d L T) pc lv (.int i :: stk) := by
  obtain ⟨⟨hi, hm, hl⟩, hE⟩ := ite_of hE
  have kk := kk _ rfl hE
  refine a_tight hX (a_know (a_hcs hX) fun hcs => ?_)
  obtain ⟨hC, hA, hnL, hfr, hlo, h1, h2, h3, -⟩ := hX
  obtain ⟨p, l, e, Rr, s, m, args, below, meth, c0, A, nL, Q⟩ := X
  intro H locs ls hP hS hlv
  have e1 : H.size = tN T := hP.2.1.1
  have hL : tL T = L := hP.2.2.2.2.2.2.2.1
  have hcs : (tN T - s.heap.size) + (L.1 - tN T) ≤ Rr.cells ∧ (tZ T - zs D s.heap) + (L.2.1 - tZ T) ≤ Rr.slots := hcs
  rw [hL] at hl
  have hAr := hC.2.2.2.2.2.1.2.1 _ ar_b
  refine W.newa (atype := .byte) hC.1 hC.2.1 (hC.2.2.2.2.1 _ q234) rfl hdg rfl hi (by show i.toNatClampNeg * 1 ≤ _; omega) (by show tN T - s.heap.size + 1 ≤ Rr.cells; omega) (by show tZ T - zs D s.heap + i.toNatClampNeg ≤ Rr.slots; omega) fun cA kA comp f1 f2 f3 => ?_
  have hcA : cA = D.2.2.1 .byte := by
    have h9 : s.vm.findClass ("[" ++ (FieldType.byte).toString) = some (D.2.2.1 .byte) := hAr.2
    exact Option.some.inj (f1.symm.trans h9)
  subst hcA
  have hw := RD.new (dk := .inr (.byte, i.toNatClampNeg)) (n := i.toNatClampNeg) (cell := { cls := D.2.2.1 .byte, slots := Array.replicate i.toNatClampNeg (defaultValue (newarray.typeOf .byte)), vm := .none }) hSt hP (by rw [hL]; exact hl) (by simp) (by
    have hd : dE (tNew T (.inr (.byte, i.toNatClampNeg)) i.toNatClampNeg) H.size .byte = fun _ => defaultValue (newarray.typeOf .byte) := by
      funext j
      simp only [dE, tNew]
      rw [← e1, vf_self]
      rfl
    show (H.push _)[tN T]? = some (arrV _ _ (dE _ _ .byte))
    rw [← e1, hd, Array.getElem?_push_size]
    first | rw [arrV_new] | rw [← arrV_new])
  rw [show (Value.ref H.size :: stk) = (Value.ref (tN T) :: stk) by rw [e1]]
  exact kk _ _ _ locs ls hw (vs_push hS) hlv
/-- a new array of references -/
theorem a_newq {C : String} {index : Nat} {i : Int32} {f : Th → Option α} (hX : Ax X cc own D d L mL fr lo) (hSt : Stb R d) (hty : FieldType.object C ∈ arTy) (hq : Cond.classLink own index C ∈ lw_all) (hov : Cond.arrayOver (.object C) ∈ lw_tbl) (hdg : decode cc pc = .ok (.anewarray index, 3)) (hE : nA T (.object C) i f = some out) (kk : ∀ T1, T1 = tNew T (.inr (.object C, i.toNatClampNeg)) i.toNatClampNeg → f T1 = some out → ∀ c z, Wk X c z (RD D R d L T1) (pc + 3) lv (.ref (tN T) :: stk)) : Wk X c z (RD D R d L T) pc lv (.int i :: stk) := by
  obtain ⟨⟨hi, hm, hl⟩, hE⟩ := ite_of hE
  have kk := kk _ rfl hE
  refine a_tight hX (a_know (a_hcs hX) fun hcs => ?_)
  obtain ⟨hC, hA, hnL, hfr, hlo, h1, h2, h3, -⟩ := hX
  obtain ⟨p, l, e, Rr, s, m, args, below, meth, c0, A, nL, Q⟩ := X
  intro H locs ls hP hS hlv
  have e1 : H.size = tN T := hP.2.1.1
  have hL : tL T = L := hP.2.2.2.2.2.2.2.1
  have hcs : (tN T - s.heap.size) + (L.1 - tN T) ≤ Rr.cells ∧ (tZ T - zs D s.heap) + (L.2.1 - tZ T) ≤ Rr.slots := hcs
  rw [hL] at hl
  obtain ⟨hAr, kA0, comp0, g1, g2, g3, g4⟩ := hC.2.2.2.2.2.1.2.1 _ hty
  refine W.anew hC.1 hC.2.1 hC.2.2.2.1 (hC.2.2.2.2.1 _ hq) (va_AO.use (hC.2.2.2.2.2.1.2.2.1 _ hov rfl)) rfl hdg rfl hi (by omega) (by show tN T - s.heap.size + 1 ≤ Rr.cells; omega) (by show tZ T - zs D s.heap + i.toNatClampNeg ≤ Rr.slots; omega) fun cA kA comp f1 f2 f3 f4 => ?_
  have hcA : cA = D.2.2.1 (.object C) := by first | exact Option.some.inj (f1.symm.trans g4) | exact Option.some.inj (f4.symm.trans g4)
  subst hcA
  have hw := RD.new (dk := .inr (.object C, i.toNatClampNeg)) (n := i.toNatClampNeg) (cell := { cls := D.2.2.1 (.object C), slots := Array.replicate i.toNatClampNeg .null, vm := .none }) hSt hP (by rw [hL]; exact hl) (by simp) (by
    have hd : dE (tNew T (.inr ((.object C), i.toNatClampNeg)) i.toNatClampNeg) H.size (.object C) = fun _ => Value.null := by
      funext j
      simp only [dE, tNew]
      rw [← e1, vf_self]
      rfl
    show (H.push _)[tN T]? = some (arrV _ _ (dE _ _ (.object C)))
    rw [← e1, hd, Array.getElem?_push_size]
    first | rw [arrV_new] | rw [← arrV_new])
  rw [show (Value.ref H.size :: stk) = (Value.ref (tN T) :: stk) by rw [e1]]
  exact kk _ _ _ locs ls hw (vs_push hS) hlv
theorem a_putI {ref C : String} {Tt : u_T} {N ci index : Nat} {y : Int32} {f : Th → Option α} (hX : Ax X cc own D d L mL fr lo) (hSt : Stb R d) (hc : vwCl[ci]? = some (C, Tt, N)) (hin : ∀ w ∈ u_ws C Tt N, w ∈ lw_all) (k : Nat) (hk : k < N) (hr : isR ci k = false) (tyT : Nat → FieldType) (hty : ∀ k, k < N → parseFieldDescriptor (Tt k).2.2.1 = some (tyT k)) (hnm : ∀ a, a < N → ∀ b, b < N → a ≠ b → (Tt a).2.1 ≠ (Tt b).2.1) (hq : Cond.fieldLink own index ref (Tt k).2.1 (Tt k).2.2.1 ∈ lw_all) (hsame : ref = (Tt k).1) (hfin : (Tt k).2.2.2 = false) (hn : narrow (tyT k) (.int y) = .int y) (hfit : fits (tyT k) (.int y) = true) (hdg : decode cc pc = .ok (.putfield index, 3)) (hE : pI T a ci k y f = some out) (kk : ∀ T1, T1 = tI T a k y → f T1 = some out → Wk X c z (RD D R d L T1) (pc + 3) lv stk) : Wk X c z (RD D R d L T) pc lv (.int y :: .ref a :: stk) := by
  subst hsame
  obtain ⟨⟨ha, hbb⟩, hE⟩ := ite_of hE
  have kk := kk _ rfl hE
  obtain ⟨hC, hA, -⟩ := hX
  obtain ⟨p, l, e, Rr, s, m, args, below, meth, c0, A, nL, Q⟩ := X
  intro H locs ls hP hS hl
  obtain ⟨cell, q1, q2, q3, q4⟩ := hP.2.1.obj ha hc
  have hts := hC.2.2.2.2.1
  obtain ⟨hSl, hfc, kC, hkC, hkind⟩ := hC.2.2.2.2.2.1.1 ci _ hc
  have hap : ∀ x y, x < N → y < N → x ≠ y → (D.2.1 ci) x ≠ (D.2.1 ci) y := by
    intro x y hx hy hne
    obtain ⟨_, _, _, fa, hia, ea⟩ := hSl x hx
    obtain ⟨_, _, _, fb, hib, eb⟩ := hSl y hy
    rw [← ea, ← eb]
    refine u_apart (u_lays hts hin hx) (u_lays hts hin hy) hia hib ?_
    rw [(State.fieldFound?_type hia (hty x hx)).1, (State.fieldFound?_type hib (hty y hy)).1]
    exact hnm x hx y hy hne
  obtain ⟨cf, kf, fi, f, hi, hsl⟩ := hSl k hk
  have hlay := hts _ (hin _ (u_in_lay hk))
  unfold u_lay at hlay
  rw [if_neg (by rw [hfin]; decide)] at hlay
  have hst := (u_facts hfc hkC (u_lays hts hin hk) hi).1
  have h6 := u_store hfc hkC hkind hlay hi (hty k hk) hn hfit
  refine W.putK hC.1 hC.2.1 (f := f) ⟨hC.2.2.2.1, hts _ hq, ⟨_, _, _, hi⟩, hst⟩ (by rw [q2]; exact h6) q1 q3 (by rw [hsl]; exact k2_hasslot (q4 k hk)) rfl rfl hdg fun H' e1 e2 e3 => ?_
  rw [hsl] at e1 ⊢
  have hw := RD.put (T1 := tI T a k y) hSt hP ha hbb rfl rfl (fun b hb => by first | rfl | exact vf_ne _ _ hb) (fun b hb => by first | rfl | exact vf_ne _ _ hb) ⟨_, hc, t_OB.to (V := updV (dV T a ci) k (.int y)) ⟨_, e1, q2, q3, t_set q4 hap hk _⟩ (fun j _ => by
      by_cases hj : j = k
      · subst hj
        simp [updV, dV, hr, tI, uJ, vf_self]
      · simp [updV, dV, hj, tI, uJ, vf_self, vf_ne])⟩ e2 e3 (sz_.one q1 e1 (sz_slot _ _ _) e3)
  exact kk H' _ ls hw (hS.put q1 e1 (sz_slot _ _ _) e2 e3 (hA a (hP.2.2.2.1 a (by rw [ha]; exact fun h => by cases h) (by rw [← hP.2.2.2.2.2.2.2.1]; exact hbb)))) hl
theorem a_putR {ref C : String} {Tt : u_T} {N ci index : Nat} {y : Option Nat} {f : Th → Option α} (hX : Ax X cc own D d L mL fr lo) (hSt : Stb R d) (hc : vwCl[ci]? = some (C, Tt, N)) (hin : ∀ w ∈ u_ws C Tt N, w ∈ lw_all) (k : Nat) (hk : k < N) (hr : isR ci k = true) (tyT : Nat → FieldType) (hty : ∀ k, k < N → parseFieldDescriptor (Tt k).2.2.1 = some (tyT k)) (hnm : ∀ a, a < N → ∀ b, b < N → a ≠ b → (Tt a).2.1 ≠ (Tt b).2.1) (hq : Cond.fieldLink own index ref (Tt k).2.1 (Tt k).2.2.1 ∈ lw_all) (hsame : ref = (Tt k).1) (hfin : (Tt k).2.2.2 = false) (hn : narrow (tyT k) (va_rf y) = va_rf y) (hfit : fits (tyT k) (va_rf y) = true) (hdg : decode cc pc = .ok (.putfield index, 3)) (hE : pR T a ci k y f = some out) (kk : ∀ T1, T1 = tR T a k y → f T1 = some out → Wk X c z (RD D R d L T1) (pc + 3) lv stk) : Wk X c z (RD D R d L T) pc lv (va_rf y :: .ref a :: stk) := by
  subst hsame
  obtain ⟨⟨ha, hbb⟩, hE⟩ := ite_of hE
  have kk := kk _ rfl hE
  obtain ⟨hC, hA, -⟩ := hX
  obtain ⟨p, l, e, Rr, s, m, args, below, meth, c0, A, nL, Q⟩ := X
  intro H locs ls hP hS hl
  obtain ⟨cell, q1, q2, q3, q4⟩ := hP.2.1.obj ha hc
  have hts := hC.2.2.2.2.1
  obtain ⟨hSl, hfc, kC, hkC, hkind⟩ := hC.2.2.2.2.2.1.1 ci _ hc
  have hap : ∀ x y, x < N → y < N → x ≠ y → (D.2.1 ci) x ≠ (D.2.1 ci) y := by
    intro x y hx hy hne
    obtain ⟨_, _, _, fa, hia, ea⟩ := hSl x hx
    obtain ⟨_, _, _, fb, hib, eb⟩ := hSl y hy
    rw [← ea, ← eb]
    refine u_apart (u_lays hts hin hx) (u_lays hts hin hy) hia hib ?_
    rw [(State.fieldFound?_type hia (hty x hx)).1, (State.fieldFound?_type hib (hty y hy)).1]
    exact hnm x hx y hy hne
  obtain ⟨cf, kf, fi, f, hi, hsl⟩ := hSl k hk
  have hlay := hts _ (hin _ (u_in_lay hk))
  unfold u_lay at hlay
  rw [if_neg (by rw [hfin]; decide)] at hlay
  have hst := (u_facts hfc hkC (u_lays hts hin hk) hi).1
  have h6 := u_store hfc hkC hkind hlay hi (hty k hk) hn hfit
  refine W.putK hC.1 hC.2.1 (f := f) ⟨hC.2.2.2.1, hts _ hq, ⟨_, _, _, hi⟩, hst⟩ (by rw [q2]; exact h6) q1 q3 (by rw [hsl]; exact k2_hasslot (q4 k hk)) rfl rfl hdg fun H' e1 e2 e3 => ?_
  rw [hsl] at e1 ⊢
  have hw := RD.put (T1 := tR T a k y) hSt hP ha hbb rfl rfl (fun b hb => by first | rfl | exact vf_ne _ _ hb) (fun b hb => by first | rfl | exact vf_ne _ _ hb) ⟨_, hc, t_OB.to (V := updV (dV T a ci) k (va_rf y)) ⟨_, e1, q2, q3, t_set q4 hap hk _⟩ (fun j _ => by
      by_cases hj : j = k
      · subst hj
        simp [updV, dV, hr, tR, uR, vf_self]
      · simp [updV, dV, hj, tR, uR, vf_self, vf_ne])⟩ e2 e3 (sz_.one q1 e1 (sz_slot _ _ _) e3)
  exact kk H' _ ls hw (hS.put q1 e1 (sz_slot _ _ _) e2 e3 (hA a (hP.2.2.2.1 a (by rw [ha]; exact fun h => by cases h) (by rw [← hP.2.2.2.2.2.2.2.1]; exact hbb)))) hl
theorem a_putFI {ref C : String} {Tt : u_T} {N ci index : Nat} {y : Int32} {f : Th → Option α} (hX : Ax X cc own D d L mL fr lo) (hSt : Stb R d) (hc : vwCl[ci]? = some (C, Tt, N)) (hin : ∀ w ∈ u_ws C Tt N, w ∈ lw_all) (k : Nat) (hk : k < N) (hr : isR ci k = false) (tyT : Nat → FieldType) (hty : ∀ k, k < N → parseFieldDescriptor (Tt k).2.2.1 = some (tyT k)) (hnm : ∀ a, a < N → ∀ b, b < N → a ≠ b → (Tt a).2.1 ≠ (Tt b).2.1) (hq : Cond.fieldLink own index ref (Tt k).2.1 (Tt k).2.2.1 ∈ lw_all) (hsame : ref = (Tt k).1) (hfin : (Tt k).2.2.2 = true) (hdecl : (Tt k).1 = own) (hin2 : X.2.2.2.2.2.2.2.2.1.name = "<init>") (hn : narrow (tyT k) (.int y) = .int y) (hfit : fits (tyT k) (.int y) = true) (hdg : decode cc pc = .ok (.putfield index, 3)) (hE : pI T a ci k y f = some out) (kk : ∀ T1, T1 = tI T a k y → f T1 = some out → Wk X c z (RD D R d L T1) (pc + 3) lv stk) : Wk X c z (RD D R d L T) pc lv (.int y :: .ref a :: stk) := by
  subst hsame
  obtain ⟨⟨ha, hbb⟩, hE⟩ := ite_of hE
  have kk := kk _ rfl hE
  obtain ⟨hC, hA, -⟩ := hX
  obtain ⟨p, l, e, Rr, s, m, args, below, meth, c0, A, nL, Q⟩ := X
  intro H locs ls hP hS hl
  obtain ⟨cell, q1, q2, q3, q4⟩ := hP.2.1.obj ha hc
  have hts := hC.2.2.2.2.1
  obtain ⟨hSl, hfc, kC, hkC, hkind⟩ := hC.2.2.2.2.2.1.1 ci _ hc
  have hap : ∀ x y, x < N → y < N → x ≠ y → (D.2.1 ci) x ≠ (D.2.1 ci) y := by
    intro x y hx hy hne
    obtain ⟨_, _, _, fa, hia, ea⟩ := hSl x hx
    obtain ⟨_, _, _, fb, hib, eb⟩ := hSl y hy
    rw [← ea, ← eb]
    refine u_apart (u_lays hts hin hx) (u_lays hts hin hy) hia hib ?_
    rw [(State.fieldFound?_type hia (hty x hx)).1, (State.fieldFound?_type hib (hty y hy)).1]
    exact hnm x hx y hy hne
  obtain ⟨cf, kf, fi, f, hi, hsl⟩ := hSl k hk
  have hlay := hts _ (hin _ (u_in_lay hk))
  unfold u_lay at hlay
  rw [if_pos hfin] at hlay
  have hst := (u_facts hfc hkC (u_lays hts hin hk) hi).1
  have hcf : m.cls = cf := by
    obtain ⟨_, _, c', _, _, _, -, -, hf', -, -, -, hown2, -⟩ := Cond.laysFinal_spec hlay
    have e1 : c' = cf := by have := hi.symm.trans hf'; simp at this; exact this.1.symm
    rw [hdecl] at hown2
    rw [← e1]; exact Option.some.inj (hC.2.2.2.1.symm.trans hown2)
  have h6 := u_fits hfc hkC hkind (Or.inr hlay) hi (hty k hk) hn hfit
  refine W.putFinK hC.1 hC.2.1 hC.2.2.2.1 (hts _ hq) hi hst hcf hin2 (by rw [q2]; exact h6) q1 q3 (by rw [hsl]; exact k2_hasslot (q4 k hk)) rfl rfl hdg fun H' e1 e2 e3 => ?_
  rw [hsl] at e1 ⊢
  have hw := RD.put (T1 := tI T a k y) hSt hP ha hbb rfl rfl (fun b hb => by first | rfl | exact vf_ne _ _ hb) (fun b hb => by first | rfl | exact vf_ne _ _ hb) ⟨_, hc, t_OB.to (V := updV (dV T a ci) k (.int y)) ⟨_, e1, q2, q3, t_set q4 hap hk _⟩ (fun j _ => by
      by_cases hj : j = k
      · subst hj
        simp [updV, dV, hr, tI, uJ, vf_self]
      · simp [updV, dV, hj, tI, uJ, vf_self, vf_ne])⟩ e2 e3 (sz_.one q1 e1 (sz_slot _ _ _) e3)
  exact kk H' _ ls hw (hS.put q1 e1 (sz_slot _ _ _) e2 e3 (hA a (hP.2.2.2.1 a (by rw [ha]; exact fun h => by cases h) (by rw [← hP.2.2.2.2.2.2.2.1]; exact hbb)))) hl
theorem a_putFR {ref C : String} {Tt : u_T} {N ci index : Nat} {y : Option Nat} {f : Th → Option α} (hX : Ax X cc own D d L mL fr lo) (hSt : Stb R d) (hc : vwCl[ci]? = some (C, Tt, N)) (hin : ∀ w ∈ u_ws C Tt N, w ∈ lw_all) (k : Nat) (hk : k < N) (hr : isR ci k = true) (tyT : Nat → FieldType) (hty : ∀ k, k < N → parseFieldDescriptor (Tt k).2.2.1 = some (tyT k)) (hnm : ∀ a, a < N → ∀ b, b < N → a ≠ b → (Tt a).2.1 ≠ (Tt b).2.1) (hq : Cond.fieldLink own index ref (Tt k).2.1 (Tt k).2.2.1 ∈ lw_all) (hsame : ref = (Tt k).1) (hfin : (Tt k).2.2.2 = true) (hdecl : (Tt k).1 = own) (hin2 : X.2.2.2.2.2.2.2.2.1.name = "<init>") (hn : narrow (tyT k) (va_rf y) = va_rf y) (hfit : fits (tyT k) (va_rf y) = true) (hdg : decode cc pc = .ok (.putfield index, 3)) (hE : pR T a ci k y f = some out) (kk : ∀ T1, T1 = tR T a k y → f T1 = some out → Wk X c z (RD D R d L T1) (pc + 3) lv stk) : Wk X c z (RD D R d L T) pc lv (va_rf y :: .ref a :: stk) := by
  subst hsame
  obtain ⟨⟨ha, hbb⟩, hE⟩ := ite_of hE
  have kk := kk _ rfl hE
  obtain ⟨hC, hA, -⟩ := hX
  obtain ⟨p, l, e, Rr, s, m, args, below, meth, c0, A, nL, Q⟩ := X
  intro H locs ls hP hS hl
  obtain ⟨cell, q1, q2, q3, q4⟩ := hP.2.1.obj ha hc
  have hts := hC.2.2.2.2.1
  obtain ⟨hSl, hfc, kC, hkC, hkind⟩ := hC.2.2.2.2.2.1.1 ci _ hc
  have hap : ∀ x y, x < N → y < N → x ≠ y → (D.2.1 ci) x ≠ (D.2.1 ci) y := by
    intro x y hx hy hne
    obtain ⟨_, _, _, fa, hia, ea⟩ := hSl x hx
    obtain ⟨_, _, _, fb, hib, eb⟩ := hSl y hy
    rw [← ea, ← eb]
    refine u_apart (u_lays hts hin hx) (u_lays hts hin hy) hia hib ?_
    rw [(State.fieldFound?_type hia (hty x hx)).1, (State.fieldFound?_type hib (hty y hy)).1]
    exact hnm x hx y hy hne
  obtain ⟨cf, kf, fi, f, hi, hsl⟩ := hSl k hk
  have hlay := hts _ (hin _ (u_in_lay hk))
  unfold u_lay at hlay
  rw [if_pos hfin] at hlay
  have hst := (u_facts hfc hkC (u_lays hts hin hk) hi).1
  have hcf : m.cls = cf := by
    obtain ⟨_, _, c', _, _, _, -, -, hf', -, -, -, hown2, -⟩ := Cond.laysFinal_spec hlay
    have e1 : c' = cf := by have := hi.symm.trans hf'; simp at this; exact this.1.symm
    rw [hdecl] at hown2
    rw [← e1]; exact Option.some.inj (hC.2.2.2.1.symm.trans hown2)
  have h6 := u_fits hfc hkC hkind (Or.inr hlay) hi (hty k hk) hn hfit
  refine W.putFinK hC.1 hC.2.1 hC.2.2.2.1 (hts _ hq) hi hst hcf hin2 (by rw [q2]; exact h6) q1 q3 (by rw [hsl]; exact k2_hasslot (q4 k hk)) rfl rfl hdg fun H' e1 e2 e3 => ?_
  rw [hsl] at e1 ⊢
  have hw := RD.put (T1 := tR T a k y) hSt hP ha hbb rfl rfl (fun b hb => by first | rfl | exact vf_ne _ _ hb) (fun b hb => by first | rfl | exact vf_ne _ _ hb) ⟨_, hc, t_OB.to (V := updV (dV T a ci) k (va_rf y)) ⟨_, e1, q2, q3, t_set q4 hap hk _⟩ (fun j _ => by
      by_cases hj : j = k
      · subst hj
        simp [updV, dV, hr, tR, uR, vf_self]
      · simp [updV, dV, hj, tR, uR, vf_self, vf_ne])⟩ e2 e3 (sz_.one q1 e1 (sz_slot _ _ _) e3)
  exact kk H' _ ls hw (hS.put q1 e1 (sz_slot _ _ _) e2 e3 (hA a (hP.2.2.2.1 a (by rw [ha]; exact fun h => by cases h) (by rw [← hP.2.2.2.2.2.2.2.1]; exact hbb)))) hl
end AR
