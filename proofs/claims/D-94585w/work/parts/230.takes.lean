/-! System.arraycopy between int arrays; Village.takes (printed by gen/takes.py) -/
set_option maxRecDepth 100000
section AC
variable {p : Program} {l : Launch} {e : Env} {R : Room} {s : State} {m : MethodId} {args : Array Value} {below : List Frame} {meth : Method} {c : Code} {H : Heap} {locs : List Loc} {cells slots : Nat} {Q : State → Prop} {pc : Nat} {ls : Array Slot} {rest : List Value}
theorem w_copyi {cc : ByteArray} (hexec : p.tables.exec = Jvm.exec) (hb : c.code = cc) (hml : c.maxLocals = ls.size) {own : String} {index : Nat} (hown : s.vm.findClass own = some m.cls) (hlink : (Cond.methodLink own index arraycopyName).before args s = true) (hnat : (Cond.native arraycopyName).before args s = true) (hstat : (Cond.static arraycopyName).before args s = true) (hini : (Cond.initialized "java/lang/System").before args s = true)
    {a0 a : Nat} {c0 c1 : ClassId} {n0 n1 : Nat} {f g : Nat → Int32} (hc0 : H[a0]? = some (arrV c0 n0 (fun j => .int (f j)))) (hc1 : H[a]? = some (arrV c1 n1 (fun j => .int (g j)))) (ht0 : ArrOfT s c0 .int) (ht1 : ArrOfT s c1 .int)
    {sp dp n : Int32} (h1 : ¬ sp < 0) (h2 : ¬ dp < 0) (h3 : ¬ n < 0) (h4 : sp.toNatClampNeg + n.toNatClampNeg ≤ n0) (h5 : dp.toNatClampNeg + n.toNatClampNeg ≤ n1)
    (hframes : 1 ≤ R.frames) (hlocals : (rest.map fun v => v.category).sum + (nativeFrameWords "java/lang/System" "arraycopy" 5 + 11) ≤ R.locals) (hdg : decode cc pc = .ok (.invokestatic index, 3))
    (kk : ∀ (H1 : Heap) (locs1 : List Loc), H1[a]? = some (arrV c1 n1 (fun j => .int (va_cpy f g sp.toNatClampNeg dp.toNatClampNeg n.toNatClampNeg j))) → H1.size = H.size → (∀ q : Nat, q ≠ a → H1[q]? = H[q]?) → (∀ z ∈ locs1, z ∈ locs ∨ z.base = a) → W p l e R s m args below meth c H1 locs1 cells slots Q (F0 m (pc + 3) ls rest)) : W p l e R s m args below meth c H locs cells slots Q (F0 m pc ls (.int n :: .int dp :: .ref a :: .int sp :: .ref a0 :: rest)) := by
  have nn : ∀ z : Int32, ¬ z < 0 → z.toInt = (z.toNatClampNeg : Int) := by
    intro z hz
    have hz0 : (0 : Int) ≤ z.toInt := by
      have := Int32.not_lt.mp hz
      simpa using Int32.le_iff_toInt_le.mp this
    show z.toInt = ((z.toInt.toNat : Nat) : Int)
    omega
  intro T hT X
  obtain ⟨-, k0, hk0, cm0, hkk0⟩ := ht0 n0 (fun j => .int (f j))
  obtain ⟨-, k1, hk1, cm1, hkk1⟩ := ht1 n1 (fun j => .int (g j))
  obtain ⟨vm', X', step⟩ := X.arraycopy hexec hown hlink hnat hstat hini (src := a0) (dst := a) (cs := arrV c0 n0 (fun j => .int (f j))) (cd := arrV c1 n1 (fun j => .int (g j))) (srcPos := sp) (destPos := dp) (n := n) (by rw [hT]; exact hc0) (by rw [hT]; exact hc1)
    (fun _ h => by cases h) (fun _ h => by cases h) (fun h => by cases h) (fun h => by cases h) hk0 hk1 hkk0 hkk1 (by simp [refKind]) h1 h2 h3
    (by rw [nn sp h1, nn n h3, arrV_size]; omega)
    (by rw [nn dp h2, nn n h3, arrV_size]; omega)
    (fun vm₁ _ i hi => by
      have e : (arrV c0 n0 (fun j => Value.int (f j))).slots.getD (sp.toNatClampNeg + i) .null = .int (f (sp.toNatClampNeg + i)) := by
        rw [Array.getD_eq_getD_getElem?, arrV_read _ _ (by omega)]
        rfl
      refine ⟨?_, ?_⟩
      · rw [e]
        rfl
      · rw [e]
        exact trivial)
    (g := F0 m pc ls (.int n :: .int dp :: .ref a :: .int sp :: .ref a0 :: rest)) rfl (by rw [hml]) (rest := rest) rfl (by rw [hb]; exact hdg) hframes (by show 2 * 0 + _ + _ ≤ _; omega)
  have e1 : copied (arrV c0 n0 (fun j => .int (f j))) (arrV c1 n1 (fun j => .int (g j))) sp dp n = arrV c1 n1 (fun j => .int (va_cpy f g sp.toNatClampNeg dp.toNatClampNeg n.toNatClampNeg j)) := va_copied (fun z => .int z) c0 c1 f g h4
  rw [e1] at X' step
  have hl : a < H.size := (Array.getElem?_eq_some_iff.mp hc1).1
  generalize hce : arrV c1 n1 (fun j => Value.int (va_cpy f g sp.toNatClampNeg dp.toNatClampNeg n.toNatClampNeg j)) = ce at X' step kk
  have hheap : ((T.setVm vm').setCell a ce).heap = H.setIfInBounds a ce := by rw [← hT]; rfl
  have oq : ∀ q : Nat, q ≠ a → (H.setIfInBounds a ce)[q]? = H[q]? := fun q hq => by simp [Array.getElem?_setIfInBounds, Ne.symm hq]
  obtain ⟨t, a1, b1⟩ := kk _ _ (show (H.setIfInBounds a _)[a]? = some _ by simp [Array.getElem?_setIfInBounds, hl]) (by simp) oq (fun z hz => by
      rcases List.mem_append.mp hz with h | h
      · exact Or.inl h
      · obtain ⟨y, -, hy⟩ := List.mem_map.mp h
        rw [← hy]
        exact Or.inr rfl) _ hheap X'
  exact ⟨t, step t a1, b1⟩
end AC
/-- a village's region, another's beside it, and the dynamic heap -/
def WP (D : Dd) (v : Nat) (J : Ji) (u : Nat) (J2 : Ji) (T : Th) (H : Heap) : Prop := VP D v J T H ∧ Rg vwCl D layV u J2 (fun _ _ => 0) (fun _ _ => none) H ∧ ∀ (o o2 : Nat) (k k2 : Kd), layV o = some k → layV o2 = some k2 → v + o ≠ u + o2
theorem WP.put {D : Dd} {v u : Nat} {J J1 J2 : Ji} {T : Th} {off : Nat} {kd : Kd} (hly : layV off = some kd) : ∀ H H1 : Heap, WP D v J u J2 T H → Rg vwCl D layV v J1 (fun _ _ => 0) (fun _ _ => none) H1 → H1.size = H.size → (∀ q, q ≠ v + off → H1[q]? = H[q]?) → sz_ H H1 → WP D v J1 u J2 T H1 := fun H H1 h hr hz hq hs => ⟨VP.put hly H H1 h.1 hr hz hq hs, h.2.1.kept (fun o k hk => hq _ (fun e => h.2.2 off o kd k hly hk e.symm)), h.2.2⟩
/-- a whole row of six ints of J2 laid over J's -/
def cpJ (J2 : Ji) (o : Nat) (J : Ji) : Ji := vf_upd J o (va_cpy (J2 o) (J o) 0 0 6)
theorem v_copy {X : Ctx} {cc : ByteArray} {own : String} {D : Dd} {v u mL index : Nat} {rm : Room} {J J2 : Ji} {T : Th} {pc : Nat} {lv : List (Nat × Value)} {stk : List Value} (o : Nat) (hly : layV o = some (.inl (.int, 6))) (hM : Vx X cc own D v mL rm) (hq : Cond.methodLink own index arraycopyName ∈ lw_all) (h1 : 1 ≤ rm.frames) (h2 : (stk.map fun v => v.category).sum + (nativeFrameWords "java/lang/System" "arraycopy" 5 + 11) ≤ rm.locals) (hdg : decode cc pc = .ok (.invokestatic index, 3)) (kk : Wk X 0 0 (WP D v (cpJ J2 o J) u J2 T) (pc + 3) lv stk) : Wk X 0 0 (WP D v J u J2 T) pc lv (.int 6 :: .int 0 :: .ref (v + o) :: .int 0 :: .ref (u + o) :: stk) := by
  obtain ⟨hC, hF, hnL, hrm⟩ := hM
  obtain ⟨p, l, e, R, s, m, args, below, meth, c, A, nL, Q⟩ := X
  intro H locs ls hP hS hl
  have hrm : R = rm := hrm
  have ht := (hC.2.2.2.2.2.1.2.1 _ ar_i).1
  refine w_copyi hC.1 hC.2.1 (hC.2.2.1.trans hl.1.symm) hC.2.2.2.1 (hC.2.2.2.2.1 _ hq) (hC.2.2.2.2.1 _ q791) (hC.2.2.2.2.1 _ q790) (hC.2.2.2.2.1 _ q140) (hP.2.1 o _ hly) (hP.1.1 o _ hly) ht ht (by decide) (by decide) (by decide) (by decide) (by decide) (by rw [hrm]; exact h1) (by rw [hrm]; exact h2) hdg ?_
  intro H1 locs1 e1 z oq hlo
  have hg : Rg vwCl D layV v (cpJ J2 o J) (fun _ _ => 0) (fun _ _ => none) H1 := by
    refine Rg.put o hP.1.1 hly ?_ ?_ (fun _ _ => rfl) (fun _ _ => rfl) oq
    · show H1[v + o]? = some (arrV _ _ _)
      rw [e1]
      congr 2
      funext j
      simp only [aV, cpJ, vf_self]
      rfl
    · intro o' ho
      simp [cpJ, vf_ne _ _ ho]
  exact kk H1 locs1 ls (WP.put hly H H1 hP hg z oq (sz_.one (hP.1.1 o _ hly) e1 (by rw [arrV_size, arrV_size]) oq)) ⟨⟨by rw [z]; exact hS.1.1, fun q g1 g2 => by
      rw [oq q (fun e => g2 (by rw [e]; exact hF o _ hly))]
      exact hS.1.2.1 q g1 g2, fun z hz => by
      rcases hlo z hz with h | h
      · exact hS.1.2.2 z h
      · rw [h]; exact hF o _ hly⟩, hS.2.trans (sz_.one (hP.1.1 o _ hly) e1 (by rw [arrV_size, arrV_size]) oq)⟩ hl
def V_takes (J2 J : Ji) : Ji := uJ (uJ (cpJ J2 14 (cpJ J2 13 (cpJ J2 12 (cpJ J2 11 (cpJ J2 10 (cpJ J2 9 (cpJ J2 8 (cpJ J2 7 (cpJ J2 6 (cpJ J2 5 (cpJ J2 4 (cpJ J2 3 (cpJ J2 2 J))))))))))))) 0 8 (J2 0 8)) 0 9 (J2 0 9)
abbrev rmV_takes : Room := { frames := 1, cells := 0, slots := 0, locals := 40 }
set_option maxHeartbeats 4000000 in
theorem ct_V_takes (l : Launch) (D : Dd) (A : Nat → Prop) (v u : Nat) (T : Th) (hA : ∀ (off : Nat) (kd : Kd), layV off = some kd → A (v + off)) (J J2 : Ji) : Ct l yX5_takes (ws_ yX5_takes cX5_takes 3 none) rmV_takes vwCl arTy D A [.ref (v + 0), .ref (u + 0)] (WP D v J u J2 T) (WP D v (V_takes J2 J) u J2 T) none 0 0 := by
  refine Ct.of (by decide) (Nat.le_of_ble_eq_true rfl) rfl ?_
  intro X hl hrm hC hR hXA hnL _
  have hM : Vx X cX5_takes RX5 D v 3 rmV_takes := ⟨hC, by unfold Ft; rw [hXA]; exact hA, hnL, hrm⟩
  refine k_iconst (pc := 0) (v := 0) hC dX5_takes_0 (by decide) ?_
  refine k_istore_n (pc := 1) (lv' := [(2, .int 0), (0, .ref (v + 0)), (1, .ref (u + 0))]) hC dX5_takes_1 rfl (by rw [hnL]; decide) rfl ?_
  refine k_iload_n (pc := 2) hC dX5_takes_2 rfl 0 rfl ?_
  refine k_bipush (pc := 3) (v := 6) hC dX5_takes_3 (by decide) ?_
  refine k_icmp_ge (pc := 5) (tgt := 33) (ta := none) (tb := some ()) (out := ()) hC dX5_takes_5 (by decide) (by decide) (fun h => by cases h) (fun h => ?_)
  refine k_aload_n (pc := 8) hC dX5_takes_8 rfl 2 rfl ?_
  refine k_getS (pc := 9) (v := u) (J := J2) (ref := RX5) (C := RX5) (T := TX5) (N := 14) hC (fun _ h => h.2.1) 0 lv_0 cl_X5 in_X5 0 (by decide) rfl (by exact q452) rfl dX5_takes_9 ?_
  refine k_iload_n (pc := 12) hC dX5_takes_12 rfl 0 rfl ?_
  refine k_aald (pc := 13) (v := u) (J := J2) (f := fun q => if q = 0 then some () else none) (out := ()) hC (fun _ h => h.2.1) 1 lv_1 (by simp [arTy]) rfl dX5_takes_13 (by decide) (fun q _ h => ?_)
  have hq : q = 0 := by by_cases e : q = 0; exact e; rw [if_neg e] at h; cases h
  subst hq
  refine k_iconst (pc := 14) (v := 0) hC dX5_takes_14 (by decide) ?_
  refine k_aload_n (pc := 15) hC dX5_takes_15 rfl 1 rfl ?_
  refine k_getS (pc := 16) (v := v) (J := J) (ref := RX5) (C := RX5) (T := TX5) (N := 14) hC (fun _ h => h.1.1) 0 lv_0 cl_X5 in_X5 0 (by decide) rfl (by exact q452) rfl dX5_takes_16 ?_
  refine k_iload_n (pc := 19) hC dX5_takes_19 rfl 0 rfl ?_
  refine k_aald (pc := 20) (v := v) (J := J) (f := fun q => if q = 0 then some () else none) (out := ()) hC (fun _ h => h.1.1) 1 lv_1 (by simp [arTy]) rfl dX5_takes_20 (by decide) (fun q _ h => ?_)
  have hq : q = 0 := by by_cases e : q = 0; exact e; rw [if_neg e] at h; cases h
  subst hq
  refine k_iconst (pc := 21) (v := 0) hC dX5_takes_21 (by decide) ?_
  refine k_bipush (pc := 22) (v := 6) hC dX5_takes_22 (by decide) ?_
  refine v_copy (pc := 24) 2 (lv_done (q := 0) (by decide)) hM q1350 (Nat.le_of_ble_eq_true rfl) (Nat.le_of_ble_eq_true rfl) dX5_takes_24 ?_
  refine k_iinc (pc := 27) (k := 0) (v := 1) (lv' := [(2, .int 1), (0, .ref (v + 0)), (1, .ref (u + 0))]) hC dX5_takes_27 rfl (by decide) (by rw [hnL]; decide) rfl ?_
  refine k_goto (pc := 30) (tgt := 2) hC dX5_takes_30 (by decide) ?_
  refine k_iload_n (pc := 2) hC dX5_takes_2 rfl 0 rfl ?_
  refine k_bipush (pc := 3) (v := 6) hC dX5_takes_3 (by decide) ?_
  refine k_icmp_ge (pc := 5) (tgt := 33) (ta := none) (tb := some ()) (out := ()) hC dX5_takes_5 (by decide) (by decide) (fun h => by cases h) (fun h => ?_)
  refine k_aload_n (pc := 8) hC dX5_takes_8 rfl 2 rfl ?_
  refine k_getS (pc := 9) (v := u) (J := J2) (ref := RX5) (C := RX5) (T := TX5) (N := 14) hC (fun _ h => h.2.1) 0 lv_0 cl_X5 in_X5 0 (by decide) rfl (by exact q452) rfl dX5_takes_9 ?_
  refine k_iload_n (pc := 12) hC dX5_takes_12 rfl 0 rfl ?_
  refine k_aald (pc := 13) (v := u) (J := J2) (f := fun q => if q = 1 then some () else none) (out := ()) hC (fun _ h => h.2.1) 1 lv_1 (by simp [arTy]) rfl dX5_takes_13 (by decide) (fun q _ h => ?_)
  have hq : q = 1 := by by_cases e : q = 1; exact e; rw [if_neg e] at h; cases h
  subst hq
  refine k_iconst (pc := 14) (v := 0) hC dX5_takes_14 (by decide) ?_
  refine k_aload_n (pc := 15) hC dX5_takes_15 rfl 1 rfl ?_
  refine k_getS (pc := 16) (v := v) (J := (cpJ J2 2 J)) (ref := RX5) (C := RX5) (T := TX5) (N := 14) hC (fun _ h => h.1.1) 0 lv_0 cl_X5 in_X5 0 (by decide) rfl (by exact q452) rfl dX5_takes_16 ?_
  refine k_iload_n (pc := 19) hC dX5_takes_19 rfl 0 rfl ?_
  refine k_aald (pc := 20) (v := v) (J := (cpJ J2 2 J)) (f := fun q => if q = 1 then some () else none) (out := ()) hC (fun _ h => h.1.1) 1 lv_1 (by simp [arTy]) rfl dX5_takes_20 (by decide) (fun q _ h => ?_)
  have hq : q = 1 := by by_cases e : q = 1; exact e; rw [if_neg e] at h; cases h
  subst hq
  refine k_iconst (pc := 21) (v := 0) hC dX5_takes_21 (by decide) ?_
  refine k_bipush (pc := 22) (v := 6) hC dX5_takes_22 (by decide) ?_
  refine v_copy (pc := 24) 3 (lv_done (q := 1) (by decide)) hM q1350 (Nat.le_of_ble_eq_true rfl) (Nat.le_of_ble_eq_true rfl) dX5_takes_24 ?_
  refine k_iinc (pc := 27) (k := 0) (v := 2) (lv' := [(2, .int 2), (0, .ref (v + 0)), (1, .ref (u + 0))]) hC dX5_takes_27 rfl (by decide) (by rw [hnL]; decide) rfl ?_
  refine k_goto (pc := 30) (tgt := 2) hC dX5_takes_30 (by decide) ?_
  refine k_iload_n (pc := 2) hC dX5_takes_2 rfl 0 rfl ?_
  refine k_bipush (pc := 3) (v := 6) hC dX5_takes_3 (by decide) ?_
  refine k_icmp_ge (pc := 5) (tgt := 33) (ta := none) (tb := some ()) (out := ()) hC dX5_takes_5 (by decide) (by decide) (fun h => by cases h) (fun h => ?_)
  refine k_aload_n (pc := 8) hC dX5_takes_8 rfl 2 rfl ?_
  refine k_getS (pc := 9) (v := u) (J := J2) (ref := RX5) (C := RX5) (T := TX5) (N := 14) hC (fun _ h => h.2.1) 0 lv_0 cl_X5 in_X5 0 (by decide) rfl (by exact q452) rfl dX5_takes_9 ?_
  refine k_iload_n (pc := 12) hC dX5_takes_12 rfl 0 rfl ?_
  refine k_aald (pc := 13) (v := u) (J := J2) (f := fun q => if q = 2 then some () else none) (out := ()) hC (fun _ h => h.2.1) 1 lv_1 (by simp [arTy]) rfl dX5_takes_13 (by decide) (fun q _ h => ?_)
  have hq : q = 2 := by by_cases e : q = 2; exact e; rw [if_neg e] at h; cases h
  subst hq
  refine k_iconst (pc := 14) (v := 0) hC dX5_takes_14 (by decide) ?_
  refine k_aload_n (pc := 15) hC dX5_takes_15 rfl 1 rfl ?_
  refine k_getS (pc := 16) (v := v) (J := (cpJ J2 3 (cpJ J2 2 J))) (ref := RX5) (C := RX5) (T := TX5) (N := 14) hC (fun _ h => h.1.1) 0 lv_0 cl_X5 in_X5 0 (by decide) rfl (by exact q452) rfl dX5_takes_16 ?_
  refine k_iload_n (pc := 19) hC dX5_takes_19 rfl 0 rfl ?_
  refine k_aald (pc := 20) (v := v) (J := (cpJ J2 3 (cpJ J2 2 J))) (f := fun q => if q = 2 then some () else none) (out := ()) hC (fun _ h => h.1.1) 1 lv_1 (by simp [arTy]) rfl dX5_takes_20 (by decide) (fun q _ h => ?_)
  have hq : q = 2 := by by_cases e : q = 2; exact e; rw [if_neg e] at h; cases h
  subst hq
  refine k_iconst (pc := 21) (v := 0) hC dX5_takes_21 (by decide) ?_
  refine k_bipush (pc := 22) (v := 6) hC dX5_takes_22 (by decide) ?_
  refine v_copy (pc := 24) 4 (lv_done (q := 2) (by decide)) hM q1350 (Nat.le_of_ble_eq_true rfl) (Nat.le_of_ble_eq_true rfl) dX5_takes_24 ?_
  refine k_iinc (pc := 27) (k := 0) (v := 3) (lv' := [(2, .int 3), (0, .ref (v + 0)), (1, .ref (u + 0))]) hC dX5_takes_27 rfl (by decide) (by rw [hnL]; decide) rfl ?_
  refine k_goto (pc := 30) (tgt := 2) hC dX5_takes_30 (by decide) ?_
  refine k_iload_n (pc := 2) hC dX5_takes_2 rfl 0 rfl ?_
  refine k_bipush (pc := 3) (v := 6) hC dX5_takes_3 (by decide) ?_
  refine k_icmp_ge (pc := 5) (tgt := 33) (ta := none) (tb := some ()) (out := ()) hC dX5_takes_5 (by decide) (by decide) (fun h => by cases h) (fun h => ?_)
  refine k_aload_n (pc := 8) hC dX5_takes_8 rfl 2 rfl ?_
  refine k_getS (pc := 9) (v := u) (J := J2) (ref := RX5) (C := RX5) (T := TX5) (N := 14) hC (fun _ h => h.2.1) 0 lv_0 cl_X5 in_X5 0 (by decide) rfl (by exact q452) rfl dX5_takes_9 ?_
  refine k_iload_n (pc := 12) hC dX5_takes_12 rfl 0 rfl ?_
  refine k_aald (pc := 13) (v := u) (J := J2) (f := fun q => if q = 3 then some () else none) (out := ()) hC (fun _ h => h.2.1) 1 lv_1 (by simp [arTy]) rfl dX5_takes_13 (by decide) (fun q _ h => ?_)
  have hq : q = 3 := by by_cases e : q = 3; exact e; rw [if_neg e] at h; cases h
  subst hq
  refine k_iconst (pc := 14) (v := 0) hC dX5_takes_14 (by decide) ?_
  refine k_aload_n (pc := 15) hC dX5_takes_15 rfl 1 rfl ?_
  refine k_getS (pc := 16) (v := v) (J := (cpJ J2 4 (cpJ J2 3 (cpJ J2 2 J)))) (ref := RX5) (C := RX5) (T := TX5) (N := 14) hC (fun _ h => h.1.1) 0 lv_0 cl_X5 in_X5 0 (by decide) rfl (by exact q452) rfl dX5_takes_16 ?_
  refine k_iload_n (pc := 19) hC dX5_takes_19 rfl 0 rfl ?_
  refine k_aald (pc := 20) (v := v) (J := (cpJ J2 4 (cpJ J2 3 (cpJ J2 2 J)))) (f := fun q => if q = 3 then some () else none) (out := ()) hC (fun _ h => h.1.1) 1 lv_1 (by simp [arTy]) rfl dX5_takes_20 (by decide) (fun q _ h => ?_)
  have hq : q = 3 := by by_cases e : q = 3; exact e; rw [if_neg e] at h; cases h
  subst hq
  refine k_iconst (pc := 21) (v := 0) hC dX5_takes_21 (by decide) ?_
  refine k_bipush (pc := 22) (v := 6) hC dX5_takes_22 (by decide) ?_
  refine v_copy (pc := 24) 5 (lv_done (q := 3) (by decide)) hM q1350 (Nat.le_of_ble_eq_true rfl) (Nat.le_of_ble_eq_true rfl) dX5_takes_24 ?_
  refine k_iinc (pc := 27) (k := 0) (v := 4) (lv' := [(2, .int 4), (0, .ref (v + 0)), (1, .ref (u + 0))]) hC dX5_takes_27 rfl (by decide) (by rw [hnL]; decide) rfl ?_
  refine k_goto (pc := 30) (tgt := 2) hC dX5_takes_30 (by decide) ?_
  refine k_iload_n (pc := 2) hC dX5_takes_2 rfl 0 rfl ?_
  refine k_bipush (pc := 3) (v := 6) hC dX5_takes_3 (by decide) ?_
  refine k_icmp_ge (pc := 5) (tgt := 33) (ta := none) (tb := some ()) (out := ()) hC dX5_takes_5 (by decide) (by decide) (fun h => by cases h) (fun h => ?_)
  refine k_aload_n (pc := 8) hC dX5_takes_8 rfl 2 rfl ?_
  refine k_getS (pc := 9) (v := u) (J := J2) (ref := RX5) (C := RX5) (T := TX5) (N := 14) hC (fun _ h => h.2.1) 0 lv_0 cl_X5 in_X5 0 (by decide) rfl (by exact q452) rfl dX5_takes_9 ?_
  refine k_iload_n (pc := 12) hC dX5_takes_12 rfl 0 rfl ?_
  refine k_aald (pc := 13) (v := u) (J := J2) (f := fun q => if q = 4 then some () else none) (out := ()) hC (fun _ h => h.2.1) 1 lv_1 (by simp [arTy]) rfl dX5_takes_13 (by decide) (fun q _ h => ?_)
  have hq : q = 4 := by by_cases e : q = 4; exact e; rw [if_neg e] at h; cases h
  subst hq
  refine k_iconst (pc := 14) (v := 0) hC dX5_takes_14 (by decide) ?_
  refine k_aload_n (pc := 15) hC dX5_takes_15 rfl 1 rfl ?_
  refine k_getS (pc := 16) (v := v) (J := (cpJ J2 5 (cpJ J2 4 (cpJ J2 3 (cpJ J2 2 J))))) (ref := RX5) (C := RX5) (T := TX5) (N := 14) hC (fun _ h => h.1.1) 0 lv_0 cl_X5 in_X5 0 (by decide) rfl (by exact q452) rfl dX5_takes_16 ?_
  refine k_iload_n (pc := 19) hC dX5_takes_19 rfl 0 rfl ?_
  refine k_aald (pc := 20) (v := v) (J := (cpJ J2 5 (cpJ J2 4 (cpJ J2 3 (cpJ J2 2 J))))) (f := fun q => if q = 4 then some () else none) (out := ()) hC (fun _ h => h.1.1) 1 lv_1 (by simp [arTy]) rfl dX5_takes_20 (by decide) (fun q _ h => ?_)
  have hq : q = 4 := by by_cases e : q = 4; exact e; rw [if_neg e] at h; cases h
  subst hq
  refine k_iconst (pc := 21) (v := 0) hC dX5_takes_21 (by decide) ?_
  refine k_bipush (pc := 22) (v := 6) hC dX5_takes_22 (by decide) ?_
  refine v_copy (pc := 24) 6 (lv_done (q := 4) (by decide)) hM q1350 (Nat.le_of_ble_eq_true rfl) (Nat.le_of_ble_eq_true rfl) dX5_takes_24 ?_
  refine k_iinc (pc := 27) (k := 0) (v := 5) (lv' := [(2, .int 5), (0, .ref (v + 0)), (1, .ref (u + 0))]) hC dX5_takes_27 rfl (by decide) (by rw [hnL]; decide) rfl ?_
  refine k_goto (pc := 30) (tgt := 2) hC dX5_takes_30 (by decide) ?_
  refine k_iload_n (pc := 2) hC dX5_takes_2 rfl 0 rfl ?_
  refine k_bipush (pc := 3) (v := 6) hC dX5_takes_3 (by decide) ?_
  refine k_icmp_ge (pc := 5) (tgt := 33) (ta := none) (tb := some ()) (out := ()) hC dX5_takes_5 (by decide) (by decide) (fun h => by cases h) (fun h => ?_)
  refine k_aload_n (pc := 8) hC dX5_takes_8 rfl 2 rfl ?_
  refine k_getS (pc := 9) (v := u) (J := J2) (ref := RX5) (C := RX5) (T := TX5) (N := 14) hC (fun _ h => h.2.1) 0 lv_0 cl_X5 in_X5 0 (by decide) rfl (by exact q452) rfl dX5_takes_9 ?_
  refine k_iload_n (pc := 12) hC dX5_takes_12 rfl 0 rfl ?_
  refine k_aald (pc := 13) (v := u) (J := J2) (f := fun q => if q = 5 then some () else none) (out := ()) hC (fun _ h => h.2.1) 1 lv_1 (by simp [arTy]) rfl dX5_takes_13 (by decide) (fun q _ h => ?_)
  have hq : q = 5 := by by_cases e : q = 5; exact e; rw [if_neg e] at h; cases h
  subst hq
  refine k_iconst (pc := 14) (v := 0) hC dX5_takes_14 (by decide) ?_
  refine k_aload_n (pc := 15) hC dX5_takes_15 rfl 1 rfl ?_
  refine k_getS (pc := 16) (v := v) (J := (cpJ J2 6 (cpJ J2 5 (cpJ J2 4 (cpJ J2 3 (cpJ J2 2 J)))))) (ref := RX5) (C := RX5) (T := TX5) (N := 14) hC (fun _ h => h.1.1) 0 lv_0 cl_X5 in_X5 0 (by decide) rfl (by exact q452) rfl dX5_takes_16 ?_
  refine k_iload_n (pc := 19) hC dX5_takes_19 rfl 0 rfl ?_
  refine k_aald (pc := 20) (v := v) (J := (cpJ J2 6 (cpJ J2 5 (cpJ J2 4 (cpJ J2 3 (cpJ J2 2 J)))))) (f := fun q => if q = 5 then some () else none) (out := ()) hC (fun _ h => h.1.1) 1 lv_1 (by simp [arTy]) rfl dX5_takes_20 (by decide) (fun q _ h => ?_)
  have hq : q = 5 := by by_cases e : q = 5; exact e; rw [if_neg e] at h; cases h
  subst hq
  refine k_iconst (pc := 21) (v := 0) hC dX5_takes_21 (by decide) ?_
  refine k_bipush (pc := 22) (v := 6) hC dX5_takes_22 (by decide) ?_
  refine v_copy (pc := 24) 7 (lv_done (q := 5) (by decide)) hM q1350 (Nat.le_of_ble_eq_true rfl) (Nat.le_of_ble_eq_true rfl) dX5_takes_24 ?_
  refine k_iinc (pc := 27) (k := 0) (v := 6) (lv' := [(2, .int 6), (0, .ref (v + 0)), (1, .ref (u + 0))]) hC dX5_takes_27 rfl (by decide) (by rw [hnL]; decide) rfl ?_
  refine k_goto (pc := 30) (tgt := 2) hC dX5_takes_30 (by decide) ?_
  refine k_iload_n (pc := 2) hC dX5_takes_2 rfl 0 rfl ?_
  refine k_bipush (pc := 3) (v := 6) hC dX5_takes_3 (by decide) ?_
  refine k_icmp_ge (pc := 5) (tgt := 33) (ta := some ()) (tb := none) (out := ()) hC dX5_takes_5 (by decide) (by decide) (fun h => ?_) (fun h => by cases h)
  refine k_aload_n (pc := 33) hC dX5_takes_33 rfl 2 rfl ?_
  refine k_getS (pc := 34) (v := u) (J := J2) (ref := RX5) (C := RX5) (T := TX5) (N := 14) hC (fun _ h => h.2.1) 0 lv_0 cl_X5 in_X5 1 (by decide) rfl (by exact q455) rfl dX5_takes_34 ?_
  refine k_iconst (pc := 37) (v := 0) hC dX5_takes_37 (by decide) ?_
  refine k_aload_n (pc := 38) hC dX5_takes_38 rfl 1 rfl ?_
  refine k_getS (pc := 39) (v := v) (J := (cpJ J2 7 (cpJ J2 6 (cpJ J2 5 (cpJ J2 4 (cpJ J2 3 (cpJ J2 2 J))))))) (ref := RX5) (C := RX5) (T := TX5) (N := 14) hC (fun _ h => h.1.1) 0 lv_0 cl_X5 in_X5 1 (by decide) rfl (by exact q455) rfl dX5_takes_39 ?_
  refine k_iconst (pc := 42) (v := 0) hC dX5_takes_42 (by decide) ?_
  refine k_bipush (pc := 43) (v := 6) hC dX5_takes_43 (by decide) ?_
  refine v_copy (pc := 45) 8 lv_8 hM q1350 (Nat.le_of_ble_eq_true rfl) (Nat.le_of_ble_eq_true rfl) dX5_takes_45 ?_
  refine k_aload_n (pc := 48) hC dX5_takes_48 rfl 2 rfl ?_
  refine k_getS (pc := 49) (v := u) (J := J2) (ref := RX5) (C := RX5) (T := TX5) (N := 14) hC (fun _ h => h.2.1) 0 lv_0 cl_X5 in_X5 2 (by decide) rfl (by exact q458) rfl dX5_takes_49 ?_
  refine k_iconst (pc := 52) (v := 0) hC dX5_takes_52 (by decide) ?_
  refine k_aload_n (pc := 53) hC dX5_takes_53 rfl 1 rfl ?_
  refine k_getS (pc := 54) (v := v) (J := (cpJ J2 8 (cpJ J2 7 (cpJ J2 6 (cpJ J2 5 (cpJ J2 4 (cpJ J2 3 (cpJ J2 2 J)))))))) (ref := RX5) (C := RX5) (T := TX5) (N := 14) hC (fun _ h => h.1.1) 0 lv_0 cl_X5 in_X5 2 (by decide) rfl (by exact q458) rfl dX5_takes_54 ?_
  refine k_iconst (pc := 57) (v := 0) hC dX5_takes_57 (by decide) ?_
  refine k_bipush (pc := 58) (v := 6) hC dX5_takes_58 (by decide) ?_
  refine v_copy (pc := 60) 9 lv_9 hM q1350 (Nat.le_of_ble_eq_true rfl) (Nat.le_of_ble_eq_true rfl) dX5_takes_60 ?_
  refine k_aload_n (pc := 63) hC dX5_takes_63 rfl 2 rfl ?_
  refine k_getS (pc := 64) (v := u) (J := J2) (ref := RX5) (C := RX5) (T := TX5) (N := 14) hC (fun _ h => h.2.1) 0 lv_0 cl_X5 in_X5 3 (by decide) rfl (by exact q461) rfl dX5_takes_64 ?_
  refine k_iconst (pc := 67) (v := 0) hC dX5_takes_67 (by decide) ?_
  refine k_aload_n (pc := 68) hC dX5_takes_68 rfl 1 rfl ?_
  refine k_getS (pc := 69) (v := v) (J := (cpJ J2 9 (cpJ J2 8 (cpJ J2 7 (cpJ J2 6 (cpJ J2 5 (cpJ J2 4 (cpJ J2 3 (cpJ J2 2 J))))))))) (ref := RX5) (C := RX5) (T := TX5) (N := 14) hC (fun _ h => h.1.1) 0 lv_0 cl_X5 in_X5 3 (by decide) rfl (by exact q461) rfl dX5_takes_69 ?_
  refine k_iconst (pc := 72) (v := 0) hC dX5_takes_72 (by decide) ?_
  refine k_bipush (pc := 73) (v := 6) hC dX5_takes_73 (by decide) ?_
  refine v_copy (pc := 75) 10 lv_10 hM q1350 (Nat.le_of_ble_eq_true rfl) (Nat.le_of_ble_eq_true rfl) dX5_takes_75 ?_
  refine k_aload_n (pc := 78) hC dX5_takes_78 rfl 2 rfl ?_
  refine k_getS (pc := 79) (v := u) (J := J2) (ref := RX5) (C := RX5) (T := TX5) (N := 14) hC (fun _ h => h.2.1) 0 lv_0 cl_X5 in_X5 4 (by decide) rfl (by exact q464) rfl dX5_takes_79 ?_
  refine k_iconst (pc := 82) (v := 0) hC dX5_takes_82 (by decide) ?_
  refine k_aload_n (pc := 83) hC dX5_takes_83 rfl 1 rfl ?_
  refine k_getS (pc := 84) (v := v) (J := (cpJ J2 10 (cpJ J2 9 (cpJ J2 8 (cpJ J2 7 (cpJ J2 6 (cpJ J2 5 (cpJ J2 4 (cpJ J2 3 (cpJ J2 2 J)))))))))) (ref := RX5) (C := RX5) (T := TX5) (N := 14) hC (fun _ h => h.1.1) 0 lv_0 cl_X5 in_X5 4 (by decide) rfl (by exact q464) rfl dX5_takes_84 ?_
  refine k_iconst (pc := 87) (v := 0) hC dX5_takes_87 (by decide) ?_
  refine k_bipush (pc := 88) (v := 6) hC dX5_takes_88 (by decide) ?_
  refine v_copy (pc := 90) 11 lv_11 hM q1350 (Nat.le_of_ble_eq_true rfl) (Nat.le_of_ble_eq_true rfl) dX5_takes_90 ?_
  refine k_aload_n (pc := 93) hC dX5_takes_93 rfl 2 rfl ?_
  refine k_getS (pc := 94) (v := u) (J := J2) (ref := RX5) (C := RX5) (T := TX5) (N := 14) hC (fun _ h => h.2.1) 0 lv_0 cl_X5 in_X5 5 (by decide) rfl (by exact q466) rfl dX5_takes_94 ?_
  refine k_iconst (pc := 97) (v := 0) hC dX5_takes_97 (by decide) ?_
  refine k_aload_n (pc := 98) hC dX5_takes_98 rfl 1 rfl ?_
  refine k_getS (pc := 99) (v := v) (J := (cpJ J2 11 (cpJ J2 10 (cpJ J2 9 (cpJ J2 8 (cpJ J2 7 (cpJ J2 6 (cpJ J2 5 (cpJ J2 4 (cpJ J2 3 (cpJ J2 2 J))))))))))) (ref := RX5) (C := RX5) (T := TX5) (N := 14) hC (fun _ h => h.1.1) 0 lv_0 cl_X5 in_X5 5 (by decide) rfl (by exact q466) rfl dX5_takes_99 ?_
  refine k_iconst (pc := 102) (v := 0) hC dX5_takes_102 (by decide) ?_
  refine k_bipush (pc := 103) (v := 6) hC dX5_takes_103 (by decide) ?_
  refine v_copy (pc := 105) 12 lv_12 hM q1350 (Nat.le_of_ble_eq_true rfl) (Nat.le_of_ble_eq_true rfl) dX5_takes_105 ?_
  refine k_aload_n (pc := 108) hC dX5_takes_108 rfl 2 rfl ?_
  refine k_getS (pc := 109) (v := u) (J := J2) (ref := RX5) (C := RX5) (T := TX5) (N := 14) hC (fun _ h => h.2.1) 0 lv_0 cl_X5 in_X5 6 (by decide) rfl (by exact q469) rfl dX5_takes_109 ?_
  refine k_iconst (pc := 112) (v := 0) hC dX5_takes_112 (by decide) ?_
  refine k_aload_n (pc := 113) hC dX5_takes_113 rfl 1 rfl ?_
  refine k_getS (pc := 114) (v := v) (J := (cpJ J2 12 (cpJ J2 11 (cpJ J2 10 (cpJ J2 9 (cpJ J2 8 (cpJ J2 7 (cpJ J2 6 (cpJ J2 5 (cpJ J2 4 (cpJ J2 3 (cpJ J2 2 J)))))))))))) (ref := RX5) (C := RX5) (T := TX5) (N := 14) hC (fun _ h => h.1.1) 0 lv_0 cl_X5 in_X5 6 (by decide) rfl (by exact q469) rfl dX5_takes_114 ?_
  refine k_iconst (pc := 117) (v := 0) hC dX5_takes_117 (by decide) ?_
  refine k_bipush (pc := 118) (v := 6) hC dX5_takes_118 (by decide) ?_
  refine v_copy (pc := 120) 13 lv_13 hM q1350 (Nat.le_of_ble_eq_true rfl) (Nat.le_of_ble_eq_true rfl) dX5_takes_120 ?_
  refine k_aload_n (pc := 123) hC dX5_takes_123 rfl 2 rfl ?_
  refine k_getS (pc := 124) (v := u) (J := J2) (ref := RX5) (C := RX5) (T := TX5) (N := 14) hC (fun _ h => h.2.1) 0 lv_0 cl_X5 in_X5 7 (by decide) rfl (by exact q472) rfl dX5_takes_124 ?_
  refine k_iconst (pc := 127) (v := 0) hC dX5_takes_127 (by decide) ?_
  refine k_aload_n (pc := 128) hC dX5_takes_128 rfl 1 rfl ?_
  refine k_getS (pc := 129) (v := v) (J := (cpJ J2 13 (cpJ J2 12 (cpJ J2 11 (cpJ J2 10 (cpJ J2 9 (cpJ J2 8 (cpJ J2 7 (cpJ J2 6 (cpJ J2 5 (cpJ J2 4 (cpJ J2 3 (cpJ J2 2 J))))))))))))) (ref := RX5) (C := RX5) (T := TX5) (N := 14) hC (fun _ h => h.1.1) 0 lv_0 cl_X5 in_X5 7 (by decide) rfl (by exact q472) rfl dX5_takes_129 ?_
  refine k_iconst (pc := 132) (v := 0) hC dX5_takes_132 (by decide) ?_
  refine k_bipush (pc := 133) (v := 6) hC dX5_takes_133 (by decide) ?_
  refine v_copy (pc := 135) 14 lv_14 hM q1350 (Nat.le_of_ble_eq_true rfl) (Nat.le_of_ble_eq_true rfl) dX5_takes_135 ?_
  refine k_aload_n (pc := 138) hC dX5_takes_138 rfl 1 rfl ?_
  refine k_aload_n (pc := 139) hC dX5_takes_139 rfl 2 rfl ?_
  refine k_getI (pc := 140) (v := u) (J := J2) (ref := RX5) (C := RX5) (T := TX5) (N := 14) hC (fun _ h => h.2.1) 0 lv_0 cl_X5 in_X5 8 (by decide) rfl (by exact q475) rfl dX5_takes_140 ?_
  refine k_putI (pc := 143) (v := v) (J := (cpJ J2 14 (cpJ J2 13 (cpJ J2 12 (cpJ J2 11 (cpJ J2 10 (cpJ J2 9 (cpJ J2 8 (cpJ J2 7 (cpJ J2 6 (cpJ J2 5 (cpJ J2 4 (cpJ J2 3 (cpJ J2 2 J)))))))))))))) (ref := RX5) (C := RX5) (T := TX5) (N := 14) (P1 := WP D v (uJ (cpJ J2 14 (cpJ J2 13 (cpJ J2 12 (cpJ J2 11 (cpJ J2 10 (cpJ J2 9 (cpJ J2 8 (cpJ J2 7 (cpJ J2 6 (cpJ J2 5 (cpJ J2 4 (cpJ J2 3 (cpJ J2 2 J))))))))))))) 0 8 (J2 0 8)) u J2 T) hC (fun _ h => h.1.1) 0 lv_0 cl_X5 in_X5 8 (by decide) hM.2.1 rfl tyX5 tyX5_ok nmX5 (by exact q475) rfl rfl rfl rfl dX5_takes_143 (WP.put lv_0) ?_
  refine k_aload_n (pc := 146) hC dX5_takes_146 rfl 1 rfl ?_
  refine k_aload_n (pc := 147) hC dX5_takes_147 rfl 2 rfl ?_
  refine k_getI (pc := 148) (v := u) (J := J2) (ref := RX5) (C := RX5) (T := TX5) (N := 14) hC (fun _ h => h.2.1) 0 lv_0 cl_X5 in_X5 9 (by decide) rfl (by exact q477) rfl dX5_takes_148 ?_
  refine k_putI (pc := 151) (v := v) (J := (uJ (cpJ J2 14 (cpJ J2 13 (cpJ J2 12 (cpJ J2 11 (cpJ J2 10 (cpJ J2 9 (cpJ J2 8 (cpJ J2 7 (cpJ J2 6 (cpJ J2 5 (cpJ J2 4 (cpJ J2 3 (cpJ J2 2 J))))))))))))) 0 8 (J2 0 8))) (ref := RX5) (C := RX5) (T := TX5) (N := 14) (P1 := WP D v (uJ (uJ (cpJ J2 14 (cpJ J2 13 (cpJ J2 12 (cpJ J2 11 (cpJ J2 10 (cpJ J2 9 (cpJ J2 8 (cpJ J2 7 (cpJ J2 6 (cpJ J2 5 (cpJ J2 4 (cpJ J2 3 (cpJ J2 2 J))))))))))))) 0 8 (J2 0 8)) 0 9 (J2 0 9)) u J2 T) hC (fun _ h => h.1.1) 0 lv_0 cl_X5 in_X5 9 (by decide) hM.2.1 rfl tyX5 tyX5_ok nmX5 (by exact q477) rfl rfl rfl rfl dX5_takes_151 (WP.put lv_0) ?_
  exact k_vret (pc := 154) hC hR ⟨Nat.le_refl 0, Nat.le_refl 0⟩ dX5_takes_154 rfl (fun _ h => h)
