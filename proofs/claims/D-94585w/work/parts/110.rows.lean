/-! ROWS: one an instruction, over Wk (printed by gen/rows.py) -/
set_option maxRecDepth 100000
section RW
variable {X : Ctx} {cc : ByteArray} {own : String} {cl : List vw_C} {tl : List FieldType} {D : Dd} {cells slots : Nat} {P P1 : Heap → Prop} {pc : Nat} {lv : List (Nat × Value)} {stk : List Value}
theorem k_iconst {n : Int} {v : Int32} (hC : Cx X cc own cl tl D) (hdg : decode cc pc = .ok (.iconst n, 1)) (hv : Int32.ofInt n = v) (kk : Wk X cells slots P (pc + 1) lv (.int v :: stk)) : Wk X cells slots P pc lv (stk) := by
  obtain ⟨p, l, e, R, s, m, args, below, meth, c, A, nL, Q⟩ := X
  intro H locs ls hP hS hl
  exact lv_iconst hC.1 hC.2.1 hdg hv (kk H locs ls hP hS hl)
theorem k_bipush {n : Int} {v : Int32} (hC : Cx X cc own cl tl D) (hdg : decode cc pc = .ok (.bipush n, 2)) (hv : (Int8.ofInt n).toInt32 = v) (kk : Wk X cells slots P (pc + 2) lv (.int v :: stk)) : Wk X cells slots P pc lv (stk) := by
  obtain ⟨p, l, e, R, s, m, args, below, meth, c, A, nL, Q⟩ := X
  intro H locs ls hP hS hl
  exact lv_bipush hC.1 hC.2.1 hdg hv (kk H locs ls hP hS hl)
theorem k_sipush {n : Int} {v : Int32} (hC : Cx X cc own cl tl D) (hdg : decode cc pc = .ok (.sipush n, 3)) (hv : (Int16.ofInt n).toInt32 = v) (kk : Wk X cells slots P (pc + 3) lv (.int v :: stk)) : Wk X cells slots P pc lv (stk) := by
  obtain ⟨p, l, e, R, s, m, args, below, meth, c, A, nL, Q⟩ := X
  intro H locs ls hP hS hl
  exact lv_sipush hC.1 hC.2.1 hdg hv (kk H locs ls hP hS hl)
theorem k_lconst {n : Fin 2} {v : Int64} (hC : Cx X cc own cl tl D) (hdg : decode cc pc = .ok (.lconst n, 1)) (hv : Int64.ofNat (n : Nat) = v) (kk : Wk X cells slots P (pc + 1) lv (.long v :: stk)) : Wk X cells slots P pc lv (stk) := by
  obtain ⟨p, l, e, R, s, m, args, below, meth, c, A, nL, Q⟩ := X
  intro H locs ls hP hS hl
  exact lv_lconst hC.1 hC.2.1 hdg hv (kk H locs ls hP hS hl)
theorem k_null  (hC : Cx X cc own cl tl D) (hdg : decode cc pc = .ok (.aconst_null, 1)) (kk : Wk X cells slots P (pc + 1) lv (.null :: stk)) : Wk X cells slots P pc lv (stk) := by
  obtain ⟨p, l, e, R, s, m, args, below, meth, c, A, nL, Q⟩ := X
  intro H locs ls hP hS hl
  exact lv_null hC.1 hC.2.1 hdg (kk H locs ls hP hS hl)
theorem k_iadd {x y : Int32} (hC : Cx X cc own cl tl D) (hdg : decode cc pc = .ok (.iadd, 1)) (kk : Wk X cells slots P (pc + 1) lv (.int (x + y) :: stk)) : Wk X cells slots P pc lv (.int y :: .int x :: stk) := by
  obtain ⟨p, l, e, R, s, m, args, below, meth, c, A, nL, Q⟩ := X
  intro H locs ls hP hS hl
  exact lv_iadd hC.1 hC.2.1 hdg (kk H locs ls hP hS hl)
theorem k_isub {x y : Int32} (hC : Cx X cc own cl tl D) (hdg : decode cc pc = .ok (.isub, 1)) (kk : Wk X cells slots P (pc + 1) lv (.int (x - y) :: stk)) : Wk X cells slots P pc lv (.int y :: .int x :: stk) := by
  obtain ⟨p, l, e, R, s, m, args, below, meth, c, A, nL, Q⟩ := X
  intro H locs ls hP hS hl
  exact lv_isub hC.1 hC.2.1 hdg (kk H locs ls hP hS hl)
theorem k_imul {x y : Int32} (hC : Cx X cc own cl tl D) (hdg : decode cc pc = .ok (.imul, 1)) (kk : Wk X cells slots P (pc + 1) lv (.int (x * y) :: stk)) : Wk X cells slots P pc lv (.int y :: .int x :: stk) := by
  obtain ⟨p, l, e, R, s, m, args, below, meth, c, A, nL, Q⟩ := X
  intro H locs ls hP hS hl
  exact lv_imul hC.1 hC.2.1 hdg (kk H locs ls hP hS hl)
theorem k_iand {x y : Int32} (hC : Cx X cc own cl tl D) (hdg : decode cc pc = .ok (.iand, 1)) (kk : Wk X cells slots P (pc + 1) lv (.int (x &&& y) :: stk)) : Wk X cells slots P pc lv (.int y :: .int x :: stk) := by
  obtain ⟨p, l, e, R, s, m, args, below, meth, c, A, nL, Q⟩ := X
  intro H locs ls hP hS hl
  exact lv_iand hC.1 hC.2.1 hdg (kk H locs ls hP hS hl)
theorem k_ior {x y : Int32} (hC : Cx X cc own cl tl D) (hdg : decode cc pc = .ok (.ior, 1)) (kk : Wk X cells slots P (pc + 1) lv (.int (x ||| y) :: stk)) : Wk X cells slots P pc lv (.int y :: .int x :: stk) := by
  obtain ⟨p, l, e, R, s, m, args, below, meth, c, A, nL, Q⟩ := X
  intro H locs ls hP hS hl
  exact lv_ior hC.1 hC.2.1 hdg (kk H locs ls hP hS hl)
theorem k_ixor {x y : Int32} (hC : Cx X cc own cl tl D) (hdg : decode cc pc = .ok (.ixor, 1)) (kk : Wk X cells slots P (pc + 1) lv (.int (x ^^^ y) :: stk)) : Wk X cells slots P pc lv (.int y :: .int x :: stk) := by
  obtain ⟨p, l, e, R, s, m, args, below, meth, c, A, nL, Q⟩ := X
  intro H locs ls hP hS hl
  exact lv_ixor hC.1 hC.2.1 hdg (kk H locs ls hP hS hl)
theorem k_ladd {x y : Int64} (hC : Cx X cc own cl tl D) (hdg : decode cc pc = .ok (.ladd, 1)) (kk : Wk X cells slots P (pc + 1) lv (.long (x + y) :: stk)) : Wk X cells slots P pc lv (.long y :: .long x :: stk) := by
  obtain ⟨p, l, e, R, s, m, args, below, meth, c, A, nL, Q⟩ := X
  intro H locs ls hP hS hl
  exact lv_ladd hC.1 hC.2.1 hdg (kk H locs ls hP hS hl)
theorem k_lsub {x y : Int64} (hC : Cx X cc own cl tl D) (hdg : decode cc pc = .ok (.lsub, 1)) (kk : Wk X cells slots P (pc + 1) lv (.long (x - y) :: stk)) : Wk X cells slots P pc lv (.long y :: .long x :: stk) := by
  obtain ⟨p, l, e, R, s, m, args, below, meth, c, A, nL, Q⟩ := X
  intro H locs ls hP hS hl
  exact lv_lsub hC.1 hC.2.1 hdg (kk H locs ls hP hS hl)
theorem k_lmul {x y : Int64} (hC : Cx X cc own cl tl D) (hdg : decode cc pc = .ok (.lmul, 1)) (kk : Wk X cells slots P (pc + 1) lv (.long (x * y) :: stk)) : Wk X cells slots P pc lv (.long y :: .long x :: stk) := by
  obtain ⟨p, l, e, R, s, m, args, below, meth, c, A, nL, Q⟩ := X
  intro H locs ls hP hS hl
  exact lv_lmul hC.1 hC.2.1 hdg (kk H locs ls hP hS hl)
theorem k_ishl {x y : Int32} (hC : Cx X cc own cl tl D) (hdg : decode cc pc = .ok (.ishl, 1)) (kk : Wk X cells slots P (pc + 1) lv (.int (x <<< (y &&& 31)) :: stk)) : Wk X cells slots P pc lv (.int y :: .int x :: stk) := by
  obtain ⟨p, l, e, R, s, m, args, below, meth, c, A, nL, Q⟩ := X
  intro H locs ls hP hS hl
  exact lv_ishl hC.1 hC.2.1 hdg (kk H locs ls hP hS hl)
theorem k_ishr {x y : Int32} (hC : Cx X cc own cl tl D) (hdg : decode cc pc = .ok (.ishr, 1)) (kk : Wk X cells slots P (pc + 1) lv (.int (x >>> (y &&& 31)) :: stk)) : Wk X cells slots P pc lv (.int y :: .int x :: stk) := by
  obtain ⟨p, l, e, R, s, m, args, below, meth, c, A, nL, Q⟩ := X
  intro H locs ls hP hS hl
  exact lv_ishr hC.1 hC.2.1 hdg (kk H locs ls hP hS hl)
theorem k_ineg {x : Int32} (hC : Cx X cc own cl tl D) (hdg : decode cc pc = .ok (.ineg, 1)) (kk : Wk X cells slots P (pc + 1) lv (.int (-x) :: stk)) : Wk X cells slots P pc lv (.int x :: stk) := by
  obtain ⟨p, l, e, R, s, m, args, below, meth, c, A, nL, Q⟩ := X
  intro H locs ls hP hS hl
  exact lv_ineg hC.1 hC.2.1 hdg (kk H locs ls hP hS hl)
theorem k_i2l {x : Int32} (hC : Cx X cc own cl tl D) (hdg : decode cc pc = .ok (.i2l, 1)) (kk : Wk X cells slots P (pc + 1) lv (.long x.toInt64 :: stk)) : Wk X cells slots P pc lv (.int x :: stk) := by
  obtain ⟨p, l, e, R, s, m, args, below, meth, c, A, nL, Q⟩ := X
  intro H locs ls hP hS hl
  exact lv_i2l hC.1 hC.2.1 hdg rfl (kk H locs ls hP hS hl)
theorem k_i2b {x : Int32} (hC : Cx X cc own cl tl D) (hdg : decode cc pc = .ok (.i2b, 1)) (kk : Wk X cells slots P (pc + 1) lv (.int x.toInt8.toInt32 :: stk)) : Wk X cells slots P pc lv (.int x :: stk) := by
  obtain ⟨p, l, e, R, s, m, args, below, meth, c, A, nL, Q⟩ := X
  intro H locs ls hP hS hl
  exact lv_i2b hC.1 hC.2.1 hdg rfl (kk H locs ls hP hS hl)
theorem k_i2s {x : Int32} (hC : Cx X cc own cl tl D) (hdg : decode cc pc = .ok (.i2s, 1)) (kk : Wk X cells slots P (pc + 1) lv (.int x.toInt16.toInt32 :: stk)) : Wk X cells slots P pc lv (.int x :: stk) := by
  obtain ⟨p, l, e, R, s, m, args, below, meth, c, A, nL, Q⟩ := X
  intro H locs ls hP hS hl
  exact lv_i2s hC.1 hC.2.1 hdg rfl (kk H locs ls hP hS hl)
theorem k_i2c {x : Int32} (hC : Cx X cc own cl tl D) (hdg : decode cc pc = .ok (.i2c, 1)) (kk : Wk X cells slots P (pc + 1) lv (.int (x.toUInt32 % 65536).toInt32 :: stk)) : Wk X cells slots P pc lv (.int x :: stk) := by
  obtain ⟨p, l, e, R, s, m, args, below, meth, c, A, nL, Q⟩ := X
  intro H locs ls hP hS hl
  exact lv_i2c hC.1 hC.2.1 hdg rfl (kk H locs ls hP hS hl)
theorem k_dup {va : Value} (hC : Cx X cc own cl tl D) (hdg : decode cc pc = .ok (.dup, 1)) (hva : va.category = 1) (kk : Wk X cells slots P (pc + 1) lv (va :: va :: stk)) : Wk X cells slots P pc lv (va :: stk) := by
  obtain ⟨p, l, e, R, s, m, args, below, meth, c, A, nL, Q⟩ := X
  intro H locs ls hP hS hl
  exact lv_dup hC.1 hC.2.1 hdg hva (kk H locs ls hP hS hl)
theorem k_pop {va : Value} (hC : Cx X cc own cl tl D) (hdg : decode cc pc = .ok (.pop, 1)) (hva : va.category = 1) (kk : Wk X cells slots P (pc + 1) lv (stk)) : Wk X cells slots P pc lv (va :: stk) := by
  obtain ⟨p, l, e, R, s, m, args, below, meth, c, A, nL, Q⟩ := X
  intro H locs ls hP hS hl
  exact lv_pop hC.1 hC.2.1 hdg hva (kk H locs ls hP hS hl)
theorem k_dup_x1 {va vb : Value} (hC : Cx X cc own cl tl D) (hdg : decode cc pc = .ok (.dup_x1, 1)) (hva : va.category = 1) (hvb : vb.category = 1) (kk : Wk X cells slots P (pc + 1) lv (va :: vb :: va :: stk)) : Wk X cells slots P pc lv (va :: vb :: stk) := by
  obtain ⟨p, l, e, R, s, m, args, below, meth, c, A, nL, Q⟩ := X
  intro H locs ls hP hS hl
  exact lv_dup_x1 hC.1 hC.2.1 hdg hva hvb (kk H locs ls hP hS hl)
theorem k_dup2 {va vb : Value} (hC : Cx X cc own cl tl D) (hdg : decode cc pc = .ok (.dup2, 1)) (hva : va.category = 1) (hvb : vb.category = 1) (kk : Wk X cells slots P (pc + 1) lv (va :: vb :: va :: vb :: stk)) : Wk X cells slots P pc lv (va :: vb :: stk) := by
  obtain ⟨p, l, e, R, s, m, args, below, meth, c, A, nL, Q⟩ := X
  intro H locs ls hP hS hl
  exact lv_dup2_11 hC.1 hC.2.1 hdg hva hvb (kk H locs ls hP hS hl)
theorem k_lcmp {x y : Int64} (hC : Cx X cc own cl tl D) (hdg : decode cc pc = .ok (.lcmp, 1)) (kk : Wk X cells slots P (pc + 1) lv (.int (lg_cmp x y) :: stk)) : Wk X cells slots P pc lv (.long y :: .long x :: stk) := by
  obtain ⟨p, l, e, R, s, m, args, below, meth, c, A, nL, Q⟩ := X
  intro H locs ls hP hS hl
  exact W.lcmp hC.1 hC.2.1 hdg (kk H locs ls hP hS hl)
theorem k_ldc {index : Nat} {v : Int32} (hC : Cx X cc own cl tl D) (hq : Cond.constant own index v ∈ lw_all) (hdg : decode cc pc = .ok (.ldc index, 2)) (kk : Wk X cells slots P (pc + 2) lv (.int v :: stk)) : Wk X cells slots P pc lv stk := by
  obtain ⟨p, l, e, R, s, m, args, below, meth, c, A, nL, Q⟩ := X
  intro H locs ls hP hS hl
  exact lv_ldc hC.1 hC.2.1 hC.2.2.2.1 (hC.2.2.2.2.1 _ hq) hdg (kk H locs ls hP hS hl)
theorem k_ldcw {index : Nat} {v : Int32} (hC : Cx X cc own cl tl D) (hq : Cond.constant own index v ∈ lw_all) (hdg : decode cc pc = .ok (.ldc_w index, 3)) (kk : Wk X cells slots P (pc + 3) lv (.int v :: stk)) : Wk X cells slots P pc lv stk := by
  obtain ⟨p, l, e, R, s, m, args, below, meth, c, A, nL, Q⟩ := X
  intro H locs ls hP hS hl
  exact lv_ldcw hC.1 hC.2.1 hC.2.2.2.1 (hC.2.2.2.2.1 _ hq) hdg (kk H locs ls hP hS hl)
theorem k_ldc2 {index : Nat} {v : Int64} (hC : Cx X cc own cl tl D) (hq : Cond.constantLong own index v ∈ lw_all) (hdg : decode cc pc = .ok (.ldc2_w index, 3)) (kk : Wk X cells slots P (pc + 3) lv (.long v :: stk)) : Wk X cells slots P pc lv stk := by
  obtain ⟨p, l, e, R, s, m, args, below, meth, c, A, nL, Q⟩ := X
  intro H locs ls hP hS hl
  exact lv_ldc2 hC.1 hC.2.1 hC.2.2.2.1 (hC.2.2.2.2.1 _ hq) hdg (kk H locs ls hP hS hl)
theorem k_iload_n {k : Fin 4} {i : Nat} {x : Int32} (hC : Cx X cc own cl tl D) (hdg : decode cc pc = .ok (.iload_n k, 1)) (hi : (k : Nat) = i) (j : Nat) (hj : lv[j]? = some (i, (.int x))) (kk : Wk X cells slots P (pc + 1) lv (.int x :: stk)) : Wk X cells slots P pc lv stk := by
  obtain ⟨p, l, e, R, s, m, args, below, meth, c, A, nL, Q⟩ := X
  intro H locs ls hP hS hl
  exact lv_iload_n hC.1 hC.2.1 hdg hi (lv_at hl j hj) (kk H locs ls hP hS hl)
theorem k_iload {i : Nat} {x : Int32} (hC : Cx X cc own cl tl D) (hdg : decode cc pc = .ok (.iload i, 2)) (j : Nat) (hj : lv[j]? = some (i, (.int x))) (kk : Wk X cells slots P (pc + 2) lv (.int x :: stk)) : Wk X cells slots P pc lv stk := by
  obtain ⟨p, l, e, R, s, m, args, below, meth, c, A, nL, Q⟩ := X
  intro H locs ls hP hS hl
  exact lv_iload hC.1 hC.2.1 hdg (lv_at hl j hj) (kk H locs ls hP hS hl)
theorem k_lload_n {k : Fin 4} {i : Nat} {x : Int64} (hC : Cx X cc own cl tl D) (hdg : decode cc pc = .ok (.lload_n k, 1)) (hi : (k : Nat) = i) (j : Nat) (hj : lv[j]? = some (i, (.long x))) (kk : Wk X cells slots P (pc + 1) lv (.long x :: stk)) : Wk X cells slots P pc lv stk := by
  obtain ⟨p, l, e, R, s, m, args, below, meth, c, A, nL, Q⟩ := X
  intro H locs ls hP hS hl
  exact lv_lload_n hC.1 hC.2.1 hdg hi (lv_at hl j hj) (kk H locs ls hP hS hl)
theorem k_lload {i : Nat} {x : Int64} (hC : Cx X cc own cl tl D) (hdg : decode cc pc = .ok (.lload i, 2)) (j : Nat) (hj : lv[j]? = some (i, (.long x))) (kk : Wk X cells slots P (pc + 2) lv (.long x :: stk)) : Wk X cells slots P pc lv stk := by
  obtain ⟨p, l, e, R, s, m, args, below, meth, c, A, nL, Q⟩ := X
  intro H locs ls hP hS hl
  exact lv_lload hC.1 hC.2.1 hdg (lv_at hl j hj) (kk H locs ls hP hS hl)
theorem k_aload_n {k : Fin 4} {i : Nat} {x : Nat} (hC : Cx X cc own cl tl D) (hdg : decode cc pc = .ok (.aload_n k, 1)) (hi : (k : Nat) = i) (j : Nat) (hj : lv[j]? = some (i, (.ref x))) (kk : Wk X cells slots P (pc + 1) lv (.ref x :: stk)) : Wk X cells slots P pc lv stk := by
  obtain ⟨p, l, e, R, s, m, args, below, meth, c, A, nL, Q⟩ := X
  intro H locs ls hP hS hl
  exact lv_aload_n hC.1 hC.2.1 hdg hi (lv_at hl j hj) (kk H locs ls hP hS hl)
theorem k_aload {i : Nat} {x : Nat} (hC : Cx X cc own cl tl D) (hdg : decode cc pc = .ok (.aload i, 2)) (j : Nat) (hj : lv[j]? = some (i, (.ref x))) (kk : Wk X cells slots P (pc + 2) lv (.ref x :: stk)) : Wk X cells slots P pc lv stk := by
  obtain ⟨p, l, e, R, s, m, args, below, meth, c, A, nL, Q⟩ := X
  intro H locs ls hP hS hl
  exact lv_aload hC.1 hC.2.1 hdg (lv_at hl j hj) (kk H locs ls hP hS hl)
theorem k_aloadN_n {k : Fin 4} {i : Nat} (hC : Cx X cc own cl tl D) (hdg : decode cc pc = .ok (.aload_n k, 1)) (hi : (k : Nat) = i) (j : Nat) (hj : lv[j]? = some (i, .null)) (kk : Wk X cells slots P (pc + 1) lv (.null :: stk)) : Wk X cells slots P pc lv stk := by
  obtain ⟨p, l, e, R, s, m, args, below, meth, c, A, nL, Q⟩ := X
  intro H locs ls hP hS hl
  exact lv_aload_nN hC.1 hC.2.1 hdg hi (lv_at hl j hj) (kk H locs ls hP hS hl)
theorem k_aloadN {i : Nat} (hC : Cx X cc own cl tl D) (hdg : decode cc pc = .ok (.aload i, 2)) (j : Nat) (hj : lv[j]? = some (i, .null)) (kk : Wk X cells slots P (pc + 2) lv (.null :: stk)) : Wk X cells slots P pc lv stk := by
  obtain ⟨p, l, e, R, s, m, args, below, meth, c, A, nL, Q⟩ := X
  intro H locs ls hP hS hl
  exact lv_aloadN hC.1 hC.2.1 hdg (lv_at hl j hj) (kk H locs ls hP hS hl)
theorem k_istore_n {k : Fin 4} {i : Nat} {x : Int32} {lv' : List (Nat × Value)} (hC : Cx X cc own cl tl D) (hdg : decode cc pc = .ok (.istore_n k, 1)) (hi : (k : Nat) = i) (hn : i < X.2.2.2.2.2.2.2.2.2.2.2.1) (hl' : (i, Value.int x) :: lv.filter (fun q => !(q.1 == i) && !(q.1 + 1 == i && q.2.category == 2)) = lv') (kk : Wk X cells slots P (pc + 1) lv' stk) : Wk X cells slots P pc lv (.int x :: stk) := by
  obtain ⟨p, l, e, R, s, m, args, below, meth, c, A, nL, Q⟩ := X
  intro H locs ls hP hS hl
  exact lv_istore_n hC.1 hC.2.1 hdg hi hl hn hl' (fun ls hl => kk H locs ls hP hS hl)
theorem k_istore {i : Nat} {x : Int32} {lv' : List (Nat × Value)} (hC : Cx X cc own cl tl D) (hdg : decode cc pc = .ok (.istore i, 2)) (hn : i < X.2.2.2.2.2.2.2.2.2.2.2.1) (hl' : (i, Value.int x) :: lv.filter (fun q => !(q.1 == i) && !(q.1 + 1 == i && q.2.category == 2)) = lv') (kk : Wk X cells slots P (pc + 2) lv' stk) : Wk X cells slots P pc lv (.int x :: stk) := by
  obtain ⟨p, l, e, R, s, m, args, below, meth, c, A, nL, Q⟩ := X
  intro H locs ls hP hS hl
  exact lv_istore hC.1 hC.2.1 hdg hl hn hl' (fun ls hl => kk H locs ls hP hS hl)
theorem k_astore_n {k : Fin 4} {i : Nat} {x : Nat} {lv' : List (Nat × Value)} (hC : Cx X cc own cl tl D) (hdg : decode cc pc = .ok (.astore_n k, 1)) (hi : (k : Nat) = i) (hn : i < X.2.2.2.2.2.2.2.2.2.2.2.1) (hl' : (i, Value.ref x) :: lv.filter (fun q => !(q.1 == i) && !(q.1 + 1 == i && q.2.category == 2)) = lv') (kk : Wk X cells slots P (pc + 1) lv' stk) : Wk X cells slots P pc lv (.ref x :: stk) := by
  obtain ⟨p, l, e, R, s, m, args, below, meth, c, A, nL, Q⟩ := X
  intro H locs ls hP hS hl
  exact lv_astore_n hC.1 hC.2.1 hdg hi hl hn hl' (fun ls hl => kk H locs ls hP hS hl)
theorem k_astore {i : Nat} {x : Nat} {lv' : List (Nat × Value)} (hC : Cx X cc own cl tl D) (hdg : decode cc pc = .ok (.astore i, 2)) (hn : i < X.2.2.2.2.2.2.2.2.2.2.2.1) (hl' : (i, Value.ref x) :: lv.filter (fun q => !(q.1 == i) && !(q.1 + 1 == i && q.2.category == 2)) = lv') (kk : Wk X cells slots P (pc + 2) lv' stk) : Wk X cells slots P pc lv (.ref x :: stk) := by
  obtain ⟨p, l, e, R, s, m, args, below, meth, c, A, nL, Q⟩ := X
  intro H locs ls hP hS hl
  exact lv_astore hC.1 hC.2.1 hdg hl hn hl' (fun ls hl => kk H locs ls hP hS hl)
theorem k_lstore_n {k : Fin 4} {i : Nat} {x : Int64} {lv' : List (Nat × Value)} (hC : Cx X cc own cl tl D) (hdg : decode cc pc = .ok (.lstore_n k, 1)) (hi : (k : Nat) = i) (hn : i + 1 < X.2.2.2.2.2.2.2.2.2.2.2.1) (hl' : (i, Value.long x) :: lv.filter (fun q => !(q.1 == i) && (!(q.1 == i + 1) && !(q.1 + 1 == i && q.2.category == 2))) = lv') (kk : Wk X cells slots P (pc + 1) lv' stk) : Wk X cells slots P pc lv (.long x :: stk) := by
  obtain ⟨p, l, e, R, s, m, args, below, meth, c, A, nL, Q⟩ := X
  intro H locs ls hP hS hl
  exact lv_lstore_n hC.1 hC.2.1 hdg hi hl hn hl' (fun ls hl => kk H locs ls hP hS hl)
theorem k_lstore {i : Nat} {x : Int64} {lv' : List (Nat × Value)} (hC : Cx X cc own cl tl D) (hdg : decode cc pc = .ok (.lstore i, 2)) (hn : i + 1 < X.2.2.2.2.2.2.2.2.2.2.2.1) (hl' : (i, Value.long x) :: lv.filter (fun q => !(q.1 == i) && (!(q.1 == i + 1) && !(q.1 + 1 == i && q.2.category == 2))) = lv') (kk : Wk X cells slots P (pc + 2) lv' stk) : Wk X cells slots P pc lv (.long x :: stk) := by
  obtain ⟨p, l, e, R, s, m, args, below, meth, c, A, nL, Q⟩ := X
  intro H locs ls hP hS hl
  exact lv_lstore hC.1 hC.2.1 hdg hl hn hl' (fun ls hl => kk H locs ls hP hS hl)
theorem k_iinc {i k : Nat} {n : Int} {x v : Int32} {lv' : List (Nat × Value)} (hC : Cx X cc own cl tl D) (hdg : decode cc pc = .ok (.iinc i n, 3)) (hk : lv[k]? = some (i, .int x)) (hv : x + Int32.ofInt n = v) (hn : i < X.2.2.2.2.2.2.2.2.2.2.2.1) (hl' : (i, Value.int v) :: lv.filter (fun q => !(q.1 == i) && !(q.1 + 1 == i && q.2.category == 2)) = lv') (kk : Wk X cells slots P (pc + 3) lv' stk) : Wk X cells slots P pc lv stk := by
  obtain ⟨p, l, e, R, s, m, args, below, meth, c, A, nL, Q⟩ := X
  intro H locs ls hP hS hl
  exact lv_iinc hC.1 hC.2.1 hdg hl hk hv hn hl' (fun ls hl => kk H locs ls hP hS hl)
theorem k_idiv {x y : Int32} {α : Type} {a : Option α} {out : α} (hC : Cx X cc own cl tl D) (hdg : decode cc pc = .ok (.idiv, 1)) (hE : (if y = 0 then none else a) = some out) (kk : a = some out → Wk X cells slots P (pc + 1) lv (.int (x / y) :: stk)) : Wk X cells slots P pc lv (.int y :: .int x :: stk) := by
  by_cases hy : y = 0
  · rw [if_pos hy] at hE; cases hE
  · rw [if_neg hy] at hE
    have kk := kk hE
    obtain ⟨p, l, e, R, s, m, args, below, meth, c, A, nL, Q⟩ := X
    intro H locs ls hP hS hl
    exact lv_idiv hC.1 hC.2.1 hdg hy (kk H locs ls hP hS hl)
theorem k_irem {x y : Int32} {α : Type} {a : Option α} {out : α} (hC : Cx X cc own cl tl D) (hdg : decode cc pc = .ok (.irem, 1)) (hE : (if y = 0 then none else a) = some out) (kk : a = some out → Wk X cells slots P (pc + 1) lv (.int (x - x / y * y) :: stk)) : Wk X cells slots P pc lv (.int y :: .int x :: stk) := by
  by_cases hy : y = 0
  · rw [if_pos hy] at hE; cases hE
  · rw [if_neg hy] at hE
    have kk := kk hE
    obtain ⟨p, l, e, R, s, m, args, below, meth, c, A, nL, Q⟩ := X
    intro H locs ls hP hS hl
    exact lv_irem hC.1 hC.2.1 hdg hy (kk H locs ls hP hS hl)
theorem k_idivK {x y : Int32} (hC : Cx X cc own cl tl D) (hdg : decode cc pc = .ok (.idiv, 1)) (hy : ¬ y = 0) (kk : Wk X cells slots P (pc + 1) lv (.int (x / y) :: stk)) : Wk X cells slots P pc lv (.int y :: .int x :: stk) := by
  obtain ⟨p, l, e, R, s, m, args, below, meth, c, A, nL, Q⟩ := X
  intro H locs ls hP hS hl
  exact lv_idiv hC.1 hC.2.1 hdg hy (kk H locs ls hP hS hl)
theorem k_iremK {x y : Int32} (hC : Cx X cc own cl tl D) (hdg : decode cc pc = .ok (.irem, 1)) (hy : ¬ y = 0) (kk : Wk X cells slots P (pc + 1) lv (.int (x - x / y * y) :: stk)) : Wk X cells slots P pc lv (.int y :: .int x :: stk) := by
  obtain ⟨p, l, e, R, s, m, args, below, meth, c, A, nL, Q⟩ := X
  intro H locs ls hP hS hl
  exact lv_irem hC.1 hC.2.1 hdg hy (kk H locs ls hP hS hl)
theorem k_if_eq {x : Int32} {off : Int} {tgt : Nat} {α : Type} {ta tb : Option α} {out : α} (hC : Cx X cc own cl tl D) (hdg : decode cc pc = .ok (.ifCond .eq off, 3)) (ht : (pc : Int) + off = (tgt : Int)) (hE : (if x = 0 then ta else tb) = some out) (k1 : ta = some out → Wk X cells slots P tgt lv stk) (k2 : tb = some out → Wk X cells slots P (pc + 3) lv stk) : Wk X cells slots P pc lv (.int x :: stk) := by
  have q1 : x = 0 → Wk X cells slots P tgt lv stk := fun h => k1 (by rw [if_pos h] at hE; exact hE)
  have q2 : ¬ x = 0 → Wk X cells slots P (pc + 3) lv stk := fun h => k2 (by rw [if_neg h] at hE; exact hE)
  obtain ⟨p, l, e, R, s, m, args, below, meth, c, A, nL, Q⟩ := X
  intro H locs ls hP hS hl
  exact lv_if_eq hC.1 hC.2.1 hdg ht (fun h => q1 h H locs ls hP hS hl) (fun h => q2 h H locs ls hP hS hl)
theorem k_if_ne {x : Int32} {off : Int} {tgt : Nat} {α : Type} {ta tb : Option α} {out : α} (hC : Cx X cc own cl tl D) (hdg : decode cc pc = .ok (.ifCond .ne off, 3)) (ht : (pc : Int) + off = (tgt : Int)) (hE : (if x = 0 then ta else tb) = some out) (k1 : ta = some out → Wk X cells slots P (pc + 3) lv stk) (k2 : tb = some out → Wk X cells slots P tgt lv stk) : Wk X cells slots P pc lv (.int x :: stk) := by
  have q1 : x = 0 → Wk X cells slots P (pc + 3) lv stk := fun h => k1 (by rw [if_pos h] at hE; exact hE)
  have q2 : ¬ x = 0 → Wk X cells slots P tgt lv stk := fun h => k2 (by rw [if_neg h] at hE; exact hE)
  obtain ⟨p, l, e, R, s, m, args, below, meth, c, A, nL, Q⟩ := X
  intro H locs ls hP hS hl
  exact lv_if_ne hC.1 hC.2.1 hdg ht (fun h => q2 h H locs ls hP hS hl) (fun h => q1 h H locs ls hP hS hl)
theorem k_if_lt {x : Int32} {off : Int} {tgt : Nat} {α : Type} {ta tb : Option α} {out : α} (hC : Cx X cc own cl tl D) (hdg : decode cc pc = .ok (.ifCond .lt off, 3)) (ht : (pc : Int) + off = (tgt : Int)) (hE : (if x < 0 then ta else tb) = some out) (k1 : ta = some out → Wk X cells slots P tgt lv stk) (k2 : tb = some out → Wk X cells slots P (pc + 3) lv stk) : Wk X cells slots P pc lv (.int x :: stk) := by
  have q1 : x < 0 → Wk X cells slots P tgt lv stk := fun h => k1 (by rw [if_pos h] at hE; exact hE)
  have q2 : ¬ x < 0 → Wk X cells slots P (pc + 3) lv stk := fun h => k2 (by rw [if_neg h] at hE; exact hE)
  obtain ⟨p, l, e, R, s, m, args, below, meth, c, A, nL, Q⟩ := X
  intro H locs ls hP hS hl
  exact lv_if_lt hC.1 hC.2.1 hdg ht (fun h => q1 h H locs ls hP hS hl) (fun h => q2 h H locs ls hP hS hl)
theorem k_if_ge {x : Int32} {off : Int} {tgt : Nat} {α : Type} {ta tb : Option α} {out : α} (hC : Cx X cc own cl tl D) (hdg : decode cc pc = .ok (.ifCond .ge off, 3)) (ht : (pc : Int) + off = (tgt : Int)) (hE : (if 0 ≤ x then ta else tb) = some out) (k1 : ta = some out → Wk X cells slots P tgt lv stk) (k2 : tb = some out → Wk X cells slots P (pc + 3) lv stk) : Wk X cells slots P pc lv (.int x :: stk) := by
  have q1 : 0 ≤ x → Wk X cells slots P tgt lv stk := fun h => k1 (by rw [if_pos h] at hE; exact hE)
  have q2 : ¬ 0 ≤ x → Wk X cells slots P (pc + 3) lv stk := fun h => k2 (by rw [if_neg h] at hE; exact hE)
  obtain ⟨p, l, e, R, s, m, args, below, meth, c, A, nL, Q⟩ := X
  intro H locs ls hP hS hl
  exact lv_if_ge hC.1 hC.2.1 hdg ht (fun h => q1 h H locs ls hP hS hl) (fun h => q2 h H locs ls hP hS hl)
theorem k_if_gt {x : Int32} {off : Int} {tgt : Nat} {α : Type} {ta tb : Option α} {out : α} (hC : Cx X cc own cl tl D) (hdg : decode cc pc = .ok (.ifCond .gt off, 3)) (ht : (pc : Int) + off = (tgt : Int)) (hE : (if 0 < x then ta else tb) = some out) (k1 : ta = some out → Wk X cells slots P tgt lv stk) (k2 : tb = some out → Wk X cells slots P (pc + 3) lv stk) : Wk X cells slots P pc lv (.int x :: stk) := by
  have q1 : 0 < x → Wk X cells slots P tgt lv stk := fun h => k1 (by rw [if_pos h] at hE; exact hE)
  have q2 : ¬ 0 < x → Wk X cells slots P (pc + 3) lv stk := fun h => k2 (by rw [if_neg h] at hE; exact hE)
  obtain ⟨p, l, e, R, s, m, args, below, meth, c, A, nL, Q⟩ := X
  intro H locs ls hP hS hl
  exact lv_if_gt hC.1 hC.2.1 hdg ht (fun h => q1 h H locs ls hP hS hl) (fun h => q2 h H locs ls hP hS hl)
theorem k_if_le {x : Int32} {off : Int} {tgt : Nat} {α : Type} {ta tb : Option α} {out : α} (hC : Cx X cc own cl tl D) (hdg : decode cc pc = .ok (.ifCond .le off, 3)) (ht : (pc : Int) + off = (tgt : Int)) (hE : (if x ≤ 0 then ta else tb) = some out) (k1 : ta = some out → Wk X cells slots P tgt lv stk) (k2 : tb = some out → Wk X cells slots P (pc + 3) lv stk) : Wk X cells slots P pc lv (.int x :: stk) := by
  have q1 : x ≤ 0 → Wk X cells slots P tgt lv stk := fun h => k1 (by rw [if_pos h] at hE; exact hE)
  have q2 : ¬ x ≤ 0 → Wk X cells slots P (pc + 3) lv stk := fun h => k2 (by rw [if_neg h] at hE; exact hE)
  obtain ⟨p, l, e, R, s, m, args, below, meth, c, A, nL, Q⟩ := X
  intro H locs ls hP hS hl
  exact lv_if_le hC.1 hC.2.1 hdg ht (fun h => q1 h H locs ls hP hS hl) (fun h => q2 h H locs ls hP hS hl)
theorem k_icmp_eq {x y : Int32} {off : Int} {tgt : Nat} {α : Type} {ta tb : Option α} {out : α} (hC : Cx X cc own cl tl D) (hdg : decode cc pc = .ok (.if_icmp .eq off, 3)) (ht : (pc : Int) + off = (tgt : Int)) (hE : (if x = y then ta else tb) = some out) (k1 : ta = some out → Wk X cells slots P tgt lv stk) (k2 : tb = some out → Wk X cells slots P (pc + 3) lv stk) : Wk X cells slots P pc lv (.int y :: .int x :: stk) := by
  have q1 : x = y → Wk X cells slots P tgt lv stk := fun h => k1 (by rw [if_pos h] at hE; exact hE)
  have q2 : ¬ x = y → Wk X cells slots P (pc + 3) lv stk := fun h => k2 (by rw [if_neg h] at hE; exact hE)
  obtain ⟨p, l, e, R, s, m, args, below, meth, c, A, nL, Q⟩ := X
  intro H locs ls hP hS hl
  exact lv_icmp_eq hC.1 hC.2.1 hdg ht (fun h => q1 h H locs ls hP hS hl) (fun h => q2 h H locs ls hP hS hl)
theorem k_icmp_ne {x y : Int32} {off : Int} {tgt : Nat} {α : Type} {ta tb : Option α} {out : α} (hC : Cx X cc own cl tl D) (hdg : decode cc pc = .ok (.if_icmp .ne off, 3)) (ht : (pc : Int) + off = (tgt : Int)) (hE : (if x = y then ta else tb) = some out) (k1 : ta = some out → Wk X cells slots P (pc + 3) lv stk) (k2 : tb = some out → Wk X cells slots P tgt lv stk) : Wk X cells slots P pc lv (.int y :: .int x :: stk) := by
  have q1 : x = y → Wk X cells slots P (pc + 3) lv stk := fun h => k1 (by rw [if_pos h] at hE; exact hE)
  have q2 : ¬ x = y → Wk X cells slots P tgt lv stk := fun h => k2 (by rw [if_neg h] at hE; exact hE)
  obtain ⟨p, l, e, R, s, m, args, below, meth, c, A, nL, Q⟩ := X
  intro H locs ls hP hS hl
  exact lv_icmp_ne hC.1 hC.2.1 hdg ht (fun h => q2 h H locs ls hP hS hl) (fun h => q1 h H locs ls hP hS hl)
theorem k_icmp_lt {x y : Int32} {off : Int} {tgt : Nat} {α : Type} {ta tb : Option α} {out : α} (hC : Cx X cc own cl tl D) (hdg : decode cc pc = .ok (.if_icmp .lt off, 3)) (ht : (pc : Int) + off = (tgt : Int)) (hE : (if x < y then ta else tb) = some out) (k1 : ta = some out → Wk X cells slots P tgt lv stk) (k2 : tb = some out → Wk X cells slots P (pc + 3) lv stk) : Wk X cells slots P pc lv (.int y :: .int x :: stk) := by
  have q1 : x < y → Wk X cells slots P tgt lv stk := fun h => k1 (by rw [if_pos h] at hE; exact hE)
  have q2 : ¬ x < y → Wk X cells slots P (pc + 3) lv stk := fun h => k2 (by rw [if_neg h] at hE; exact hE)
  obtain ⟨p, l, e, R, s, m, args, below, meth, c, A, nL, Q⟩ := X
  intro H locs ls hP hS hl
  exact lv_icmp_lt hC.1 hC.2.1 hdg ht (fun h => q1 h H locs ls hP hS hl) (fun h => q2 h H locs ls hP hS hl)
theorem k_icmp_ge {x y : Int32} {off : Int} {tgt : Nat} {α : Type} {ta tb : Option α} {out : α} (hC : Cx X cc own cl tl D) (hdg : decode cc pc = .ok (.if_icmp .ge off, 3)) (ht : (pc : Int) + off = (tgt : Int)) (hE : (if y ≤ x then ta else tb) = some out) (k1 : ta = some out → Wk X cells slots P tgt lv stk) (k2 : tb = some out → Wk X cells slots P (pc + 3) lv stk) : Wk X cells slots P pc lv (.int y :: .int x :: stk) := by
  have q1 : y ≤ x → Wk X cells slots P tgt lv stk := fun h => k1 (by rw [if_pos h] at hE; exact hE)
  have q2 : ¬ y ≤ x → Wk X cells slots P (pc + 3) lv stk := fun h => k2 (by rw [if_neg h] at hE; exact hE)
  obtain ⟨p, l, e, R, s, m, args, below, meth, c, A, nL, Q⟩ := X
  intro H locs ls hP hS hl
  exact lv_icmp_ge hC.1 hC.2.1 hdg ht (fun h => q1 h H locs ls hP hS hl) (fun h => q2 h H locs ls hP hS hl)
theorem k_icmp_gt {x y : Int32} {off : Int} {tgt : Nat} {α : Type} {ta tb : Option α} {out : α} (hC : Cx X cc own cl tl D) (hdg : decode cc pc = .ok (.if_icmp .gt off, 3)) (ht : (pc : Int) + off = (tgt : Int)) (hE : (if y < x then ta else tb) = some out) (k1 : ta = some out → Wk X cells slots P tgt lv stk) (k2 : tb = some out → Wk X cells slots P (pc + 3) lv stk) : Wk X cells slots P pc lv (.int y :: .int x :: stk) := by
  have q1 : y < x → Wk X cells slots P tgt lv stk := fun h => k1 (by rw [if_pos h] at hE; exact hE)
  have q2 : ¬ y < x → Wk X cells slots P (pc + 3) lv stk := fun h => k2 (by rw [if_neg h] at hE; exact hE)
  obtain ⟨p, l, e, R, s, m, args, below, meth, c, A, nL, Q⟩ := X
  intro H locs ls hP hS hl
  exact lv_icmp_gt hC.1 hC.2.1 hdg ht (fun h => q1 h H locs ls hP hS hl) (fun h => q2 h H locs ls hP hS hl)
theorem k_icmp_le {x y : Int32} {off : Int} {tgt : Nat} {α : Type} {ta tb : Option α} {out : α} (hC : Cx X cc own cl tl D) (hdg : decode cc pc = .ok (.if_icmp .le off, 3)) (ht : (pc : Int) + off = (tgt : Int)) (hE : (if x ≤ y then ta else tb) = some out) (k1 : ta = some out → Wk X cells slots P tgt lv stk) (k2 : tb = some out → Wk X cells slots P (pc + 3) lv stk) : Wk X cells slots P pc lv (.int y :: .int x :: stk) := by
  have q1 : x ≤ y → Wk X cells slots P tgt lv stk := fun h => k1 (by rw [if_pos h] at hE; exact hE)
  have q2 : ¬ x ≤ y → Wk X cells slots P (pc + 3) lv stk := fun h => k2 (by rw [if_neg h] at hE; exact hE)
  obtain ⟨p, l, e, R, s, m, args, below, meth, c, A, nL, Q⟩ := X
  intro H locs ls hP hS hl
  exact lv_icmp_le hC.1 hC.2.1 hdg ht (fun h => q1 h H locs ls hP hS hl) (fun h => q2 h H locs ls hP hS hl)
theorem k_goto {off : Int} {tgt : Nat} (hC : Cx X cc own cl tl D) (hdg : decode cc pc = .ok (.goto off, 3)) (ht : (pc : Int) + off = (tgt : Int)) (kk : Wk X cells slots P tgt lv stk) : Wk X cells slots P pc lv stk := by
  obtain ⟨p, l, e, R, s, m, args, below, meth, c, A, nL, Q⟩ := X
  intro H locs ls hP hS hl
  exact lv_goto hC.1 hC.2.1 hdg ht (kk H locs ls hP hS hl)
theorem k_ifnull {x : Nat} {off : Int} (hC : Cx X cc own cl tl D) (hdg : decode cc pc = .ok (.ifnull off, 3)) (kk : Wk X cells slots P (pc + 3) lv stk) : Wk X cells slots P pc lv (.ref x :: stk) := by
  obtain ⟨p, l, e, R, s, m, args, below, meth, c, A, nL, Q⟩ := X
  intro H locs ls hP hS hl
  exact lv_ifnull hC.1 hC.2.1 hdg (kk H locs ls hP hS hl)
theorem k_ifnullN {off : Int} {tgt : Nat} (hC : Cx X cc own cl tl D) (hdg : decode cc pc = .ok (.ifnull off, 3)) (ht : (pc : Int) + off = (tgt : Int)) (kk : Wk X cells slots P tgt lv stk) : Wk X cells slots P pc lv (.null :: stk) := by
  obtain ⟨p, l, e, R, s, m, args, below, meth, c, A, nL, Q⟩ := X
  intro H locs ls hP hS hl
  exact lv_ifnullN hC.1 hC.2.1 hdg ht (kk H locs ls hP hS hl)
theorem k_ifnonnull {x : Nat} {off : Int} {tgt : Nat} (hC : Cx X cc own cl tl D) (hdg : decode cc pc = .ok (.ifnonnull off, 3)) (ht : (pc : Int) + off = (tgt : Int)) (kk : Wk X cells slots P tgt lv stk) : Wk X cells slots P pc lv (.ref x :: stk) := by
  obtain ⟨p, l, e, R, s, m, args, below, meth, c, A, nL, Q⟩ := X
  intro H locs ls hP hS hl
  exact lv_ifnonnull hC.1 hC.2.1 hdg ht (kk H locs ls hP hS hl)
theorem k_ifnonnullN {off : Int} (hC : Cx X cc own cl tl D) (hdg : decode cc pc = .ok (.ifnonnull off, 3)) (kk : Wk X cells slots P (pc + 3) lv stk) : Wk X cells slots P pc lv (.null :: stk) := by
  obtain ⟨p, l, e, R, s, m, args, below, meth, c, A, nL, Q⟩ := X
  intro H locs ls hP hS hl
  exact lv_ifnonnullN hC.1 hC.2.1 hdg (kk H locs ls hP hS hl)
theorem sw_ne {x k : Int32} {z : Int} (h : ¬ x = k) (hk : k.toInt = z) : x.toInt ≠ z := fun q => h (Int32.toInt_inj.mp (q.trans hk.symm))
theorem sw_E {α : Type} {c : Prop} [Decidable c] {ta tb : Option α} {out : α} {G : Prop} (hE : (if c then ta else tb) = some out) (k1 : c → ta = some out → G) (k2 : ¬ c → tb = some out → G) : G := by
  by_cases h : c
  · rw [if_pos h] at hE; exact k1 h hE
  · rw [if_neg h] at hE; exact k2 h hE
theorem k_tswI {dflt lo hi : Int} {offs : Array Int} {len : Nat} {x : Int32} {k : Int32} {off : Int} {tgt : Nat} (hC : Cx X cc own cl tl D) (hdg : decode cc pc = .ok (.tableswitch dflt lo hi offs, len)) (hx : x = k) (h1 : ¬ k.toInt < lo) (h2 : ¬ hi < k.toInt) (ho : offs[(k.toInt - lo).toNat]? = some off) (ht : (pc : Int) + off = (tgt : Int)) (kk : Wk X cells slots P tgt lv stk) : Wk X cells slots P pc lv (.int x :: stk) := by
  subst hx
  obtain ⟨p, l, e, R, s, m, args, below, meth, c, A, nL, Q⟩ := X
  intro H locs ls hP hS hl
  exact lv_tableIn hC.1 hC.2.1 hdg h1 h2 ho ht (kk H locs ls hP hS hl)
theorem k_tswO {dflt lo hi : Int} {offs : Array Int} {len : Nat} {x : Int32} {tgt : Nat} (hC : Cx X cc own cl tl D) (hdg : decode cc pc = .ok (.tableswitch dflt lo hi offs, len)) (h : x.toInt < lo ∨ hi < x.toInt) (ht : (pc : Int) + dflt = (tgt : Int)) (kk : Wk X cells slots P tgt lv stk) : Wk X cells slots P pc lv (.int x :: stk) := by
  obtain ⟨p, l, e, R, s, m, args, below, meth, c, A, nL, Q⟩ := X
  intro H locs ls hP hS hl
  exact lv_tableOut hC.1 hC.2.1 hdg h ht (kk H locs ls hP hS hl)
theorem k_lt {α β : Type} {e : α} {f : α → Option β} {out : β} {G : α → Prop} (hE : lt_ e f = some out) (kk : ∀ x, f x = some out → G x) : G e := kk e hE
theorem k_sub {lv' : List (Nat × Value)} (ks : List Nat) (hs : lv_pick lv ks = lv') (kk : Wk X cells slots P pc lv' stk) : Wk X cells slots P pc lv stk := by
  obtain ⟨p, l, e, R, s, m, args, below, meth, c, A, nL, Q⟩ := X
  intro H locs ls hP hS hl
  exact kk H locs ls hP hS (lv_sub hl ks hs)
theorem k_at {pc2 : Nat} (h : pc = pc2) (kk : Wk X cells slots P pc2 lv stk) : Wk X cells slots P pc lv stk := h ▸ kk
theorem va_Sf {A : Nat → Prop} {H0 H : Heap} {locs : List Loc} (h : va_S A H0 H locs) : ∀ q ∈ locs, A q.base := h.2.2
theorem k_iret {P' : Heap → Prop} {o : Option Value} {mc ms : Nat} {v : Int32} (hC : Cx X cc own cl tl D) (hR : Rt X (some .int) P' o mc ms) (hc : cells ≤ mc ∧ slots ≤ ms) (hdg : decode cc pc = .ok (.ireturn, 1)) (ho : o = some (.int v)) (hP' : ∀ H, P H → P' H) : Wk X cells slots P pc lv [.int v] := by
  obtain ⟨p, l, e, R, s, m, args, below, meth, c, A, nL, Q⟩ := X
  obtain ⟨hr, hQ⟩ := hR
  subst hQ
  subst ho
  intro H locs ls hP hS hl
  refine W.widen hc.1 hc.2 ?_
  exact W.iret hC.1 hC.2.1 hr (fun t ht hW => ⟨rfl, by rw [ht]; exact hP' H hP, hS.1.F ht, by rw [ht]; exact hS.2⟩) hS.1.2.2 hdg hC.2.2.2.2.2.2.1
theorem k_lret {P' : Heap → Prop} {o : Option Value} {mc ms : Nat} {v : Int64} (hC : Cx X cc own cl tl D) (hR : Rt X (some .long) P' o mc ms) (hc : cells ≤ mc ∧ slots ≤ ms) (hdg : decode cc pc = .ok (.lreturn, 1)) (ho : o = some (.long v)) (hP' : ∀ H, P H → P' H) : Wk X cells slots P pc lv [.long v] := by
  obtain ⟨p, l, e, R, s, m, args, below, meth, c, A, nL, Q⟩ := X
  obtain ⟨hr, hQ⟩ := hR
  subst hQ
  subst ho
  intro H locs ls hP hS hl
  refine W.widen hc.1 hc.2 ?_
  exact W.lret hC.1 hC.2.1 hr (fun t ht hW => ⟨rfl, by rw [ht]; exact hP' H hP, hS.1.F ht, by rw [ht]; exact hS.2⟩) hS.1.2.2 hdg hC.2.2.2.2.2.2.1
theorem k_vret {P' : Heap → Prop} {o : Option Value} {mc ms : Nat} (hC : Cx X cc own cl tl D) (hR : Rt X none P' o mc ms) (hc : cells ≤ mc ∧ slots ≤ ms) (hdg : decode cc pc = .ok (.return_, 1)) (ho : o = none) (hP' : ∀ H, P H → P' H) : Wk X cells slots P pc lv [] := by
  obtain ⟨p, l, e, R, s, m, args, below, meth, c, A, nL, Q⟩ := X
  obtain ⟨hr, hQ⟩ := hR
  subst hQ
  subst ho
  intro H locs ls hP hS hl
  refine W.widen hc.1 hc.2 ?_
  exact W.vret hC.1 hC.2.1 hr (fun t ht hW => ⟨rfl, by rw [ht]; exact hP' H hP, hS.1.F ht, by rw [ht]; exact hS.2⟩) hS.1.2.2 hdg hC.2.2.2.2.2.2.1
theorem k_zret {P' : Heap → Prop} {o : Option Value} {mc ms : Nat} {v : Int32} (hv : v = 0 ∨ v = 1) (hC : Cx X cc own cl tl D) (hR : Rt X (some .boolean) P' o mc ms) (hc : cells ≤ mc ∧ slots ≤ ms) (hdg : decode cc pc = .ok (.ireturn, 1)) (ho : o = some (.int v)) (hP' : ∀ H, P H → P' H) : Wk X cells slots P pc lv [.int v] := by
  obtain ⟨p, l, e, R, s, m, args, below, meth, c, A, nL, Q⟩ := X
  obtain ⟨hr, hQ⟩ := hR
  subst hQ
  subst ho
  intro H locs ls hP hS hl
  refine W.widen hc.1 hc.2 ?_
  exact W.zret hC.1 hC.2.1 hr (by rcases hv with h | h <;> rw [h] <;> rfl) (fun t ht hW => ⟨rfl, by rw [ht]; exact hP' H hP, hS.1.F ht, by rw [ht]; exact hS.2⟩) hS.1.2.2 hdg hC.2.2.2.2.2.2.1
theorem k_aret {P' : Heap → Prop} {o : Option Value} {mc ms : Nat} {v : Value} {rt : FieldType} (hrt : (∃ n, rt = .object n) ∨ ∃ t, rt = .array t) (hv : v = .null ∨ ∃ a, v = .ref a) (hC : Cx X cc own cl tl D) (hR : Rt X (some rt) P' o mc ms) (hc : cells ≤ mc ∧ slots ≤ ms) (hdg : decode cc pc = .ok (.areturn, 1)) (ho : o = some v) (hP' : ∀ H, P H → P' H) : Wk X cells slots P pc lv [v] := by
  obtain ⟨p, l, e, R, s, m, args, below, meth, c, A, nL, Q⟩ := X
  obtain ⟨hr, hQ⟩ := hR
  subst hQ
  subst ho
  intro H locs ls hP hS hl
  refine W.widen hc.1 hc.2 ?_
  exact W.aret hC.1 hC.2.1 hr hrt hv (fun t ht hW => ⟨rfl, by rw [ht]; exact hP' H hP, hS.1.F ht, by rw [ht]; exact hS.2⟩) hS.1.2.2 hdg hC.2.2.2.2.2.2.1
end RW
