/-! ROWS over regions: fields, arrays, calls (printed by gen/regs.py) -/
set_option maxRecDepth 100000
section RG
variable {X : Ctx} {cc : ByteArray} {own : String} {cl : List vw_C} {tl : List FieldType} {D : Dd} {cells slots : Nat} {P P1 : Heap → Prop} {pc : Nat} {lv : List (Nat × Value)} {stk : List Value} {lay : Lay} {v : Nat} {J : Ji} {K : Jl} {Xr : Jr}
/-- the region's cells may change -/
def Ft (X : Ctx) (lay : Lay) (v : Nat) : Prop := ∀ (off : Nat) (kd : Kd), lay off = some kd → X.2.2.2.2.2.2.2.2.2.2.1 (v + off)
theorem k_getI {ref C : String} {T : u_T} {N ci index : Nat} {rf : Nat → Option (Option Nat)} (hC : Cx X cc own cl tl D) (hRg : ∀ H, P H → Rg cl D lay v J K Xr H) (off : Nat) (hly : lay off = some (.inr (.inl (ci, rf)))) (hc : cl[ci]? = some (C, T, N)) (hin : ∀ w ∈ u_ws C T N, w ∈ lw_all) (k : Nat) (hk : k < N) (hrf : rf k = none) (hq : Cond.fieldLink own index ref (T k).2.1 (T k).2.2.1 ∈ lw_all) (hsame : ref = (T k).1) (hdg : decode cc pc = .ok (.getfield index, 3)) (kk : Wk X cells slots P (pc + 3) lv (.int (J off k) :: stk)) : Wk X cells slots P pc lv (.ref (v + off) :: stk) := by
  obtain ⟨p, l, e, R, s, m, args, below, meth, c, A, nL, Q⟩ := X
  intro H locs ls hP hS hl
  subst hsame
  obtain ⟨r, h1, cell, q1, q2, q3, q4⟩ := hRg H hP off _ hly
  have hr : r = (C, T, N) := Option.some.inj (h1.symm.trans hc)
  subst hr
  obtain ⟨hSl, hfc, kC, hkC, hkind⟩ := hC.2.2.2.2.2.1.1 ci _ hc
  obtain ⟨cf, kf, fi, f, hi, hsl⟩ := hSl k hk
  refine W.getf hC.1 hC.2.1 hC.2.2.2.1 (hC.2.2.2.2.1 _ hq) hi (u_facts hfc hkC (u_lays hC.2.2.2.2.1 hin hk) hi).1 q1 (by rw [q3]; exact fun h => by cases h) (v := .int (J off k)) ?_ rfl rfl hdg (kk H locs ls hP hS hl)
  rw [hsl, q4 k hk]
  simp only [fV, hrf]
theorem k_getIN {ref C : String} {T : u_T} {N ci index : Nat} {rf : Nat → Option (Option Nat)} (hC : Cx X cc own cl tl D) (hRg : ∀ H, P H → Rg cl D lay v J K Xr H) (off : Nat) (hly : lay off = some (.inr (.inl (ci, rf)))) (hc : cl[ci]? = some (C, T, N)) (hin : ∀ w ∈ u_ws C T N, w ∈ lw_all) (k : Nat) (hk : k < N) (hrf : rf k = none) {host : String} (hq : Cond.fieldLinkNest own index ref (T k).2.1 (T k).2.2.1 host ∈ lw_tbl) (hsame : ref = (T k).1) (hdg : decode cc pc = .ok (.getfield index, 3)) (kk : Wk X cells slots P (pc + 3) lv (.int (J off k) :: stk)) : Wk X cells slots P pc lv (.ref (v + off) :: stk) := by
  obtain ⟨p, l, e, R, s, m, args, below, meth, c, A, nL, Q⟩ := X
  intro H locs ls hP hS hl
  subst hsame
  obtain ⟨r, h1, cell, q1, q2, q3, q4⟩ := hRg H hP off _ hly
  have hr : r = (C, T, N) := Option.some.inj (h1.symm.trans hc)
  subst hr
  obtain ⟨hSl, hfc, kC, hkC, hkind⟩ := hC.2.2.2.2.2.1.1 ci _ hc
  obtain ⟨cf, kf, fi, f, hi, hsl⟩ := hSl k hk
  refine va_Wgetf hC.1 hC.2.1 hC.2.2.2.1 (va_Nw.use rfl (hC.2.2.2.2.2.1.2.2.1 _ hq rfl)) hi (u_facts hfc hkC (u_lays hC.2.2.2.2.1 hin hk) hi).1 q1 (by rw [q3]; exact fun h => by cases h) (v := .int (J off k)) ?_ rfl rfl hdg (kk H locs ls hP hS hl)
  rw [hsl, q4 k hk]
  simp only [fV, hrf]
theorem k_getS {o : Nat} {ref C : String} {T : u_T} {N ci index : Nat} {rf : Nat → Option (Option Nat)} (hC : Cx X cc own cl tl D) (hRg : ∀ H, P H → Rg cl D lay v J K Xr H) (off : Nat) (hly : lay off = some (.inr (.inl (ci, rf)))) (hc : cl[ci]? = some (C, T, N)) (hin : ∀ w ∈ u_ws C T N, w ∈ lw_all) (k : Nat) (hk : k < N) (hrf : rf k = some (some o)) (hq : Cond.fieldLink own index ref (T k).2.1 (T k).2.2.1 ∈ lw_all) (hsame : ref = (T k).1) (hdg : decode cc pc = .ok (.getfield index, 3)) (kk : Wk X cells slots P (pc + 3) lv (.ref (v + o) :: stk)) : Wk X cells slots P pc lv (.ref (v + off) :: stk) := by
  obtain ⟨p, l, e, R, s, m, args, below, meth, c, A, nL, Q⟩ := X
  intro H locs ls hP hS hl
  subst hsame
  obtain ⟨r, h1, cell, q1, q2, q3, q4⟩ := hRg H hP off _ hly
  have hr : r = (C, T, N) := Option.some.inj (h1.symm.trans hc)
  subst hr
  obtain ⟨hSl, hfc, kC, hkC, hkind⟩ := hC.2.2.2.2.2.1.1 ci _ hc
  obtain ⟨cf, kf, fi, f, hi, hsl⟩ := hSl k hk
  refine W.getf hC.1 hC.2.1 hC.2.2.2.1 (hC.2.2.2.2.1 _ hq) hi (u_facts hfc hkC (u_lays hC.2.2.2.2.1 hin hk) hi).1 q1 (by rw [q3]; exact fun h => by cases h) (v := .ref (v + o)) ?_ rfl rfl hdg (kk H locs ls hP hS hl)
  rw [hsl, q4 k hk]
  simp only [fV, hrf]
theorem k_getSN {o : Nat} {ref C : String} {T : u_T} {N ci index : Nat} {rf : Nat → Option (Option Nat)} (hC : Cx X cc own cl tl D) (hRg : ∀ H, P H → Rg cl D lay v J K Xr H) (off : Nat) (hly : lay off = some (.inr (.inl (ci, rf)))) (hc : cl[ci]? = some (C, T, N)) (hin : ∀ w ∈ u_ws C T N, w ∈ lw_all) (k : Nat) (hk : k < N) (hrf : rf k = some (some o)) {host : String} (hq : Cond.fieldLinkNest own index ref (T k).2.1 (T k).2.2.1 host ∈ lw_tbl) (hsame : ref = (T k).1) (hdg : decode cc pc = .ok (.getfield index, 3)) (kk : Wk X cells slots P (pc + 3) lv (.ref (v + o) :: stk)) : Wk X cells slots P pc lv (.ref (v + off) :: stk) := by
  obtain ⟨p, l, e, R, s, m, args, below, meth, c, A, nL, Q⟩ := X
  intro H locs ls hP hS hl
  subst hsame
  obtain ⟨r, h1, cell, q1, q2, q3, q4⟩ := hRg H hP off _ hly
  have hr : r = (C, T, N) := Option.some.inj (h1.symm.trans hc)
  subst hr
  obtain ⟨hSl, hfc, kC, hkC, hkind⟩ := hC.2.2.2.2.2.1.1 ci _ hc
  obtain ⟨cf, kf, fi, f, hi, hsl⟩ := hSl k hk
  refine va_Wgetf hC.1 hC.2.1 hC.2.2.2.1 (va_Nw.use rfl (hC.2.2.2.2.2.1.2.2.1 _ hq rfl)) hi (u_facts hfc hkC (u_lays hC.2.2.2.2.1 hin hk) hi).1 q1 (by rw [q3]; exact fun h => by cases h) (v := .ref (v + o)) ?_ rfl rfl hdg (kk H locs ls hP hS hl)
  rw [hsl, q4 k hk]
  simp only [fV, hrf]
theorem k_getR {ref C : String} {T : u_T} {N ci index : Nat} {rf : Nat → Option (Option Nat)} (hC : Cx X cc own cl tl D) (hRg : ∀ H, P H → Rg cl D lay v J K Xr H) (off : Nat) (hly : lay off = some (.inr (.inl (ci, rf)))) (hc : cl[ci]? = some (C, T, N)) (hin : ∀ w ∈ u_ws C T N, w ∈ lw_all) (k : Nat) (hk : k < N) (hrf : rf k = some none) (hq : Cond.fieldLink own index ref (T k).2.1 (T k).2.2.1 ∈ lw_all) (hsame : ref = (T k).1) (hdg : decode cc pc = .ok (.getfield index, 3)) (kk : Wk X cells slots P (pc + 3) lv (va_rf (Xr off k) :: stk)) : Wk X cells slots P pc lv (.ref (v + off) :: stk) := by
  obtain ⟨p, l, e, R, s, m, args, below, meth, c, A, nL, Q⟩ := X
  intro H locs ls hP hS hl
  subst hsame
  obtain ⟨r, h1, cell, q1, q2, q3, q4⟩ := hRg H hP off _ hly
  have hr : r = (C, T, N) := Option.some.inj (h1.symm.trans hc)
  subst hr
  obtain ⟨hSl, hfc, kC, hkC, hkind⟩ := hC.2.2.2.2.2.1.1 ci _ hc
  obtain ⟨cf, kf, fi, f, hi, hsl⟩ := hSl k hk
  refine W.getf hC.1 hC.2.1 hC.2.2.2.1 (hC.2.2.2.2.1 _ hq) hi (u_facts hfc hkC (u_lays hC.2.2.2.2.1 hin hk) hi).1 q1 (by rw [q3]; exact fun h => by cases h) (v := va_rf (Xr off k)) ?_ rfl rfl hdg (kk H locs ls hP hS hl)
  rw [hsl, q4 k hk]
  simp only [fV, hrf]
theorem k_putI {ref C : String} {T : u_T} {N ci index : Nat} {rf : Nat → Option (Option Nat)} (hC : Cx X cc own cl tl D) (hRg : ∀ H, P H → Rg cl D lay v J K Xr H) (off : Nat) (hly : lay off = some (.inr (.inl (ci, rf)))) (hc : cl[ci]? = some (C, T, N)) (hin : ∀ w ∈ u_ws C T N, w ∈ lw_all) (k : Nat) (hk : k < N) (hF : Ft X lay v) (hrf : rf k = none) (tyT : Nat → FieldType) (hty : ∀ k, k < N → parseFieldDescriptor (T k).2.2.1 = some (tyT k)) (hnm : ∀ a, a < N → ∀ b, b < N → a ≠ b → (T a).2.1 ≠ (T b).2.1) (hq : Cond.fieldLink own index ref (T k).2.1 (T k).2.2.1 ∈ lw_all) (hsame : ref = (T k).1) (hfin : (T k).2.2.2 = false) {x : Int32} (hn : narrow (tyT k) (.int x) = .int x) (hfit : fits (tyT k) (.int x) = true) (hdg : decode cc pc = .ok (.putfield index, 3)) (hput : ∀ H H1 : Heap, P H → Rg cl D lay v (uJ J off k x) K Xr H1 → H1.size = H.size → (∀ q, q ≠ v + off → H1[q]? = H[q]?) → sz_ H H1 → P1 H1) (kk : Wk X cells slots P1 (pc + 3) lv stk) : Wk X cells slots P pc lv (.int x :: .ref (v + off) :: stk) := by
  obtain ⟨p, l, e, R, s, m, args, below, meth, c, A, nL, Q⟩ := X
  intro H locs ls hP hS hl
  subst hsame
  obtain ⟨r, h1, cell, q1, q2, q3, q4⟩ := hRg H hP off _ hly
  have hr : r = (C, T, N) := Option.some.inj (h1.symm.trans hc)
  subst hr
  have hts := hC.2.2.2.2.1
  obtain ⟨hSl, hfc, kC, hkC, hkind⟩ := hC.2.2.2.2.2.1.1 ci _ hc
  have hap : ∀ x y, x < N → y < N → x ≠ y → (D.2.1 ci) x ≠ (D.2.1 ci) y := by
    intro x y hx hy hne
    obtain ⟨_, _, _, fa, hia, ea⟩ := hSl x hx
    obtain ⟨_, _, _, fb, hib, eb⟩ := hSl y hy
    rw [← ea, ← eb]
    refine u_apart (u_lays hts hin hx) (u_lays hts hin hy) hia hib ?_
    rw [(State.fieldFound?_type hia (hty x hx)).1, (State.fieldFound?_type hib (hty y hy)).1]
    exact hnm x hx y hy hne
  obtain ⟨cf, kf, fi, f, hi, hsl⟩ := hSl k hk
  have hlay := hts _ (hin _ (u_in_lay hk))
  unfold u_lay at hlay
  rw [if_neg (by rw [hfin]; decide)] at hlay
  have hst := (u_facts hfc hkC (u_lays hts hin hk) hi).1
  have h6 := u_store hfc hkC hkind hlay hi (hty k hk) hn hfit
  refine W.putK hC.1 hC.2.1 (f := f) ⟨hC.2.2.2.1, hts _ hq, ⟨_, _, _, hi⟩, hst⟩ (by rw [q2]; exact h6) q1 q3 (by rw [hsl]; exact k2_hasslot (q4 k hk)) rfl rfl hdg fun H' e1 e2 e3 => ?_
  rw [hsl] at e1 ⊢
  have hg : Rg cl D lay v (uJ J off k x) K Xr H' := by
    refine Rg.put off (hRg H hP) hly ⟨_, hc, t_OB.to (V := updV (fV v J Xr rf off) k (.int x)) ⟨_, e1, q2, q3, t_set q4 hap hk _⟩ (fun j _ => ?_)⟩ ?_ ?_ ?_ e3
    · by_cases hj : j = k
      · subst hj
        simp [updV, fV, hrf, uJ, uR, vf_self]
      · simp [updV, fV, hj, uJ, uR, vf_self, vf_ne]
    all_goals (intro o ho; try simp [uJ, uR, vf_ne _ _ ho])
  exact kk H' _ ls (hput H H' hP hg e2 e3 (sz_.one q1 e1 (sz_slot _ _ _) e3)) (hS.put q1 e1 (sz_slot _ _ _) e2 e3 (hF off _ hly)) hl
theorem k_putIN {ref C : String} {T : u_T} {N ci index : Nat} {rf : Nat → Option (Option Nat)} (hC : Cx X cc own cl tl D) (hRg : ∀ H, P H → Rg cl D lay v J K Xr H) (off : Nat) (hly : lay off = some (.inr (.inl (ci, rf)))) (hc : cl[ci]? = some (C, T, N)) (hin : ∀ w ∈ u_ws C T N, w ∈ lw_all) (k : Nat) (hk : k < N) (hF : Ft X lay v) (hrf : rf k = none) (tyT : Nat → FieldType) (hty : ∀ k, k < N → parseFieldDescriptor (T k).2.2.1 = some (tyT k)) (hnm : ∀ a, a < N → ∀ b, b < N → a ≠ b → (T a).2.1 ≠ (T b).2.1) {host : String} (hq : Cond.fieldLinkNest own index ref (T k).2.1 (T k).2.2.1 host ∈ lw_tbl) (hsame : ref = (T k).1) (hfin : (T k).2.2.2 = false) {x : Int32} (hn : narrow (tyT k) (.int x) = .int x) (hfit : fits (tyT k) (.int x) = true) (hdg : decode cc pc = .ok (.putfield index, 3)) (hput : ∀ H H1 : Heap, P H → Rg cl D lay v (uJ J off k x) K Xr H1 → H1.size = H.size → (∀ q, q ≠ v + off → H1[q]? = H[q]?) → sz_ H H1 → P1 H1) (kk : Wk X cells slots P1 (pc + 3) lv stk) : Wk X cells slots P pc lv (.int x :: .ref (v + off) :: stk) := by
  obtain ⟨p, l, e, R, s, m, args, below, meth, c, A, nL, Q⟩ := X
  intro H locs ls hP hS hl
  subst hsame
  obtain ⟨r, h1, cell, q1, q2, q3, q4⟩ := hRg H hP off _ hly
  have hr : r = (C, T, N) := Option.some.inj (h1.symm.trans hc)
  subst hr
  have hts := hC.2.2.2.2.1
  obtain ⟨hSl, hfc, kC, hkC, hkind⟩ := hC.2.2.2.2.2.1.1 ci _ hc
  have hap : ∀ x y, x < N → y < N → x ≠ y → (D.2.1 ci) x ≠ (D.2.1 ci) y := by
    intro x y hx hy hne
    obtain ⟨_, _, _, fa, hia, ea⟩ := hSl x hx
    obtain ⟨_, _, _, fb, hib, eb⟩ := hSl y hy
    rw [← ea, ← eb]
    refine u_apart (u_lays hts hin hx) (u_lays hts hin hy) hia hib ?_
    rw [(State.fieldFound?_type hia (hty x hx)).1, (State.fieldFound?_type hib (hty y hy)).1]
    exact hnm x hx y hy hne
  obtain ⟨cf, kf, fi, f, hi, hsl⟩ := hSl k hk
  have hlay := hts _ (hin _ (u_in_lay hk))
  unfold u_lay at hlay
  rw [if_neg (by rw [hfin]; decide)] at hlay
  have hst := (u_facts hfc hkC (u_lays hts hin hk) hi).1
  have h6 := u_store hfc hkC hkind hlay hi (hty k hk) hn hfit
  refine va_WputK hC.1 hC.2.1 (f := f) hC.2.2.2.1 (va_Nw.use rfl (hC.2.2.2.2.2.1.2.2.1 _ hq rfl)) hi hst (by rw [q2]; exact h6) q1 q3 (by rw [hsl]; exact k2_hasslot (q4 k hk)) rfl rfl hdg fun H' e1 e2 e3 => ?_
  rw [hsl] at e1 ⊢
  have hg : Rg cl D lay v (uJ J off k x) K Xr H' := by
    refine Rg.put off (hRg H hP) hly ⟨_, hc, t_OB.to (V := updV (fV v J Xr rf off) k (.int x)) ⟨_, e1, q2, q3, t_set q4 hap hk _⟩ (fun j _ => ?_)⟩ ?_ ?_ ?_ e3
    · by_cases hj : j = k
      · subst hj
        simp [updV, fV, hrf, uJ, uR, vf_self]
      · simp [updV, fV, hj, uJ, uR, vf_self, vf_ne]
    all_goals (intro o ho; try simp [uJ, uR, vf_ne _ _ ho])
  exact kk H' _ ls (hput H H' hP hg e2 e3 (sz_.one q1 e1 (sz_slot _ _ _) e3)) (hS.put q1 e1 (sz_slot _ _ _) e2 e3 (hF off _ hly)) hl
theorem k_putR {ref C : String} {T : u_T} {N ci index : Nat} {rf : Nat → Option (Option Nat)} (hC : Cx X cc own cl tl D) (hRg : ∀ H, P H → Rg cl D lay v J K Xr H) (off : Nat) (hly : lay off = some (.inr (.inl (ci, rf)))) (hc : cl[ci]? = some (C, T, N)) (hin : ∀ w ∈ u_ws C T N, w ∈ lw_all) (k : Nat) (hk : k < N) (hF : Ft X lay v) (hrf : rf k = some none) (tyT : Nat → FieldType) (hty : ∀ k, k < N → parseFieldDescriptor (T k).2.2.1 = some (tyT k)) (hnm : ∀ a, a < N → ∀ b, b < N → a ≠ b → (T a).2.1 ≠ (T b).2.1) (hq : Cond.fieldLink own index ref (T k).2.1 (T k).2.2.1 ∈ lw_all) (hsame : ref = (T k).1) (hfin : (T k).2.2.2 = false) {x : Option Nat} (hn : narrow (tyT k) (va_rf x) = va_rf x) (hfit : fits (tyT k) (va_rf x) = true) (hdg : decode cc pc = .ok (.putfield index, 3)) (hput : ∀ H H1 : Heap, P H → Rg cl D lay v J K (uR Xr off k x) H1 → H1.size = H.size → (∀ q, q ≠ v + off → H1[q]? = H[q]?) → sz_ H H1 → P1 H1) (kk : Wk X cells slots P1 (pc + 3) lv stk) : Wk X cells slots P pc lv (va_rf x :: .ref (v + off) :: stk) := by
  obtain ⟨p, l, e, R, s, m, args, below, meth, c, A, nL, Q⟩ := X
  intro H locs ls hP hS hl
  subst hsame
  obtain ⟨r, h1, cell, q1, q2, q3, q4⟩ := hRg H hP off _ hly
  have hr : r = (C, T, N) := Option.some.inj (h1.symm.trans hc)
  subst hr
  have hts := hC.2.2.2.2.1
  obtain ⟨hSl, hfc, kC, hkC, hkind⟩ := hC.2.2.2.2.2.1.1 ci _ hc
  have hap : ∀ x y, x < N → y < N → x ≠ y → (D.2.1 ci) x ≠ (D.2.1 ci) y := by
    intro x y hx hy hne
    obtain ⟨_, _, _, fa, hia, ea⟩ := hSl x hx
    obtain ⟨_, _, _, fb, hib, eb⟩ := hSl y hy
    rw [← ea, ← eb]
    refine u_apart (u_lays hts hin hx) (u_lays hts hin hy) hia hib ?_
    rw [(State.fieldFound?_type hia (hty x hx)).1, (State.fieldFound?_type hib (hty y hy)).1]
    exact hnm x hx y hy hne
  obtain ⟨cf, kf, fi, f, hi, hsl⟩ := hSl k hk
  have hlay := hts _ (hin _ (u_in_lay hk))
  unfold u_lay at hlay
  rw [if_neg (by rw [hfin]; decide)] at hlay
  have hst := (u_facts hfc hkC (u_lays hts hin hk) hi).1
  have h6 := u_store hfc hkC hkind hlay hi (hty k hk) hn hfit
  refine W.putK hC.1 hC.2.1 (f := f) ⟨hC.2.2.2.1, hts _ hq, ⟨_, _, _, hi⟩, hst⟩ (by rw [q2]; exact h6) q1 q3 (by rw [hsl]; exact k2_hasslot (q4 k hk)) rfl rfl hdg fun H' e1 e2 e3 => ?_
  rw [hsl] at e1 ⊢
  have hg : Rg cl D lay v J K (uR Xr off k x) H' := by
    refine Rg.put off (hRg H hP) hly ⟨_, hc, t_OB.to (V := updV (fV v J Xr rf off) k (va_rf x)) ⟨_, e1, q2, q3, t_set q4 hap hk _⟩ (fun j _ => ?_)⟩ ?_ ?_ ?_ e3
    · by_cases hj : j = k
      · subst hj
        simp [updV, fV, hrf, uJ, uR, vf_self]
      · simp [updV, fV, hj, uJ, uR, vf_self, vf_ne]
    all_goals (intro o ho; try simp [uJ, uR, vf_ne _ _ ho])
  exact kk H' _ ls (hput H H' hP hg e2 e3 (sz_.one q1 e1 (sz_slot _ _ _) e3)) (hS.put q1 e1 (sz_slot _ _ _) e2 e3 (hF off _ hly)) hl
theorem k_iald {n : Nat} {i : Int32} {α : Type} {f : Nat → Option α} {out : α} (hC : Cx X cc own cl tl D) (hRg : ∀ H, P H → Rg cl D lay v J K Xr H) (off : Nat) (hly : lay off = some (.inl (.int, n))) (hty : .int ∈ tl) (hdg : decode cc pc = .ok (.iaload, 1)) (hE : (ix i n).bind f = some out) (kk : ∀ q, f q = some out → Wk X cells slots P (pc + 1) lv (.int (J off q) :: stk)) : Wk X cells slots P pc lv (.int i :: .ref (v + off) :: stk) := by
  obtain ⟨q, hi, hE⟩ := ob_ hE
  obtain ⟨hin, rfl⟩ := ix_some hi
  have kk := kk _ hE
  obtain ⟨p, l, e, R, s, m, args, below, meth, c, A, nL, Q⟩ := X
  intro H locs ls hP hS hl
  have hlt : i.toNatClampNeg < n := Nat.not_le.mp fun q => hin (Or.inr q)
  exact W.iald (v := .int (J off i.toNatClampNeg)) hC.1 hC.2.1 (hRg H hP off _ hly) ((hC.2.2.2.2.2.1.2.1 _ hty).1 n _) (fun q => by cases q) (by show ¬ (i < 0 ∨ (arrV _ _ _).slots.size ≤ _); rw [arrV_size]; exact hin) (by show (arrV _ _ _).slots[_]? = _; rw [arrV_read _ _ hlt]; rfl) rfl rfl hdg (kk H locs ls hP hS hl)
theorem k_bald {n : Nat} {i : Int32} {α : Type} {f : Nat → Option α} {out : α} (hC : Cx X cc own cl tl D) (hRg : ∀ H, P H → Rg cl D lay v J K Xr H) (off : Nat) (hly : lay off = some (.inl (.byte, n))) (hty : .byte ∈ tl) (hdg : decode cc pc = .ok (.baload, 1)) (hE : (ix i n).bind f = some out) (kk : ∀ q, f q = some out → Wk X cells slots P (pc + 1) lv (.int (J off q) :: stk)) : Wk X cells slots P pc lv (.int i :: .ref (v + off) :: stk) := by
  obtain ⟨q, hi, hE⟩ := ob_ hE
  obtain ⟨hin, rfl⟩ := ix_some hi
  have kk := kk _ hE
  obtain ⟨p, l, e, R, s, m, args, below, meth, c, A, nL, Q⟩ := X
  intro H locs ls hP hS hl
  have hlt : i.toNatClampNeg < n := Nat.not_le.mp fun q => hin (Or.inr q)
  exact W.bald (v := .int (J off i.toNatClampNeg)) hC.1 hC.2.1 (hRg H hP off _ hly) ((hC.2.2.2.2.2.1.2.1 _ hty).1 n _) (fun q => by cases q) (by show ¬ (i < 0 ∨ (arrV _ _ _).slots.size ≤ _); rw [arrV_size]; exact hin) (by show (arrV _ _ _).slots[_]? = _; rw [arrV_read _ _ hlt]; rfl) rfl rfl hdg (kk H locs ls hP hS hl)
theorem k_zald {n : Nat} {i : Int32} {α : Type} {f : Nat → Option α} {out : α} (hC : Cx X cc own cl tl D) (hRg : ∀ H, P H → Rg cl D lay v J K Xr H) (off : Nat) (hly : lay off = some (.inl (.boolean, n))) (hty : .boolean ∈ tl) (hdg : decode cc pc = .ok (.baload, 1)) (hE : (ix i n).bind f = some out) (kk : ∀ q, f q = some out → Wk X cells slots P (pc + 1) lv (.int (J off q) :: stk)) : Wk X cells slots P pc lv (.int i :: .ref (v + off) :: stk) := by
  obtain ⟨q, hi, hE⟩ := ob_ hE
  obtain ⟨hin, rfl⟩ := ix_some hi
  have kk := kk _ hE
  obtain ⟨p, l, e, R, s, m, args, below, meth, c, A, nL, Q⟩ := X
  intro H locs ls hP hS hl
  have hlt : i.toNatClampNeg < n := Nat.not_le.mp fun q => hin (Or.inr q)
  exact W.zald (v := .int (J off i.toNatClampNeg)) hC.1 hC.2.1 (hRg H hP off _ hly) ((hC.2.2.2.2.2.1.2.1 _ hty).1 n _) (fun q => by cases q) (by show ¬ (i < 0 ∨ (arrV _ _ _).slots.size ≤ _); rw [arrV_size]; exact hin) (by show (arrV _ _ _).slots[_]? = _; rw [arrV_read _ _ hlt]; rfl) rfl rfl hdg (kk H locs ls hP hS hl)
theorem k_sald {n : Nat} {i : Int32} {α : Type} {f : Nat → Option α} {out : α} (hC : Cx X cc own cl tl D) (hRg : ∀ H, P H → Rg cl D lay v J K Xr H) (off : Nat) (hly : lay off = some (.inl (.short, n))) (hty : .short ∈ tl) (hdg : decode cc pc = .ok (.saload, 1)) (hE : (ix i n).bind f = some out) (kk : ∀ q, f q = some out → Wk X cells slots P (pc + 1) lv (.int (J off q) :: stk)) : Wk X cells slots P pc lv (.int i :: .ref (v + off) :: stk) := by
  obtain ⟨q, hi, hE⟩ := ob_ hE
  obtain ⟨hin, rfl⟩ := ix_some hi
  have kk := kk _ hE
  obtain ⟨p, l, e, R, s, m, args, below, meth, c, A, nL, Q⟩ := X
  intro H locs ls hP hS hl
  have hlt : i.toNatClampNeg < n := Nat.not_le.mp fun q => hin (Or.inr q)
  exact W.sald (v := .int (J off i.toNatClampNeg)) hC.1 hC.2.1 (hRg H hP off _ hly) ((hC.2.2.2.2.2.1.2.1 _ hty).1 n _) (fun q => by cases q) (by show ¬ (i < 0 ∨ (arrV _ _ _).slots.size ≤ _); rw [arrV_size]; exact hin) (by show (arrV _ _ _).slots[_]? = _; rw [arrV_read _ _ hlt]; rfl) rfl rfl hdg (kk H locs ls hP hS hl)
theorem k_lald {n : Nat} {i : Int32} {α : Type} {f : Nat → Option α} {out : α} (hC : Cx X cc own cl tl D) (hRg : ∀ H, P H → Rg cl D lay v J K Xr H) (off : Nat) (hly : lay off = some (.inl (.long, n))) (hty : .long ∈ tl) (hdg : decode cc pc = .ok (.laload, 1)) (hE : (ix i n).bind f = some out) (kk : ∀ q, f q = some out → Wk X cells slots P (pc + 1) lv (.long (K off q) :: stk)) : Wk X cells slots P pc lv (.int i :: .ref (v + off) :: stk) := by
  obtain ⟨q, hi, hE⟩ := ob_ hE
  obtain ⟨hin, rfl⟩ := ix_some hi
  have kk := kk _ hE
  obtain ⟨p, l, e, R, s, m, args, below, meth, c, A, nL, Q⟩ := X
  intro H locs ls hP hS hl
  have hlt : i.toNatClampNeg < n := Nat.not_le.mp fun q => hin (Or.inr q)
  exact W.lald (v := .long (K off i.toNatClampNeg)) hC.1 hC.2.1 (hRg H hP off _ hly) ((hC.2.2.2.2.2.1.2.1 _ hty).1 n _) (fun q => by cases q) (by show ¬ (i < 0 ∨ (arrV _ _ _).slots.size ≤ _); rw [arrV_size]; exact hin) (by show (arrV _ _ _).slots[_]? = _; rw [arrV_read _ _ hlt]; rfl) rfl rfl hdg (kk H locs ls hP hS hl)
theorem k_aald {ty : FieldType} {n : Nat} {g : Nat → Nat} {i : Int32} {α : Type} {f : Nat → Option α} {out : α} (hC : Cx X cc own cl tl D) (hRg : ∀ H, P H → Rg cl D lay v J K Xr H) (off : Nat) (hly : lay off = some (.inr (.inr (ty, n, g)))) (hty : ty ∈ tl) (hr : ty.isReference = true) (hdg : decode cc pc = .ok (.aaload, 1)) (hE : (ix i n).bind f = some out) (kk : ∀ q, q < n → f q = some out → Wk X cells slots P (pc + 1) lv (.ref (v + g q) :: stk)) : Wk X cells slots P pc lv (.int i :: .ref (v + off) :: stk) := by
  obtain ⟨q, hi, hE⟩ := ob_ hE
  obtain ⟨hin, rfl⟩ := ix_some hi
  have hlt : i.toNatClampNeg < n := Nat.not_le.mp fun q => hin (Or.inr q)
  have kk := kk _ hlt hE
  obtain ⟨p, l, e, R, s, m, args, below, meth, c, A, nL, Q⟩ := X
  intro H locs ls hP hS hl
  exact W.aald (v := .ref (v + g i.toNatClampNeg)) (ty := ty) hC.1 hC.2.1 (hRg H hP off _ hly) ((hC.2.2.2.2.2.1.2.1 _ hty).1 n _) hr (fun q => by cases q) (by show ¬ (i < 0 ∨ (arrV _ _ _).slots.size ≤ _); rw [arrV_size]; exact hin) (by show (arrV _ _ _).slots[_]? = _; rw [arrV_read _ _ hlt]) rfl rfl hdg (kk H locs ls hP hS hl)
theorem k_iast {n : Nat} {i x : Int32} {α : Type} {f : Nat → Option α} {out : α} {P1 : Nat → Heap → Prop} (hC : Cx X cc own cl tl D) (hRg : ∀ H, P H → Rg cl D lay v J K Xr H) (off : Nat) (hF : Ft X lay v) (hly : lay off = some (.inl (.int, n))) (hty : .int ∈ tl) (hdg : decode cc pc = .ok (.iastore, 1)) (hE : (ix i n).bind f = some out) (hput : ∀ (q : Nat) (H H1 : Heap), P H → Rg cl D lay v (uJ J off q x) K Xr H1 → H1.size = H.size → (∀ q, q ≠ v + off → H1[q]? = H[q]?) → sz_ H H1 → P1 q H1) (kk : ∀ q, f q = some out → Wk X cells slots (P1 q) (pc + 1) lv stk) : Wk X cells slots P pc lv (.int x :: .int i :: .ref (v + off) :: stk) := by
  obtain ⟨q, hi, hE⟩ := ob_ hE
  obtain ⟨hin, rfl⟩ := ix_some hi
  have kk := kk _ hE
  obtain ⟨p, l, e, R, s, m, args, below, meth, c, A, nL, Q⟩ := X
  intro H locs ls hP hS hl
  refine W.iast hC.1 hC.2.1 (hRg H hP off _ hly) ((hC.2.2.2.2.2.1.2.1 _ hty).1 n _) (fun q => by cases q) (by show ¬ (i < 0 ∨ (arrV _ _ _).slots.size ≤ _); rw [arrV_size]; exact hin) rfl rfl hdg fun H1 e1 z oq => ?_
  have hg : Rg cl D lay v (uJ J off i.toNatClampNeg x) K Xr H1 := by
    refine Rg.put off (hRg H hP) hly ?_ ?_ ?_ ?_ oq
    · show H1[v + off]? = some (arrV _ _ _)
      rw [e1, arrV_store]
      congr 2
      funext j
      by_cases hj : j = i.toNatClampNeg
      · subst hj
        simp [updV, aV, uJ, vf_self, narrow]
      · simp [updV, aV, hj, uJ, vf_self, vf_ne]
    all_goals (intro o ho; try simp [uJ, vf_ne _ _ ho])
  exact kk H1 _ ls (hput _ H H1 hP hg z oq (sz_.one (hRg H hP off _ hly) e1 (sz_slot _ _ _) oq)) (hS.put (hRg H hP off _ hly) e1 (sz_slot _ _ _) z oq (hF off _ hly)) hl
theorem k_bast {n : Nat} {i x : Int32} {α : Type} {f : Nat → Option α} {out : α} {P1 : Nat → Heap → Prop} (hC : Cx X cc own cl tl D) (hRg : ∀ H, P H → Rg cl D lay v J K Xr H) (off : Nat) (hF : Ft X lay v) (hly : lay off = some (.inl (.byte, n))) (hty : .byte ∈ tl) (hdg : decode cc pc = .ok (.bastore, 1)) (hE : (ix i n).bind f = some out) (hput : ∀ (q : Nat) (H H1 : Heap), P H → Rg cl D lay v (uJ J off q x.toInt8.toInt32) K Xr H1 → H1.size = H.size → (∀ q, q ≠ v + off → H1[q]? = H[q]?) → sz_ H H1 → P1 q H1) (kk : ∀ q, f q = some out → Wk X cells slots (P1 q) (pc + 1) lv stk) : Wk X cells slots P pc lv (.int x :: .int i :: .ref (v + off) :: stk) := by
  obtain ⟨q, hi, hE⟩ := ob_ hE
  obtain ⟨hin, rfl⟩ := ix_some hi
  have kk := kk _ hE
  obtain ⟨p, l, e, R, s, m, args, below, meth, c, A, nL, Q⟩ := X
  intro H locs ls hP hS hl
  refine W.bast hC.1 hC.2.1 (hRg H hP off _ hly) ((hC.2.2.2.2.2.1.2.1 _ hty).1 n _) (fun q => by cases q) (by show ¬ (i < 0 ∨ (arrV _ _ _).slots.size ≤ _); rw [arrV_size]; exact hin) rfl rfl hdg fun H1 e1 z oq => ?_
  have hg : Rg cl D lay v (uJ J off i.toNatClampNeg x.toInt8.toInt32) K Xr H1 := by
    refine Rg.put off (hRg H hP) hly ?_ ?_ ?_ ?_ oq
    · show H1[v + off]? = some (arrV _ _ _)
      rw [e1, arrV_store]
      congr 2
      funext j
      by_cases hj : j = i.toNatClampNeg
      · subst hj
        simp [updV, aV, uJ, vf_self, narrow]
      · simp [updV, aV, hj, uJ, vf_self, vf_ne]
    all_goals (intro o ho; try simp [uJ, vf_ne _ _ ho])
  exact kk H1 _ ls (hput _ H H1 hP hg z oq (sz_.one (hRg H hP off _ hly) e1 (sz_slot _ _ _) oq)) (hS.put (hRg H hP off _ hly) e1 (sz_slot _ _ _) z oq (hF off _ hly)) hl
theorem k_zast {n : Nat} {i x : Int32} {α : Type} {f : Nat → Option α} {out : α} {P1 : Nat → Heap → Prop} (hC : Cx X cc own cl tl D) (hRg : ∀ H, P H → Rg cl D lay v J K Xr H) (off : Nat) (hF : Ft X lay v) (hly : lay off = some (.inl (.boolean, n))) (hty : .boolean ∈ tl) (hdg : decode cc pc = .ok (.bastore, 1)) (hE : (ix i n).bind f = some out) (hput : ∀ (q : Nat) (H H1 : Heap), P H → Rg cl D lay v (uJ J off q (x &&& 1)) K Xr H1 → H1.size = H.size → (∀ q, q ≠ v + off → H1[q]? = H[q]?) → sz_ H H1 → P1 q H1) (kk : ∀ q, f q = some out → Wk X cells slots (P1 q) (pc + 1) lv stk) : Wk X cells slots P pc lv (.int x :: .int i :: .ref (v + off) :: stk) := by
  obtain ⟨q, hi, hE⟩ := ob_ hE
  obtain ⟨hin, rfl⟩ := ix_some hi
  have kk := kk _ hE
  obtain ⟨p, l, e, R, s, m, args, below, meth, c, A, nL, Q⟩ := X
  intro H locs ls hP hS hl
  refine W.zast hC.1 hC.2.1 (hRg H hP off _ hly) ((hC.2.2.2.2.2.1.2.1 _ hty).1 n _) (fun q => by cases q) (by show ¬ (i < 0 ∨ (arrV _ _ _).slots.size ≤ _); rw [arrV_size]; exact hin) rfl rfl hdg fun H1 e1 z oq => ?_
  have hg : Rg cl D lay v (uJ J off i.toNatClampNeg (x &&& 1)) K Xr H1 := by
    refine Rg.put off (hRg H hP) hly ?_ ?_ ?_ ?_ oq
    · show H1[v + off]? = some (arrV _ _ _)
      rw [e1, arrV_store]
      congr 2
      funext j
      by_cases hj : j = i.toNatClampNeg
      · subst hj
        simp [updV, aV, uJ, vf_self, narrow]
      · simp [updV, aV, hj, uJ, vf_self, vf_ne]
    all_goals (intro o ho; try simp [uJ, vf_ne _ _ ho])
  exact kk H1 _ ls (hput _ H H1 hP hg z oq (sz_.one (hRg H hP off _ hly) e1 (sz_slot _ _ _) oq)) (hS.put (hRg H hP off _ hly) e1 (sz_slot _ _ _) z oq (hF off _ hly)) hl
theorem k_sast {n : Nat} {i x : Int32} {α : Type} {f : Nat → Option α} {out : α} {P1 : Nat → Heap → Prop} (hC : Cx X cc own cl tl D) (hRg : ∀ H, P H → Rg cl D lay v J K Xr H) (off : Nat) (hF : Ft X lay v) (hly : lay off = some (.inl (.short, n))) (hty : .short ∈ tl) (hdg : decode cc pc = .ok (.sastore, 1)) (hE : (ix i n).bind f = some out) (hput : ∀ (q : Nat) (H H1 : Heap), P H → Rg cl D lay v (uJ J off q x.toInt16.toInt32) K Xr H1 → H1.size = H.size → (∀ q, q ≠ v + off → H1[q]? = H[q]?) → sz_ H H1 → P1 q H1) (kk : ∀ q, f q = some out → Wk X cells slots (P1 q) (pc + 1) lv stk) : Wk X cells slots P pc lv (.int x :: .int i :: .ref (v + off) :: stk) := by
  obtain ⟨q, hi, hE⟩ := ob_ hE
  obtain ⟨hin, rfl⟩ := ix_some hi
  have kk := kk _ hE
  obtain ⟨p, l, e, R, s, m, args, below, meth, c, A, nL, Q⟩ := X
  intro H locs ls hP hS hl
  refine W.sast hC.1 hC.2.1 (hRg H hP off _ hly) ((hC.2.2.2.2.2.1.2.1 _ hty).1 n _) (fun q => by cases q) (by show ¬ (i < 0 ∨ (arrV _ _ _).slots.size ≤ _); rw [arrV_size]; exact hin) rfl rfl hdg fun H1 e1 z oq => ?_
  have hg : Rg cl D lay v (uJ J off i.toNatClampNeg x.toInt16.toInt32) K Xr H1 := by
    refine Rg.put off (hRg H hP) hly ?_ ?_ ?_ ?_ oq
    · show H1[v + off]? = some (arrV _ _ _)
      rw [e1, arrV_store]
      congr 2
      funext j
      by_cases hj : j = i.toNatClampNeg
      · subst hj
        simp [updV, aV, uJ, vf_self, narrow]
      · simp [updV, aV, hj, uJ, vf_self, vf_ne]
    all_goals (intro o ho; try simp [uJ, vf_ne _ _ ho])
  exact kk H1 _ ls (hput _ H H1 hP hg z oq (sz_.one (hRg H hP off _ hly) e1 (sz_slot _ _ _) oq)) (hS.put (hRg H hP off _ hly) e1 (sz_slot _ _ _) z oq (hF off _ hly)) hl
theorem k_last {n : Nat} {i : Int32} {x : Int64} {α : Type} {f : Nat → Option α} {out : α} {P1 : Nat → Heap → Prop} (hC : Cx X cc own cl tl D) (hRg : ∀ H, P H → Rg cl D lay v J K Xr H) (off : Nat) (hF : Ft X lay v) (hly : lay off = some (.inl (.long, n))) (hty : .long ∈ tl) (hdg : decode cc pc = .ok (.lastore, 1)) (hE : (ix i n).bind f = some out) (hput : ∀ (q : Nat) (H H1 : Heap), P H → Rg cl D lay v J (uL K off q x) Xr H1 → H1.size = H.size → (∀ q, q ≠ v + off → H1[q]? = H[q]?) → sz_ H H1 → P1 q H1) (kk : ∀ q, f q = some out → Wk X cells slots (P1 q) (pc + 1) lv stk) : Wk X cells slots P pc lv (.long x :: .int i :: .ref (v + off) :: stk) := by
  obtain ⟨q, hi, hE⟩ := ob_ hE
  obtain ⟨hin, rfl⟩ := ix_some hi
  have kk := kk _ hE
  obtain ⟨p, l, e, R, s, m, args, below, meth, c, A, nL, Q⟩ := X
  intro H locs ls hP hS hl
  refine W.last hC.1 hC.2.1 (hRg H hP off _ hly) ((hC.2.2.2.2.2.1.2.1 _ hty).1 n _) (fun q => by cases q) (by show ¬ (i < 0 ∨ (arrV _ _ _).slots.size ≤ _); rw [arrV_size]; exact hin) rfl rfl hdg fun H1 e1 z oq => ?_
  have hg : Rg cl D lay v J (uL K off i.toNatClampNeg x) Xr H1 := by
    refine Rg.put off (hRg H hP) hly ?_ ?_ ?_ ?_ oq
    · show H1[v + off]? = some (arrV _ _ _)
      rw [e1, arrV_store]
      congr 2
      funext j
      by_cases hj : j = i.toNatClampNeg
      · subst hj
        simp [updV, aV, uL, vf_self]
      · simp [updV, aV, hj, uL, vf_self, vf_ne]
    all_goals (intro o ho; try simp [uL, vf_ne _ _ ho])
  exact kk H1 _ ls (hput _ H H1 hP hg z oq (sz_.one (hRg H hP off _ hly) e1 (sz_slot _ _ _) oq)) (hS.put (hRg H hP off _ hly) e1 (sz_slot _ _ _) z oq (hF off _ hly)) hl
theorem va_fb {As : List Value} {P : Heap → Prop} {cl : List vw_C} {tl : List FieldType} {D : Dd} {A : Nat → Prop} : FrameBlind (va_Pc As (fun U => P U.heap ∧ KK cl tl D U ∧ ∀ q, U.heap.size ≤ q → A q)) := by
  intro a U g mk q
  obtain ⟨q0, qP, qK, qA⟩ := q
  exact ⟨q0, qP, KK.same (u := U) (U := U.calling g mk a) rfl qK, qA⟩
theorem k_callV {C : String} {y : MethodName} {bytes : ByteArray} {maxL mc ms n index : Nat} {ret : Option FieldType} {ws : List Cond} {rm : Room} {A1 : Nat → Prop} {As : List Value} {b : Nat} {Pc P' : Heap → Prop} {o : Option Value} (hC : Cx X cc own cl tl D) (hM : Ct X.2.1 y ws rm cl tl D A1 (.ref b :: As) Pc P' o mc ms) (cw : CallW X.2.2.2.1 X.2.2.2.2.1 X.2.2.2.2.2.2.1 own C index y bytes maxL ret ws rm mc ms n) (hrecv : ∀ H, P H → ∃ cellB : Cell, H[b]? = some cellB ∧ cellB.vm.isStatics = false ∧ X.2.2.2.2.1.vm.findClass C = some cellB.cls) (hA1 : ∀ H : Heap, P H → X.2.2.2.2.1.heap.size ≤ H.size → ∀ q, A1 q → X.2.2.2.2.2.2.2.2.2.2.1 q) (hA2 : ∀ H : Heap, P H → X.2.2.2.2.1.heap.size ≤ H.size → ∀ q, H.size ≤ q → A1 q) (hpre : ∀ H, P H → Pc H) (hpost : ∀ H H1, P H → P' H1 → H.size ≤ H1.size → (∀ q : Nat, q < H.size → ¬ A1 q → H1[q]? = H[q]?) → sz_ H H1 → P1 H1) (hn : As.length = n) {stk0 : List Value} (hst : stk0 = As.reverse ++ .ref b :: stk) (hw : (stk.map fun v => v.category).sum ≤ 8) (hf : cells + mc ≤ X.2.2.2.1.cells ∧ slots + ms ≤ X.2.2.2.1.slots) (hdg : decode cc pc = .ok (.invokevirtual index, 3)) (kk : Wk X (cells + mc) (slots + ms) P1 (pc + 3) lv (o.toList ++ stk)) : Wk X cells slots P pc lv stk0 := by
  subst hst
  obtain ⟨p, l, e, R, s, m, args, below, meth, c, A, nL, Q⟩ := X
  intro H locs ls hP hS hl
  have hr := va_runV (rest := stk) (H := H) (locs := locs) (cells := cells) (slots := slots) (l := l) (e := e) (below := below) (meth := meth) (g := F0 m pc ls (As.reverse ++ .ref b :: stk)) ⟨hC.1, hC.2.1, hC.2.2.1, hC.2.2.2.1, hC.2.2.2.2.1⟩ hM cw ⟨va_fb, hrecv H hP, fun U hU hW => ⟨rfl, by rw [hU]; exact hpre H hP, KK.warm hW hC.2.2.2.2.2.1, by rw [hU]; exact hA2 H hP hS.1.1⟩⟩ rfl hn hl.1 rfl (lv_room hw) hdg hf
  intro T hT Z
  obtain ⟨v, st₀, t, T', L, h0, X', hL, e1, e2, ⟨hv, hp, ⟨hz, hk⟩, hzs⟩, st⟩ := hr T hT Z
  cases hv
  rw [h0] at hz hk hzs
  rw [← e1] at hz hk hp hzs
  obtain ⟨t2, a1, b1⟩ := kk T'.heap (locs ++ L) ls (hpost H _ hP hp hz hk hzs) ⟨⟨Nat.le_trans hS.1.1 hz, fun q h1 h2 => (hk q (Nat.lt_of_lt_of_le h1 hS.1.1) (fun z => h2 (hA1 H hP hS.1.1 q z))).trans (hS.1.2.1 q h1 h2), fun q hq => by
      rcases List.mem_append.mp hq with h | h
      · exact hS.1.2.2 q h
      · exact hA1 H hP hS.1.1 _ (hL q h)⟩, hS.2.trans hzs⟩ hl T' rfl X'
  exact ⟨t2, st t2 a1, b1⟩
theorem k_callS {C : String} {y : MethodName} {bytes : ByteArray} {maxL mc ms n index : Nat} {ret : Option FieldType} {ws : List Cond} {rm : Room} {A1 : Nat → Prop} {As : List Value} {b : Nat} {Pc P' : Heap → Prop} {o : Option Value} (hC : Cx X cc own cl tl D) (hM : Ct X.2.1 y ws rm cl tl D A1 As Pc P' o mc ms) (cw : CallB X.2.2.2.1 X.2.2.2.2.1 X.2.2.2.2.2.2.1 own index y bytes maxL ret ws rm mc ms n ∧ (Cond.static y).before X.2.2.2.2.2.2.1 X.2.2.2.2.1 = true) (hA1 : ∀ H : Heap, P H → X.2.2.2.2.1.heap.size ≤ H.size → ∀ q, A1 q → X.2.2.2.2.2.2.2.2.2.2.1 q) (hA2 : ∀ H : Heap, P H → X.2.2.2.2.1.heap.size ≤ H.size → ∀ q, H.size ≤ q → A1 q) (hpre : ∀ H, P H → Pc H) (hpost : ∀ H H1, P H → P' H1 → H.size ≤ H1.size → (∀ q : Nat, q < H.size → ¬ A1 q → H1[q]? = H[q]?) → sz_ H H1 → P1 H1) (hn : As.length = n) {stk0 : List Value} (hst : stk0 = As.reverse ++ stk) (hw : (stk.map fun v => v.category).sum ≤ 8) (hf : cells + mc ≤ X.2.2.2.1.cells ∧ slots + ms ≤ X.2.2.2.1.slots) (hdg : decode cc pc = .ok (.invokestatic index, 3)) (kk : Wk X (cells + mc) (slots + ms) P1 (pc + 3) lv (o.toList ++ stk)) : Wk X cells slots P pc lv stk0 := by
  subst hst
  obtain ⟨p, l, e, R, s, m, args, below, meth, c, A, nL, Q⟩ := X
  intro H locs ls hP hS hl
  have hr := va_runS (rest := stk) (H := H) (locs := locs) (cells := cells) (slots := slots) (l := l) (e := e) (below := below) (meth := meth) (g := F0 m pc ls (As.reverse ++ stk)) ⟨hC.1, hC.2.1, hC.2.2.1, hC.2.2.2.1, hC.2.2.2.2.1⟩ hM cw ⟨va_fb, fun U hU hW => ⟨rfl, by rw [hU]; exact hpre H hP, KK.warm hW hC.2.2.2.2.2.1, by rw [hU]; exact hA2 H hP hS.1.1⟩⟩ rfl hn hl.1 rfl (lv_room hw) hdg hf
  intro T hT Z
  obtain ⟨v, st₀, t, T', L, h0, X', hL, e1, e2, ⟨hv, hp, ⟨hz, hk⟩, hzs⟩, st⟩ := hr T hT Z
  cases hv
  rw [h0] at hz hk hzs
  rw [← e1] at hz hk hp hzs
  obtain ⟨t2, a1, b1⟩ := kk T'.heap (locs ++ L) ls (hpost H _ hP hp hz hk hzs) ⟨⟨Nat.le_trans hS.1.1 hz, fun q h1 h2 => (hk q (Nat.lt_of_lt_of_le h1 hS.1.1) (fun z => h2 (hA1 H hP hS.1.1 q z))).trans (hS.1.2.1 q h1 h2), fun q hq => by
      rcases List.mem_append.mp hq with h | h
      · exact hS.1.2.2 q h
      · exact hA1 H hP hS.1.1 _ (hL q h)⟩, hS.2.trans hzs⟩ hl T' rfl X'
  exact ⟨t2, st t2 a1, b1⟩
theorem k_callI {C : String} {y : MethodName} {bytes : ByteArray} {maxL mc ms n index : Nat} {ret : Option FieldType} {ws : List Cond} {rm : Room} {A1 : Nat → Prop} {As : List Value} {b : Nat} {Pc P' : Heap → Prop} {o : Option Value} (hC : Cx X cc own cl tl D) (hM : Ct X.2.1 y ws rm cl tl D A1 (.ref b :: As) Pc P' o mc ms) (cw : CallB X.2.2.2.1 X.2.2.2.2.1 X.2.2.2.2.2.2.1 own index y bytes maxL none ws rm mc ms n ∧ y.name = "<init>" ∧ (Cond.instanceMethod y).before X.2.2.2.2.2.2.1 X.2.2.2.2.1 = true) (hA1 : ∀ H : Heap, P H → X.2.2.2.2.1.heap.size ≤ H.size → ∀ q, A1 q → X.2.2.2.2.2.2.2.2.2.2.1 q) (hA2 : ∀ H : Heap, P H → X.2.2.2.2.1.heap.size ≤ H.size → ∀ q, H.size ≤ q → A1 q) (hpre : ∀ H, P H → Pc H) (hpost : ∀ H H1, P H → P' H1 → H.size ≤ H1.size → (∀ q : Nat, q < H.size → ¬ A1 q → H1[q]? = H[q]?) → sz_ H H1 → P1 H1) (hn : As.length = n) {stk0 : List Value} (hst : stk0 = As.reverse ++ .ref b :: stk) (hw : (stk.map fun v => v.category).sum ≤ 8) (hf : cells + mc ≤ X.2.2.2.1.cells ∧ slots + ms ≤ X.2.2.2.1.slots) (hdg : decode cc pc = .ok (.invokespecial index, 3)) (kk : Wk X (cells + mc) (slots + ms) P1 (pc + 3) lv (o.toList ++ stk)) : Wk X cells slots P pc lv stk0 := by
  subst hst
  obtain ⟨p, l, e, R, s, m, args, below, meth, c, A, nL, Q⟩ := X
  intro H locs ls hP hS hl
  have hr := va_runI (rest := stk) (H := H) (locs := locs) (cells := cells) (slots := slots) (l := l) (e := e) (below := below) (meth := meth) (g := F0 m pc ls (As.reverse ++ .ref b :: stk)) ⟨hC.1, hC.2.1, hC.2.2.1, hC.2.2.2.1, hC.2.2.2.2.1⟩ hM cw ⟨va_fb, fun U hU hW => ⟨rfl, by rw [hU]; exact hpre H hP, KK.warm hW hC.2.2.2.2.2.1, by rw [hU]; exact hA2 H hP hS.1.1⟩⟩ rfl hn hl.1 rfl (lv_room hw) hdg hf
  intro T hT Z
  obtain ⟨v, st₀, t, T', L, h0, X', hL, e1, e2, ⟨hv, hp, ⟨hz, hk⟩, hzs⟩, st⟩ := hr T hT Z
  cases hv
  rw [h0] at hz hk hzs
  rw [← e1] at hz hk hp hzs
  obtain ⟨t2, a1, b1⟩ := kk T'.heap (locs ++ L) ls (hpost H _ hP hp hz hk hzs) ⟨⟨Nat.le_trans hS.1.1 hz, fun q h1 h2 => (hk q (Nat.lt_of_lt_of_le h1 hS.1.1) (fun z => h2 (hA1 H hP hS.1.1 q z))).trans (hS.1.2.1 q h1 h2), fun q hq => by
      rcases List.mem_append.mp hq with h | h
      · exact hS.1.2.2 q h
      · exact hA1 H hP hS.1.1 _ (hL q h)⟩, hS.2.trans hzs⟩ hl T' rfl X'
  exact ⟨t2, st t2 a1, b1⟩
theorem Rg.recv {s : State} {H : Heap} {C : String} {T : u_T} {N ci : Nat} {rf : Nat → Option (Option Nat)} (hK : KK cl tl D s) (h : Rg cl D lay v J K Xr H) (off : Nat) (hly : lay off = some (.inr (.inl (ci, rf)))) (hc : cl[ci]? = some (C, T, N)) : ∃ cell : Cell, H[v + off]? = some cell ∧ cell.vm.isStatics = false ∧ s.vm.findClass C = some cell.cls := by
  obtain ⟨r, h1, cell, q1, q2, q3, q4⟩ := h off _ hly
  exact ⟨cell, q1, by rw [q3]; rfl, by rw [q2]; exact (hK.1 ci _ hc).2.1⟩
end RG
