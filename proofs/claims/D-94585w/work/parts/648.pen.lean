/-! PURE LAW 38: the end of what is told by a name -/
set_option maxRecDepth 100000
/-- where the model counts what has names -/
def co_ (s : Nat) : Nat := if s = 0 then 11 else if s = 1 then 17 else if s = 2 then 19 else 29
theorem rw_i {x s : Nat} (hx : x < 4) (hs : s < 4) : rw_ x = rw_ s ↔ x = s := by
  unfold rw_
  by_cases c : x = 0
  · by_cases d : s = 0
    · rw [if_pos c, if_pos d]; exact ⟨fun _ => by omega, fun _ => rfl⟩
    · rw [if_pos c, if_neg d]; exact ⟨fun hh => by omega, fun hh => by omega⟩
  · by_cases d : s = 0
    · rw [if_neg c, if_pos d]; exact ⟨fun hh => by omega, fun hh => by omega⟩
    · rw [if_neg c, if_neg d]; exact ⟨fun hh => by omega, fun hh => by omega⟩
/-- one more of the row j -/
def inc_ (Y : Xt) (j : Nat) : Nat → Nat := fun q => if q = j then Y.1 j + 1 else Y.1 q
section EN
variable {n0 g txa nk : Nat} {nl nb nc Nn : Nat} {J J4 : Ji} {K : Jl} {T T4 T5 : Th} {Y Y1 : Xt} {b ar : Nat → Nat} {e : Nat → Nat → Nat} {sg id_ : Nat → Nat} {nm : Nat → Nat → List Int32} {s t x : Nat} {L : List Int32}
/-- the names, in the component's heap, with the new one -/
theorem en_nm (hs : s < 4) (hY : Y1.1 = inc_ Y (rw_ s)) (h4 : BdH n0 T4 txa nk Y b ar e nl) (h5 : NmT T4 Y e nm) (hx : T4.1 x = some (.inl (kd_ (rw_ s)))) (hxt : T4.2.2.1 x 0 = some t) (ht : StT T4 t L) (hL : L.length ≤ 8) (c3 : SmK kA T4 T5) : NmT T5 Y1 (fun q i => if q = rw_ s ∧ i = Y.1 (rw_ s) then x else e q i) (fun y i => if y = s ∧ i = Y.1 (rw_ s) then L else nm y i) := fun y i hy hi => by
  have hnm5 : NmT T5 Y e nm := h5.sm h4 c3
  have hx5 : At_ T4 T5 x := c3 _ _ hx (kd_E _).a
  have hi2 : i < if rw_ y = rw_ s then Y.1 (rw_ s) + 1 else Y.1 (rw_ y) := by rw [hY] at hi; exact hi
  show (if y = s ∧ i = Y.1 (rw_ s) then L else nm y i).length ≤ 8 ∧ ∃ t, T5.2.2.1 (if rw_ y = rw_ s ∧ i = Y.1 (rw_ s) then x else e (rw_ y) i) 0 = some t ∧ StT T5 t (if y = s ∧ i = Y.1 (rw_ s) then L else nm y i)
  by_cases c : y = s ∧ i = Y.1 (rw_ s)
  · rw [if_pos c, if_pos ⟨(rw_i hy hs).2 c.1, c.2⟩]
    exact ⟨hL, t, by rw [hx5.2.2]; exact hxt, ht.sm c3⟩
  · rw [if_neg c, if_neg (fun hh => c ⟨(rw_i hy hs).1 hh.1, hh.2⟩)]
    have hi3 : i < Y.1 (rw_ y) := by
      by_cases c2 : rw_ y = rw_ s
      · rw [if_pos c2] at hi2
        have : i ≠ Y.1 (rw_ s) := fun hh => c ⟨(rw_i hy hs).1 c2, hh⟩
        rw [c2]
        omega
      · rw [if_neg c2] at hi2; exact hi2
    exact hnm5 y i hy hi3
/-- the model's end: the name noted, one more counted -/
theorem en_mo (hs : s < 4) (hY : Y1.1 = inc_ Y (rw_ s)) {a : Nat} (ha : a < 403) (hg : g < 2) (h19 : J4 0 19 = iN g) (hc : J4 (co_ s) g = iN (Y.1 (rw_ s))) (h6 : NtM J4 K Nn sg id_ nm (fun s => Y.1 (rw_ s))) (hN : Nn < 26) (h5 : allL L) (h8 : L.length ≤ 8) (hk : K 6 a = c27 L) : ∃ J6 K1, (ldI J4 (co_ s) 2 (J4 0 19) fun x3 => (M_notes (iN a) (iN s) x3 J4 K).bind fun r4 => ldI r4.1 (co_ s) 2 (r4.1 0 19) fun x5 => stI r4.1 (co_ s) 2 (r4.1 0 19) (x5 + 1) fun J6 => some (J6, r4.2)) = some (J6, K1) ∧ NtM J6 K1 (Nn + 1) (fun q => if q = Nn then s else sg q) (fun q => if q = Nn then Y.1 (rw_ s) else id_ q) (fun y i => if y = s ∧ i = Y.1 (rw_ s) then L else nm y i) (fun s => Y1.1 (rw_ s)) ∧ (∀ o, o ≠ 8 → K1 o = K o) ∧ (∀ p, p ≠ 0 → p ≠ 9 → p ≠ 10 → p ≠ co_ s → J6 p = J4 p) ∧ (∀ i, i ≠ 20 → J6 0 i = J4 0 i) ∧ J6 (co_ s) g = iN (Y.1 (rw_ s) + 1) ∧ FrJ g J4 J6 := by
  have hco : co_ s = 11 ∨ co_ s = 17 ∨ co_ s = 19 ∨ co_ s = 29 := by
    unfold co_
    by_cases c0 : s = 0
    · rw [if_pos c0]; omega
    rw [if_neg c0]
    by_cases c1 : s = 1
    · rw [if_pos c1]; omega
    rw [if_neg c1]
    by_cases c2 : s = 2
    · rw [if_pos c2]; omega
    · rw [if_neg c2]; omega
  generalize co_ s = z at *
  obtain ⟨K1, m1, m2, m3⟩ := m_notes h6 (a := a) (s := s) ha hs hN h5 h8 hk
  obtain ⟨J5, hJ5⟩ : ∃ J5, J5 = uJ (uJ (uJ J4 9 Nn (iN s)) 10 Nn (iN (Y.1 (rw_ s)))) 0 20 (iN (Nn + 1)) := ⟨_, rfl⟩
  have m1' : M_notes (iN a) (iN s) (iN (Y.1 (rw_ s))) J4 K = some (J5, K1) := by rw [hJ5]; exact m1
  have w19 : J5 0 19 = iN g := by rw [hJ5, uJ_sn (by omega), uJ_o (by omega), uJ_o (by omega)]; exact h19
  have w11 : J5 z g = iN (Y.1 (rw_ s)) := by rw [hJ5, uJ_o (by omega), uJ_o (by omega), uJ_o (by omega)]; exact hc
  have e1 : iN (Y.1 (rw_ s)) + 1 = iN (Y.1 (rw_ s) + 1) := by rw [i_1, iN_add]
  refine ⟨uJ J5 z g (iN (Y.1 (rw_ s) + 1)), K1, ?_, ?_, m2, fun p p0 p9 p10 p11 => ?_, fun i hi => ?_, uJ_ss, ?_⟩
  · rw [h19, ldI_n (by omega) (by omega), hc, m1', Option.bind_some]
    show (ldI J5 z 2 (J5 0 19) fun x5 => stI J5 z 2 (J5 0 19) (x5 + 1) fun J6 => some (J6, K1)) = _
    rw [w19, ldI_n (by omega) (by omega), w11, e1, stI_n (by omega) (by omega)]
  · have hn := m3 (uJ J5 z g (iN (Y.1 (rw_ s) + 1))) (by rw [uJ_o (by omega), hJ5, uJ_o (by omega), uJ_o (by omega)]) (by
      rw [uJ_o (by omega), hJ5, uJ_o (by omega)]
      funext i
      rw [uJ_ap]
      by_cases c : 10 = 10 ∧ i = Nn
      · rw [if_pos c, uJ_ap, if_pos c]
      · rw [if_neg c, uJ_ap, if_neg (by omega), uJ_ap, if_neg c]) (by rw [uJ_o (by omega), hJ5, uJ_ss])
    refine hn.cg (fun y hy => ?_)
    rw [hY]
    show (if rw_ y = rw_ s then Y.1 (rw_ s) + 1 else Y.1 (rw_ y)) = if y = s then Y.1 (rw_ s) + 1 else Y.1 (rw_ y)
    by_cases c : y = s
    · rw [if_pos c, if_pos ((rw_i hy hs).2 c)]
    · rw [if_neg c, if_neg (fun hh => c ((rw_i hy hs).1 hh))]
  · rw [uJ_o p11, hJ5, uJ_o p0, uJ_o p10, uJ_o p9]
  · rw [uJ_o (by omega), hJ5, uJ_sn hi, uJ_o (by omega), uJ_o (by omega)]
  · rw [hJ5]
    exact (FrJ.u (by simp [wr_])).tr ((FrJ.u (by simp [wr_])).tr ((FrJ.u (by simp [wr_])).tr (FrJ.u (by rcases hco with c | c | c | c <;> subst c <;> simp [wr_, lv_]))))
end EN
