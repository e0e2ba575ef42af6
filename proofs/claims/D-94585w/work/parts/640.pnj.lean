/-! PURE LAW 34: names of a text that is being made; the model's side of it -/
set_option maxRecDepth 100000
/-- what of the model a reading on the side g may change -/
def wr_ (g o i : Nat) : Bool := (decide (o ≠ 0) && lv_ g o i) || decide (o = 0 ∧ ((11 ≤ i ∧ i ≤ 16) ∨ i = 20 ∨ i = 49 ∨ i = 56 ∨ i = 60)) || decide (o = 9 ∨ o = 10 ∨ o = 44 ∨ (o = 33 ∧ i = g))
def FrJ (g : Nat) (J J1 : Ji) : Prop := ∀ o i, wr_ g o i = false → J1 o i = J o i
theorem FrJ.rf {g : Nat} {J : Ji} : FrJ g J J := fun _ _ _ => rfl
theorem FrJ.tr {g : Nat} {J J1 J2 : Ji} (h : FrJ g J J1) (h2 : FrJ g J1 J2) : FrJ g J J2 := fun o i hw => by rw [h2 o i hw, h o i hw]
theorem FrJ.u {g : Nat} {J : Ji} {o i : Nat} {v : Int32} (h : wr_ g o i = true) : FrJ g J (uJ J o i v) := fun p q hw => by
  rw [uJ_ap]
  by_cases c : p = o ∧ q = i
  · rw [c.1, c.2, h] at hw
    cases hw
  · rw [if_neg c]
theorem jF.w {g : Nat} {J J1 : Ji} (h : jF J J1) : FrJ g J J1 := fun o i hw => by
  by_cases c : o = 0
  · subst c
    apply h.2
    unfold wr_ at hw
    simp at hw
    omega
  · rw [h.1 o c]
/-- names, in the component's heap -/
def NmT (T : Th) (Y : Xt) (e : Nat → Nat → Nat) (nm : Nat → Nat → List Int32) : Prop := ∀ s i, s < 4 → i < Y.1 (rw_ s) → (nm s i).length ≤ 8 ∧ ∃ t, T.2.2.1 (e (rw_ s) i) 0 = some t ∧ StT T t (nm s i)
section NJ
variable {n0 : Nat} {T T1 : Th} {txa nl nk : Nat} {Y : Xt} {b ar : Nat → Nat} {e : Nat → Nat → Nat} {nm : Nat → Nat → List Int32}
theorem rw_5 {s : Nat} (h : s < 4) : rw_ s < 5 := by
  unfold rw_
  by_cases c : s = 0
  · rw [if_pos c]; omega
  · rw [if_neg c]; omega
theorem kd_nmd {s : Nat} (h : s < 4) : kd_ (rw_ s) ∈ nmd := by
  have : s = 0 ∨ s = 1 ∨ s = 2 ∨ s = 3 := by omega
  rcases this with rfl | rfl | rfl | rfl <;> decide
theorem BdH.rws (h : BdH n0 T txa nk Y b ar e nl) (hn : NmT T Y e nm) : RwS T txa b e (fun s => Y.1 (rw_ s)) nm := by
  obtain ⟨⟨h1, h2, h3, h4⟩, h5, h6, h7, h8, h9⟩ := h
  refine ⟨h1, fun s hs => ⟨h3 _ (rw_5 hs), ?_, (h5 _ (Or.inl (rw_5 hs))).1.ls, fun i hi => ⟨⟨_, kd_nmd hs, (h6 _ i (Or.inl (rw_5 hs)) hi).1⟩, (hn s i hs hi).1, (hn s i hs hi).2⟩⟩⟩
  obtain ⟨m1, m2, m3, m4, m5, m6⟩ := h9
  have m1 : Y.1 0 ≤ 8 := m1
  have m3 : Y.1 2 ≤ 6 := m3
  have m4 : Y.1 3 ≤ 6 := m4
  have m5 : Y.1 4 ≤ 6 := m5
  have : s = 0 ∨ s = 1 ∨ s = 2 ∨ s = 3 := by omega
  rcases this with rfl | rfl | rfl | rfl
  · exact m1
  · show Y.1 2 ≤ 8; omega
  · show Y.1 3 ≤ 8; omega
  · show Y.1 4 ≤ 8; omega
theorem StT.sm {t : Nat} {L : List Int32} (h : StT T t L) (hs : SmK kA T T1) : StT T1 t L := by
  obtain ⟨h1, h2, a, h3, h4, h5⟩ := h
  obtain ⟨a1, a2, a3⟩ := hs _ _ h1 ⟨by decide, fun n hh => by cases hh⟩
  obtain ⟨b1, b2, b3⟩ := hs _ _ h4 ⟨(fun hh => by cases hh), fun n hh => by
    have := (Prod.mk.inj (Sum.inr.inj hh)).1
    cases this⟩
  exact ⟨a1.trans h1, by rw [a2]; exact h2, a, by rw [a3]; exact h3, b1.trans h4, fun i c hc => by rw [b2]; exact h5 i c hc⟩
theorem NmT.sm (h : NmT T Y e nm) (hb : BdH n0 T txa nk Y b ar e nl) (hs : SmK kA T T1) : NmT T1 Y e nm := fun s i h1 h2 => by
  obtain ⟨a1, t, a2, a3⟩ := h s i h1 h2
  obtain ⟨x1, x2, x3⟩ := hs _ _ (hb.2.2.1 _ i (Or.inl (rw_5 h1)) h2).1 (kd_E _).a
  exact ⟨a1, t, by rw [x3]; exact a2, a3.sm hs⟩
end NJ
theorem uL_ap {K : Jl} {a i b j : Nat} {v : Int64} : uL K a i v b j = if b = a ∧ j = i then v else K b j := by
  unfold uL vf_upd
  by_cases h : b = a
  · subst h
    by_cases h2 : j = i
    · simp [h2]
    · simp [h2]
  · simp [h]
section NJ2
variable {J : Ji} {K : Jl} {Nn : Nat} {sg id_ : Nat → Nat} {nm : Nat → Nat → List Int32} {cn : Nat → Nat}
/-- one more name is noted -/
theorem m_notes (h : NtM J K Nn sg id_ nm cn) {a s : Nat} {L : List Int32} (ha : a < 403) (hs : s < 4) (hN : Nn < 26) (hL : allL L) (hL8 : L.length ≤ 8) (hk : K 6 a = c27 L) : ∃ K1, M_notes (iN a) (iN s) (iN (cn s)) J K = some (uJ (uJ (uJ J 9 Nn (iN s)) 10 Nn (iN (cn s))) 0 20 (iN (Nn + 1)), K1) ∧ (∀ o, o ≠ 8 → K1 o = K o) ∧ ∀ J1 : Ji, J1 9 = (uJ J 9 Nn (iN s)) 9 → J1 10 = (uJ J 10 Nn (iN (cn s))) 10 → J1 0 20 = iN (Nn + 1) → NtM J1 K1 (Nn + 1) (fun q => if q = Nn then s else sg q) (fun q => if q = Nn then cn s else id_ q) (fun x i => if x = s ∧ i = cn s then L else nm x i) (fun x => if x = s then cn s + 1 else cn x) := by
  obtain ⟨h1, h2, h3, h4, h5, h6⟩ := h
  have e1 : iN Nn + 1 = iN (Nn + 1) := by rw [i_1, iN_add]
  refine ⟨uL K 8 Nn (c27 L), ?_, fun o ho => by funext i; rw [uL_ap, if_neg (fun hh => ho hh.1)], fun J1 j9 j10 j20 => ⟨j20, by omega, fun q hq => ?_, fun q r hqr hr hh => ?_, fun x i hx hi => ?_, fun x i hx hi => ?_⟩⟩
  · simp (disch := omega) only [M_notes, ldL_n, hk, h1, stL_n, stI_n, uJ_o, lt_e, e1]
  · rw [j9, j10, uJ_ap, uJ_ap, uL_ap]
    by_cases c : q = Nn
    · subst c
      simp only [and_self, if_true]
      exact ⟨trivial, trivial, trivial, hs, by omega⟩
    · obtain ⟨a1, a2, a3, a4, a5⟩ := h3 q (by omega)
      have hne : ¬ (sg q = s ∧ id_ q = cn s) := fun hh => by rw [hh.1, hh.2] at a5; omega
      simp only [c, and_false, if_false, if_neg hne]
      refine ⟨a1, a2, a3, a4, ?_⟩
      by_cases c2 : sg q = s
      · rw [if_pos c2]
        rw [c2] at a5
        omega
      · rw [if_neg c2]; exact a5
  · have hq : ¬ q = Nn := by omega
    simp only [if_neg hq] at hh ⊢
    by_cases c : r = Nn
    · rw [if_pos c] at hh ⊢
      have := (h3 q (by omega)).2.2.2.2
      rw [hh] at this
      exact this
    · rw [if_neg c] at hh ⊢
      exact h4 q r hqr (by omega) hh
  · have hi : i < if x = s then cn s + 1 else cn x := hi
    by_cases c : x = s ∧ i = cn s
    · exact ⟨Nn, by omega, (if_pos rfl).trans c.1.symm, (if_pos rfl).trans c.2.symm⟩
    · have hi2 : i < cn x := by
        by_cases c2 : x = s
        · rw [if_pos c2] at hi
          subst c2
          have : i ≠ cn x := fun hh => c ⟨rfl, hh⟩
          omega
        · rw [if_neg c2] at hi; exact hi
      obtain ⟨q, q1, q2, q3⟩ := h5 x i hx hi2
      have hq : ¬ q = Nn := by omega
      exact ⟨q, by omega, (if_neg hq).trans q2, (if_neg hq).trans q3⟩
  · have hi : i < if x = s then cn s + 1 else cn x := hi
    show allL (if x = s ∧ i = cn s then L else nm x i) ∧ (if x = s ∧ i = cn s then L else nm x i).length ≤ 8
    by_cases c : x = s ∧ i = cn s
    · rw [if_pos c]; exact ⟨hL, hL8⟩
    · have hi2 : i < cn x := by
        by_cases c2 : x = s
        · rw [if_pos c2] at hi
          subst c2
          have : i ≠ cn x := fun hh => c ⟨rfl, hh⟩
          omega
        · rw [if_neg c2] at hi; exact hi
      rw [if_neg c]
      exact h6 x i hx hi2
end NJ2
