/-! PURE LAW 52: codes that come out, signs that wait -/
set_option maxRecDepth 100000
def opn (w : Nat) : Nat := if w = 8 then 2 else if w = 9 then 3 else if w = 10 then 4 else 5
def isOp (w : Nat) : Prop := w = 8 ∨ w = 9 ∨ w = 10 ∨ w = 15
/-- what signs that wait come out as -/
def emis (p : List Nat) : Br := p.reverse.map (fun w => (opn w, (0 : Int32)))
theorem emis_c {k : Nat} {p : List Nat} : emis (k :: p) = emis p ++ [(opn k, 0)] := by simp [emis]
theorem emis_s {k : Nat} {p : List Nat} : emis (p ++ [k]) = (opn k, 0) :: emis p := by simp [emis]
theorem emis_l {p : List Nat} : (emis p).length = p.length := by simp [emis]
/-- where a sign stops what comes out -/
def stp (s : Int32) (w : Nat) : Prop := w = 6 ∨ (s ≠ 0 ∧ (w = 8 ∨ w = 9))
/-- what of the model codes and signs change -/
def FE (J J1 : Ji) : Prop := (∀ p, p ≠ 0 → p ≠ 42 → p ≠ 43 → p ≠ 44 → J1 p = J p) ∧ ∀ i, i ≠ 56 → i ≠ 60 → J1 0 i = J 0 i
theorem FE.rf {J : Ji} : FE J J := ⟨fun _ _ _ _ _ => rfl, fun _ _ _ => rfl⟩
theorem FE.tr {J J1 J2 : Ji} (h : FE J J1) (h2 : FE J1 J2) : FE J J2 := ⟨fun p a b c d => by rw [h2.1 p a b c d, h.1 p a b c d], fun i a b => by rw [h2.2 i a b, h.2 i a b]⟩
theorem FE.pt {N a o : Nat} {P E : Nat → Nat} {Q J J1 : Ji} {K : Jl} (h : FE J J1) (hp : PT N P E a o Q J K) : PT N P E a o Q J1 K := hp.mo (fun p p1 p2 => h.1 p (by omega) (by omega) (by omega) (by omega)) (fun i i1 i2 => h.2 i (by omega) (by omega)) (fun _ _ => rfl)
theorem FE.ft {Q J J1 : Ji} (h : FE J J1) (hf : FT Q J) : FT Q J1 := by
  obtain ⟨w, p, f1, f2, f3, f4, f5, f6, f7⟩ := hf
  exact ⟨w, p, f1, f2, f3, f4, f5, by rw [h.2 13 (by omega) (by omega)]; exact f6, by rw [h.2 14 (by omega) (by omega)]; exact f7⟩
/-- the model within an expression: the codes c behind the first nc ones of the side, the signs W wait -/
def ES (g nc : Nat) (J0 J : Ji) (c : Br) (W : List Nat) : Prop := (J 0 60 = iN W.length ∧ ∀ i w, W[i]? = some w → J 44 i = iN w) ∧ (J 0 56 = iN (420 * g + nc + c.length) ∧ ∀ i e, c[i]? = some e → J 42 (420 * g + nc + i) = iN e.1 ∧ J 43 (420 * g + nc + i) = e.2) ∧ (∀ p i, (p = 42 ∨ p = 43) → i < 420 * g + nc → J p i = J0 p i) ∧ (∀ p, p ≠ 0 → p ≠ 42 → p ≠ 43 → p ≠ 44 → J p = J0 p) ∧ (∀ i, (i < 11 ∨ 16 < i) → i ≠ 56 → i ≠ 60 → J 0 i = J0 0 i) ∧ FrJ g J0 J ∧ ∀ w, w ∈ W → w = 6 ∨ isOp w
section EX
variable {g nc : Nat} {J0 J : Ji} {c : Br} {W : List Nat}
/-- tokens, open, faults may change -/
theorem ES.jf {J1 : Ji} (h : ES g nc J0 J c W) (hj : jF J J1) : ES g nc J0 J1 c W := by
  obtain ⟨⟨h1, h2⟩, ⟨h3, h4⟩, h5, h6, h7, h8⟩ := h
  refine ⟨⟨by rw [hj.2 60 (by omega)]; exact h1, by rw [hj.1 44 (by omega)]; exact h2⟩, ⟨by rw [hj.2 56 (by omega)]; exact h3, by rw [hj.1 42 (by omega), hj.1 43 (by omega)]; exact h4⟩, fun p i hp hi => by rw [hj.1 p (by omega)]; exact h5 p i hp hi, fun p a1 a2 a3 a4 => by rw [hj.1 p a1]; exact h6 p a1 a2 a3 a4, fun i a1 a2 a3 => by rw [hj.2 i a1]; exact h7 i a1 a2 a3, h8.1.tr hj.w, h8.2⟩
theorem ES.emit (h : ES g nc J0 J c W) (hg : g < 2) {k : Nat} {v : Int32} (hb : nc + c.length < 420) : ∃ J1, M_emit (iN k) v J = some J1 ∧ ES g nc J0 J1 (c ++ [(k, v)]) W ∧ FE J J1 := by
  obtain ⟨⟨h1, h2⟩, ⟨h3, h4⟩, h5, h6, h7, h8⟩ := h
  obtain ⟨x, hx⟩ : ∃ x, x = 420 * g + nc + c.length := ⟨_, rfl⟩
  rw [← hx] at h3
  have hxl : x < 840 := by omega
  have e1 : iN x + 1 = iN (x + 1) := by rw [i_1, iN_add]
  have e2 : (uJ (uJ J 42 x (iN k)) 43 x v) 0 56 = iN x := by rw [uJ_o (by omega), uJ_o (by omega)]; exact h3
  refine ⟨uJ (uJ (uJ J 42 x (iN k)) 43 x v) 0 56 (iN (x + 1)), ?_, ⟨⟨?_, fun i w hi => ?_⟩, ⟨?_, fun i e hi => ?_⟩, fun p i hp hi => ?_, fun p a1 a2 a3 a4 => ?_, fun i a1 a2 a3 => ?_, ?_, h8.2⟩, ⟨fun p a1 a2 a3 a4 => ?_, fun i a1 a2 => ?_⟩⟩
  · unfold M_emit
    rw [h3, stI_n (by omega) (by omega)]
    have e3 : (uJ J 42 x (iN k)) 0 56 = iN x := by rw [uJ_o (by omega)]; exact h3
    rw [e3, stI_n (by omega) (by omega), lt_e, e2, e1]
  · rw [uJ_sn (by omega), uJ_o (by omega), uJ_o (by omega)]; exact h1
  · rw [uJ_o (by omega), uJ_o (by omega), uJ_o (by omega)]; exact h2 i w hi
  · rw [uJ_ss, List.length_append, List.length_singleton, hx]; rfl
  · have z42 : (uJ (uJ (uJ J 42 x (iN k)) 43 x v) 0 56 (iN (x + 1))) 42 (420 * g + nc + i) = if 420 * g + nc + i = x then iN k else J 42 (420 * g + nc + i) := by
      rw [uJ_o (by omega), uJ_o (by omega), uJ_ap]
      simp only [true_and]
    have z43 : (uJ (uJ (uJ J 42 x (iN k)) 43 x v) 0 56 (iN (x + 1))) 43 (420 * g + nc + i) = if 420 * g + nc + i = x then v else J 43 (420 * g + nc + i) := by
      rw [uJ_o (by omega), uJ_ap, uJ_o (by omega)]
      simp only [true_and]
    rw [z42, z43]
    by_cases ci : i < c.length
    · rw [List.getElem?_append_left ci] at hi
      rw [if_neg (by omega), if_neg (by omega)]
      exact h4 i e hi
    · rw [List.getElem?_append_right (by omega)] at hi
      have : i = c.length := by
        rcases Nat.eq_zero_or_pos (i - c.length) with h0 | h0
        · omega
        · rw [List.getElem?_eq_none (by rw [List.length_singleton]; omega)] at hi
          cases hi
      subst this
      rw [Nat.sub_self] at hi
      have he : (k, v) = e := Option.some.inj hi
      rw [← hx, if_pos rfl, if_pos rfl, ← he]
      exact ⟨rfl, rfl⟩
  · rw [uJ_o (by omega), uJ_ap, if_neg (by omega), uJ_ap, if_neg (by omega)]
    exact h5 p i hp hi
  · rw [uJ_o a1, uJ_o a3, uJ_o a2]; exact h6 p a1 a2 a3 a4
  · rw [uJ_sn a2, uJ_o (by omega), uJ_o (by omega)]; exact h7 i a1 a2 a3
  · exact h8.1.tr ((FrJ.u (by simp [wr_, lv_]; omega)).tr ((FrJ.u (by simp [wr_, lv_]; omega)).tr (FrJ.u (by simp [wr_]))))
  · rw [uJ_o a1, uJ_o a3, uJ_o a2]
  · rw [uJ_sn a1, uJ_o (by omega), uJ_o (by omega)]
theorem ES.pop {w : Nat} (h : ES g nc J0 J c (W ++ [w])) (hw : W.length < 64) : J 0 60 = iN (W.length + 1) ∧ J 44 W.length = iN w ∧ ES g nc J0 (uJ J 0 60 (iN W.length)) c W ∧ FE J (uJ J 0 60 (iN W.length)) := by
  obtain ⟨⟨h1, h2⟩, ⟨h3, h4⟩, h5, h6, h7, h8⟩ := h
  refine ⟨by rw [h1, List.length_append, List.length_singleton], h2 _ _ (by rw [List.getElem?_append_right (Nat.le_refl _), Nat.sub_self]; rfl), ⟨⟨uJ_ss, fun i x hi => ?_⟩, ⟨by rw [uJ_sn (by omega)]; exact h3, fun i e hi => by rw [uJ_o (by omega), uJ_o (by omega)]; exact h4 i e hi⟩, fun p i hp hi => by rw [uJ_o (by omega)]; exact h5 p i hp hi, fun p a1 a2 a3 a4 => by rw [uJ_o a1]; exact h6 p a1 a2 a3 a4, fun i a1 a2 a3 => by rw [uJ_sn a3]; exact h7 i a1 a2 a3, h8.1.tr (FrJ.u (by simp [wr_])), fun w hw => h8.2 w (by simp [hw])⟩, ⟨fun p a1 a2 a3 a4 => uJ_o a1, fun i a1 a2 => uJ_sn a2⟩⟩
  have hil : i < W.length := by
    rcases Nat.lt_or_ge i W.length with h | h
    · exact h
    · rw [List.getElem?_eq_none h] at hi; cases hi
  rw [uJ_o (by omega)]
  exact h2 i x (by rw [List.getElem?_append_left hil]; exact hi)
theorem ES.push {k : Nat} (h : ES g nc J0 J c W) (hw : W.length < 64) : ∀ {α : Type} (f : Ji → Option α), (stI J 44 64 (J 0 60) (iN k) fun J8 => lt_ (uJ J8 0 60 ((J8 0 60) + 1)) f) = f (uJ (uJ J 44 W.length (iN k)) 0 60 (iN (W.length + 1))) := fun f => by
  have h1 := h.1.1
  rw [h1, stI_n (by omega) (by omega), lt_e, uJ_o (by omega), h1, i_1, iN_add]
theorem ES.push2 {k : Nat} (h : ES g nc J0 J c W) (hw : W.length < 64) (hk : k = 6 ∨ isOp k) : ES g nc J0 (uJ (uJ J 44 W.length (iN k)) 0 60 (iN (W.length + 1))) c (W ++ [k]) ∧ FE J (uJ (uJ J 44 W.length (iN k)) 0 60 (iN (W.length + 1))) := by
  obtain ⟨⟨h1, h2⟩, ⟨h3, h4⟩, h5, h6, h7, h8⟩ := h
  refine ⟨⟨⟨by rw [uJ_ss, List.length_append, List.length_singleton], fun i x hi => ?_⟩, ⟨by rw [uJ_sn (by omega), uJ_o (by omega)]; exact h3, fun i e hi => by rw [uJ_o (by omega), uJ_o (by omega), uJ_o (by omega), uJ_o (by omega)]; exact h4 i e hi⟩, fun p i hp hi => by rw [uJ_o (by omega), uJ_o (by omega)]; exact h5 p i hp hi, fun p a1 a2 a3 a4 => by rw [uJ_o a1, uJ_o a4]; exact h6 p a1 a2 a3 a4, fun i a1 a2 a3 => by rw [uJ_sn a3, uJ_o (by omega)]; exact h7 i a1 a2 a3, h8.1.tr ((FrJ.u (by simp [wr_])).tr (FrJ.u (by simp [wr_]))), fun w hw => by
    rcases List.mem_append.1 hw with hw | hw
    · exact h8.2 w hw
    · rw [List.mem_singleton.1 hw]; exact hk⟩, ⟨fun p a1 a2 a3 a4 => by rw [uJ_o a1, uJ_o a4], fun i a1 a2 => by rw [uJ_sn a2, uJ_o (by omega)]⟩⟩
  rw [uJ_o (by omega), uJ_ap]
  by_cases ci : i < W.length
  · rw [List.getElem?_append_left ci] at hi
    rw [if_neg (by omega)]
    exact h2 i x hi
  · rw [List.getElem?_append_right (by omega)] at hi
    have : i = W.length := by
      rcases Nat.eq_zero_or_pos (i - W.length) with h0 | h0
      · omega
      · rw [List.getElem?_eq_none (by rw [List.length_singleton]; omega)] at hi
        cases hi
    subst this
    rw [Nat.sub_self] at hi
    rw [if_pos ⟨rfl, rfl⟩, ← Option.some.inj hi]
theorem b42_ok {F : Nat} {k0 : Int32 → Ji → Option Ji} {s : Int32} {w n : Nat} (hw : isOp w) (hn : J 0 60 = iN (n + 1)) : M_comesOut_B42 F k0 s (iN w) J = (M_emit (iN (opn w)) 0 (uJ J 0 60 (iN n))).bind fun r3 => k0 s r3 := by
  have e1 : J 0 60 - 1 = iN n := by rw [hn, i_1, iN_sub (by omega)]; rfl
  unfold M_comesOut_B42 M_comesOut_B84
  rw [lt_e, e1]
  rcases hw with rfl | rfl | rfl | rfl
  · rw [if_pos (by decide)]; rfl
  · rw [if_neg (by decide), if_pos (by decide)]; rfl
  · rw [if_neg (by decide), if_neg (by decide), if_pos (by decide)]; rfl
  · rw [if_neg (by decide), if_neg (by decide), if_neg (by decide)]; rfl
/-- what waits comes out, as far as the sign that stops it -/
theorem co_L {F : Nat} {s : Int32} (hg : g < 2) (hW : W = [] ∨ ∃ W' w, W = W' ++ [w] ∧ stp s w) : ∀ (d : Nat) (p : List Nat) (m : Nat) (J : Ji) (c : Br), p.length = d → d < m → ES g nc J0 J c (W ++ p) → nc + c.length + p.length ≤ 419 → W.length + p.length ≤ 60 → (∀ w, w ∈ p → isOp w ∧ ¬ stp s w) → ∃ J1, M_comesOut_L0 F m s J = some J1 ∧ ES g nc J0 J1 (c ++ emis p) W ∧ FE J J1 := by
  intro d
  induction d with
  | zero =>
    intro p m J c hp hm hE hc hl hop
    have : p = [] := List.eq_nil_of_length_eq_zero hp
    subst this
    rw [List.append_nil] at hE
    obtain ⟨m, rfl⟩ : ∃ m', m = m' + 1 := ⟨m - 1, by omega⟩
    refine ⟨J, ?_, by rw [show emis [] = [] from rfl, List.append_nil]; exact hE, FE.rf⟩
    show M_comesOut_B0 F (M_comesOut_L0 F m) s J = some J
    unfold M_comesOut_B0
    rcases hW with h0 | ⟨W', w, h0, hs⟩
    · rw [if_pos (by rw [hE.1.1, h0]; decide)]
    · subst h0
      rw [List.length_append, List.length_singleton] at hl
      obtain ⟨q1, q2, _⟩ := hE.pop (by omega)
      have hl2 : W'.length < 64 := by omega
      have e1 : iN (W'.length + 1) - 1 = iN W'.length := by rw [i_1, iN_sub (by omega)]; rfl
      rw [if_neg (by rw [q1, i_0, iN_le (by omega) (by omega)]; omega), q1, e1, ldI_n (by omega) (by omega), q2]
      rcases hs with rfl | ⟨hs, rfl | rfl⟩
      · rw [if_pos (by decide)]
      · rw [if_neg (by decide), if_neg hs, if_pos (by decide)]
      · rw [if_neg (by decide), if_neg hs, if_neg (by decide), if_pos (by decide)]
  | succ d ih =>
    intro p m J c hp hm hE hc hl hop
    rcases List.eq_nil_or_concat p with h0 | ⟨p', w, h0⟩
    · rw [h0] at hp; cases hp
    · have h0' : p = p' ++ [w] := by rw [h0, List.concat_eq_append]
      subst h0'
      clear h0
      rw [List.length_append, List.length_singleton] at hp hc hl
      rw [← List.append_assoc] at hE
      obtain ⟨m, rfl⟩ : ∃ m', m = m' + 1 := ⟨m - 1, by omega⟩
      have hl3 : (W ++ p').length = W.length + p'.length := List.length_append
      obtain ⟨q1, q2, q3, q4⟩ := hE.pop (by omega)
      obtain ⟨hw1, hw2⟩ := hop w (by simp)
      obtain ⟨J2, r1, r2, r3⟩ := q3.emit hg (k := opn w) (v := 0) (by omega)
      have e1 : iN ((W ++ p').length + 1) - 1 = iN (W ++ p').length := by rw [i_1, iN_sub (by omega)]; rfl
      obtain ⟨J3, s1, s2, s3⟩ := ih p' m J2 (c ++ [(opn w, 0)]) (by omega) (by omega) r2 (by rw [List.length_append, List.length_singleton]; omega) (by omega) (fun x hx => hop x (by simp [hx]))
      refine ⟨J3, ?_, ?_, (q4.tr r3).tr s3⟩
      · show M_comesOut_B0 F (M_comesOut_L0 F m) s J = some J3
        unfold M_comesOut_B0
        rw [if_neg (by rw [q1, i_0, iN_le (by omega) (by omega)]; omega), q1, e1, ldI_n (by omega) (by omega), q2, b42_ok hw1 q1, r1, Option.bind_some, s1]
        have n6 : ¬ iN w = 6 := by rcases hw1 with rfl | rfl | rfl | rfl <;> decide
        rw [if_neg n6]
        by_cases cs : s = 0
        · rw [if_pos cs]
        · rw [if_neg cs]
          have n8 : ¬ iN w = 8 := fun hh => hw2 (Or.inr ⟨cs, Or.inl (by rcases hw1 with rfl | rfl | rfl | rfl <;> first | rfl | (revert hh; decide))⟩)
          have n9 : ¬ iN w = 9 := fun hh => hw2 (Or.inr ⟨cs, Or.inr (by rcases hw1 with rfl | rfl | rfl | rfl <;> first | rfl | (revert hh; decide))⟩)
          rw [if_neg n8, if_neg n9]
      · rw [emis_s, show c ++ (opn w, (0 : Int32)) :: emis p' = c ++ [(opn w, 0)] ++ emis p' by simp]
        exact s2
theorem co_ok {F : Nat} {s : Int32} {p : List Nat} (hF : 2100 ≤ F) (hg : g < 2) (hW : W = [] ∨ ∃ W' w, W = W' ++ [w] ∧ stp s w) (hE : ES g nc J0 J c (W ++ p)) (hc : nc + c.length + p.length ≤ 419) (hl : W.length + p.length ≤ 60) (hop : ∀ w, w ∈ p → isOp w ∧ ¬ stp s w) : ∃ J1, M_comesOut F s J = some J1 ∧ ES g nc J0 J1 (c ++ emis p) W ∧ FE J J1 := co_L (F := F) hg hW p.length p F J c rfl (by omega) hE hc hl hop
end EX
