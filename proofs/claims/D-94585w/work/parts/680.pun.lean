/-! PURE LAW 54: a unit of an expression -/
set_option maxRecDepth 100000
def tpS (W : List Nat) : Prop := W = [] ∨ ∃ W', W = W' ++ [6]
def tpP (W : List Nat) : Prop := W = [] ∨ ∃ W' w, W = W' ++ [w] ∧ (w = 6 ∨ w = 8 ∨ w = 9)
section UN
variable {g nc F N a o : Nat} {P E : Nat → Nat} {K : Jl} {J0 J Q : Ji} {Xp : Jr} {T : Th} {c : Br} {W : List Nat} {k12 : Int32 → Int32 → Ji → Option Ji}
theorem FM.unit (h : FM J) : M_unit J = some J := by
  unfold M_unit M_unit_B88
  rw [h.is_, Option.bind_some, if_pos rfl, if_neg h.n0.1, h.fail, Option.bind_some]
theorem FM.l23 {m : Nat} {x : Int32} (h : FM J) : M_expression_L23 F k12 (m + 1) x J = some J := by
  show M_expression_B23 F k12 (M_expression_L23 F k12 m) x J = some J
  unfold M_expression_B23
  rw [h.is_, Option.bind_some, if_pos rfl, h.unit, Option.bind_some, if_neg h.n0.2.1]
theorem FM.b46 {k23 : Int32 → Ji → Option Ji} {x : Int32} {l : Nat} (g : Nat) (h : FM J) (hl : J 0 60 = iN l) (hl2 : l < 63) : ∃ J9, M_expression_B46 F k12 k23 x J = k23 x J9 ∧ J9 0 13 = J 0 13 ∧ J9 0 14 = J 0 14 ∧ FrJ g J J9 ∧ J9 0 49 = J 0 49 := by
  have hf : FM (uJ J 0 12 (J 0 12 + 1)) := by
    obtain ⟨w, h1, h2, h3⟩ := h
    exact ⟨w, h1, h2, by rw [uJ_sn (by omega)]; exact h3⟩
  obtain ⟨J7, q1, q2⟩ : ∃ J7, M_goesOn (uJ J 0 12 (J 0 12 + 1)) = some J7 ∧ (J7 = uJ J 0 12 (J 0 12 + 1) ∨ ∃ v, J7 = uJ (uJ J 0 12 (J 0 12 + 1)) 0 11 v) := by
    unfold M_goesOn
    by_cases c : (uJ J 0 12 (J 0 12 + 1)) 0 11 = 400
    · rw [if_pos c, hf.fail]
      exact ⟨_, rfl, Or.inl rfl⟩
    · rw [if_neg c]
      exact ⟨_, rfl, Or.inr ⟨_, rfl⟩⟩
  have q60 : J7 0 60 = iN l := by
    rcases q2 with rfl | ⟨v, rfl⟩
    · rw [uJ_sn (by omega)]; exact hl
    · rw [uJ_sn (by omega), uJ_sn (by omega)]; exact hl
  have qi : ∀ i, i ≠ 11 → i ≠ 12 → J7 0 i = J 0 i := fun i c1 c2 => by
    rcases q2 with rfl | ⟨v, rfl⟩
    · rw [uJ_sn c2]
    · rw [uJ_sn c1, uJ_sn c2]
  have qF : FrJ g J J7 := by
    rcases q2 with rfl | ⟨v, rfl⟩
    · exact FrJ.u (by simp [wr_])
    · exact (FrJ.u (by simp [wr_])).tr (FrJ.u (by simp [wr_]))
  refine ⟨uJ (uJ J7 44 l 6) 0 60 (iN l + 1), ?_, ?_, ?_, ?_, ?_⟩
  · unfold M_expression_B46
    rw [lt_e, q1, Option.bind_some, q60, stI_n (by omega) (by omega), lt_e, uJ_o (by omega), q60]
  · rw [uJ_sn (by omega), uJ_o (by omega), qi 13 (by omega) (by omega)]
  · rw [uJ_sn (by omega), uJ_o (by omega), qi 14 (by omega) (by omega)]
  · exact qF.tr ((FrJ.u (by simp [wr_])).tr (FrJ.u (by simp [wr_])))
  · rw [uJ_sn (by omega), uJ_o (by omega), qi 49 (by omega) (by omega)]
theorem w_split : ∀ W : List Nat, (∀ w, w ∈ W → w = 6 ∨ isOp w) → ∃ W1 p, W = W1 ++ p ∧ (W1 = [] ∨ ∃ W' w, W1 = W' ++ [w] ∧ stp 0 w) ∧ ∀ w, w ∈ p → isOp w ∧ ¬ stp 0 w := by
  intro W
  induction W with
  | nil => exact fun _ => ⟨[], [], rfl, Or.inl rfl, fun w hw => by cases hw⟩
  | cons x W ih =>
    intro h
    obtain ⟨W1, p, h1, h2, h3⟩ := ih (fun w hw => h w (List.mem_cons_of_mem _ hw))
    rcases h2 with h2 | ⟨W', w, h2, h4⟩
    · subst h2
      rcases h x (by simp) with hx | hx
      · exact ⟨[6], p, by rw [h1, hx]; rfl, Or.inr ⟨[], 6, rfl, Or.inl rfl⟩, h3⟩
      · refine ⟨[], x :: p, by rw [h1]; rfl, Or.inl rfl, fun w hw => ?_⟩
        rcases List.mem_cons.1 hw with hw | hw
        · subst hw
          refine ⟨hx, fun hs => ?_⟩
          rcases hs with hs | hs
          · rcases hx with hx | hx | hx | hx <;> omega
          · exact hs.1 rfl
        · exact h3 w hw
    · exact ⟨x :: W1, p, by rw [h1]; rfl, Or.inr ⟨x :: W', w, by rw [h2]; rfl, h4⟩, h3⟩
theorem co_anE (hF : 2100 ≤ F) (hg : g < 2) (hE : ES g nc J0 J c W) (hc : nc + c.length + W.length ≤ 419) (hl : W.length ≤ 60) : ∃ J1, M_comesOut F 0 J = some J1 ∧ FE J J1 ∧ FrJ g J0 J1 ∧ J1 0 49 = J0 0 49 := by
  obtain ⟨W1, p, h1, h2, h3⟩ := w_split W hE.2.2.2.2.2.2
  have hl2 : W.length = W1.length + p.length := by rw [h1, List.length_append]
  rw [h1] at hE
  obtain ⟨J1, q1, q2, q3⟩ := co_ok (F := F) (s := 0) hF hg h2 hE (by omega) (by omega) h3
  exact ⟨J1, q1, q3, q2.2.2.2.2.2.1, q2.2.2.2.2.1 49 (by omega) (by omega) (by omega)⟩
theorem FM.l96 {m : Nat} (hF : 2100 ≤ F) (hg : g < 2) (h : FM J) (hE : ES g nc J0 J c W) (hc : nc + c.length + W.length ≤ 419) (hl : W.length ≤ 60) : ∃ J1, M_expression_L96 F k12 (m + 1) (iN 0) J = some J1 ∧ FE J J1 ∧ FrJ g J0 J1 ∧ J1 0 49 = J0 0 49 := by
  obtain ⟨J1, q1, q2⟩ := co_anE hF hg hE hc hl
  refine ⟨J1, ?_, q2⟩
  show M_expression_B96 F k12 (M_expression_L96 F k12 m) (iN 0) J = some J1
  simp only [M_expression_B96, M_expression_B145, M_expression_B186, M_expression_B204, h.is_, Option.bind_some, if_true, h.fail, q1, ite_self]
theorem m_bad (h : PT N P E a o Q J K) {k : Nat} (hk : J 3 a = iN k) (h2 : k ≠ 2) (h35 : k < 35) : M_unit J = M_fail 1 J := by
  have hN := h.n
  have ha := h.2.1
  have e1 : M_is J 2 = some 0 := by
    rw [m_is h 2, if_neg (by rw [hk, i_2, iN_eq (by omega) (by omega)]; exact h2)]
  unfold M_unit M_unit_B88
  rw [e1, Option.bind_some, if_pos rfl, if_pos (show J 0 13 = 0 from h.2.2.2.2.1), h.2.2.2.1, ldI_n (by omega) (by omega), hk, if_pos (show iN k < 35 by rw [show (35 : Int32) = iN 35 from rfl, iN_lt (by omega) (by omega)]; exact h35)]
  cases M_fail 1 J <;> rfl
theorem PT.op (h : PT N P E a o Q J K) {o' : Nat} (ho : o' ≤ 6) : PT N P E a o' (uJ Q 9 4 (iN o')) (uJ J 0 12 (iN o')) K := by
  obtain ⟨h1, h2, h3, h4, h5, ⟨h6, h7, h8⟩, h9⟩ := h
  refine ⟨h1.fr (fun o o1 o2 => uJ_o (by omega)) (fun o o1 o2 => uJ_o (by omega)), h2, by rw [uJ_sn (by omega)]; exact h3, by rw [uJ_sn (by omega)]; exact h4, by rw [uJ_sn (by omega)]; exact h5, ⟨ho, uJ_ss, uJ_ss⟩, ?_⟩
  unfold WO
  rw [uJ_sn (by omega), uJ_sn (by omega), uJ_sn (by omega), uJ_sn (by omega)]
  exact h9
theorem PT.opJ (h : PT N P E a o Q J K) : uJ J 0 12 (iN o) = J := by
  funext p i
  rw [uJ_ap]
  by_cases c : p = 0 ∧ i = 12
  · rw [if_pos c, c.1, c.2, h.2.2.2.2.2.1.2.2]
  · rw [if_neg c]
theorem r_ps (h : Q 9 3 = iN a) (ha : a ≤ 400) : R_pass Xp Q T = if a = 400 then (R_wrong T 2 Q).bind fun r2 => some (.inl (r2, Xp, T)) else some (.inr (uJ Q 9 3 (iN (a + 1)), T)) := by
  have e400 : (400 : Int32) = iN 400 := rfl
  unfold R_pass
  by_cases c : a = 400
  · rw [if_pos c, if_neg (by rw [h, e400, iN_lt (by omega) (by omega)]; omega)]
  · rw [if_neg c, if_pos (by rw [h, e400, iN_lt (by omega) (by omega)]; omega), lt_e, h, i_1, iN_add]
theorem m_go (h : J 0 11 = iN a) (ha : a ≤ 400) : M_goesOn J = if a = 400 then M_fail 2 J else some (uJ J 0 11 (iN (a + 1))) := by
  have e400 : (400 : Int32) = iN 400 := rfl
  unfold M_goesOn
  by_cases c : a = 400
  · rw [if_pos c, if_pos (by rw [h, e400, iN_eq (by omega) (by omega)]; exact c)]
    cases M_fail 2 J <;> rfl
  · rw [if_neg c, if_neg (by rw [h, e400, iN_eq (by omega) (by omega)]; exact c), lt_e, h, i_1, iN_add]
end UN
