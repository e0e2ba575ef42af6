/-! PURE LAW 27: what is told of a token -/
set_option maxRecDepth 100000
theorem HB.at_ {T T1 : Th} (h : HB T) (hx : ExN T T1) {a : Nat} {dk : Dk} (ha : T.1 a = some dk) : T1.1 a = some dk ∧ T1.2.1 a = T.2.1 a ∧ T1.2.2.1 a = T.2.2.1 a := by
  obtain ⟨x1, x2, x3⟩ := hx.2.2.1 a (h a (by rw [ha]; exact fun hh => by cases hh))
  exact ⟨x1.trans ha, x2, x3⟩
theorem LsT.ex {T T1 : Th} {b n : Nat} {f : Nat → Nat} (h : LsT T b n f) (hB : HB T) (hx : ExN T T1) : LsT T1 b n f := by
  obtain ⟨h1, h2, ar, ln, h3, h4, h5, h6, h7⟩ := h
  obtain ⟨a1, a2, a3⟩ := hB.at_ hx h1
  obtain ⟨b1, b2, b3⟩ := hB.at_ hx h4
  exact ⟨a1, by rw [a2]; exact h2, ar, ln, by rw [a3]; exact h3, b1, h5, h6, fun k hk => by rw [b3]; exact h7 k hk⟩
theorem StT.ex {T T1 : Th} {s : Nat} {L : List Int32} (h : StT T s L) (hB : HB T) (hx : ExN T T1) : StT T1 s L := by
  obtain ⟨h1, h2, a, h3, h4, h5⟩ := h
  obtain ⟨a1, a2, a3⟩ := hB.at_ hx h1
  obtain ⟨b1, b2, b3⟩ := hB.at_ hx h4
  exact ⟨a1, by rw [a2]; exact h2, a, by rw [a3]; exact h3, b1, fun i c hc => by rw [b2]; exact h5 i c hc⟩
theorem RwT.ex {T T1 : Th} {b n : Nat} {f : Nat → Nat} {nm : Nat → List Int32} (h : RwT T b n f nm) (hB : HB T) (hx : ExN T T1) : RwT T1 b n f nm := by
  refine ⟨h.1.ex hB hx, fun i hi => ?_⟩
  obtain ⟨⟨ci, c1, c2⟩, c3, s, c4, c5⟩ := h.2 i hi
  obtain ⟨a1, a2, a3⟩ := hB.at_ hx c2
  exact ⟨⟨ci, c1, a1⟩, c3, s, by rw [a3]; exact c4, c5.ex hB hx⟩
/-- the rows of names, by sort -/
def rw_ (s : Nat) : Nat := if s = 0 then 0 else s + 1
def RwS (T : Th) (txa : Nat) (b : Nat → Nat) (f : Nat → Nat → Nat) (cn : Nat → Nat) (nm : Nat → Nat → List Int32) : Prop := T.1 txa = some (.inl 4) ∧ ∀ s, s < 4 → T.2.2.1 txa (rw_ s) = some (b (rw_ s)) ∧ cn s ≤ 8 ∧ RwT T (b (rw_ s)) (cn s) (f (rw_ s)) (nm s)
theorem RwS.ex {T T1 : Th} {txa : Nat} {b : Nat → Nat} {f : Nat → Nat → Nat} {cn : Nat → Nat} {nm : Nat → Nat → List Int32} (h : RwS T txa b f cn nm) (hB : HB T) (hx : ExN T T1) : RwS T1 txa b f cn nm := by
  obtain ⟨a1, a2, a3⟩ := hB.at_ hx h.1
  exact ⟨a1, fun s hs => ⟨by rw [a3]; exact (h.2 s hs).1, (h.2 s hs).2.1, (h.2 s hs).2.2.ex hB hx⟩⟩
section KN
variable {T : Th} {F N a o : Nat} {P E : Nat → Nat} {Q J : Ji} {K : Jl} {Xp : Jr}
theorem p_tell (h : PT N P E a o Q J K) {w t : Nat} (hw : 3 ≤ w) (hw2 : w ≤ 5) (ht : t < N) : ∃ Q1 J1, R_tell (iN w) (iN t) Q = some Q1 ∧ M_wrong (iN w) (iN t) J = some J1 ∧ PT N P E a o Q1 J1 K ∧ qF Q Q1 ∧ jF J J1 ∧ Q1 9 5 ≠ iN 0 ∧ (∃ w' t', w' ≤ 5 ∧ t' < N ∧ J1 0 15 = iN w' ∧ J1 0 16 = iN (P t') ∧ 3 ≤ w' ∧ (P t' < P t ∨ (P t' = P t ∧ w' ≤ w))) := by
  have hN := h.n
  have hpl := fun i hi => h.pl (i := i) hi
  obtain ⟨h1, h2, h3, h4, h5, ⟨h6, h7, h8⟩, h9⟩ := h
  obtain ⟨p1, p2, p3⟩ := hpl t ht
  have hmono : ∀ i j, i < N → j < N → (P i < P j ↔ i < j) := fun i j hi hj => by
    constructor
    · intro hh
      rcases Nat.lt_trichotomy i j with c | c | c
      · exact c
      · subst c; omega
      · have := h1.2.1 j i c hi; omega
    · intro hh
      exact h1.2.1 i j hh hj
  have hinj : ∀ i j, i < N → j < N → (P i = P j ↔ i = j) := fun i j hi hj => by
    constructor
    · intro hh
      rcases Nat.lt_trichotomy i j with c | c | c
      · have := h1.2.1 i j c hj; omega
      · exact c
      · have := h1.2.1 j i c hi; omega
    · intro hh; rw [hh]
  -- both write
  have wr : ∃ Q1 J1, R_tell_B32 (iN w) (iN t) Q = some Q1 ∧ M_wrong_B46 (iN w) (iN (P t)) J = some J1 ∧ PT N P E a o Q1 J1 K ∧ qF Q Q1 ∧ jF J J1 ∧ Q1 9 5 ≠ iN 0 ∧ (∃ w' t', w' ≤ 5 ∧ t' < N ∧ J1 0 15 = iN w' ∧ J1 0 16 = iN (P t') ∧ 3 ≤ w' ∧ (P t' < P t ∨ (P t' = P t ∧ w' ≤ w))) := by
    refine ⟨uJ (uJ Q 9 5 (iN w)) 9 6 (iN t), uJ (uJ J 0 15 (iN w)) 0 16 (iN (P t)), rfl, rfl, ⟨h1.fr (fun o o1 o2 => by rw [uJ_o (by omega), uJ_o (by omega)]) (fun o o1 o2 => by rw [uJ_o (by omega), uJ_o (by omega)]), h2, by rw [uJ_sn (by omega), uJ_sn (by omega)]; exact h3, by rw [uJ_sn (by omega), uJ_sn (by omega)]; exact h4, by rw [uJ_sn (by omega), uJ_sn (by omega)]; exact h5, ⟨h6, by rw [uJ_sn (by omega), uJ_sn (by omega)]; exact h7, by rw [uJ_sn (by omega), uJ_sn (by omega)]; exact h8⟩, Or.inr ⟨w, t, hw, hw2, ht, by rw [uJ_sn (by omega), uJ_ss], by rw [uJ_sn (by omega), uJ_ss], uJ_ss, uJ_ss⟩⟩, (qF.u9 (by omega) (by omega)).tr (qF.u9 (by omega) (by omega)), (jF.u (by omega) (by omega)).tr (jF.u (by omega) (by omega)), ?_, ⟨w, t, hw2, ht, by rw [uJ_sn (by omega), uJ_ss], uJ_ss, hw, Or.inr ⟨rfl, Nat.le_refl _⟩⟩⟩
    rw [uJ_sn (by omega), uJ_ss, Ne, iN_eq (by omega) (by omega)]
    omega
  have n0 : ¬ (0 : Int32) < iN 0 := by decide
  have hM : M_wrong (iN w) (iN t) J = if J 0 15 = 0 then M_wrong_B46 (iN w) (iN (P t)) J else if J 0 16 < iN (P t) then some J else if iN (P t) = J 0 16 then (if iN w < J 0 15 then M_wrong_B46 (iN w) (iN (P t)) J else some J) else M_wrong_B46 (iN w) (iN (P t)) J := by
    unfold M_wrong
    rw [ldI_n (by omega) (by omega), p2, h5, if_neg n0]
  have hR : R_tell (iN w) (iN t) Q = if Q 9 5 = 0 then R_tell_B32 (iN w) (iN t) Q else if Q 9 6 < iN t then some Q else if iN t = Q 9 6 then (if iN w < Q 9 5 then R_tell_B32 (iN w) (iN t) Q else some Q) else R_tell_B32 (iN w) (iN t) Q := rfl
  rw [hM, hR]
  rcases h9 with ⟨w1, w2⟩ | ⟨w', tk, q1, q2, q3, q4, q5, q6, q7⟩
  · have y1 : Q 9 5 = 0 := w1
    have y2 : J 0 15 = 0 := w2
    rw [if_pos y1, if_pos y2]
    exact wr
  · have y1 : ¬ Q 9 5 = 0 := by rw [q4, i_0, iN_eq (by omega) (by omega)]; omega
    have y2 : ¬ J 0 15 = 0 := by rw [q5, i_0, iN_eq (by omega) (by omega)]; omega
    obtain ⟨_, _, k3⟩ := hpl tk q3
    have hno : (P tk < P t ∨ (P tk = P t ∧ w' ≤ w)) → ∃ Q1 J1, some Q = some Q1 ∧ some J = some J1 ∧ PT N P E a o Q1 J1 K ∧ qF Q Q1 ∧ jF J J1 ∧ Q1 9 5 ≠ iN 0 ∧ (∃ w' t', w' ≤ 5 ∧ t' < N ∧ J1 0 15 = iN w' ∧ J1 0 16 = iN (P t') ∧ 3 ≤ w' ∧ (P t' < P t ∨ (P t' = P t ∧ w' ≤ w))) := fun hh => ⟨Q, J, rfl, rfl, ⟨h1, h2, h3, h4, h5, ⟨h6, h7, h8⟩, Or.inr ⟨w', tk, q1, q2, q3, q4, q5, q6, q7⟩⟩, qF.rf, jF.rf, y1, ⟨w', tk, q2, q3, q5, q7, q1, hh⟩⟩
    rw [if_neg y1, if_neg y2, q4, q5, q6, q7]
    simp (disch := omega) only [iN_lt, iN_eq]
    by_cases c1 : tk < t
    · rw [if_pos c1, if_pos ((hmono tk t q3 ht).2 c1)]
      exact hno (Or.inl ((hmono tk t q3 ht).2 c1))
    · rw [if_neg c1, if_neg (fun hh => c1 ((hmono tk t q3 ht).1 hh))]
      by_cases c2 : t = tk
      · rw [if_pos c2, if_pos (show P t = P tk by rw [c2])]
        by_cases c3 : w < w'
        · rw [if_pos c3, if_pos c3]
          exact wr
        · rw [if_neg c3, if_neg c3]
          exact hno (Or.inr ⟨by rw [c2], by omega⟩)
      · rw [if_neg c2, if_neg (fun hh => c2 ((hinj t tk ht q3).1 hh))]
        exact wr
/-- told once more: nothing -/
theorem m_wrong2 {J1 : Ji} {w t N : Nat} {P : Nat → Nat} (ht : t < 403) (hp : J1 4 t = iN (P t)) (hP : P t ≤ 2000) (hf : J1 0 13 = iN 0) (hw : w ≤ 5) (h : ∃ w' t', w' ≤ 5 ∧ t' < N ∧ J1 0 15 = iN w' ∧ J1 0 16 = iN (P t') ∧ 3 ≤ w' ∧ (P t' < P t ∨ (P t' = P t ∧ w' ≤ w))) : M_wrong (iN w) (iN t) J1 = some J1 := by
  obtain ⟨w', t', a1, a2, a3, a4, a5, a6⟩ := h
  have n0 : ¬ (0 : Int32) < iN 0 := by decide
  have y2 : ¬ iN w' = 0 := by rw [i_0, iN_eq (by omega) (by omega)]; omega
  unfold M_wrong
  rw [ldI_n ht (by omega), hp, hf, if_neg n0, a3, if_neg y2, a4]
  rcases a6 with c | ⟨c1, c2⟩
  · rw [if_pos (by rw [iN_lt (by omega) (by omega)]; exact c)]
  · rw [c1, if_neg (by rw [iN_lt (by omega) (by omega)]; omega), if_pos rfl, if_neg (by rw [iN_lt (by omega) (by omega)]; omega)]
/-- a number's worth -/
theorem nu_L {i p q : Nat} (hi : i < 2001) (hpq : p ≤ q) (hq : q ≤ 2000) (h7 : Q 7 i = iN q) : ∀ d m c, c + d = q - p → d < m → T_number_L9 F Q T m (iN i) (nv (Q 4) p c) (iN (p + c)) = some (nv (Q 4) p (q - p)) := by
  intro d
  induction d with
  | zero =>
    intro m c h1 h2
    obtain ⟨m, rfl⟩ : ∃ g, m = g + 1 := ⟨m - 1, by omega⟩
    have : c = q - p := by omega
    subst this
    simp (disch := omega) only [T_number_L9, T_number_B9, ldI_n, h7, iN_le, if_pos (show q ≤ p + (q - p) by omega)]
  | succ d ih =>
    intro m c h1 h2
    obtain ⟨m, rfl⟩ : ∃ g, m = g + 1 := ⟨m - 1, by omega⟩
    rw [← ih m (c + 1) (by omega) (by omega)]
    simp (disch := omega) only [T_number_L9, T_number_B9, ldI_n, h7, iN_le, if_neg (show ¬ q ≤ p + c by omega), lt_e, show iN (p + c) + 1 = iN (p + (c + 1)) by rw [i_1, iN_add]; rfl]
    rfl
theorem nu_ok (hF : 2100 ≤ F) {i p q : Nat} (hi : i < 2001) (hpq : p ≤ q) (hq : q ≤ 2000) (h6 : Q 6 i = iN p) (h7 : Q 7 i = iN q) : T_number F Q T (iN i) = some (nv (Q 4) p (q - p)) := by
  unfold T_number
  rw [ldI_n hi (by omega), h6]
  have := nu_L (F := F) (T := T) hi hpq hq h7 (q - p) F 0 (by omega) (by omega)
  exact this
theorem PT.num (h : PT N P E a o Q J K) (hk : Q 5 a = iN 1) : ∃ v, v ≤ 9999 ∧ J 5 a = iN v ∧ nv (Q 4) (P a) (E a - P a) = iN v ∧ Q 6 a = iN (P a) ∧ Q 7 a = iN (E a) ∧ P a ≤ E a ∧ E a ≤ 2000 := by
  obtain ⟨b1, b2, b3, b4, b5, b6⟩ := h.tr
  rcases b6 with ⟨c1, _⟩ | ⟨c1, c2, v, v1, v2, v3⟩ | ⟨c1, _⟩ | ⟨c1, _⟩ | ⟨c1, _⟩ | ⟨c1, _⟩
  · rw [hk] at c1; exact absurd c1 (by decide)
  · exact ⟨v, v1, v2, v3, b1, b2, b4, b5⟩
  · rw [hk] at c1; exact absurd c1 (by decide)
  · rw [hk] at c1; exact absurd c1 (by decide)
  · rw [hk] at c1; exact absurd c1 (by decide)
  · rw [hk] at c1; exact absurd c1 (by decide)
theorem qF.n {Q Q1 : Ji} (h : qF Q Q1) {o : Nat} (h1 : 2 ≤ o) (h2 : o ≤ 8) : Q1 o = Q o := h.1 o (by omega) (by omega)
end KN
