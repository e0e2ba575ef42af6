/-! PURE LAW 26: names -/
set_option maxRecDepth 100000
section NM
variable {F : Nat} {T : Th} {Q : Ji}
/-- a token's text, as a string -/
theorem tx_ok {i p q : Nat} (hF : 2100 ≤ F) (hi : i < 2001) (hpq : p ≤ q) (hq : q ≤ 2000) (h8 : q - p ≤ 8) (h6 : Q 6 i = iN p) (h7 : Q 7 i = iN q) (hL : ∀ k, k < q - p → isL (Q 4 (p + k)) = true) (h0 : (tL T).2.2.1 ≤ tN T) (hN : tN T + 4 ≤ (tL T).1) (hZ : tZ T + 32 ≤ (tL T).2.1) : ∃ s T1, T_text F Q (iN i) T = some (some s, T1) ∧ tN T ≤ s ∧ StT T1 s (seg (Q 4) p (q - p)) ∧ ExN T T1 ∧ tN T1 = tN T + 4 ∧ tZ T1 ≤ tZ T + 32 := by
  let T1 := tNew T (.inl 21) 4
  let T2 := tNew T1 (.inr (.byte, 16)) 16
  let T3 := tR T2 (tN T) 0 (some (tN T + 1))
  let T4 := tI T3 (tN T) 1 0
  have z10 : ¬ (1 : Int32) = 0 := by decide
  have k1 : T2.1 (tN T) = some (.inl 21) := by
    show (tNew T1 (.inr (.byte, 16)) 16).1 (tN T) = _
    rw [tNew_1, if_neg (show ¬ tN T = tN T1 from by show ¬ tN T = tN T + 1; omega)]
    show (tNew T (.inl 21) 4).1 (tN T) = _
    rw [tNew_1, if_pos rfl]
  have hB : BdT T4 (tN T) 0 (Q 4) p := by
    refine ⟨k1, ?_, ?_, ?_, ?_, fun i hi => by omega⟩
    · show (tNew T1 (.inr (.byte, 16)) 16).1 (tN T + 1) = _
      rw [tNew_1]
      exact if_pos rfl
    · show (tR T2 (tN T) 0 (some (tN T + 1))).2.2.1 (tN T) 0 = _
      rw [tR_3, if_pos ⟨rfl, rfl⟩]
    · show (tI T3 (tN T) 1 0).2.1 (tN T) 1 = 0
      rw [tI_2, if_pos ⟨rfl, rfl⟩]
    · show (tI T3 (tN T) 1 0).2.1 (tN T) 3 = iN 0
      rw [tI_2, if_neg (by omega)]
      show (tNew T1 (.inr (.byte, 16)) 16).2.1 (tN T) 3 = _
      rw [tNew_2, if_neg (show ¬ tN T = tN T1 from by show ¬ tN T = tN T + 1; omega)]
      show (tNew T (.inl 21) 4).2.1 (tN T) 3 = _
      rw [tNew_2, if_pos rfl]
      rfl
  obtain ⟨T5, a1, a2, a3, a4, a5, a6, a7, a8⟩ := tx_L (F := F) hF hi hpq hq h8 h7 hL (q - p) F 0 T4 (by omega) (by omega) hB h0
  have n5 : tN T5 = tN T + 2 := a4
  have z5 : tZ T5 = tZ T + 20 := a5
  have l5 : tL T5 = tL T := a6
  obtain ⟨T6, b1, b2, b3, b4, b5⟩ := bd_str a2 h8 hL (by rw [l5, n5]; omega) (by omega) (by rw [l5, n5]; omega) (by rw [l5, z5]; omega)
  have hex : ExN T T5 := by
    refine ⟨by omega, l5, fun a ha => ⟨?_, ?_, ?_⟩, fun hb a ha => by
      rw [a3] at ha
      rw [a4]
      exact HB.new (T := T1) (HB.new (T := T) hb) a ha⟩
    · rw [a3]
      show (tNew T1 (.inr (.byte, 16)) 16).1 a = _
      rw [tNew_1, if_neg (show ¬ a = tN T1 from by show ¬ a = tN T + 1; omega)]
      show (tNew T (.inl 21) 4).1 a = _
      rw [tNew_1, if_neg (by omega)]
    · rw [a7 a (by omega) (by omega)]
      funext j
      show (tI T3 (tN T) 1 0).2.1 a j = _
      rw [tI_2, if_neg (by omega)]
      show (tNew T1 (.inr (.byte, 16)) 16).2.1 a j = _
      rw [tNew_2, if_neg (show ¬ a = tN T1 from by show ¬ a = tN T + 1; omega)]
      show (tNew T (.inl 21) 4).2.1 a j = _
      rw [tNew_2, if_neg (by omega)]
    · rw [a8]
      funext j
      show (tR T2 (tN T) 0 (some (tN T + 1))).2.2.1 a j = _
      rw [tR_3, if_neg (by omega)]
      show (tNew T1 (.inr (.byte, 16)) 16).2.2.1 a j = _
      rw [tNew_3, if_neg (show ¬ a = tN T1 from by show ¬ a = tN T + 1; omega)]
      show (tNew T (.inl 21) 4).2.2.1 a j = _
      rw [tNew_3, if_neg (by omega)]
  refine ⟨tN T5, T6, ?_, by omega, b2, hex.tr b3, by omega, by omega⟩
  unfold T_text
  rw [nO_p (by omega) (by omega)]
  have hinit : A_B_init (tN T) T1 = some T4 := by
    have e16 : (16 : Int32) = iN 16 := rfl
    have hp1 : ∀ g : Th → Option Th, pR T2 (tN T) 21 0 (some (tN T + 1)) g = g T3 := fun g => pR_p k1 h0
    have hp2 : ∀ g : Th → Option Th, pI T3 (tN T) 21 1 0 g = g T4 := fun g => pI_p k1 h0
    simp only [A_B_init, A_AB_init, if_neg z10, e16]
    rw [nA_p (by omega) (show tN T1 + 1 ≤ (tL T1).1 from by show tN T + 1 + 1 ≤ (tL T).1; omega) (show tZ T1 + 16 ≤ (tL T1).2.1 from by show tZ T + 4 + 16 ≤ (tL T).2.1; omega)]
    show ((pR T2 (tN T) 21 0 (some (tN T + 1)) fun T2' => pI T2' (tN T) 21 1 0 fun T3' => some T3').bind _) = _
    rw [hp1, hp2, Option.bind_some]
  show ((A_B_init (tN T) T1).bind fun r2 => ldI Q 6 2001 (iN i) fun x3 => T_text_L15 F Q F (iN i) (tN T) x3 r2) = _
  rw [hinit, Option.bind_some, ldI_n hi (by omega), h6]
  rw [Nat.add_zero] at a1
  rw [a1, b1, Option.bind_some]
theorem StT.un {s : Nat} {L M : List Int32} (h : StT T s L) (h2 : StT T s M) : L = M := by
  obtain ⟨_, _, a, a1, a2, a3⟩ := h
  obtain ⟨_, _, b, b1, b2, b3⟩ := h2
  cases a1.symm.trans b1
  have hl : L.length = M.length := by
    have := a2.symm.trans b2
    injection this with h3
    injection h3 with h4
    injection h4 with h5
  apply List.ext_getElem?
  intro i
  by_cases c : i < L.length
  · have e1 : L[i]? = some L[i] := List.getElem?_eq_getElem c
    have e2 : M[i]? = some (M[i]'(by omega)) := List.getElem?_eq_getElem (by omega)
    rw [e1, e2, ← a3 i _ e1, ← b3 i _ e2]
  · rw [List.getElem?_eq_none (by omega), List.getElem?_eq_none (by omega)]
theorem se_L {a b n : Nat} {L M : List Int32} (hn : n ≤ 1000) (hL : L.length = n) (hM : M.length = n) (a2 : T.1 a = some (.inr (.byte, n))) (b2 : T.1 b = some (.inr (.byte, n))) (a3 : ∀ i c, L[i]? = some c → T.2.1 a i = c) (b3 : ∀ i c, M[i]? = some c → T.2.1 b i = c) : ∀ d m i, i + d = n → d < m → (∀ j, j < i → L[j]? = M[j]?) → A_U_equals_L9 F T m a b (iN i) = some (if L = M then 1 else 0) := by
  intro d
  induction d with
  | zero =>
    intro m i h1 h2 h3
    obtain ⟨m, rfl⟩ : ∃ g, m = g + 1 := ⟨m - 1, by omega⟩
    have : i = n := by omega
    subst this
    have hE : L = M := by
      apply List.ext_getElem?
      intro j
      by_cases c : j < i
      · exact h3 j c
      · rw [List.getElem?_eq_none (by omega), List.getElem?_eq_none (by omega)]
    rw [if_pos hE]
    simp (disch := omega) only [A_U_equals_L9, A_U_equals_B9, dL_p a2, iN_le, if_pos (Nat.le_refl i)]
  | succ d ih =>
    intro m i h1 h2 h3
    obtain ⟨m, rfl⟩ : ∃ g, m = g + 1 := ⟨m - 1, by omega⟩
    have e1 : L[i]? = some (L[i]'(by omega)) := List.getElem?_eq_getElem (by omega)
    have e2 : M[i]? = some (M[i]'(by omega)) := List.getElem?_eq_getElem (by omega)
    have f1 := a3 i _ e1
    have f2 := b3 i _ e2
    by_cases c : L[i]'(by omega) = M[i]'(by omega)
    · rw [← ih m (i + 1) (by omega) (by omega) (fun j hj => by
        by_cases cj : j = i
        · subst cj; rw [e1, e2, c]
        · exact h3 j (by omega))]
      simp (disch := omega) only [A_U_equals_L9, A_U_equals_B9, dL_p a2, iN_le, if_neg (show ¬ n ≤ i by omega), dB_p a2, dB_p b2, f1, f2, if_pos c, lt_e, show iN i + 1 = iN (i + 1) by rw [i_1, iN_add]]
    · have hne : ¬ L = M := by
        intro h
        apply c
        subst h
        rfl
      rw [if_neg hne]
      simp (disch := omega) only [A_U_equals_L9, A_U_equals_B9, dL_p a2, iN_le, if_neg (show ¬ n ≤ i by omega), dB_p a2, dB_p b2, f1, f2, if_neg c]
theorem st_eq {s t : Nat} {L M : List Int32} (hF : 2100 ≤ F) (h : StT T s L) (h2 : StT T t M) (hL : L.length ≤ 8) (hM : M.length ≤ 8) : A_S_equals F T s t = some (if L = M then 1 else 0) := by
  by_cases c : s = t
  · subst c
    rw [if_pos (h.un h2)]
    simp only [A_S_equals, if_true]
  · obtain ⟨a0, a1, a, ar, a2, a3⟩ := h
    obtain ⟨b0, b1, b, br, b2, b3⟩ := h2
    have z10 : ¬ (1 : Int32) = 0 := by decide
    have hU : A_U_equals F T a b = some (if L = M then 1 else 0) := by
      by_cases cl : L.length = M.length
      · have := se_L (F := F) (T := T) (n := L.length) (by omega) rfl cl.symm a2 (by rw [cl]; exact b2) a3 b3 L.length F 0 (by omega) (by omega) (fun j hj => by omega)
        simp only [A_U_equals, dL_p a2, dL_p b2, cl, if_true]
        exact this
      · have hne : ¬ L = M := fun h => cl (by rw [h])
        rw [if_neg hne]
        simp (disch := omega) only [A_U_equals, dL_p a2, dL_p b2, iN_eq, if_neg cl]
    simp only [A_S_equals, A_S_equals_B36, if_neg c, dC_p b0, if_neg z10, dI_p a0, dI_p b0, a1, b1, if_true, dR_p a0, dR_p b0, ar, br, Option.bind_some, hU]
    by_cases cc : L = M
    · rw [if_pos cc, if_neg z10]
    · rw [if_neg cc, if_pos rfl]
/-- the first of a row with a name -/
def fnd (nm : Nat → List Int32) (L : List Int32) : Nat → Nat → Int32
  | 0, _ => -1
  | d + 1, i => if nm i = L then iN i else fnd nm L d (i + 1)
theorem fnd_c {nm : Nat → List Int32} {L : List Int32} : ∀ d i, (∃ j, i ≤ j ∧ j < i + d ∧ nm j = L ∧ (∀ k, i ≤ k → k < j → nm k ≠ L) ∧ fnd nm L d i = iN j) ∨ ((∀ k, i ≤ k → k < i + d → nm k ≠ L) ∧ fnd nm L d i = -1) := by
  intro d
  induction d with
  | zero => intro i; exact Or.inr ⟨fun k a b => by omega, rfl⟩
  | succ d ih =>
    intro i
    unfold fnd
    by_cases c : nm i = L
    · exact Or.inl ⟨i, Nat.le_refl _, by omega, c, fun k a b => by omega, if_pos c⟩
    · rw [if_neg c]
      rcases ih (i + 1) with ⟨j, a1, a2, a3, a4, a5⟩ | ⟨a1, a2⟩
      · refine Or.inl ⟨j, by omega, by omega, a3, fun k b1 b2 => ?_, a5⟩
        by_cases ck : k = i
        · rw [ck]; exact c
        · exact a4 k (by omega) b2
      · refine Or.inr ⟨fun k b1 b2 => ?_, a2⟩
        by_cases ck : k = i
        · rw [ck]; exact c
        · exact a1 k (by omega) (by omega)
/-- a row of named things -/
def RwT (T : Th) (b n : Nat) (f : Nat → Nat) (nm : Nat → List Int32) : Prop := LsT T b n f ∧ ∀ i, i < n → (∃ ci, ci ∈ nmd ∧ T.1 (f i) = some (.inl ci)) ∧ (nm i).length ≤ 8 ∧ ∃ s, T.2.2.1 (f i) 0 = some s ∧ StT T s (nm i)
theorem at_L {b n s : Nat} {f : Nat → Nat} {nm : Nat → List Int32} {L : List Int32} (hF : 2100 ≤ F) (hn : n ≤ 100) (h : RwT T b n f nm) (hs : StT T s L) (hL : L.length ≤ 8) : ∀ d m i, i + d = n → d < m → A_Text_at_L2 F T m b s (iN i) = some (fnd nm L d i) := by
  intro d
  induction d with
  | zero =>
    intro m i h1 h2
    obtain ⟨m, rfl⟩ : ∃ g, m = g + 1 := ⟨m - 1, by omega⟩
    simp (disch := omega) only [A_Text_at_L2, A_Text_at_B2, h.1.sz, iN_le, if_pos (show n ≤ i by omega)]
    rfl
  | succ d ih =>
    intro m i h1 h2
    obtain ⟨m, rfl⟩ : ∃ g, m = g + 1 := ⟨m - 1, by omega⟩
    obtain ⟨⟨ci, c1, c2⟩, c3, s', c4, c5⟩ := h.2 i (by omega)
    have hq : ∀ g : Option Int32, dQ T (f i) g = g := fun g => by
      unfold dQ
      rw [c2]
      exact if_pos c1
    have hm : ∀ g : Option Nat → Option Int32, dM T (f i) g = g (some s') := fun g => by
      unfold dM
      rw [hq, c4]
    have heq := st_eq hF c5 hs c3 hL
    have z10 : ¬ (1 : Int32) = 0 := by decide
    show _ = some (if nm i = L then iN i else fnd nm L d (i + 1))
    by_cases c : nm i = L
    · rw [if_pos c] at heq ⊢
      simp (disch := omega) only [A_Text_at_L2, A_Text_at_B2, h.1.sz, iN_le, if_neg (show ¬ n ≤ i by omega), h.1.gt (show i < n by omega), Option.bind_some, hq, hm, dC_p c5.1, heq, if_neg z10]
    · rw [if_neg c] at heq ⊢
      rw [← ih m (i + 1) (by omega) (by omega)]
      simp (disch := omega) only [A_Text_at_L2, A_Text_at_B2, h.1.sz, iN_le, if_neg (show ¬ n ≤ i by omega), h.1.gt (show i < n by omega), Option.bind_some, hq, hm, dC_p c5.1, heq, if_true, lt_e, show iN i + 1 = iN (i + 1) by rw [i_1, iN_add]]
theorem at_ok {b n s : Nat} {f : Nat → Nat} {nm : Nat → List Int32} {L : List Int32} (hF : 2100 ≤ F) (hn : n ≤ 100) (h : RwT T b n f nm) (hs : StT T s L) (hL : L.length ≤ 8) : A_Text_at F T b s = some (fnd nm L n 0) := at_L hF hn h hs hL n F 0 (by omega) (by omega)
end NM
/-! the model's names -/
/-- the notes of names: sorts sg, indices ix, names nm by sort and index, how many cn by sort -/
def NtM (J : Ji) (K : Jl) (Nn : Nat) (sg id_ : Nat → Nat) (nm : Nat → Nat → List Int32) (cn : Nat → Nat) : Prop := J 0 20 = iN Nn ∧ Nn ≤ 26 ∧ (∀ q, q < Nn → J 9 q = iN (sg q) ∧ J 10 q = iN (id_ q) ∧ K 8 q = c27 (nm (sg q) (id_ q)) ∧ sg q < 4 ∧ id_ q < cn (sg q)) ∧ (∀ q r, q < r → r < Nn → sg q = sg r → id_ q < id_ r) ∧ (∀ s i, s < 4 → i < cn s → ∃ q, q < Nn ∧ sg q = s ∧ id_ q = i) ∧ ∀ s i, s < 4 → i < cn s → allL (nm s i) ∧ (nm s i).length ≤ 8
section NX
variable {F : Nat} {J : Ji} {K : Jl} {Nn : Nat} {sg id_ : Nat → Nat} {nm : Nat → Nat → List Int32} {cn : Nat → Nat}
theorem cmp_i {L M : List Int32} (hL : allL L) (hM : allL M) (l8 : L.length ≤ 8) (m8 : M.length ≤ 8) : (lg_cmp (c27 L) (c27 M) = 0) ↔ L = M := by
  constructor
  · intro h
    by_cases c : c27 L = c27 M
    · exact (c27_i hL hM l8 m8).1 c
    · exfalso
      unfold lg_cmp at h
      rw [if_neg c] at h
      split at h <;> exact absurd h (by decide)
  · intro h
    subst h
    simp [lg_cmp]
/-- what is known by a name: both find the same -/
theorem kn_L {s t : Nat} {L : List Int32} (h : NtM J K Nn sg id_ nm cn) (hs : s < 4) (ht : t < 403) (hcn : cn s ≤ 100) (hL : allL L) (l8 : L.length ≤ 8) (hk : K 6 t = c27 L) : ∀ d m q, q + d = Nn → d < m → (∀ r, r < q → ¬ (sg r = s ∧ nm s (id_ r) = L)) → ((∃ i, i < cn s ∧ fnd (nm s) L (cn s) 0 = iN i ∧ M_known_L21 F K m (iN s) (iN t) (iN q) J = some (iN i, J)) ∨ (fnd (nm s) L (cn s) 0 = -1 ∧ M_known_L21 F K m (iN s) (iN t) (iN q) J = (M_wrong 4 (iN t) J).bind fun r3 => some (-1, r3))) := by
  obtain ⟨h1, h2, h3, h4, h5, h6⟩ := h
  intro d
  induction d with
  | zero =>
    intro m q a1 a2 a3
    obtain ⟨m, rfl⟩ : ∃ g, m = g + 1 := ⟨m - 1, by omega⟩
    right
    refine ⟨?_, ?_⟩
    · rcases fnd_c (nm := nm s) (L := L) (cn s) 0 with ⟨j, b1, b2, b3, _⟩ | ⟨_, b2⟩
      · obtain ⟨r, r1, r2, r3⟩ := h5 s j hs (by omega)
        exact absurd ⟨r2, by rw [r3]; exact b3⟩ (a3 r (by omega))
      · exact b2
    · simp (disch := omega) only [M_known_L21, M_known_B21, h1, iN_le, if_pos (show Nn ≤ q by omega)]
  | succ d ih =>
    intro m q a1 a2 a3
    obtain ⟨m, rfl⟩ : ∃ g, m = g + 1 := ⟨m - 1, by omega⟩
    obtain ⟨b1, b2, b3, b4, b5⟩ := h3 q (by omega)
    obtain ⟨c1, c2⟩ := h6 (sg q) (id_ q) b4 b5
    have hcmp := cmp_i c1 hL c2 l8
    have eq1 : iN q + 1 = iN (q + 1) := by rw [i_1, iN_add]
    have nxt : ¬ (sg q = s ∧ nm s (id_ q) = L) → M_known_L21 F K (m + 1) (iN s) (iN t) (iN q) J = M_known_L21 F K m (iN s) (iN t) (iN (q + 1)) J → ((∃ i, i < cn s ∧ fnd (nm s) L (cn s) 0 = iN i ∧ M_known_L21 F K (m + 1) (iN s) (iN t) (iN q) J = some (iN i, J)) ∨ (fnd (nm s) L (cn s) 0 = -1 ∧ M_known_L21 F K (m + 1) (iN s) (iN t) (iN q) J = (M_wrong 4 (iN t) J).bind fun r3 => some (-1, r3))) := fun hn he => by
      rw [he]
      exact ih m (q + 1) (by omega) (by omega) (fun r hr => by
        by_cases cr : r = q
        · rw [cr]; exact hn
        · exact a3 r (by omega))
    by_cases cc : nm (sg q) (id_ q) = L
    · have k0 : lg_cmp (c27 (nm (sg q) (id_ q))) (c27 L) = 0 := hcmp.2 cc
      by_cases cs : sg q = s
      · subst cs
        left
        refine ⟨id_ q, b5, ?_, ?_⟩
        · rcases fnd_c (nm := nm (sg q)) (L := L) (cn (sg q)) 0 with ⟨j, d1, d2, d3, d4, d5⟩ | ⟨d1, d2⟩
          · have : j = id_ q := by
              have hj1 : ¬ id_ q < j := fun hh => d4 (id_ q) (by omega) hh cc
              have hj2 : ¬ j < id_ q := fun hh => by
                obtain ⟨r, r1, r2, r3⟩ := h5 (sg q) j b4 (by omega)
                by_cases crq : r < q
                · exact a3 r crq ⟨r2, by rw [r3]; exact d3⟩
                · have hne : r ≠ q := fun hh => by subst hh; omega
                  have := h4 q r (by omega) r1 r2.symm
                  omega
              omega
            rw [d5, this]
          · exact absurd cc (d1 (id_ q) (by omega) (by omega))
        · simp (disch := omega) only [M_known_L21, M_known_B21, h1, iN_le, if_neg (show ¬ Nn ≤ q by omega), ldL_n, b3, hk, if_pos k0, ldI_n, b1, if_true, b2]
      · refine nxt (fun hh => cs hh.1) ?_
        simp (disch := omega) only [M_known_L21, M_known_B21, h1, iN_le, if_neg (show ¬ Nn ≤ q by omega), ldL_n, b3, hk, if_pos k0, ldI_n, b1, iN_eq, if_neg cs, lt_e, eq1]
    · have k0 : ¬ lg_cmp (c27 (nm (sg q) (id_ q))) (c27 L) = 0 := fun hh => cc (hcmp.1 hh)
      refine nxt (fun hh => by
        obtain ⟨y1, y2⟩ := hh
        rw [y1] at cc
        exact cc y2) ?_
      simp (disch := omega) only [M_known_L21, M_known_B21, h1, iN_le, if_neg (show ¬ Nn ≤ q by omega), ldL_n, b3, hk, if_neg k0, lt_e, eq1]
end NX
