/-! PURE LAW 20: words -/
set_option maxRecDepth 100000
def Wds : List (List Int32) := [[114, 111, 111, 109], [100, 111, 111, 114], [115, 104, 117, 116], [116, 111, 111, 108], [116, 97, 115, 107], [115, 116, 101, 112], [119, 105, 116, 104], [117, 110, 100, 111, 101, 115], [109, 97, 110], [108, 101, 102, 116], [108, 97, 119], [105, 102], [116, 104, 101, 110], [101, 108, 115, 101], [110, 105, 103, 104, 116], [108, 97, 115, 116], [100, 111, 110, 101], [115, 116, 101, 112, 115], [109, 105, 110, 117, 116, 101], [115, 116, 117, 102, 102], [116, 105, 109, 101, 115]]
/-- a string of bytes, in the heap -/
def StT (T : Th) (s : Nat) (L : List Int32) : Prop := T.1 s = some (.inl 20) ∧ T.2.1 s 1 = 0 ∧ ∃ a, T.2.2.1 s 0 = some a ∧ T.1 a = some (.inr (.byte, L.length)) ∧ ∀ i c, L[i]? = some c → T.2.1 a i = c
/-- the words, and their numbers -/
def WdT (T : Th) (Xp : Jr) : Prop := ∃ wa, Xp 2 0 = some wa ∧ T.1 wa = some (.inr (.object "java/lang/String", 21)) ∧ ∀ w L, Wds[w]? = some L → ∃ s, T.2.2.1 wa w = some s ∧ StT T s L
def KyM (K : Jl) : Prop := ∀ w L, Wds[w]? = some L → K 7 w = c27 L
theorem w21 {w : Nat} (h : w < 21) : w = 0 ∨ w = 1 ∨ w = 2 ∨ w = 3 ∨ w = 4 ∨ w = 5 ∨ w = 6 ∨ w = 7 ∨ w = 8 ∨ w = 9 ∨ w = 10 ∨ w = 11 ∨ w = 12 ∨ w = 13 ∨ w = 14 ∨ w = 15 ∨ w = 16 ∨ w = 17 ∨ w = 18 ∨ w = 19 ∨ w = 20 := by omega
theorem wd_ok : ∀ w L, Wds[w]? = some L → w < 21 ∧ allL L ∧ L.length ≤ 6 ∧ 2 ≤ L.length := by
  intro w L h
  have hw : w < 21 := by
    rcases Nat.lt_or_ge w 21 with h1 | h1
    · exact h1
    · rw [List.getElem?_eq_none (show Wds.length ≤ w from h1)] at h; cases h
  refine ⟨hw, ?_⟩
  rcases w21 hw with rfl | rfl | rfl | rfl | rfl | rfl | rfl | rfl | rfl | rfl | rfl | rfl | rfl | rfl | rfl | rfl | rfl | rfl | rfl | rfl | rfl <;> (cases h; exact ⟨by unfold allL; decide, by decide, by decide⟩)
/-- which word: the component's way, the model's -/
def wS (L : List Int32) : Nat → Nat → Int32
  | 0, _ => -1
  | n + 1, w => if Wds[w]? = some L then iN w else wS L n (w + 1)
def wK (L : List Int32) : Nat → Nat → Int32 → Int32
  | 0, _, a => a
  | n + 1, w, a => wK L n (w + 1) (if Wds[w]? = some L then iN (20 + w) else a)
theorem wS_no {L : List Int32} (h : ∀ w : Nat, Wds[w]? ≠ some L) : ∀ n w a, wS L n w = -1 ∧ wK L n w a = a := by
  intro n
  induction n with
  | zero => intro w a; exact ⟨rfl, rfl⟩
  | succ n ih =>
    intro w a
    unfold wS wK
    rw [if_neg (h w), if_neg (h w)]
    exact ih (w + 1) a
theorem wS_c (L : List Int32) (a : Int32) : (wS L 21 0 = -1 ∧ wK L 21 0 a = a ∧ ∀ w : Nat, Wds[w]? ≠ some L) ∨ ∃ w : Nat, w < 21 ∧ wS L 21 0 = iN w ∧ wK L 21 0 a = iN (20 + w) ∧ Wds[w]? = some L := by
  by_cases h : ∃ w : Nat, Wds[w]? = some L
  · right
    obtain ⟨w, hw⟩ := h
    obtain ⟨h21, _⟩ := wd_ok w L hw
    refine ⟨w, h21, ?_⟩
    rcases w21 h21 with rfl | rfl | rfl | rfl | rfl | rfl | rfl | rfl | rfl | rfl | rfl | rfl | rfl | rfl | rfl | rfl | rfl | rfl | rfl | rfl | rfl <;> (cases hw; exact ⟨by decide, by simp [wK, Wds], rfl⟩)
  · left
    have h : ∀ w : Nat, Wds[w]? ≠ some L := fun w hw => h ⟨w, hw⟩
    obtain ⟨a1, a2⟩ := wS_no h 21 0 a
    exact ⟨a1, a2, h⟩
section WD
variable {T : Th} {F : Nat} {Q : Ji} {Xp : Jr}
theorem sh_0 {x : Int32} : x >>> ((0 : Int32) &&& 31) = x := by
  rw [show (0 : Int32) &&& 31 = 0 by decide]
  simp
theorem st_len {s : Nat} {L : List Int32} (h : StT T s L) : A_S_length T s = some (iN L.length) := by
  obtain ⟨h1, h2, a, h3, h4, h5⟩ := h
  simp only [A_S_length, A_S_coder, dR_p h1, h3, Option.bind_some, dL_p h4, dC_p h1, dI_p h1, h2, if_neg (show ¬ (1 : Int32) = 0 by decide)]
  rw [show yz 0 = some 0 from rfl]
  simp only [Option.bind_some, sh_0]
theorem ch_26 : ∀ d : Fin 26, (cz (((iN (97 + d.1) &&& 255).toUInt32 % 65536).toInt32) = some (iN (97 + d.1)) ∧ cz (iN (97 + d.1)) = some (iN (97 + d.1))) := by decide +kernel
theorem st_chr {s i : Nat} {L : List Int32} {c : Int32} (h : StT T s L) (hL : isL c = true) (hi : L[i]? = some c) (h8 : L.length ≤ 3000) : A_S_charAt T s (iN i) = some c := by
  obtain ⟨h1, h2, a, h3, h4, h5⟩ := h
  have hlt : i < L.length := by
    rcases Nat.lt_or_ge i L.length with h | h
    · exact h
    · rw [List.getElem?_eq_none h] at hi; cases hi
  obtain ⟨d, hd, rfl⟩ := isL_n hL
  have e1 : A_pci T (iN i) (iN L.length) = some (iN i) := by
    simp (disch := omega) only [A_pci, i_0, iN_lt, show ¬ i < 0 by omega, if_false, hlt, if_true]
  obtain ⟨q1, q2⟩ := ch_26 ⟨d, hd⟩
  have q1 : cz (((iN (97 + d) &&& 255).toUInt32 % 65536).toInt32) = some (iN (97 + d)) := q1
  have q2 : cz (iN (97 + d)) = some (iN (97 + d)) := q2
  simp (disch := omega) only [A_S_charAt, A_S_isLatin1, A_U_charAt, A_S_checkIndex, dC_p h1, dI_p h1, h2, if_neg (show ¬ (1 : Int32) = 0 by decide), if_true, Option.bind_some, dR_p h1, h3, dL_p h4, e1, dB_p h4, h5 i _ hi, q1, q2]
theorem tw_in {k2 : Int32 → Int32 → Int32 → Option Int32} {a b w s wa : Nat} {L : List Int32} (hb : b ≤ 2000) (h0 : Xp 2 0 = some wa) (h1 : T.1 wa = some (.inr (.object "java/lang/String", 21))) (hw : w < 21) (h2 : T.2.2.1 wa w = some s) (hS : StT T s L) (hL : allL L) (hlen : a + L.length = b) : ∀ d n k, k + d = b → a ≤ k → d + 1 < n → (∀ i, i < k - a → L[i]? = some (Q 4 (a + i))) → T_word_L36 F k2 Q Xp T n (iN a) (iN b) (iN w) 1 (iN k) = if L = seg (Q 4) a (b - a) then some (iN w) else k2 (iN a) (iN b) (iN (w + 1)) := by
  have z10 : ¬ (1 : Int32) = 0 := by decide
  have ew : iN w + 1 = iN (w + 1) := by rw [i_1, iN_add]
  intro d
  induction d with
  | zero =>
    intro n k hk ha hn hm
    obtain ⟨n, rfl⟩ : ∃ g, n = g + 1 := ⟨n - 1, by omega⟩
    have : k = b := by omega
    subst this
    have hEq : L = seg (Q 4) a (k - a) := by
      apply List.ext_getElem?
      intro i
      by_cases c : i < k - a
      · rw [hm i c, seg_get _ _ c]
      · rw [List.getElem?_eq_none (by omega), List.getElem?_eq_none (by rw [seg_len]; omega)]
    rw [if_pos hEq]
    simp (disch := omega) only [T_word_L36, T_word_B36, T_word_B83, iN_le, if_pos (Nat.le_refl _), if_neg z10]
  | succ d ih =>
    intro n k hk ha hn hm
    obtain ⟨n, rfl⟩ : ∃ g, n = g + 1 := ⟨n - 1, by omega⟩
    have hik : k - a < L.length := by omega
    have hg : L[k - a]? = some L[k - a] := List.getElem?_eq_getElem hik
    have hc := st_chr hS (hL _ (List.getElem_mem hik)) hg (by omega)
    have ek : iN k - iN a = iN (k - a) := iN_sub (by omega)
    have ek1 : iN k + 1 = iN (k + 1) := by rw [i_1, iN_add]
    by_cases c : L[k - a] = Q 4 k
    · have := ih n (k + 1) (by omega) (by omega) (by omega) (fun i hi => by
        by_cases ci : i = k - a
        · subst ci
          rw [hg, c, show a + (k - a) = k by omega]
        · exact hm i (by omega))
      rw [← this]
      simp (disch := omega) only [T_word_L36, T_word_B36, T_word_B75, iN_le, if_neg (show ¬ b ≤ k by omega), if_neg z10, h0, Option.bind_some, dA_p h1, h2, dC_p hS.1, ek, hc, ldI_n, if_pos c, lt_e, ek1]
    · obtain ⟨n, rfl⟩ : ∃ g, n = g + 1 := ⟨n - 1, by omega⟩
      have hne : ¬ L = seg (Q 4) a (b - a) := by
        intro h
        have h3 := seg_get (f := Q 4) (p := a) (b - a) (k - a) (by omega)
        rw [← h, hg, show a + (k - a) = k by omega] at h3
        exact c (Option.some.inj h3)
      rw [if_neg hne]
      have hB : T_word_L36 F k2 Q Xp T (n + 1) (iN a) (iN b) (iN w) 0 (iN (k + 1)) = k2 (iN a) (iN b) (iN (w + 1)) := by
        by_cases cb : b ≤ k + 1
        · simp (disch := omega) only [T_word_L36, T_word_B36, T_word_B83, iN_le, if_pos cb, if_true, lt_e, ew]
        · simp (disch := omega) only [T_word_L36, T_word_B36, T_word_B83, iN_le, if_neg cb, if_true, lt_e, ew]
      rw [← hB]
      have e0 : T_word_L36 F k2 Q Xp T (n + 1 + 1) (iN a) (iN b) (iN w) 1 (iN k) = T_word_B36 F k2 (T_word_L36 F k2 Q Xp T (n + 1)) Q Xp T (iN a) (iN b) (iN w) 1 (iN k) := rfl
      rw [e0]
      simp (disch := omega) only [T_word_B36, T_word_B75, iN_le, if_neg (show ¬ b ≤ k by omega), if_neg z10, h0, Option.bind_some, dA_p h1, h2, dC_p hS.1, ek, hc, ldI_n, if_neg c, lt_e, ek1]
theorem tw_L {a b : Nat} (hF : 2100 ≤ F) (hb : b ≤ 2000) (hab : a ≤ b) (hW : WdT T Xp) : ∀ n m w, w + n = 21 → n < m → T_word_L2 F Q Xp T m (iN a) (iN b) (iN w) = some (wS (seg (Q 4) a (b - a)) n w) := by
  obtain ⟨wa, h0, h1, h2⟩ := hW
  intro n
  induction n with
  | zero =>
    intro m w hw hm
    obtain ⟨m, rfl⟩ : ∃ g, m = g + 1 := ⟨m - 1, by omega⟩
    simp (disch := omega) only [T_word_L2, T_word_B2, h0, Option.bind_some, dL_p h1, iN_le, if_pos (show 21 ≤ w by omega)]
    rfl
  | succ n ih =>
    intro m w hw hm
    obtain ⟨m, rfl⟩ : ∃ g, m = g + 1 := ⟨m - 1, by omega⟩
    have hlt : w < 21 := by omega
    have hg : Wds[w]? = some (Wds[w]'hlt) := List.getElem?_eq_getElem hlt
    obtain ⟨s, s1, s2⟩ := h2 w _ hg
    obtain ⟨_, w1, w2, w3⟩ := wd_ok w _ hg
    have hn := ih m (w + 1) (by omega) (by omega)
    have e0 : T_word_L2 F Q Xp T (m + 1) (iN a) (iN b) (iN w) = if iN (Wds[w]'hlt).length = iN (b - a) then T_word_B31 F (T_word_L2 F Q Xp T m) Q Xp T (iN a) (iN b) (iN w) 1 else T_word_B31 F (T_word_L2 F Q Xp T m) Q Xp T (iN a) (iN b) (iN w) 0 := by
      simp (disch := omega) only [T_word_L2, T_word_B2, h0, Option.bind_some, dL_p h1, iN_le, if_neg (show ¬ 21 ≤ w by omega), dA_p h1, s1, dC_p s2.1, st_len s2, iN_sub]
    rw [e0]
    by_cases c : (Wds[w]'hlt).length = b - a
    · rw [if_pos (by rw [c])]
      have := tw_in (F := F) (Q := Q) (a := a) (b := b) (w := w) (k2 := T_word_L2 F Q Xp T m) hb h0 h1 hlt s1 s2 w1 (by omega) (b - a) F a (by omega) (by omega) (by omega) (fun i hi => by omega)
      unfold T_word_B31
      rw [this, hn]
      show _ = some (if Wds[w]? = some (seg (Q 4) a (b - a)) then iN w else wS (seg (Q 4) a (b - a)) n (w + 1))
      rw [hg]
      by_cases cc : Wds[w]'hlt = seg (Q 4) a (b - a)
      · rw [if_pos cc, if_pos (by rw [cc])]
      · rw [if_neg cc, if_neg (fun h => cc (Option.some.inj h))]
    · rw [if_neg (by rw [iN_eq (by omega) (by omega)]; exact c)]
      have hne : ¬ Wds[w]? = some (seg (Q 4) a (b - a)) := by
        rw [hg]
        intro h
        apply c
        rw [Option.some.inj h, seg_len]
      show _ = some (if Wds[w]? = some (seg (Q 4) a (b - a)) then iN w else wS (seg (Q 4) a (b - a)) n (w + 1))
      rw [if_neg hne, ← hn]
      obtain ⟨f, hf⟩ : ∃ f, F = f + 1 := ⟨F - 1, by omega⟩
      have e1 : T_word_B31 F (T_word_L2 F Q Xp T m) Q Xp T (iN a) (iN b) (iN w) 0 = T_word_B36 F (T_word_L2 F Q Xp T m) (T_word_L36 F (T_word_L2 F Q Xp T m) Q Xp T f) Q Xp T (iN a) (iN b) (iN w) 0 (iN a) := by
        unfold T_word_B31
        rw [show T_word_L36 F (T_word_L2 F Q Xp T m) Q Xp T F = T_word_L36 F (T_word_L2 F Q Xp T m) Q Xp T (f + 1) by rw [← hf]]
        rfl
      rw [e1]
      have ew : iN w + 1 = iN (w + 1) := by rw [i_1, iN_add]
      by_cases cb : iN b ≤ iN a
      · simp only [T_word_B36, T_word_B83, if_pos cb, if_true, lt_e, ew]
      · simp only [T_word_B36, T_word_B83, if_neg cb, if_true, lt_e, ew]
theorem tw_ok {a b : Nat} (hF : 2100 ≤ F) (hb : b ≤ 2000) (hab : a ≤ b) (hW : WdT T Xp) : T_word F Q Xp T (iN a) (iN b) = some (wS (seg (Q 4) a (b - a)) 21 0) := tw_L hF hb hab hW 21 F 0 rfl (by omega)
end WD
