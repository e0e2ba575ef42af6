/-! PURE LAW 58: a law that is being told -/
set_option maxRecDepth 100000
def kN (dk : Dk) : Prop := dk = .inl 16 ∨ dk = .inl 17 ∨ dk = .inl 18
theorem Nd.sn {T T1 : Th} (h : SmK kN T T1) : ∀ n a c, Nd T n a c → Nd T1 n a c := by
  intro n
  induction n with
  | zero => intro a c hh; exact hh
  | succ n ih =>
    intro a c hh
    rcases hh with ⟨a1, a2⟩ | ⟨k, a1, a2, a3, a4⟩ | ⟨a0, a1, a2, c1, c2, op, b1, b2, b3, b4, b5, b6⟩
    · obtain ⟨x1, x2, x3⟩ := h a _ a1 (Or.inl rfl)
      exact Or.inl ⟨by rw [x1]; exact a1, by rw [x2]; exact a2⟩
    · obtain ⟨x1, x2, x3⟩ := h a _ a2 (Or.inr (Or.inl rfl))
      exact Or.inr (Or.inl ⟨k, a1, by rw [x1]; exact a2, by rw [x2]; exact a3, a4⟩)
    · obtain ⟨x1, x2, x3⟩ := h a _ a0 (Or.inr (Or.inr rfl))
      exact Or.inr (Or.inr ⟨by rw [x1]; exact a0, a1, a2, c1, c2, op, by rw [x3]; exact b1, by rw [x3]; exact b2, ih _ _ b3, ih _ _ b4, b5, by rw [x2]; exact b6⟩)
theorem sn_R {T : Th} {q i : Nat} {r : Option Nat} {ty : FieldType} {n : Nat} (hq : T.1 q = some (.inr (ty, n))) : SmK kN T (tR T q i r) := fun a dk ha hk => by
  refine ⟨rfl, rfl, ?_⟩
  funext j
  have : a ≠ q := fun hh => by
    rw [hh, hq] at ha
    have := Option.some.inj ha
    rcases hk with h | h | h <;> (rw [h] at this; cases this)
  rw [tR_3, if_neg (fun hh => this hh.1)]
theorem sn_I {T : Th} {q i : Nat} {v : Int32} (hq : T.1 q = some (.inl 15)) : SmK kN T (tI T q i v) := fun a dk ha hk => by
  refine ⟨rfl, ?_, rfl⟩
  funext j
  have : a ≠ q := fun hh => by
    rw [hh, hq] at ha
    have := Option.some.inj ha
    rcases hk with h | h | h <;> (rw [h] at this; exact absurd this (by decide))
  rw [tI_2, if_neg (fun hh => this hh.1)]
/-- a sum in a law's row -/
def PN (T : Th) (p i : Nat) (c : Br) : Prop := ∃ x, T.2.2.1 p i = some x ∧ Nd T dSum x c
/-- the component's law la, of which L was told -/
def LwI (T : Th) (la p0 p1 p2 : Nat) (L : List (Br × Br × Br)) : Prop := (T.1 la = some (.inl 15) ∧ T.2.1 la 3 = iN L.length ∧ L.length ≤ 4 ∧ T.2.2.1 la 0 = some p0 ∧ T.2.2.1 la 1 = some p1 ∧ T.2.2.1 la 2 = some p2) ∧ (T.1 p0 = some (.inr (.object "SleepWork$Sum", 4)) ∧ T.1 p1 = some (.inr (.object "SleepWork$Sum", 4)) ∧ T.1 p2 = some (.inr (.object "SleepWork$Sum", 5)) ∧ p0 ≠ p1 ∧ p0 ≠ p2 ∧ p1 ≠ p2) ∧ ∀ i e, L[i]? = some e → PN T p0 i e.1 ∧ PN T p1 i e.2.1 ∧ PN T p2 i e.2.2
section LI
variable {T T1 : Th} {la p0 p1 p2 : Nat} {L : List (Br × Br × Br)}
theorem PN.ex {p i : Nat} {c : Br} {dk : Dk} (h : PN T p i c) (hB : HB T) (hp : T.1 p = some dk) (hx : ExN T T1) : PN T1 p i c := by
  obtain ⟨x, h1, h2⟩ := h
  exact ⟨x, by rw [(hB.at_ hx hp).2.2]; exact h1, Nd.sn (ExN.sm hB hx) _ _ _ h2⟩
theorem PN.wr {p i q j : Nat} {c : Br} {r : Option Nat} {ty : FieldType} {n : Nat} (h : PN T p i c) (hq : T.1 q = some (.inr (ty, n))) (hne : ¬ (p = q ∧ i = j)) : PN (tR T q j r) p i c := by
  obtain ⟨x, h1, h2⟩ := h
  exact ⟨x, by rw [tR_3, if_neg hne]; exact h1, Nd.sn (sn_R hq) _ _ _ h2⟩
theorem PN.wi {p i q j : Nat} {c : Br} {v : Int32} (h : PN T p i c) (hq : T.1 q = some (.inl 15)) : PN (tI T q j v) p i c := by
  obtain ⟨x, h1, h2⟩ := h
  exact ⟨x, h1, Nd.sn (sn_I hq) _ _ _ h2⟩
theorem L_lt {i : Nat} {e : Br × Br × Br} (h : L[i]? = some e) : i < L.length := by
  rcases Nat.lt_or_ge i L.length with hh | hh
  · exact hh
  · rw [List.getElem?_eq_none hh] at h; cases h
theorem LwI.ex (h : LwI T la p0 p1 p2 L) (hB : HB T) (hx : ExN T T1) : LwI T1 la p0 p1 p2 L := by
  obtain ⟨⟨h1, h2, h3, h4, h5, h6⟩, ⟨h7, h8, h9, h10⟩, h11⟩ := h
  obtain ⟨x1, x2, x3⟩ := hB.at_ hx h1
  exact ⟨⟨x1, by rw [x2]; exact h2, h3, by rw [x3]; exact h4, by rw [x3]; exact h5, by rw [x3]; exact h6⟩, ⟨(hB.at_ hx h7).1, (hB.at_ hx h8).1, (hB.at_ hx h9).1, h10⟩, fun i e he => ⟨(h11 i e he).1.ex hB h7 hx, (h11 i e he).2.1.ex hB h8 hx, (h11 i e he).2.2.ex hB h9 hx⟩⟩
theorem LwI.wr {q i : Nat} {r : Option Nat} (h : LwI T la p0 p1 p2 L) (hq : q = p0 ∨ q = p1 ∨ q = p2) (hi : L.length ≤ i) : LwI (tR T q i r) la p0 p1 p2 L := by
  obtain ⟨⟨h1, h2, h3, h4, h5, h6⟩, ⟨h7, h8, h9, h10⟩, h11⟩ := h
  have hqk : ∃ n, T.1 q = some (.inr (.object "SleepWork$Sum", n)) := by
    rcases hq with rfl | rfl | rfl
    · exact ⟨_, h7⟩
    · exact ⟨_, h8⟩
    · exact ⟨_, h9⟩
  obtain ⟨n, hqk⟩ := hqk
  have hla : la ≠ q := fun hh => by rw [hh, hqk] at h1; cases h1
  have f : ∀ j, (tR T q i r).2.2.1 la j = T.2.2.1 la j := fun j => by rw [tR_3, if_neg (fun hh => hla hh.1)]
  refine ⟨⟨h1, h2, h3, by rw [f]; exact h4, by rw [f]; exact h5, by rw [f]; exact h6⟩, ⟨h7, h8, h9, h10⟩, fun j e he => ?_⟩
  have hj := L_lt he
  exact ⟨(h11 j e he).1.wr hqk (fun hh => by omega), (h11 j e he).2.1.wr hqk (fun hh => by omega), (h11 j e he).2.2.wr hqk (fun hh => by omega)⟩
theorem LwI.next {c1 c2 c3 : Br} (h : LwI T la p0 p1 p2 L) (hl : L.length < 4) (q0 : PN T p0 L.length c1) (q1 : PN T p1 L.length c2) (q2 : PN T p2 L.length c3) : LwI (tI T la 3 (iN (L.length + 1))) la p0 p1 p2 (L ++ [(c1, c2, c3)]) := by
  obtain ⟨⟨h1, h2, h3, h4, h5, h6⟩, ⟨h7, h8, h9, h10⟩, h11⟩ := h
  have hll : (L ++ [(c1, c2, c3)]).length = L.length + 1 := by simp
  refine ⟨⟨h1, by rw [tI_2, if_pos ⟨rfl, rfl⟩, hll], by omega, h4, h5, h6⟩, ⟨h7, h8, h9, h10⟩, fun j e he => ?_⟩
  by_cases cj : j < L.length
  · rw [List.getElem?_append_left cj] at he
    exact ⟨(h11 j e he).1.wi h1, (h11 j e he).2.1.wi h1, (h11 j e he).2.2.wi h1⟩
  · have hj := L_lt he
    have : j = L.length := by omega
    subst this
    rw [List.getElem?_append_right (Nat.le_refl _), Nat.sub_self] at he
    have he' : (c1, c2, c3) = e := Option.some.inj he
    rw [← he']
    exact ⟨q0.wi h1, q1.wi h1, q2.wi h1⟩
end LI
/-- codes from .. to, below the n-th of the side -/
def cdN (J : Ji) (g n : Nat) (f t : Int32) (c : Br) : Prop := ∃ p, f = iN p ∧ t = iN (p + c.length) ∧ 420 * g ≤ p ∧ p + c.length ≤ 420 * g + n ∧ ∀ i e, c[i]? = some e → J 42 (p + i) = iN e.1 ∧ J 43 (p + i) = e.2
theorem cdN.mo {J J1 : Ji} {g n n1 : Nat} {f t : Int32} {c : Br} (h : cdN J g n f t c) (hn : n ≤ n1) (hJ : ∀ p i, (p = 42 ∨ p = 43) → i < 420 * g + n → J1 p i = J p i) : cdN J1 g n1 f t c := by
  obtain ⟨p, h1, h2, h3, h4, h5⟩ := h
  refine ⟨p, h1, h2, h3, by omega, fun i e he => ?_⟩
  have hi : i < c.length := by
    rcases Nat.lt_or_ge i c.length with hh | hh
    · exact hh
    · rw [List.getElem?_eq_none hh] at he; cases he
  rw [hJ 42 _ (Or.inl rfl) (by omega), hJ 43 _ (Or.inr rfl) (by omega)]
  exact h5 i e he
theorem cdN.j {J : Ji} {g n : Nat} {f t : Int32} {c : Br} (h : cdN J g n f t c) (hn : n ≤ 420) : cdJ J g f t c := by
  obtain ⟨p, h1, h2, h3, h4, h5⟩ := h
  exact ⟨p, h1, h2, h3, by omega, h5⟩
/-- the model's law, of which L was told -/
def LwM (g nb nc : Nat) (J0 J : Ji) (L : List (Br × Br × Br)) (n1 : Nat) : Prop := ((nc ≤ n1 ∧ J 0 56 = iN (420 * g + n1)) ∧ J 0 49 = iN (50 * g + nb + L.length)) ∧ (∀ i e, L[i]? = some e → J 36 (50 * g + nb + i) = iN 1 ∧ cdN J g n1 (J 37 (50 * g + nb + i)) (J 38 (50 * g + nb + i)) e.1 ∧ cdN J g n1 (J 38 (50 * g + nb + i)) (J 39 (50 * g + nb + i)) e.2.1 ∧ cdN J g n1 (J 39 (50 * g + nb + i)) (J 40 (50 * g + nb + i)) e.2.2) ∧ (∀ p i, 36 ≤ p → p ≤ 40 → i < 50 * g + nb → J p i = J0 p i) ∧ (∀ p i, (p = 42 ∨ p = 43) → i < 420 * g + nc → J p i = J0 p i) ∧ (∀ p, p ≠ 0 → (p < 36 ∨ p = 41 ∨ 44 < p) → J p = J0 p) ∧ (∀ i, (i < 11 ∨ 16 < i) → i ≠ 49 → i ≠ 56 → i ≠ 60 → J 0 i = J0 0 i) ∧ FrJ g J0 J
section LM
variable {g nb nc n1 : Nat} {J0 J J1 : Ji} {L : List (Br × Br × Br)}
theorem LwM.jf (h : LwM g nb nc J0 J L n1) (hj : jF J J1) : LwM g nb nc J0 J1 L n1 := by
  obtain ⟨⟨⟨h1, h2⟩, h3⟩, h4, h5, h6, h7, h8, h9⟩ := h
  refine ⟨⟨⟨h1, by rw [hj.2 56 (by omega)]; exact h2⟩, by rw [hj.2 49 (by omega)]; exact h3⟩, fun i e he => ?_, fun p i p1 p2 hi => by rw [hj.1 p (by omega)]; exact h5 p i p1 p2 hi, fun p i hp hi => by rw [hj.1 p (by omega)]; exact h6 p i hp hi, fun p p0 hp => by rw [hj.1 p p0]; exact h7 p p0 hp, fun i a1 a2 a3 a4 => by rw [hj.2 i a1]; exact h8 i a1 a2 a3 a4, h9.tr hj.w⟩
  rw [hj.1 36 (by omega), hj.1 37 (by omega), hj.1 38 (by omega), hj.1 39 (by omega), hj.1 40 (by omega)]
  obtain ⟨a1, a2, a3, a4⟩ := h4 i e he
  have q : ∀ p i, (p = 42 ∨ p = 43) → i < 420 * g + n1 → J1 p i = J p i := fun p i hp _ => by rw [hj.1 p (by omega)]
  exact ⟨a1, a2.mo (Nat.le_refl _) q, a3.mo (Nat.le_refl _) q, a4.mo (Nat.le_refl _) q⟩
/-- an entry of the branch that is being told -/
theorem LwM.st {p : Nat} {v : Int32} (h : LwM g nb nc J0 J L n1) (hp : 36 ≤ p) (hp2 : p ≤ 40) {j : Nat} (hj : L.length ≤ j) (hb : nb + j < 50) : LwM g nb nc J0 (uJ J p (50 * g + nb + j) v) L n1 := by
  obtain ⟨⟨⟨h1, h2⟩, h3⟩, h4, h5, h6, h7, h8, h9⟩ := h
  refine ⟨⟨⟨h1, by rw [uJ_o (by omega)]; exact h2⟩, by rw [uJ_o (by omega)]; exact h3⟩, fun i e he => ?_, fun q i p1 p2 hi => by rw [uJ_ap, if_neg (by omega)]; exact h5 q i p1 p2 hi, fun q i hq hi => by rw [uJ_o (by omega)]; exact h6 q i hq hi, fun q p0 hq => by rw [uJ_o (by omega)]; exact h7 q p0 hq, fun i a1 a2 a3 a4 => by rw [uJ_o (by omega)]; exact h8 i a1 a2 a3 a4, h9.tr (FrJ.u ?_)⟩
  · have hi := L_lt he
    have f : ∀ q, 36 ≤ q → q ≤ 40 → uJ J p (50 * g + nb + j) v q (50 * g + nb + i) = J q (50 * g + nb + i) := fun q _ _ => by rw [uJ_ap, if_neg (by omega)]
    rw [f 36 (by omega) (by omega), f 37 (by omega) (by omega), f 38 (by omega) (by omega), f 39 (by omega) (by omega), f 40 (by omega) (by omega)]
    obtain ⟨a1, a2, a3, a4⟩ := h4 i e he
    have q : ∀ q i, (q = 42 ∨ q = 43) → i < 420 * g + n1 → uJ J p (50 * g + nb + j) v q i = J q i := fun q i hp _ => by rw [uJ_o (by omega)]
    exact ⟨a1, a2.mo (Nat.le_refl _) q, a3.mo (Nat.le_refl _) q, a4.mo (Nat.le_refl _) q⟩
  · have : p = 36 ∨ p = 37 ∨ p = 38 ∨ p = 39 ∨ p = 40 := by omega
    rcases this with rfl | rfl | rfl | rfl | rfl <;> (simp [wr_, lv_]; omega)
theorem LwM.exp {c : Br} (h : LwM g nb nc J0 J L n1) (hE : ES g n1 J J1 c []) : LwM g nb nc J0 J1 L (n1 + c.length) ∧ cdN J1 g (n1 + c.length) (iN (420 * g + n1)) (iN (420 * g + n1 + c.length)) c ∧ (∀ p, p ≠ 0 → p ≠ 42 → p ≠ 43 → p ≠ 44 → J1 p = J p) ∧ (∀ p i, (p = 42 ∨ p = 43) → i < 420 * g + n1 → J1 p i = J p i) := by
  obtain ⟨⟨⟨h1, h2⟩, h3⟩, h4, h5, h6, h7, h8, h9⟩ := h
  obtain ⟨e1, ⟨e2, e3⟩, e4, e5, e6, e7, e8⟩ := hE
  refine ⟨⟨⟨⟨by omega, by rw [e2]; congr 1; omega⟩, by rw [e6 49 (by omega) (by omega) (by omega)]; exact h3⟩, fun i e he => ?_, fun p i p1 p2 hi => by rw [e5 p (by omega) (by omega) (by omega) (by omega)]; exact h5 p i p1 p2 hi, fun p i hp hi => by rw [e4 p i hp (by omega)]; exact h6 p i hp hi, fun p p0 hp => by rw [e5 p (by omega) (by omega) (by omega) (by omega)]; exact h7 p p0 hp, fun i a1 a2 a3 a4 => by rw [e6 i a1 a3 a4]; exact h8 i a1 a2 a3 a4, h9.tr e7⟩, ⟨420 * g + n1, rfl, rfl, by omega, by omega, e3⟩, e5, e4⟩
  rw [e5 36 (by omega) (by omega) (by omega) (by omega), e5 37 (by omega) (by omega) (by omega) (by omega), e5 38 (by omega) (by omega) (by omega) (by omega), e5 39 (by omega) (by omega) (by omega) (by omega), e5 40 (by omega) (by omega) (by omega) (by omega)]
  obtain ⟨a1, a2, a3, a4⟩ := h4 i e he
  exact ⟨a1, a2.mo (by omega) e4, a3.mo (by omega) e4, a4.mo (by omega) e4⟩
theorem LwM.next {c1 c2 c3 : Br} (h : LwM g nb nc J0 J L n1) (a1 : J 36 (50 * g + nb + L.length) = iN 1) (a2 : cdN J g n1 (J 37 (50 * g + nb + L.length)) (J 38 (50 * g + nb + L.length)) c1) (a3 : cdN J g n1 (J 38 (50 * g + nb + L.length)) (J 39 (50 * g + nb + L.length)) c2) (a4 : cdN J g n1 (J 39 (50 * g + nb + L.length)) (J 40 (50 * g + nb + L.length)) c3) : LwM g nb nc J0 (uJ J 0 49 (iN (50 * g + nb + L.length + 1))) (L ++ [(c1, c2, c3)]) n1 := by
  obtain ⟨⟨⟨h1, h2⟩, h3⟩, h4, h5, h6, h7, h8, h9⟩ := h
  have q : ∀ p i, (p = 42 ∨ p = 43) → i < 420 * g + n1 → uJ J 0 49 (iN (50 * g + nb + L.length + 1)) p i = J p i := fun p i hp _ => by rw [uJ_o (by omega)]
  refine ⟨⟨⟨h1, by rw [uJ_sn (by omega)]; exact h2⟩, by rw [uJ_ss, List.length_append, List.length_singleton]; rfl⟩, fun i e he => ?_, fun p i p1 p2 hi => by rw [uJ_o (by omega)]; exact h5 p i p1 p2 hi, fun p i hp hi => by rw [uJ_o (by omega)]; exact h6 p i hp hi, fun p p0 hp => by rw [uJ_o p0]; exact h7 p p0 hp, fun i b1 b2 b3 b4 => by rw [uJ_sn b2]; exact h8 i b1 b2 b3 b4, h9.tr (FrJ.u (by simp [wr_]))⟩
  rw [uJ_o (by omega), uJ_o (by omega), uJ_o (by omega), uJ_o (by omega), uJ_o (by omega)]
  by_cases cj : i < L.length
  · rw [List.getElem?_append_left cj] at he
    obtain ⟨b1, b2, b3, b4⟩ := h4 i e he
    exact ⟨b1, b2.mo (Nat.le_refl _) q, b3.mo (Nat.le_refl _) q, b4.mo (Nat.le_refl _) q⟩
  · have hj := L_lt he
    rw [List.length_append, List.length_singleton] at hj
    have : i = L.length := by omega
    subst this
    rw [List.getElem?_append_right (Nat.le_refl _), Nat.sub_self] at he
    have he' : (c1, c2, c3) = e := Option.some.inj he
    rw [← he']
    exact ⟨a1, a2.mo (Nat.le_refl _) q, a3.mo (Nat.le_refl _) q, a4.mo (Nat.le_refl _) q⟩
end LM
section LF
variable {g F : Nat} {Q J : Ji} {K : Jl}
/-- the model's law, after a fault -/
theorem FT.term {q : Nat} (h : FT Q J) (hq : J 0 49 = iN q) (h1 : 50 * g ≤ q) (h2 : q < 50 * g + 50) (hg : g < 2) : ∃ J1, M_term F J = some J1 ∧ FT Q J1 ∧ FrJ g J J1 ∧ J1 0 49 = iN (q + 1) := by
  have hf := h.u (o := 39) (i := q) (v := J 0 56) (by omega)
  have hf2 := hf.u (o := 40) (i := q) (v := J 0 56) (by omega)
  refine ⟨uJ (uJ (uJ J 39 q (J 0 56)) 40 q (J 0 56)) 0 49 (iN (q + 1)), ?_, ?_, ?_, uJ_ss⟩
  · unfold M_term M_term_B24
    rw [hq, stI_n (by omega) (by omega), if_neg hf.n0.1, uJ_o (by omega), hq, stI_n (by omega) (by omega), lt_e, uJ_o (by omega), uJ_o (by omega), hq, i_1, iN_add]
  · obtain ⟨w, p, f1, f2, f3, f4, f5, f6, f7⟩ := hf2
    exact ⟨w, p, f1, f2, f3, f4, f5, by rw [uJ_sn (by omega)]; exact f6, by rw [uJ_sn (by omega)]; exact f7⟩
  · exact (FrJ.u (by simp [wr_, lv_]; omega)).tr ((FrJ.u (by simp [wr_, lv_]; omega)).tr (FrJ.u (by simp [wr_])))
theorem FT.b135 {q : Nat} {x y : Int32} (h : FT Q J) (hq : J 0 49 = iN q) (h1 : 50 * g ≤ q) (h2 : q < 50 * g + 50) (hg : g < 2) : ∃ J1, M_tellLaw_B135 F K x y J = some J1 ∧ FT Q J1 ∧ FrJ g J J1 := by
  have hf := h.u (o := 36) (i := q) (v := 0 &&& 1) (by omega)
  obtain ⟨J1, a1, a2, a3, a4⟩ := FT.term (F := F) hf (by rw [uJ_o (by omega)]; exact hq) h1 h2 hg
  refine ⟨J1, ?_, a2, (FrJ.u (by simp [wr_, lv_]; omega)).tr a3⟩
  unfold M_tellLaw_B135
  rw [hq, stI_n (by omega) (by omega), a1, Option.bind_some, a2.fm.must, Option.bind_some, if_neg a2.n0.2.1]
theorem FT.l18 {q n : Nat} {x y z : Int32} (h : FT Q J) (hq : J 0 49 = iN q) (h1 : 50 * g ≤ q) (h2 : q < 50 * g + 50) (hg : g < 2) : ∃ J1, M_tellLaw_L18 F K (n + 1) x y z J = some J1 ∧ FT Q J1 ∧ FrJ g J J1 := by
  obtain ⟨J1, a1, a2, a3⟩ := FT.b135 (F := F) (K := K) (x := x) (y := y) h hq h1 h2 hg
  refine ⟨J1, ?_, a2, a3⟩
  show M_tellLaw_B18 F (M_tellLaw_L18 F K n) K x y z J = some J1
  unfold M_tellLaw_B18
  rw [if_neg h.n0.1, a1]
theorem FT.b116 {q n : Nat} {x y z : Int32} (h : FT Q J) (hq : J 0 49 = iN q) (h1 : 50 * g ≤ q) (h2 : q < 50 * g + 49) (hg : g < 2) : ∃ J1, M_tellLaw_B116 F (M_tellLaw_L18 F K (n + 1)) K x y z J = some J1 ∧ FT Q J1 ∧ FrJ g J J1 := by
  obtain ⟨J1, a1, a2, a3, a4⟩ := FT.term (F := F) h hq h1 (by omega) hg
  obtain ⟨J2, b1, b2, b3⟩ := FT.l18 (F := F) (K := K) (n := n) (x := x) (y := y) (z := z) a2 a4 (by omega) (by omega) hg
  refine ⟨J2, ?_, b2, a3.tr b3⟩
  unfold M_tellLaw_B116
  rw [h.fm.must, Option.bind_some, a1, Option.bind_some, a2.fm.must, Option.bind_some, b1]
end LF
