/-! PURE LAW 59: a law is told: its branches -/
set_option maxRecDepth 100000
def lawE (Xp : Jr) (v : Int32) (la : Nat) (Q : Ji) (T : Th) : Option ((Ji × Jr × Th) ⊕ (Ji × Th)) := if v < 0 then some (.inr (Q, T)) else (Xp 9 2).bind fun b21 => dR T b21 4 4 fun x22 => (x22).bind fun b23 => dC T b23 19 <| (L_get T b23 v).bind fun r24 => (r24).bind fun b25 => dC T b25 14 <| pR T b25 14 4 ((some la)) fun T26 => some (.inr (Q, T26))
def lawM (v y : Int32) (J : Ji) : Option Ji := (M_must 4 J).bind fun r19 => if (r19 0 13) ≤ 0 then ldI r19 33 2 (r19 0 19) fun x20 => stI r19 33 2 (r19 0 19) (x20 + 1) fun J21 => if 0 ≤ v then stI J21 34 12 ((6 * (J21 0 19)) + v) y fun J22 => stI J22 35 12 ((6 * (J22 0 19)) + v) (J22 0 49) fun J23 => some J23 else some J21 else some r19
theorem Nd.kd {T : Th} {n a : Nat} {c : Br} (h : Nd T n a c) : ∃ ci, T.1 a = some (.inl ci) ∧ ci ∈ elk (.object "SleepWork$Sum") := by
  have he : elk (.object "SleepWork$Sum") = [16, 17, 18] := by unfold elk; rw [if_neg (by decide), if_pos rfl]
  rw [he]
  cases n with
  | zero => exact h.elim
  | succ n =>
    rcases h with h | ⟨_, _, h, _⟩ | h
    · exact ⟨16, h.1, by decide⟩
    · exact ⟨17, h, by decide⟩
    · exact ⟨18, h.1, by decide⟩
section LL
variable {g nb nc n1 F N a : Nat} {P E : Nat → Nat} {K : Jl} {J0 J Q : Ji} {T Tb : Th} {Xp : Jr} {la p0 p1 p2 : Nat} {L : List (Br × Br × Br)}
/-- a sum goes into a law's row -/
theorem sm_sA {T1 : Th} {x a1 q m : Nat} {c : Br} (hI : LwI T la p0 p1 p2 L) (hH : HpB T a) (hb : ExN Tb T) (hq : (q = p0 ∧ m = 4) ∨ (q = p1 ∧ m = 4) ∨ (q = p2 ∧ m = 5)) (hqb : tN Tb ≤ q ∧ (tL Tb).2.2.1 ≤ q) (hL : L.length < m) (hx : ExT T T1 a a1) (ha : a < a1) (h4 : a1 ≤ 402) (hN : Nd T1 (a1 - a) x c) :
    (∀ {α : Type} (f : Th → Option α), sA T1 q (.object "SleepWork$Sum") (iN L.length) x f = f (tR T1 q L.length (some x))) ∧ LwI (tR T1 q L.length (some x)) la p0 p1 p2 L ∧ PN (tR T1 q L.length (some x)) q L.length c ∧ (∀ p i c' n, T.1 p = some (.inr (.object "SleepWork$Sum", n)) → PN T p i c' → ¬ (p = q ∧ i = L.length) → PN (tR T1 q L.length (some x)) p i c') ∧ HpB (tR T1 q L.length (some x)) a1 ∧ ExN Tb (tR T1 q L.length (some x)) ∧ tN (tR T1 q L.length (some x)) ≤ tN T + (a1 - a) ∧ tZ (tR T1 q L.length (some x)) ≤ tZ T + 3 * (a1 - a) := by
  have hI1 := hI.ex hH.1 hx.1
  have hqk : T1.1 q = some (.inr (.object "SleepWork$Sum", m)) := by
    rcases hq with ⟨rfl, rfl⟩ | ⟨rfl, rfl⟩ | ⟨rfl, rfl⟩
    · exact hI1.2.1.1
    · exact hI1.2.1.2.1
    · exact hI1.2.1.2.2.1
  have hH1 := hH.ex hx (by omega) h4
  have hb1 := hb.tr hx.1
  obtain ⟨ci, k1, k2⟩ := hN.kd
  have hm : m ≤ 5 := by omega
  refine ⟨fun f => sA_p hqk k1 k2 (by rw [hb1.2.1]; exact hqb.2) hL (by omega), hI1.wr (by omega) (Nat.le_refl _), ⟨x, by rw [tR_3, if_pos ⟨rfl, rfl⟩], Nd.sn (sn_R hqk) _ _ _ (Nd.mo _ _ _ _ (by unfold dSum; omega) hN)⟩, fun p i c' n hp hc hne => (hc.ex hH.1 hp hx.1).wr hqk hne, hH1, hb1.wR hqb.1, hx.2.1, hx.2.2⟩
/-- a term: the model's, with the sum of the component -/
theorem tm_ok (hF : 2100 ≤ F) (hg : g < 2) (hP : PT N P E a 0 Q J K) (hM : LwM g nb nc J0 J L n1) (hn : n1 ≤ a) (hb : nb + L.length < 50) (hH : HpB T a) :
    (∃ x a1 Q1 T1 J1 c, R_sum_7 F Xp Q T = some (.inr (some x, Q1, T1)) ∧ M_term F J = some (uJ J1 0 49 (iN (50 * g + nb + L.length + 1))) ∧ a < a1 ∧ PT N P E a1 0 Q1 (uJ J1 0 49 (iN (50 * g + nb + L.length + 1))) K ∧ LwM g nb nc J0 J1 L (n1 + c.length) ∧ J1 39 (50 * g + nb + L.length) = iN (420 * g + n1) ∧ cdN J1 g (n1 + c.length) (J1 39 (50 * g + nb + L.length)) (J1 40 (50 * g + nb + L.length)) c ∧ (∀ p, 36 ≤ p → p ≤ 38 → J1 p = J p) ∧ (∀ p i, (p = 42 ∨ p = 43) → i < 420 * g + n1 → J1 p i = J p i) ∧ Nd T1 (a1 - a) x c ∧ ExT T T1 a a1 ∧ qF Q Q1 ∧ Q1 9 5 = Q 9 5 ∧ n1 + c.length ≤ a1) ∨
    (∃ Q1 T1 J1, R_sum_7 F Xp Q T = some (.inl (Q1, Xp, T1)) ∧ M_term F J = some J1 ∧ FT Q1 J1 ∧ FrJ g J0 J1 ∧ J1 0 49 = iN (50 * g + nb + L.length + 1) ∧ qF Q Q1 ∧ ExN T T1) := by
  obtain ⟨br, hbr⟩ : ∃ br, br = 50 * g + nb + L.length := ⟨_, rfl⟩
  have h49 : J 0 49 = iN br := by rw [hM.1.2, hbr]
  have h56 : J 0 56 = iN (420 * g + n1) := hM.1.1.2
  have hbl : br < 100 := by omega
  obtain ⟨J2, hJ2⟩ : ∃ J2, J2 = uJ J 39 br (iN (420 * g + n1)) := ⟨_, rfl⟩
  have hM2 : LwM g nb nc J0 J2 L n1 := by rw [hJ2, hbr]; exact hM.st (by omega) (by omega) (Nat.le_refl _) hb
  have hP2 : PT N P E a 0 Q J2 K := by rw [hJ2]; exact hP.mo (fun p p1 p2 => uJ_o (by omega)) (fun i _ _ => by rw [uJ_o (by omega)]) (fun _ _ => rfl)
  have hT : M_term F J = (M_expression F J2).bind fun r2 => M_term_B24 F r2 := by
    unfold M_term
    rw [h49, stI_n (by omega) (by omega), h56, ← hJ2, if_pos (show J2 0 13 = 0 from hP2.2.2.2.2.1)]
  rw [hT, ← hbr]
  have hw40 : wr_ g 40 br = true := by simp [wr_, lv_]; omega
  rcases ex_ok (Xp := Xp) hF hg hP2 hM2.1.1.2 hn hH with ⟨x, a1, Q1, T1, J3, c, s1, s2, s3, s4, s5, s6, s7, s8, s9, s10⟩ | ⟨Q1, T1, J3, s1, s2, s3, s4, s5, s6, s7⟩
  · left
    obtain ⟨m1, m2, m3, m4⟩ := hM2.exp s5
    have e49 : J3 0 49 = iN br := by rw [m1.1.2, hbr]
    have e56 : J3 0 56 = iN (420 * g + n1 + c.length) := by rw [m1.1.1.2]; congr 1; omega
    obtain ⟨J4, hJ4⟩ : ∃ J4, J4 = uJ J3 40 br (iN (420 * g + n1 + c.length)) := ⟨_, rfl⟩
    have z39 : J4 39 br = iN (420 * g + n1) := by rw [hJ4, uJ_o (by omega), m3 39 (by omega) (by omega) (by omega) (by omega), hJ2, uJ_ss]
    have z40 : J4 40 br = iN (420 * g + n1 + c.length) := by rw [hJ4, uJ_ss]
    have q4 : ∀ p, p ≠ 40 → J4 p = J3 p := fun p hp => by rw [hJ4, uJ_o hp]
    refine ⟨x, a1, Q1, T1, J4, c, s1, ?_, s3, ?_, ?_, z39, ?_, fun p p1 p2 => ?_, fun p i hp hi => ?_, s6, s7, s8, s9, s10⟩
    · rw [s2, Option.bind_some]
      unfold M_term_B24
      rw [e49, stI_n (by omega) (by omega), lt_e, e56, uJ_o (by omega), e49, i_1, iN_add, ← hJ4]
    · exact (s4.mo (J1 := J4) (fun p p1 p2 => q4 p (by omega)) (fun i _ _ => by rw [q4 0 (by omega)]) (fun _ _ => rfl)).mo (fun p p1 p2 => uJ_o (by omega)) (fun i _ _ => uJ_sn (by omega)) (fun _ _ => rfl)
    · rw [hJ4, hbr]; exact m1.st (by omega) (by omega) (Nat.le_refl _) hb
    · rw [z39, z40]
      exact m2.mo (Nat.le_refl _) (fun p i hp _ => by rw [q4 p (by omega)])
    · rw [q4 p (by omega), m3 p (by omega) (by omega) (by omega) (by omega), hJ2, uJ_o (by omega)]
    · rw [q4 p (by omega), m4 p i hp hi, hJ2, uJ_o (by omega)]
  · right
    have e49 : J3 0 49 = iN br := by rw [s5, hJ2, uJ_o (by omega)]; exact h49
    have hf := (s3.u (o := 40) (i := br) (v := J3 0 56) (by omega))
    refine ⟨Q1, T1, uJ (uJ J3 40 br (J3 0 56)) 0 49 (iN (br + 1)), s1, ?_, ?_, ?_, uJ_ss, s6, s7⟩
    · rw [s2, Option.bind_some]
      unfold M_term_B24
      rw [e49, stI_n (by omega) (by omega), lt_e, uJ_o (by omega), e49, i_1, iN_add]
    · obtain ⟨w, p, f1, f2, f3, f4, f5, f6, f7⟩ := hf
      exact ⟨w, p, f1, f2, f3, f4, f5, by rw [uJ_sn (by omega)]; exact f6, by rw [uJ_sn (by omega)]; exact f7⟩
    · have hJJ : FrJ g J0 J2 := hM2.2.2.2.2.2.2
      exact (hJJ.tr s4).tr ((FrJ.u hw40).tr (FrJ.u (by simp [wr_])))
end LL
