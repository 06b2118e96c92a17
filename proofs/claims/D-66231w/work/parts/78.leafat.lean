/-! ===== THE COMPONENT: leafAt, innerAt, as the tree has them ===== -/
section LB
variable {d t r m : Nat} {M : Mem} {Q : Outcome → Mem → Prop} {A : Ad} {T : Tr} {py : Nat → List Nat} {e : Option Nat}
def begL (M : Mem) (q : Nat) : Mem := sF (sF (sR (sR (sR M 33 q none) 30 q none) 31 q none) 37 q (I 0)) 34 q (I 0)
def begI (M : Mem) (q : Nat) (z : Int) : Mem := sF (sF (sR (sR (sR M 33 q none) 30 q none) 31 q none) 41 q (I 0)) 40 q (I z)
theorem begL_o (M : Mem) (q : Nat) {a : Nat} (h : a ≠ q) : Sm M (begL M q) a := by
  have e0 : (a = q) = False := eq_false h
  unfold begL Sm
  simp only [mm, mF_sF, mR_sR, e0, and_false, if_false, implies_true, and_self]
theorem begI_o (M : Mem) (q : Nat) (z : Int) {a : Nat} (h : a ≠ q) : Sm M (begI M q z) a := by
  have e0 : (a = q) = False := eq_false h
  unfold begI Sm
  simp only [mm, mF_sF, mR_sR, e0, and_false, if_false, implies_true, and_self]
theorem begL_q {M : Mem} {q : Nat} (K : LfK M q) (py : Nat → List Nat) : LfIs (begL M q) q [] py ∧ mR (begL M q) 33 q = none ∧ mF (begL M q) 32 q = mF M 32 q ∧ mR (begL M q) 30 q = none ∧ mR (begL M q) 31 q = none := by
  obtain ⟨k0, k1, k2, k3, k4, k5, k6⟩ := K
  refine ⟨⟨⟨k0, ?_, ?_, ?_, k4, k5, k6⟩, ?_, ?_, by simp, by simp, fun i k hk => by simp at hk, fun i k hk => by simp at hk⟩, ?_, ?_, ?_, ?_⟩
  · unfold begL; simp only [mm, mR_sR, Nat.reduceEqDiff, false_and, if_false]; exact k1
  · unfold begL; simp only [mm, mR_sR, Nat.reduceEqDiff, false_and, if_false]; exact k2
  · unfold begL; simp only [mm, mR_sR, Nat.reduceEqDiff, false_and, if_false]; exact k3
  · unfold begL; simp only [mm, mF_sF, Nat.reduceEqDiff, false_and, if_false, and_self, if_true]; rfl
  · unfold begL; simp only [mm, mF_sF, and_self, if_true]; rfl
  · unfold begL; simp only [mm, mR_sR, Nat.reduceEqDiff, false_and, if_false, and_self, if_true]
  · unfold begL; simp only [mm, mF_sF, Nat.reduceEqDiff, false_and, if_false]
  · unfold begL; simp only [mm, mR_sR, Nat.reduceEqDiff, false_and, if_false, and_self, if_true]
  · unfold begL; simp only [mm, mR_sR, Nat.reduceEqDiff, false_and, if_false, and_self, if_true]
theorem begI_q {M : Mem} {q : Nat} {z : Int} (K : InK M q) : InIs (begI M q z) q [] ∧ mR (begI M q z) 33 q = none ∧ mF (begI M q z) 32 q = mF M 32 q ∧ mF (begI M q z) 40 q = I z ∧ mR (begI M q z) 30 q = none ∧ mR (begI M q z) 31 q = none := by
  obtain ⟨k0, k1, k2⟩ := K
  refine ⟨⟨⟨k0, ?_, k2⟩, ?_, by simp, fun i k hk => by simp at hk, fun i hk => by simp at hk⟩, ?_, ?_, ?_, ?_, ?_⟩
  · unfold begI; simp only [mm, mR_sR, Nat.reduceEqDiff, false_and, if_false]; exact k1
  · unfold begI; simp only [mm, mF_sF, Nat.reduceEqDiff, false_and, if_false, and_self, if_true]; rfl
  · unfold begI; simp only [mm, mR_sR, Nat.reduceEqDiff, false_and, if_false, and_self, if_true]
  · unfold begI; simp only [mm, mF_sF, Nat.reduceEqDiff, false_and, if_false]
  · unfold begI; simp only [mm, mF_sF, and_self, if_true]
  · unfold begI; simp only [mm, mR_sR, Nat.reduceEqDiff, false_and, if_false, and_self, if_true]
  · unfold begI; simp only [mm, mR_sR, Nat.reduceEqDiff, false_and, if_false, and_self, if_true]
theorem cnA {A : Ad} {b q : Nat} (hb : b < 96) (h : A.1 b = none) : nC (fu A.1 b (some q), A.2) = nC A + 4 ∧ sC (fu A.1 b (some q), A.2) = sC A + 300 := by
  have e : (fun x => (fu A.1 b (some q) x).isSome) = fu (fun x => (A.1 x).isSome) b true := by
    funext x; unfold fu; split <;> rfl
  have h1 := cn_fu (u := fun x => (A.1 x).isSome) (b := b) (by show (A.1 b).isSome = false; rw [h]; rfl) 96
  unfold nC sC
  simp only [e, h1, hb, if_true]
  omega
theorem cnB {A : Ad} {b q : Nat} (hb : b < 96) (h : A.2 b = none) : nC (A.1, fu A.2 b (some q)) = nC A + 2 ∧ sC (A.1, fu A.2 b (some q)) = sC A + 20 := by
  have e : (fun x => (fu A.2 b (some q) x).isSome) = fu (fun x => (A.2 x).isSome) b true := by
    funext x; unfold fu; split <;> rfl
  have h1 := cn_fu (u := fun x => (A.2 x).isSome) (b := b) (by show (A.2 b).isSome = false; rw [h]; rfl) 96
  unfold nC sC
  simp only [e, h1, hb, if_true]
  omega
set_option maxHeartbeats 4000000 in
theorem n_leafAt (R : RM M t r m A T py e) (S : SW T) {b : Nat} (hd : 5 ≤ d) (hb : tH T b = 0) (hb96 : b < 96) (hQ : ∀ M' A' q, A'.1 b = some q → A'.2 = A.2 → (mR M' 30 q = none ∧ mR M' 31 q = none) → RM M' t r m A' (uP (uH (uI T b []) b 1) b none) py e → Fr t r A A' 0 M M' → Q (.returned (some (.ref q))) M') : Wp d 96 0 [some (.ref t), some (.int (I (b : Nat)))] [] M Q := by
  have K := R.1
  obtain ⟨⟨h1, h2, h3, h4, h5, h6, h7, h8⟩, k2, k3, k4, G⟩ := id K
  have lt := lt_kO G h1 (by omega)
  have l1 := lt_kX G h3 (by decide)
  have hQ0 := (k2 b hb96).1
  cases hA : A.1 b with
  | some q =>
    rw [hA] at hQ0
    have Kq := (k3 b q hA).2.1
    have kq := Kq.1
    have lq := lt_kO G kq (by omega)
    simp (disch := first | (simp only [dd, dr]; done) | omega) only [W_96, h1, h2, h3, hQ0, kq, I_lt, I_le, I_inj, inB_I, tc_I, Int.toNat_natCast, fkt, rf1, rf0, cq, Nat.reduceAdd, Nat.reduceEqDiff, Int.reduceToNat, eq_self, true_and, and_true, true_or, or_true, bI_0, bI_1, mm, rAm, mF_sF, mR_sR, false_and, and_false, if_false, if_true, false_or, or_false, not_true_eq_false, not_false_eq_true, and_self]
    refine ca_121 (by omega) (c_beginL (by omega) kq ?_)
    have tq : t ≠ q := by intro e; rw [e, kq] at h1; cases h1
    simp (disch := first | (simp only [dd, dr]; done) | omega) only [W_96, h1, h2, h3, hQ0, Nat.reduceEqDiff, I_lt, I_le, I_inj, inB_I, tc_I, Int.toNat_natCast, fkt, rf1, rf0, cq, Nat.reduceAdd, Nat.reduceEqDiff, Int.reduceToNat, eq_self, true_and, and_true, true_or, or_true, bI_0, bI_1, mm, rAm, mF_sF, mR_sR, false_and, and_false, if_false, if_true, false_or, or_false, not_true_eq_false, not_false_eq_true, and_self]
    have e : (fu A.1 b (some q), A.2) = A := by rw [← hA, fu_id]
    obtain ⟨b1, b2, b3, b5⟩ := begL_q Kq py
    have O : Old q (t + 1) b M (begL M q) := ⟨fun a _ => rfl, fun a _ hn => ⟨(begL_o M q hn).1, (begL_o M q hn).2.1, (begL_o M q hn).2.2.1, fun i _ => (begL_o M q hn).2.2.2.1 i, (begL_o M q hn).2.2.2.2⟩, Nat.le_refl _⟩
    have R' := RM.leaf R S hb hb96 (.inl hA) O hQ0 b1 (by rw [b3]; exact (k3 b q hA).2.2) b2 G (fun q' h' => by rw [hA] at h'; exact (Option.some.inj h').symm)
    rw [e] at R'
    refine hQ (begL M q) A q hA rfl b5 R' (Fr.step (fun _ => rfl) rfl rfl (fun a ha => begL_o M q (fun e => ha ?_)))
    rw [e]; exact .inr (.inr (.inl ⟨b, q, hA, Nat.le_refl _, by omega⟩))
  | none =>
    rw [hA] at hQ0
    obtain ⟨w1, w2, w3, w4, w5⟩ := newL_new M b
    have o_t := newL_old M b lt
    have o_1 := newL_old M b l1
    have kN : kO (nw M (.inl 5) (cSz 5)) (mN M) = 5 := by rw [kO_nw, if_pos rfl]
    simp (disch := first | (simp only [dd, dr]; done) | omega) only [W_96, h1, h2, h3, hQ0, I_lt, I_le, I_inj, inB_I, tc_I, Int.toNat_natCast, fkt, rf1, rf0, cq, Nat.reduceAdd, Nat.reduceEqDiff, Int.reduceToNat, eq_self, true_and, and_true, true_or, or_true, bI_0, bI_1, mm, rAm, mF_sF, mR_sR, false_and, and_false, if_false, if_true, false_or, or_false, not_true_eq_false, not_false_eq_true, and_self]
    refine ca_120 (by omega) (c_initL (by omega) kN (Nat.lt_succ_self _) ?_)
    have eM : sR (nw (sR (nw (sR (nw (sF (nw M (.inl 5) (cSz 5)) 32 (mN M) (I (b : Nat))) (.inr (0, 24)) 24) 36 (mN M) (some (mN (nw M (.inl 5) (cSz 5))))) (.inr (0, 24)) 24) 38 (mN M) (some (mN (nw M (.inl 5) (cSz 5)) + 1))) (.inr (1, 240)) 240) 35 (mN M) (some (mN (nw M (.inl 5) (cSz 5)) + 2)) = newL M b := rfl
    rw [eM]
    have oM := fun a (ha : a < mN M) => newL_old M b ha
    generalize newL M b = M2 at *
    have x3 : kX M2 (t + 1) = (5, 96) := by unfold kX at h3 ⊢; rw [o_1.1]; exact h3
    have x1 : kO M2 t = 3 := by unfold kO at h1 ⊢; rw [o_t.1]; exact h1
    have x2 : mR M2 15 t = some (t + 1) := by rw [o_t.2.2.1]; exact h2
    have kq := w1.1
    have f5 : fitQ 5 5 = true := rfl
    have eQ : mQ (sQ M2 (t + 1) b (some (mN M))) (t + 1) b = some (mN M) := by rw [mQ_sQ, if_pos ⟨rfl, rfl⟩]
    simp (disch := first | (simp only [dd, dr]; done) | omega) only [W_96, x1, x2, x3, f5, kq, eQ, I_lt, I_le, I_inj, inB_I, tc_I, Int.toNat_natCast, fkt, rf1, rf0, cq, Nat.reduceAdd, Nat.reduceEqDiff, Int.reduceToNat, eq_self, true_and, and_true, true_or, or_true, bI_0, bI_1, mm, rAm, mF_sF, mR_sR, false_and, and_false, if_false, if_true, false_or, or_false, not_true_eq_false, not_false_eq_true, and_self]
    refine ca_121 (by omega) (c_beginL (by omega) (by show kO M2 (mN M) = 5; exact kq) ?_)
    simp (disch := first | (simp only [dd, dr]; done) | omega) only [W_96, x1, x2, x3, f5, kq, eQ, Nat.reduceEqDiff, I_lt, I_le, I_inj, inB_I, tc_I, Int.toNat_natCast, fkt, rf1, rf0, cq, Nat.reduceAdd, Nat.reduceEqDiff, Int.reduceToNat, eq_self, true_and, and_true, true_or, or_true, bI_0, bI_1, mm, rAm, mF_sF, mR_sR, false_and, and_false, if_false, if_true, false_or, or_false, not_true_eq_false, not_false_eq_true, and_self]
    have Kq' : LfK (sQ M2 (t + 1) b (some (mN M))) (mN M) := w1
    obtain ⟨b1, b2, b3, b5⟩ := begL_q Kq' py
    have O : Old (mN M) (t + 1) b M (begL (sQ M2 (t + 1) b (some (mN M))) (mN M)) := by
      refine ⟨fun a ha => ?_, fun a ha hn => ?_, ?_⟩
      · exact (oM a ha).1
      · have o := (oM a ha).2
        have g := begL_o (sQ M2 (t + 1) b (some (mN M))) (mN M) hn
        refine ⟨fun f => (g.1 f).trans (o.1 f), fun f => (g.2.1 f).trans (o.2.1 f), fun i => (g.2.2.1 i).trans (o.2.2.1 i), fun i hi => (g.2.2.2.1 i).trans ?_, fun i => (g.2.2.2.2 i).trans (o.2.2.2.2 i)⟩
        rw [mQ_sQ, if_neg hi]; exact o.2.2.2.1 i
      · show mN M ≤ mN M2
        omega
    have hm4 : mN (begL (sQ M2 (t + 1) b (some (mN M))) (mN M)) = mN M + 4 := w3
    have hs4 : mS (begL (sQ M2 (t + 1) b (some (mN M))) (mN M)) = mS M + 297 := w4
    have R' := RM.leaf R S hb hb96 (.inr (Nat.le_refl _)) O ((begL_o _ (mN M) (by omega)).2.2.2.1 b |>.trans eQ) b1 (by rw [b3]; exact w2) b2 (by rw [hm4]; exact w5 G) (fun q' h' => by rw [hA] at h'; cases h')
    obtain ⟨c1, c2⟩ := cnA (q := mN M) hb96 hA
    refine hQ (begL (sQ M2 (t + 1) b (some (mN M))) (mN M)) (fu A.1 b (some (mN M)), A.2) (mN M) (fu_s _ _ _) rfl b5 R' ⟨O.1, fun a ha hn => ?_, fun b' q' h' => ?_, fun b' q' h' => h', fun b' q' h' => ?_, fun b' q' h' => .inl h', O.2.2, by omega, by omega⟩
    · have hat : a ≠ t + 1 := fun e => hn (.inl ⟨by omega, by omega⟩)
      have o := O.2.1 a ha (by omega)
      exact ⟨o.1, o.2.1, o.2.2.1, fun i => o.2.2.2.1 i (fun h => hat h.1), o.2.2.2.2⟩
    · show fu A.1 b (some (mN M)) b' = some q'
      by_cases eb : b' = b
      · subst eb; rw [hA] at h'; cases h'
      · rw [fu_n _ _ eb]; exact h'
    · have h'' : fu A.1 b (some (mN M)) b' = some q' := h'
      by_cases eb : b' = b
      · subst eb; rw [fu_s] at h''; cases h''; exact .inr (Nat.le_refl _)
      · rw [fu_n _ _ eb] at h''; exact .inl h''
set_option maxHeartbeats 4000000 in
theorem n_innerAt (R : RM M t r m A T py e) (S : SW T) {b h0 : Nat} (hd : 5 ≤ d) (hb : tH T b = 0) (hb96 : b < 96) (hQ : ∀ M' A' q, A'.2 b = some q → A'.1 = A.1 → (∀ b' q', A.2 b' = some q' → A'.2 b' = some q') → (mR M' 30 q = none ∧ mR M' 31 q = none) → RM M' t r m A' (uP (uH (uC T b []) b (h0 + 2)) b none) py e → Fr t r A A' 0 M M' → Q (.returned (some (.ref q))) M') : Wp d 102 0 [some (.ref t), some (.int (I (b : Nat))), some (.int (I ((h0 + 1 : Nat) : Int)))] [] M Q := by
  have K := R.1
  obtain ⟨⟨h1, h2, h3, h4, h5, h6, h7, h8⟩, k2, k3, k4, G⟩ := id K
  have lt := lt_kO G h1 (by omega)
  have l1 := lt_kX G h5 (by decide)
  have hQ0 := (k2 b hb96).2
  cases hA : A.2 b with
  | some q =>
    rw [hA] at hQ0
    have Kq := (k4 b q hA).2.1
    have kq := Kq.1
    have lq := lt_kO G kq (by omega)
    simp (disch := first | (simp only [dd, dr]; done) | omega) only [W_102, h1, h4, h5, hQ0, kq, I_lt, I_le, I_inj, inB_I, tc_I, Int.toNat_natCast, fkt, rf1, rf0, cq, Nat.reduceAdd, Nat.reduceEqDiff, Int.reduceToNat, eq_self, true_and, and_true, true_or, or_true, bI_0, bI_1, mm, rAm, mF_sF, mR_sR, false_and, and_false, if_false, if_true, false_or, or_false, not_true_eq_false, not_false_eq_true, and_self]
    refine ca_141 (by omega) (c_beginI (by omega) kq ?_)
    have tq : t ≠ q := by intro e; rw [e, kq] at h1; cases h1
    simp (disch := first | (simp only [dd, dr]; done) | omega) only [W_102, h1, h4, h5, hQ0, Nat.reduceEqDiff, I_lt, I_le, I_inj, inB_I, tc_I, Int.toNat_natCast, fkt, rf1, rf0, cq, Nat.reduceAdd, Nat.reduceEqDiff, Int.reduceToNat, eq_self, true_and, and_true, true_or, or_true, bI_0, bI_1, mm, rAm, mF_sF, mR_sR, false_and, and_false, if_false, if_true, false_or, or_false, not_true_eq_false, not_false_eq_true, and_self]
    have e : (A.1, fu A.2 b (some q)) = A := by rw [← hA, fu_id]
    obtain ⟨b1, b2, b3, b4, b5⟩ := begI_q (z := ((h0 + 1 : Nat) : Int)) Kq
    have O : Old q (t + 2) b M (begI M q ((h0 + 1 : Nat) : Int)) := ⟨fun a _ => rfl, fun a _ hn => ⟨(begI_o M q _ hn).1, (begI_o M q _ hn).2.1, (begI_o M q _ hn).2.2.1, fun i _ => (begI_o M q _ hn).2.2.2.1 i, (begI_o M q _ hn).2.2.2.2⟩, Nat.le_refl _⟩
    have R' := RM.inner R S hb hb96 (.inl hA) O hQ0 b1 b4 (by rw [b3]; exact (k4 b q hA).2.2) b2 G (fun q' h' => by rw [hA] at h'; exact (Option.some.inj h').symm)
    rw [e] at R'
    refine hQ (begI M q ((h0 + 1 : Nat) : Int)) A q hA rfl (fun _ _ h => h) b5 R' (Fr.step (fun _ => rfl) rfl rfl (fun a ha => begI_o M q _ (fun e => ha ?_)))
    rw [e]; exact .inr (.inr (.inr ⟨b, q, hA, Nat.le_refl _, by omega⟩))
  | none =>
    rw [hA] at hQ0
    obtain ⟨w1, w2, w3, w4, w5⟩ := newI_new M b
    have o_t := newI_old M b lt
    have o_1 := newI_old M b l1
    have kN : kO (nw M (.inl 6) (cSz 6)) (mN M) = 6 := by rw [kO_nw, if_pos rfl]
    simp (disch := first | (simp only [dd, dr]; done) | omega) only [W_102, h1, h4, h5, hQ0, I_lt, I_le, I_inj, inB_I, tc_I, Int.toNat_natCast, fkt, rf1, rf0, cq, Nat.reduceAdd, Nat.reduceEqDiff, Int.reduceToNat, eq_self, true_and, and_true, true_or, or_true, bI_0, bI_1, mm, rAm, mF_sF, mR_sR, false_and, and_false, if_false, if_true, false_or, or_false, not_true_eq_false, not_false_eq_true, and_self]
    refine ca_140 (by omega) (c_initI (by omega) kN (Nat.lt_succ_self _) ?_)
    have eM : sR (nw (sF (nw M (.inl 6) (cSz 6)) 32 (mN M) (I (b : Nat))) (.inr (7, 6)) 6) 39 (mN M) (some (mN (nw M (.inl 6) (cSz 6)))) = newI M b := rfl
    rw [eM]
    have oM := fun a (ha : a < mN M) => newI_old M b ha
    generalize newI M b = M2 at *
    have x3 : kX M2 (t + 2) = (6, 96) := by unfold kX at h5 ⊢; rw [o_1.1]; exact h5
    have x1 : kO M2 t = 3 := by unfold kO at h1 ⊢; rw [o_t.1]; exact h1
    have x2 : mR M2 12 t = some (t + 2) := by rw [o_t.2.2.1]; exact h4
    have kq := w1.1
    have f5 : fitQ 6 6 = true := rfl
    have eQ : mQ (sQ M2 (t + 2) b (some (mN M))) (t + 2) b = some (mN M) := by rw [mQ_sQ, if_pos ⟨rfl, rfl⟩]
    simp (disch := first | (simp only [dd, dr]; done) | omega) only [W_102, x1, x2, x3, f5, kq, eQ, I_lt, I_le, I_inj, inB_I, tc_I, Int.toNat_natCast, fkt, rf1, rf0, cq, Nat.reduceAdd, Nat.reduceEqDiff, Int.reduceToNat, eq_self, true_and, and_true, true_or, or_true, bI_0, bI_1, mm, rAm, mF_sF, mR_sR, false_and, and_false, if_false, if_true, false_or, or_false, not_true_eq_false, not_false_eq_true, and_self]
    refine ca_141 (by omega) (c_beginI (by omega) (by show kO M2 (mN M) = 6; exact kq) ?_)
    simp (disch := first | (simp only [dd, dr]; done) | omega) only [W_102, x1, x2, x3, f5, kq, eQ, Nat.reduceEqDiff, I_lt, I_le, I_inj, inB_I, tc_I, Int.toNat_natCast, fkt, rf1, rf0, cq, Nat.reduceAdd, Nat.reduceEqDiff, Int.reduceToNat, eq_self, true_and, and_true, true_or, or_true, bI_0, bI_1, mm, rAm, mF_sF, mR_sR, false_and, and_false, if_false, if_true, false_or, or_false, not_true_eq_false, not_false_eq_true, and_self]
    have Kq' : InK (sQ M2 (t + 2) b (some (mN M))) (mN M) := w1
    obtain ⟨b1, b2, b3, b4, b5⟩ := begI_q (z := ((h0 + 1 : Nat) : Int)) Kq'
    have O : Old (mN M) (t + 2) b M (begI (sQ M2 (t + 2) b (some (mN M))) (mN M) ((h0 + 1 : Nat) : Int)) := by
      refine ⟨fun a ha => ?_, fun a ha hn => ?_, ?_⟩
      · exact (oM a ha).1
      · have o := (oM a ha).2
        have g := begI_o (sQ M2 (t + 2) b (some (mN M))) (mN M) ((h0 + 1 : Nat) : Int) hn
        refine ⟨fun f => (g.1 f).trans (o.1 f), fun f => (g.2.1 f).trans (o.2.1 f), fun i => (g.2.2.1 i).trans (o.2.2.1 i), fun i hi => (g.2.2.2.1 i).trans ?_, fun i => (g.2.2.2.2 i).trans (o.2.2.2.2 i)⟩
        rw [mQ_sQ, if_neg hi]; exact o.2.2.2.1 i
      · show mN M ≤ mN M2
        omega
    have hm4 : mN (begI (sQ M2 (t + 2) b (some (mN M))) (mN M) ((h0 + 1 : Nat) : Int)) = mN M + 2 := w3
    have hs4 : mS (begI (sQ M2 (t + 2) b (some (mN M))) (mN M) ((h0 + 1 : Nat) : Int)) ≤ mS M + 20 := w4
    have R' := RM.inner R S hb hb96 (.inr (Nat.le_refl _)) O ((begI_o _ (mN M) _ (by omega)).2.2.2.1 b |>.trans eQ) b1 b4 (by rw [b3]; exact w2) b2 (by rw [hm4]; exact w5 G) (fun q' h' => by rw [hA] at h'; cases h')
    obtain ⟨c1, c2⟩ := cnB (q := mN M) hb96 hA
    have exA : ∀ b' q', A.2 b' = some q' → fu A.2 b (some (mN M)) b' = some q' := by
      intro b' q' h'
      by_cases eb : b' = b
      · subst eb; rw [hA] at h'; cases h'
      · rw [fu_n _ _ eb]; exact h'
    refine hQ (begI (sQ M2 (t + 2) b (some (mN M))) (mN M) ((h0 + 1 : Nat) : Int)) (A.1, fu A.2 b (some (mN M))) (mN M) (fu_s _ _ _) rfl exA b5 R' ⟨O.1, fun a ha hn => ?_, fun b' q' h' => h', exA, fun b' q' h' => .inl h', fun b' q' h' => ?_, O.2.2, by omega, by omega⟩
    · have hat : a ≠ t + 2 := fun e => hn (.inl ⟨by omega, by omega⟩)
      have o := O.2.1 a ha (by omega)
      exact ⟨o.1, o.2.1, o.2.2.1, fun i => o.2.2.2.1 i (fun h => hat h.1), o.2.2.2.2⟩
    · have h'' : fu A.2 b (some (mN M)) b' = some q' := h'
      by_cases eb : b' = b
      · subst eb; rw [fu_s] at h''; cases h''; exact .inr (Nat.le_refl _)
      · rw [fu_n _ _ eb] at h''; exact .inl h''
end LB
