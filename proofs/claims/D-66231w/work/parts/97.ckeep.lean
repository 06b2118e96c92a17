/-! ===== THE COMPONENT: keep, putBack, takeLast ===== -/
section CK
variable {d p m J : Nat} {M : Mem} {A : Ad} {T : Tr} {py : Nat → List Nat} {dt : Nat → Nat → Nat} {Q : Outcome → Mem → Prop}
/-- a row is copied -/
theorem c_copyR {a b : Nat} {g : Nat → Nat} (ha : Rw M a g) (hb : kX M b = (1, 129)) (hab : a ≠ b) (hQ : ∀ M', Ro M M' → Rw M' b g → (∀ z i, z ≠ b → mA M' z i = mA M z i) → Q (.returned none) M') : Wp d 27 0 [some (.ref a), some (.ref b), none] [] M Q := by
  refine c_copy ha.1 hb hab (fun i hi => ⟨_, ha.2 i hi⟩) (hQ _ (Ro.rA hb _) ⟨hb, fun i hi => ?_⟩ (fun z i hz => by rw [mA_rA, if_neg hz]))
  rw [mA_rA, if_pos rfl, if_pos hi]; exact ha.2 i hi
theorem Rw.same {M M' : Mem} {w : Nat} {g : Nat → Nat} (h : Rw M w g) (F : Ro M M') (hs : ∀ i, mA M' w i = mA M w i) : Rw M' w g := ⟨by rw [F.f1.2.1]; exact h.1, fun i hi => by rw [hs]; exact h.2 i hi⟩
set_option maxHeartbeats 4000000 in
theorem n_keep (hd : 42 ≤ d) (P : PK M p m J) (R : RM M (p + 201) (p + 199) m A T py none) (g : Gt m T py) (D : DR M p T dt) (hQ : ∀ M', Ro M M' → (∀ b, tU T b = true → Rw M' (p + 2 + b) (img m T py dt b)) → (∀ b, tU T b = true → Rw M' (p + 99 + b) (img m T py dt b)) → (∀ z i, (∀ b, b < 96 → z ≠ p + 2 + b ∧ z ≠ p + 99 + b) → mA M' z i = mA M z i) → Q (.returned none) M') : Wp d 43 0 [some (.ref p), none] [] M Q := by
  have a1 := P.1.1
  have hm := P.2.2.2.2.2.2.2.2.2.2
  simp (disch := first | (simp only [dd, dr]; done) | omega) only [W_43, a1, I_lt, I_le, I_inj, inB_I, tc_I, Int.toNat_natCast, fkt, rf1, rf0, cq, Nat.reduceAdd, Nat.reduceEqDiff, Int.reduceToNat, eq_self, true_and, and_true, true_or, or_true, bI_0, bI_1, mm, rAm, mF_sF, mR_sR, false_and, and_false, if_false, if_true, false_or, or_false, not_true_eq_false, not_false_eq_true, and_self]
  refine ca_25 (by omega) (n_layAll (by omega) P R g D (fun M1 F1 hA hB => ?_))
  simp (disch := first | (simp only [dd, dr]; done) | omega) only [W_43, I_lt, I_le, I_inj, inB_I, tc_I, Int.toNat_natCast, fkt, rf1, rf0, cq, Nat.reduceAdd, Nat.reduceEqDiff, Int.reduceToNat, eq_self, true_and, and_true, true_or, or_true, bI_0, bI_1, mm, rAm, mF_sF, mR_sR, false_and, and_false, if_false, if_true, false_or, or_false, not_true_eq_false, not_false_eq_true, and_self]
  suffices H : ∀ n' (k : Nat) (M2 : Mem), k + n' = m → Ro M1 M2 → (∀ b, b < k → tU T b = true → Rw M2 (p + 99 + b) (img m T py dt b)) → (∀ z i, (∀ b, b < 96 → z ≠ p + 99 + b) → mA M2 z i = mA M1 z i) → Wp d 43 6 [some (.ref p), some (.int (I (k : Nat)))] [] M2 Q from H m 0 M1 (by omega) (Ro.refl _) (fun b hb => by omega) (fun _ _ _ => rfl)
  intro n'
  induction n' with
  | zero =>
    intro k M2 hk F2 hC hD
    have P2 := (P.ro F1).ro F2
    have c1 := P2.1.1
    have c11 := P2.1.2.2.2.2.2.2.2.2.2.2
    simp (disch := first | (simp only [dd, dr]; done) | omega) only [w_43_6, W_43, c1, c11, I_lt, I_le, I_inj, inB_I, tc_I, Int.toNat_natCast, fkt, rf1, rf0, cq, Nat.reduceAdd, Nat.reduceEqDiff, Int.reduceToNat, eq_self, true_and, and_true, true_or, or_true, bI_0, bI_1, mm, rAm, mF_sF, mR_sR, false_and, and_false, if_false, if_true, false_or, or_false, not_true_eq_false, not_false_eq_true, and_self]
    refine ⟨fun _ => ?_, (fun h => by first | exact False.elim h | exact absurd trivial h | (exfalso; omega) | exact absurd rfl h | cases h)⟩
    simp (disch := first | (simp only [dd, dr]; done) | omega) only [W_43, I_lt, I_le, I_inj, inB_I, tc_I, Int.toNat_natCast, fkt, rf1, rf0, cq, Nat.reduceAdd, Nat.reduceEqDiff, Int.reduceToNat, eq_self, true_and, and_true, true_or, or_true, bI_0, bI_1, mm, rAm, mF_sF, mR_sR, false_and, and_false, if_false, if_true, false_or, or_false, not_true_eq_false, not_false_eq_true, and_self]
    refine hQ M2 (F1.trans F2) (fun b hb => ?_) (fun b hb => hC b (by have := g.1.2.2.2.2.2 b hb; omega) hb) (fun z i hz => ?_)
    · have hb96 := g.1.2.2.2.2.2 b hb
      exact (hA b hb).same F2 (fun i => hD _ i (fun b' hb' => by omega))
    · rw [hD z i (fun b hb => (hz b hb).2), hB z i (fun b hb => (hz b hb).1)]
  | succ n' ih =>
    intro k M2 hk F2 hC hD
    have P2 := (P.ro F1).ro F2
    have R2 := (R.ro F1).ro F2
    obtain ⟨⟨c1, c2, c3, c4, c5, c6, c7, c8, c9, c10, c11⟩, e1, e2, _⟩ := id P2
    obtain ⟨r0, r1, r11, rX, _, rU⟩ := id R2.2.1
    have eU := rU k (by omega)
    have e1X := e1.1
    have e2X := e2.1
    obtain ⟨eQ1, kX1⟩ := e1.2.1 k (by omega)
    obtain ⟨eQ2, kX2⟩ := e2.2.1 k (by omega)
    simp (disch := first | (simp only [dd, dr]; done) | omega) only [w_43_6, W_43, c1, c11, I_lt, I_le, I_inj, inB_I, tc_I, Int.toNat_natCast, fkt, rf1, rf0, cq, Nat.reduceAdd, Nat.reduceEqDiff, Int.reduceToNat, eq_self, true_and, and_true, true_or, or_true, bI_0, bI_1, mm, rAm, mF_sF, mR_sR, false_and, and_false, if_false, if_true, false_or, or_false, not_true_eq_false, not_false_eq_true, and_self]
    refine ⟨(fun h => by first | exact False.elim h | exact absurd trivial h | (exfalso; omega) | exact absurd rfl h | cases h), fun _ => ?_⟩
    simp (disch := first | (simp only [dd, dr]; done) | omega) only [W_43, c1, c8, r0, r11, rX, eU, I_lt, I_le, I_inj, inB_I, tc_I, Int.toNat_natCast, fkt, rf1, rf0, cq, Nat.reduceAdd, Nat.reduceEqDiff, Int.reduceToNat, eq_self, true_and, and_true, true_or, or_true, bI_0, bI_1, mm, rAm, mF_sF, mR_sR, false_and, and_false, if_false, if_true, false_or, or_false, not_true_eq_false, not_false_eq_true, and_self]
    refine ⟨fun hu => ?_, fun hu => ?_⟩
    · simp (disch := first | (simp only [dd, dr]; done) | omega) only [W_43, I_lt, I_le, I_inj, inB_I, tc_I, Int.toNat_natCast, fkt, rf1, rf0, cq, Nat.reduceAdd, Nat.reduceEqDiff, Int.reduceToNat, eq_self, true_and, and_true, true_or, or_true, bI_0, bI_1, mm, rAm, mF_sF, mR_sR, false_and, and_false, if_false, if_true, false_or, or_false, not_true_eq_false, not_false_eq_true, and_self]
      rw [show ((k : Int) + 1) = ((k + 1 : Nat) : Int) by omega]
      refine ih (k + 1) M2 (by omega) F2 (fun b hb hbu => ?_) hD
      by_cases e : b = k
      · subst e; rw [hu] at hbu; cases hbu
      · exact hC b (by omega) hbu
    · have hu' : tU T k = true := by cases h : tU T k with | true => rfl | false => exact absurd h hu
      have rk := (hA k hu').same F2 (fun i => hD _ i (fun b' hb' => by omega))
      simp (disch := first | (simp only [dd, dr]; done) | omega) only [W_43, c1, c2, c3, e1X, e2X, eQ1, eQ2, I_lt, I_le, I_inj, inB_I, tc_I, Int.toNat_natCast, fkt, rf1, rf0, cq, Nat.reduceAdd, Nat.reduceEqDiff, Int.reduceToNat, eq_self, true_and, and_true, true_or, or_true, bI_0, bI_1, mm, rAm, mF_sF, mR_sR, false_and, and_false, if_false, if_true, false_or, or_false, not_true_eq_false, not_false_eq_true, and_self]
      refine cr_27 (by omega) (c_copyR rk kX2 (by omega) (fun M3 F3 r3 hE => ?_))
      simp (disch := first | (simp only [dd, dr]; done) | omega) only [W_43, I_lt, I_le, I_inj, inB_I, tc_I, Int.toNat_natCast, fkt, rf1, rf0, cq, Nat.reduceAdd, Nat.reduceEqDiff, Int.reduceToNat, eq_self, true_and, and_true, true_or, or_true, bI_0, bI_1, mm, rAm, mF_sF, mR_sR, false_and, and_false, if_false, if_true, false_or, or_false, not_true_eq_false, not_false_eq_true, and_self]
      rw [show ((k : Int) + 1) = ((k + 1 : Nat) : Int) by omega]
      refine ih (k + 1) M3 (by omega) (F2.trans F3) (fun b hb hbu => ?_) (fun z i hz => ?_)
      · by_cases e : b = k
        · subst e; exact r3
        · exact (hC b (by omega) hbu).same F3 (fun i => hE _ i (by omega))
      · rw [hE z i (hz k (by omega)), hD z i hz]
/-- rows come from elsewhere, and the tree with them -/
theorem JT.ro {M M' : Mem} {t r m : Nat} {A : Ad} (h : JT M t r m A) (F : Ro M M') : JT M' t r m A := by
  obtain ⟨k, u, h2⟩ := h
  exact ⟨k.ro F, u, h2.ro F⟩
theorem Fr.ro {t r : Nat} {A A' : Ad} {x : Nat} {M M' M'' : Mem} (F : Ro M M') (h : Fr t r A A' x M' M'') : (∀ a, a < mN M → mK M'' a = mK M a) ∧ mN M ≤ mN M'' ∧ mN M'' + nC A ≤ mN M + nC A' + x ∧ mS M'' + sC A ≤ mS M + sC A' + 6 * x := by
  have f := F.f1
  obtain ⟨a1, a2, a3, a4, a5, a6, a7, a8, a9⟩ := h
  rw [f.2.2.2.2.2.2.1] at a1 a7 a8
  rw [f.2.2.2.2.2.2.2.1] at a9
  exact ⟨fun a ha => (a1 a ha).trans (f.2.2.2.2.2.2.2.2 a), a7, a8, a9⟩
set_option maxHeartbeats 4000000 in
theorem n_putBack (hd : 50 ≤ d) (P : PK M p m J) (J0 : JT M (p + 201) (p + 199) m A) (N : NB A (p + 403 + J)) (hl : p + 403 + J ≤ mN M) (g : Gt m T py) (hsp : ∀ b, tU T b = true → Rw M (p + 99 + b) (img m T py dt b)) (hQ : ∀ M1 M' A', Ro M M1 → (∀ z i, (∀ b, b < 96 → z ≠ p + 2 + b) → mA M1 z i = mA M z i) → RM M' (p + 201) (p + 199) m A' T py none → DR M' p T dt → Fr (p + 201) (p + 199) A A' 0 M1 M' → Q (.returned none) M') : Wp d 49 0 [some (.ref p), none] [] M Q := by
  have hm := P.2.2.2.2.2.2.2.2.2.2
  have hU0 : tU T 0 = true := g.1.1.2.2.2.2.2.2.2.2.1.1
  have sp0 : Rw M (p + 99 + 0) (frw m (tU T) (tR T)) := by have := hsp 0 hU0; unfold img at this; rw [if_pos rfl] at this; exact this
  simp (disch := first | (simp only [dd, dr]; done) | omega) only [W_49, I_lt, I_le, I_inj, inB_I, tc_I, Int.toNat_natCast, fkt, rf1, rf0, cq, Nat.reduceAdd, Nat.reduceEqDiff, Int.reduceToNat, eq_self, true_and, and_true, true_or, or_true, bI_0, bI_1, mm, rAm, mF_sF, mR_sR, false_and, and_false, if_false, if_true, false_or, or_false, not_true_eq_false, not_false_eq_true, and_self]
  suffices H : ∀ n' (k : Nat) (M2 : Mem), k + n' = m → Ro M M2 → (∀ b, b < k → tU T b = true → Rw M2 (p + 2 + b) (img m T py dt b)) → (∀ z i, (∀ b, b < 96 → z ≠ p + 2 + b) → mA M2 z i = mA M z i) → Wp d 49 2 [some (.ref p), some (.int (I (k : Nat)))] [] M2 Q from H m 0 M (by omega) (Ro.refl _) (fun b hb => by omega) (fun _ _ _ => rfl)
  intro n'
  induction n' with
  | zero =>
    intro k M2 hk F2 hC hD
    have P2 := P.ro F2
    have c1 := P2.1.1
    have c11 := P2.1.2.2.2.2.2.2.2.2.2.2
    simp (disch := first | (simp only [dd, dr]; done) | omega) only [w_49_2, W_49, c1, c11, I_lt, I_le, I_inj, inB_I, tc_I, Int.toNat_natCast, fkt, rf1, rf0, cq, Nat.reduceAdd, Nat.reduceEqDiff, Int.reduceToNat, eq_self, true_and, and_true, true_or, or_true, bI_0, bI_1, mm, rAm, mF_sF, mR_sR, false_and, and_false, if_false, if_true, false_or, or_false, not_true_eq_false, not_false_eq_true, and_self]
    refine ⟨fun _ => ?_, (fun h => by first | exact False.elim h | exact absurd trivial h | (exfalso; omega) | exact absurd rfl h | cases h)⟩
    simp (disch := first | (simp only [dd, dr]; done) | omega) only [W_49, c1, I_lt, I_le, I_inj, inB_I, tc_I, Int.toNat_natCast, fkt, rf1, rf0, cq, Nat.reduceAdd, Nat.reduceEqDiff, Int.reduceToNat, eq_self, true_and, and_true, true_or, or_true, bI_0, bI_1, mm, rAm, mF_sF, mR_sR, false_and, and_false, if_false, if_true, false_or, or_false, not_true_eq_false, not_false_eq_true, and_self]
    refine ca_50 (by omega) (n_takeAll (dt := dt) (by omega) P2 (J0.ro F2) N (by rw [F2.f1.2.2.2.2.2.2.1]; exact hl) g (fun b hb => hC b (by have := g.1.2.2.2.2.2 b hb; omega) hb) (fun M3 A3 R3 D3 F3 => ?_))
    simp (disch := first | (simp only [dd, dr]; done) | omega) only [W_49, I_lt, I_le, I_inj, inB_I, tc_I, Int.toNat_natCast, fkt, rf1, rf0, cq, Nat.reduceAdd, Nat.reduceEqDiff, Int.reduceToNat, eq_self, true_and, and_true, true_or, or_true, bI_0, bI_1, mm, rAm, mF_sF, mR_sR, false_and, and_false, if_false, if_true, false_or, or_false, not_true_eq_false, not_false_eq_true, and_self]
    exact hQ M2 M3 A3 F2 hD R3 D3 F3
  | succ n' ih =>
    intro k M2 hk F2 hC hD
    have P2 := P.ro F2
    obtain ⟨⟨c1, c2, c3, c4, c5, c6, c7, c8, c9, c10, c11⟩, e1, e2, _⟩ := id P2
    have e1X := e1.1
    have e2X := e2.1
    obtain ⟨eQ1, kX1⟩ := e1.2.1 k (by omega)
    obtain ⟨eQ2, kX2⟩ := e2.2.1 k (by omega)
    obtain ⟨eQ0, kX0⟩ := e2.2.1 0 (by omega)
    have sp02 : Rw M2 (p + 99 + 0) (frw m (tU T) (tR T)) := sp0.same F2 (fun i => hD _ i (fun b hb => by omega))
    have ef : frw m (tU T) (tR T) (1 + k) = if tU T k = true then 1 else 0 := by
      unfold frw
      rw [if_neg (by omega), if_neg (by omega), if_pos (by omega), show 1 + k - 1 = k by omega]
    have ev : decide (bB ((frw m (tU T) (tR T) (1 + k) : Nat) : Int) = I 1) = tU T k := by
      rw [ef]
      cases hu : tU T k with
      | true => decide
      | false => decide
    simp (disch := first | (simp only [dd, dr]; done) | omega) only [w_49_2, W_49, c1, c11, I_lt, I_le, I_inj, inB_I, tc_I, Int.toNat_natCast, fkt, rf1, rf0, cq, Nat.reduceAdd, Nat.reduceEqDiff, Int.reduceToNat, eq_self, true_and, and_true, true_or, or_true, bI_0, bI_1, mm, rAm, mF_sF, mR_sR, false_and, and_false, if_false, if_true, false_or, or_false, not_true_eq_false, not_false_eq_true, and_self]
    refine ⟨(fun h => by first | exact False.elim h | exact absurd trivial h | (exfalso; omega) | exact absurd rfl h | cases h), fun _ => ?_⟩
    simp (disch := first | (simp only [dd, dr]; done) | omega) only [W_49, c1, c3, e2X, eQ0, I_lt, I_le, I_inj, inB_I, tc_I, Int.toNat_natCast, fkt, rf1, rf0, cq, Nat.reduceAdd, Nat.reduceEqDiff, Int.reduceToNat, eq_self, true_and, and_true, true_or, or_true, bI_0, bI_1, mm, rAm, mF_sF, mR_sR, false_and, and_false, if_false, if_true, false_or, or_false, not_true_eq_false, not_false_eq_true, and_self]
    refine cr_91 (by omega) (c_isTaken kX0 (by omega) (sp02.2 (1 + k) (by omega)) ?_)
    rw [ev]
    simp (disch := first | (simp only [dd, dr]; done) | omega) only [W_49, I_lt, I_le, I_inj, inB_I, tc_I, Int.toNat_natCast, fkt, rf1, rf0, cq, Nat.reduceAdd, Nat.reduceEqDiff, Int.reduceToNat, eq_self, true_and, and_true, true_or, or_true, bI_0, bI_1, mm, rAm, mF_sF, mR_sR, false_and, and_false, if_false, if_true, false_or, or_false, not_true_eq_false, not_false_eq_true, and_self]
    refine ⟨fun hu => ?_, fun hu => ?_⟩
    · simp (disch := first | (simp only [dd, dr]; done) | omega) only [W_49, I_lt, I_le, I_inj, inB_I, tc_I, Int.toNat_natCast, fkt, rf1, rf0, cq, Nat.reduceAdd, Nat.reduceEqDiff, Int.reduceToNat, eq_self, true_and, and_true, true_or, or_true, bI_0, bI_1, mm, rAm, mF_sF, mR_sR, false_and, and_false, if_false, if_true, false_or, or_false, not_true_eq_false, not_false_eq_true, and_self]
      rw [show ((k : Int) + 1) = ((k + 1 : Nat) : Int) by omega]
      refine ih (k + 1) M2 (by omega) F2 (fun b hb hbu => ?_) hD
      by_cases e : b = k
      · subst e; rw [hu] at hbu; cases hbu
      · exact hC b (by omega) hbu
    · have hu' : tU T k = true := by cases h : tU T k with | true => rfl | false => exact absurd h hu
      have rk := (hsp k hu').same F2 (fun i => hD _ i (fun b' hb' => by omega))
      simp (disch := first | (simp only [dd, dr]; done) | omega) only [W_49, c1, c2, c3, e1X, e2X, eQ1, eQ2, I_lt, I_le, I_inj, inB_I, tc_I, Int.toNat_natCast, fkt, rf1, rf0, cq, Nat.reduceAdd, Nat.reduceEqDiff, Int.reduceToNat, eq_self, true_and, and_true, true_or, or_true, bI_0, bI_1, mm, rAm, mF_sF, mR_sR, false_and, and_false, if_false, if_true, false_or, or_false, not_true_eq_false, not_false_eq_true, and_self]
      refine cr_27 (by omega) (c_copyR rk kX1 (by omega) (fun M3 F3 r3 hE => ?_))
      simp (disch := first | (simp only [dd, dr]; done) | omega) only [W_49, I_lt, I_le, I_inj, inB_I, tc_I, Int.toNat_natCast, fkt, rf1, rf0, cq, Nat.reduceAdd, Nat.reduceEqDiff, Int.reduceToNat, eq_self, true_and, and_true, true_or, or_true, bI_0, bI_1, mm, rAm, mF_sF, mR_sR, false_and, and_false, if_false, if_true, false_or, or_false, not_true_eq_false, not_false_eq_true, and_self]
      rw [show ((k : Int) + 1) = ((k + 1 : Nat) : Int) by omega]
      refine ih (k + 1) M3 (by omega) (F2.trans F3) (fun b hb hbu => ?_) (fun z i hz => ?_)
      · by_cases e : b = k
        · subst e; exact r3
        · exact (hC b (by omega) hbu).same F3 (fun i => hE _ i (by omega))
      · rw [hE z i (hz k (by omega)), hD z i hz]
set_option maxHeartbeats 4000000 in
theorem n_takeLast (hd : 50 ≤ d) (P : PK M p m J) (J0 : JT M (p + 201) (p + 199) m A) (N : NB A (p + 403 + J)) (hl : p + 403 + J ≤ mN M) (g : Gt m T py) {L : Nat → Nat → Nat} (hla : ∀ b, b < m → Rw M (p + 304 + b) (L b)) (hL : ∀ b, tU T b = true → ∀ i, L b i = img m T py dt b i) (hQ : ∀ M1 M' A', Ro M M1 → (∀ z i, (∀ b, b < 96 → z ≠ p + 2 + b) → mA M1 z i = mA M z i) → RM M' (p + 201) (p + 199) m A' T py none → DR M' p T dt → Fr (p + 201) (p + 199) A A' 0 M1 M' → Q (.returned none) M') : Wp d 83 0 [some (.ref p), none] [] M Q := by
  have hm := P.2.2.2.2.2.2.2.2.2.2
  simp (disch := first | (simp only [dd, dr]; done) | omega) only [W_83, I_lt, I_le, I_inj, inB_I, tc_I, Int.toNat_natCast, fkt, rf1, rf0, cq, Nat.reduceAdd, Nat.reduceEqDiff, Int.reduceToNat, eq_self, true_and, and_true, true_or, or_true, bI_0, bI_1, mm, rAm, mF_sF, mR_sR, false_and, and_false, if_false, if_true, false_or, or_false, not_true_eq_false, not_false_eq_true, and_self]
  suffices H : ∀ n' (k : Nat) (M2 : Mem), k + n' = m → Ro M M2 → (∀ b, b < k → Rw M2 (p + 2 + b) (L b)) → (∀ z i, (∀ b, b < 96 → z ≠ p + 2 + b) → mA M2 z i = mA M z i) → Wp d 83 2 [some (.ref p), some (.int (I (k : Nat)))] [] M2 Q from H m 0 M (by omega) (Ro.refl _) (fun b hb => by omega) (fun _ _ _ => rfl)
  intro n'
  induction n' with
  | zero =>
    intro k M2 hk F2 hC hD
    have P2 := P.ro F2
    have c1 := P2.1.1
    have c11 := P2.1.2.2.2.2.2.2.2.2.2.2
    simp (disch := first | (simp only [dd, dr]; done) | omega) only [w_83_2, W_83, c1, c11, I_lt, I_le, I_inj, inB_I, tc_I, Int.toNat_natCast, fkt, rf1, rf0, cq, Nat.reduceAdd, Nat.reduceEqDiff, Int.reduceToNat, eq_self, true_and, and_true, true_or, or_true, bI_0, bI_1, mm, rAm, mF_sF, mR_sR, false_and, and_false, if_false, if_true, false_or, or_false, not_true_eq_false, not_false_eq_true, and_self]
    refine ⟨fun _ => ?_, (fun h => by first | exact False.elim h | exact absurd trivial h | (exfalso; omega) | exact absurd rfl h | cases h)⟩
    simp (disch := first | (simp only [dd, dr]; done) | omega) only [W_83, c1, I_lt, I_le, I_inj, inB_I, tc_I, Int.toNat_natCast, fkt, rf1, rf0, cq, Nat.reduceAdd, Nat.reduceEqDiff, Int.reduceToNat, eq_self, true_and, and_true, true_or, or_true, bI_0, bI_1, mm, rAm, mF_sF, mR_sR, false_and, and_false, if_false, if_true, false_or, or_false, not_true_eq_false, not_false_eq_true, and_self]
    refine ca_50 (by omega) (n_takeAll (dt := dt) (by omega) P2 (J0.ro F2) N (by rw [F2.f1.2.2.2.2.2.2.1]; exact hl) g (fun b hb => ?_) (fun M3 A3 R3 D3 F3 => ?_))
    · have h := hC b (by have := g.1.2.2.2.2.2 b hb; omega)
      exact ⟨h.1, fun i hi => by rw [h.2 i hi, hL b hb i]⟩
    · simp (disch := first | (simp only [dd, dr]; done) | omega) only [W_83, I_lt, I_le, I_inj, inB_I, tc_I, Int.toNat_natCast, fkt, rf1, rf0, cq, Nat.reduceAdd, Nat.reduceEqDiff, Int.reduceToNat, eq_self, true_and, and_true, true_or, or_true, bI_0, bI_1, mm, rAm, mF_sF, mR_sR, false_and, and_false, if_false, if_true, false_or, or_false, not_true_eq_false, not_false_eq_true, and_self]
      exact hQ M2 M3 A3 F2 hD R3 D3 F3
  | succ n' ih =>
    intro k M2 hk F2 hC hD
    have P2 := P.ro F2
    obtain ⟨⟨c1, c2, c3, c4, c5, c6, c7, c8, c9, c10, c11⟩, e1, _, _, ⟨d1, d2, d3, d4, d5, d6, d7⟩, _, e2, _⟩ := id P2
    have e1X := e1.1
    have e2X := e2.1
    obtain ⟨eQ1, kX1⟩ := e1.2.1 k (by omega)
    obtain ⟨eQ2, kX2⟩ := e2.2.1 k (by omega)
    simp (disch := first | (simp only [dd, dr]; done) | omega) only [w_83_2, W_83, c1, c11, I_lt, I_le, I_inj, inB_I, tc_I, Int.toNat_natCast, fkt, rf1, rf0, cq, Nat.reduceAdd, Nat.reduceEqDiff, Int.reduceToNat, eq_self, true_and, and_true, true_or, or_true, bI_0, bI_1, mm, rAm, mF_sF, mR_sR, false_and, and_false, if_false, if_true, false_or, or_false, not_true_eq_false, not_false_eq_true, and_self]
    refine ⟨(fun h => by first | exact False.elim h | exact absurd trivial h | (exfalso; omega) | exact absurd rfl h | cases h), fun _ => ?_⟩
    have rk := (hla k (by omega)).same F2 (fun i => hD _ i (fun b' hb' => by omega))
    simp (disch := first | (simp only [dd, dr]; done) | omega) only [W_83, c1, c2, c10, d1, d3, e1X, e2X, eQ1, eQ2, I_lt, I_le, I_inj, inB_I, tc_I, Int.toNat_natCast, fkt, rf1, rf0, cq, Nat.reduceAdd, Nat.reduceEqDiff, Int.reduceToNat, eq_self, true_and, and_true, true_or, or_true, bI_0, bI_1, mm, rAm, mF_sF, mR_sR, false_and, and_false, if_false, if_true, false_or, or_false, not_true_eq_false, not_false_eq_true, and_self]
    refine cr_27 (by omega) (c_copyR rk kX1 (by omega) (fun M3 F3 r3 hE => ?_))
    simp (disch := first | (simp only [dd, dr]; done) | omega) only [W_83, I_lt, I_le, I_inj, inB_I, tc_I, Int.toNat_natCast, fkt, rf1, rf0, cq, Nat.reduceAdd, Nat.reduceEqDiff, Int.reduceToNat, eq_self, true_and, and_true, true_or, or_true, bI_0, bI_1, mm, rAm, mF_sF, mR_sR, false_and, and_false, if_false, if_true, false_or, or_false, not_true_eq_false, not_false_eq_true, and_self]
    rw [show ((k : Int) + 1) = ((k + 1 : Nat) : Int) by omega]
    refine ih (k + 1) M3 (by omega) (F2.trans F3) (fun b hb => ?_) (fun z i hz => ?_)
    · by_cases e : b = k
      · subst e; exact r3
      · exact (hC b (by omega)).same F3 (fun i => hE _ i (by omega))
    · rw [hE z i (hz k (by omega)), hD z i hz]
end CK
