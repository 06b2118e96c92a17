/-! ===== THE COMPONENT: the device's state, log ===== -/
/-- numbers, the journal (signs, rows), rows at home and as committed last -/
def DevS (M : Mem) (p m J : Nat) (wr lf : Int) (off : Bool) (cm : Int) (full : Nat) (sg : Nat → Int) (jr hm la : Nat → Nat → Nat) : Prop :=
  (mF M 29 (p + 205) = I wr ∧ mF M 23 (p + 205) = I lf ∧ mF M 25 (p + 205) = I (bI off) ∧ mF M 19 (p + 205) = I cm ∧ mF M 20 (p + 205) = I (full : Nat) ∧ full ≤ J ∧ -1 ≤ lf ∧ lf < 2147483648) ∧
  (∀ i, i < full → mA M (p + 402 + J) i = I (sg i) ∧ -3 ≤ sg i ∧ sg i < 96) ∧ (∀ i, i < full → 0 ≤ sg i → Rw M (p + 402 + i) (jr i)) ∧ (∀ b, b < m → Rw M (p + 207 + b) (hm b)) ∧ (∀ b, b < m → Rw M (p + 304 + b) (la b))
section DL
variable {d p m J : Nat} {M : Mem} {Q : Outcome → Mem → Prop} {wr lf cm : Int} {off : Bool} {full : Nat} {sg : Nat → Int} {jr hm la : Nat → Nat → Nat}
/-- what is left after a write -/
def dn (lf : Int) : Int := if 0 < lf then lf - 1 else lf
theorem DevS.done (h : DevS M p m J wr lf off cm full sg jr hm la) : DevS (sF (sF M 23 (p + 205) (I (dn lf))) 29 (p + 205) (I (wr + 1))) p m J (wr + 1) (dn lf) off cm full sg jr hm la := by
  obtain ⟨⟨a1, a2, a3, a4, a5, a6, a7, a8⟩, b1, b2, b3, b4⟩ := h
  have hd : -1 ≤ dn lf ∧ dn lf < 2147483648 := by unfold dn; split <;> omega
  refine ⟨⟨by simp [mF_sF], by simp [mF_sF], ?_, ?_, ?_, a6, hd.1, hd.2⟩, b1, b2, b3, b4⟩
  · rw [mF_sF, if_neg (by omega), mF_sF, if_neg (by omega)]; exact a3
  · rw [mF_sF, if_neg (by omega), mF_sF, if_neg (by omega)]; exact a4
  · rw [mF_sF, if_neg (by omega), mF_sF, if_neg (by omega)]; exact a5
theorem DevS.fails (h : DevS M p m J wr lf off cm full sg jr hm la) : DevS (sF (sF M 25 (p + 205) (I 1)) 23 (p + 205) (I (-1))) p m J wr (-1) true cm full sg jr hm la := by
  obtain ⟨⟨a1, a2, a3, a4, a5, a6, a7, a8⟩, b1, b2, b3, b4⟩ := h
  refine ⟨⟨?_, by simp [mF_sF], by simp [mF_sF]; rfl, ?_, ?_, a6, by omega, by omega⟩, b1, b2, b3, b4⟩
  · rw [mF_sF, if_neg (by omega), mF_sF, if_neg (by omega)]; exact a1
  · rw [mF_sF, if_neg (by omega), mF_sF, if_neg (by omega)]; exact a4
  · rw [mF_sF, if_neg (by omega), mF_sF, if_neg (by omega)]; exact a5
theorem n_isDone (P : PK M p m J) (h : DevS M p m J wr lf off cm full sg jr hm la) (hQ1 : lf = 0 → ∀ M', De p J M M' → DevS M' p m J wr (-1) true cm full sg jr hm la → (∀ a i, mA M' a i = mA M a i) → Q (.returned (some (.int (I 0)))) M') (hQ2 : lf ≠ 0 → ∀ M', De p J M M' → DevS M' p m J (wr + 1) (dn lf) off cm full sg jr hm la → (∀ a i, mA M' a i = mA M a i) → Q (.returned (some (.int (I 1)))) M') : Wp d 116 0 [some (.ref (p + 205))] [] M Q := by
  refine c_isDone P h.1.2.1 h.1.1 h.1.2.2.2.2.2.2.1 h.1.2.2.2.2.2.2.2 (fun h0 => ?_) (fun h0 => ?_)
  · exact hQ1 h0 _ ((De.sF p J M (by decide) _).trans (De.sF p J _ (by decide) _)) h.fails (fun _ _ => rfl)
  · exact hQ2 h0 _ ((De.sF p J M (by decide) _).trans (De.sF p J _ (by decide) _)) h.done (fun _ _ => rfl)
/-- a sign is logged, without a row or with one -/
theorem DevS.sign (h : DevS M p m J wr lf off cm full sg jr hm la) (P : PK M p m J) (hf : full < J) (v : Int) (hv : -3 ≤ v ∧ v < 0) : DevS (sF (sA M (p + 402 + J) full (I v)) 20 (p + 205) (I ((full + 1 : Nat) : Int))) p m J wr lf off cm (full + 1) (fun i => if i = full then v else sg i) jr hm la := by
  obtain ⟨⟨a1, a2, a3, a4, a5, a6, a7, a8⟩, b1, b2, b3, b4⟩ := h
  have kS := P.2.2.2.2.2.2.2.2.2.1
  have kr : ∀ w, kX M w = (1, 129) → w ≠ p + 402 + J := fun w hw e => by rw [e, kS] at hw; cases hw
  have oR : ∀ w g, Rw M w g → Rw (sF (sA M (p + 402 + J) full (I v)) 20 (p + 205) (I ((full + 1 : Nat) : Int))) w g := fun w g hw => ⟨hw.1, fun i hi => by
    show mA (sA M (p + 402 + J) full (I v)) w i = _
    rw [mA_sA, if_neg (fun e => kr w hw.1 e.1)]; exact hw.2 i hi⟩
  refine ⟨⟨?_, ?_, ?_, ?_, by simp [mF_sF], by omega, a7, a8⟩, fun i hi => ?_, fun i hi h0 => ?_, fun b hb => oR _ _ (b3 b hb), fun b hb => oR _ _ (b4 b hb)⟩
  · rw [mF_sF, if_neg (by omega)]; exact a1
  · rw [mF_sF, if_neg (by omega)]; exact a2
  · rw [mF_sF, if_neg (by omega)]; exact a3
  · rw [mF_sF, if_neg (by omega)]; exact a4
  · show mA (sA M (p + 402 + J) full (I v)) (p + 402 + J) i = _ ∧ _
    rw [mA_sA]
    by_cases e : i = full
    · rw [if_pos ⟨rfl, e⟩]; simp only [e, if_true]; exact ⟨trivial, by omega, by omega⟩
    · rw [if_neg (fun hh => e hh.2)]; simp only [e, if_false]; exact b1 i (by omega)
  · by_cases e : i = full
    · simp only [e, if_true] at h0; omega
    · simp only [e, if_false] at h0; exact oR _ _ (b2 i (by omega) h0)
theorem n_log0 (hd : 2 ≤ d) (P : PK M p m J) (h : DevS M p m J wr lf off cm full sg jr hm la) (hf : full < J) {v : Int} (hv : -3 ≤ v ∧ v < 0) (hQ1 : lf = 0 → ∀ M', De p J M M' → DevS M' p m J wr (-1) true cm full sg jr hm la → (∀ a i, mA M' a i = mA M a i) → Q (.returned (some (.int (I 0)))) M') (hQ2 : lf ≠ 0 → ∀ M', De p J M M' → DevS M' p m J (wr + 1) (dn lf) off cm (full + 1) (fun i => if i = full then v else sg i) jr hm la → (∀ a i, a ≠ p + 402 + J → mA M' a i = mA M a i) → Q (.returned (some (.int (I 1)))) M') : Wp d 118 0 [some (.ref (p + 205)), some (.int (I v)), some .null] [] M Q := by
  have k4 := P.2.2.2.2.1.1
  have hJ := P.2.2.2.2.2.2.2.2.2.2
  simp (disch := first | (simp only [dd, dr]; done) | omega) only [W_118, k4, I_lt, I_le, I_inj, inB_I, tc_I, Int.toNat_natCast, fkt, rf1, rf0, cq, Nat.reduceAdd, Nat.reduceEqDiff, Int.reduceToNat, eq_self, true_and, and_true, true_or, or_true, bI_0, bI_1, mm, rAm, mF_sF, mR_sR, false_and, and_false, if_false, if_true, false_or, or_false, not_true_eq_false, not_false_eq_true, and_self]
  refine ca_116 (by omega) (n_isDone P h (fun h0 M1 F1 h1 o1 => ?_) (fun h0 M1 F1 h1 o1 => ?_))
  · simp (disch := first | (simp only [dd, dr]; done) | omega) only [W_118, I_lt, I_le, I_inj, inB_I, tc_I, Int.toNat_natCast, fkt, rf1, rf0, cq, Nat.reduceAdd, Nat.reduceEqDiff, Int.reduceToNat, eq_self, true_and, and_true, true_or, or_true, bI_0, bI_1, mm, rAm, mF_sF, mR_sR, false_and, and_false, if_false, if_true, false_or, or_false, not_true_eq_false, not_false_eq_true, and_self]
    refine ⟨(fun h => by first | exact False.elim h | exact absurd trivial h | (exfalso; omega) | exact absurd rfl h | cases h), fun _ => ?_⟩
    simp (disch := first | (simp only [dd, dr]; done) | omega) only [W_118, I_lt, I_le, I_inj, inB_I, tc_I, Int.toNat_natCast, fkt, rf1, rf0, cq, Nat.reduceAdd, Nat.reduceEqDiff, Int.reduceToNat, eq_self, true_and, and_true, true_or, or_true, bI_0, bI_1, mm, rAm, mF_sF, mR_sR, false_and, and_false, if_false, if_true, false_or, or_false, not_true_eq_false, not_false_eq_true, and_self]
    exact hQ1 h0 M1 F1 h1 o1
  · have P1 := P.de F1
    have k41 := P1.2.2.2.2.1.1
    have k27 := P1.2.2.2.2.1.2.2.2.2.2.1
    have kS := P1.2.2.2.2.2.2.2.2.2.1
    have e20 := h1.1.2.2.2.2.1
    simp (disch := first | (simp only [dd, dr]; done) | omega) only [W_118, I_lt, I_le, I_inj, inB_I, tc_I, Int.toNat_natCast, fkt, rf1, rf0, cq, Nat.reduceAdd, Nat.reduceEqDiff, Int.reduceToNat, eq_self, true_and, and_true, true_or, or_true, bI_0, bI_1, mm, rAm, mF_sF, mR_sR, false_and, and_false, if_false, if_true, false_or, or_false, not_true_eq_false, not_false_eq_true, and_self]
    refine ⟨fun _ => ?_, (fun h => by first | exact False.elim h | exact absurd trivial h | (exfalso; omega) | exact absurd rfl h | cases h)⟩
    simp (disch := first | (simp only [dd, dr]; done) | omega) only [W_118, k41, k27, kS, e20, I_lt, I_le, I_inj, inB_I, tc_I, Int.toNat_natCast, fkt, rf1, rf0, cq, Nat.reduceAdd, Nat.reduceEqDiff, Int.reduceToNat, eq_self, true_and, and_true, true_or, or_true, bI_0, bI_1, mm, rAm, mF_sF, mR_sR, false_and, and_false, if_false, if_true, false_or, or_false, not_true_eq_false, not_false_eq_true, and_self]
    rw [show ((full : Int) + 1) = ((full + 1 : Nat) : Int) by omega]
    exact hQ2 h0 _ (F1.trans ((De.sA M1 ⟨by omega, by omega⟩ _).trans (De.sF p J _ (by decide) _))) (h1.sign P1 hf v hv) (fun a i ha => by
      show mA (sA M1 (p + 402 + J) full (I v)) a i = _
      rw [mA_sA, if_neg (fun e => ha e.1)]; exact o1 a i)
theorem n_logR (hd : 2 ≤ d) (P : PK M p m J) (h : DevS M p m J wr lf off cm full sg jr hm la) (hf : full < J) {b w : Nat} {g : Nat → Nat} (hb : b < 96) (hw : Rw M w g) (hwp : w < p + 206) (hQ1 : lf = 0 → ∀ M', De p J M M' → DevS M' p m J wr (-1) true cm full sg jr hm la → (∀ a i, mA M' a i = mA M a i) → Q (.returned (some (.int (I 0)))) M') (hQ2 : lf ≠ 0 → ∀ M', De p J M M' → DevS M' p m J (wr + 1) (dn lf) off cm (full + 1) (fun i => if i = full then (b : Int) else sg i) (fu jr full g) hm la → (∀ a i, a ≠ p + 402 + J → a ≠ p + 402 + full → mA M' a i = mA M a i) → Q (.returned (some (.int (I 1)))) M') : Wp d 118 0 [some (.ref (p + 205)), some (.int (I (b : Nat))), some (.ref w)] [] M Q := by
  have k4 := P.2.2.2.2.1.1
  have hJ := P.2.2.2.2.2.2.2.2.2.2
  simp (disch := first | (simp only [dd, dr]; done) | omega) only [W_118, k4, I_lt, I_le, I_inj, inB_I, tc_I, Int.toNat_natCast, fkt, rf1, rf0, cq, Nat.reduceAdd, Nat.reduceEqDiff, Int.reduceToNat, eq_self, true_and, and_true, true_or, or_true, bI_0, bI_1, mm, rAm, mF_sF, mR_sR, false_and, and_false, if_false, if_true, false_or, or_false, not_true_eq_false, not_false_eq_true, and_self]
  refine ca_116 (by omega) (n_isDone P h (fun h0 M1 F1 h1 o1 => ?_) (fun h0 M1 F1 h1 o1 => ?_))
  · simp (disch := first | (simp only [dd, dr]; done) | omega) only [W_118, I_lt, I_le, I_inj, inB_I, tc_I, Int.toNat_natCast, fkt, rf1, rf0, cq, Nat.reduceAdd, Nat.reduceEqDiff, Int.reduceToNat, eq_self, true_and, and_true, true_or, or_true, bI_0, bI_1, mm, rAm, mF_sF, mR_sR, false_and, and_false, if_false, if_true, false_or, or_false, not_true_eq_false, not_false_eq_true, and_self]
    refine ⟨(fun h => by first | exact False.elim h | exact absurd trivial h | (exfalso; omega) | exact absurd rfl h | cases h), fun _ => ?_⟩
    simp (disch := first | (simp only [dd, dr]; done) | omega) only [W_118, I_lt, I_le, I_inj, inB_I, tc_I, Int.toNat_natCast, fkt, rf1, rf0, cq, Nat.reduceAdd, Nat.reduceEqDiff, Int.reduceToNat, eq_self, true_and, and_true, true_or, or_true, bI_0, bI_1, mm, rAm, mF_sF, mR_sR, false_and, and_false, if_false, if_true, false_or, or_false, not_true_eq_false, not_false_eq_true, and_self]
    exact hQ1 h0 M1 F1 h1 o1
  · have P1 := P.de F1
    have k41 := P1.2.2.2.2.1.1
    have k26 := P1.2.2.2.2.1.2.2.2.2.1
    have k27 := P1.2.2.2.2.1.2.2.2.2.2.1
    have kS := P1.2.2.2.2.2.2.2.2.2.1
    obtain ⟨kRw, rowsJ⟩ := P1.2.2.2.2.2.2.2.2.1
    obtain ⟨eQj, kXj⟩ := rowsJ full hf
    have e20 := h1.1.2.2.2.2.1
    simp (disch := first | (simp only [dd, dr]; done) | omega) only [W_118, I_lt, I_le, I_inj, inB_I, tc_I, Int.toNat_natCast, fkt, rf1, rf0, cq, Nat.reduceAdd, Nat.reduceEqDiff, Int.reduceToNat, eq_self, true_and, and_true, true_or, or_true, bI_0, bI_1, mm, rAm, mF_sF, mR_sR, false_and, and_false, if_false, if_true, false_or, or_false, not_true_eq_false, not_false_eq_true, and_self]
    refine ⟨fun _ => ?_, (fun h => by first | exact False.elim h | exact absurd trivial h | (exfalso; omega) | exact absurd rfl h | cases h)⟩
    simp (disch := first | (simp only [dd, dr]; done) | omega) only [W_118, k41, k26, k27, kS, kRw, e20, eQj, I_lt, I_le, I_inj, inB_I, tc_I, Int.toNat_natCast, fkt, rf1, rf0, cq, Nat.reduceAdd, Nat.reduceEqDiff, Int.reduceToNat, eq_self, true_and, and_true, true_or, or_true, bI_0, bI_1, mm, rAm, mF_sF, mR_sR, false_and, and_false, if_false, if_true, false_or, or_false, not_true_eq_false, not_false_eq_true, and_self]
    have hw1 : Rw (sA M1 (p + 402 + J) full (I (b : Nat))) w g := ⟨by show kX M1 w = _; rw [F1.f1.2.1]; exact hw.1, fun i hi => by rw [mA_sA, if_neg (fun e => by omega), o1]; exact hw.2 i hi⟩
    refine cr_27 (by omega) (c_copyR hw1 kXj (by omega) (fun M2 F2 r2 o2 => ?_))
    have f2 := F2.f1
    have k42 : kO M2 (p + 205) = 4 := by rw [f2.1]; exact k41
    have e202 : mF M2 20 (p + 205) = I (full : Nat) := by rw [f2.2.2.1]; exact e20
    simp (disch := first | (simp only [dd, dr]; done) | omega) only [W_118, k42, e202, I_lt, I_le, I_inj, inB_I, tc_I, Int.toNat_natCast, fkt, rf1, rf0, cq, Nat.reduceAdd, Nat.reduceEqDiff, Int.reduceToNat, eq_self, true_and, and_true, true_or, or_true, bI_0, bI_1, mm, rAm, mF_sF, mR_sR, false_and, and_false, if_false, if_true, false_or, or_false, not_true_eq_false, not_false_eq_true, and_self]
    rw [show ((full : Int) + 1) = ((full + 1 : Nat) : Int) by omega]
    have D2 : De p J (sA M1 (p + 402 + J) full (I (b : Nat))) M2 := by
      refine ⟨F2.1, F2.2.2.1, F2.2.2.2.1, fun f' a _ => f2.2.2.1 f' a, fun a i ha => o2 a i (by omega)⟩
    refine hQ2 h0 _ ((F1.trans ((De.sA M1 ⟨by omega, by omega⟩ _).trans D2)).trans (De.sF p J _ (by decide) _)) ?_ (fun a i h1' h2' => ?_)
    · obtain ⟨⟨a1, a2, a3, a4, a5, a6, a7, a8⟩, b1, b2, b3, b4⟩ := h1
      have kS' : kX M1 (p + 402 + J) = (0, J) := kS
      have oR : ∀ w' g', Rw M1 w' g' → w' ≠ p + 402 + full → Rw (sF M2 20 (p + 205) (I ((full + 1 : Nat) : Int))) w' g' := fun w' g' hw' hne => ⟨by show kX M2 w' = _; rw [f2.2.1]; exact hw'.1, fun i hi => by
        show mA M2 w' i = _
        rw [o2 w' i hne, mA_sA, if_neg (fun e => by have := hw'.1; rw [e.1, kS'] at this; cases this)]; exact hw'.2 i hi⟩
      refine ⟨⟨?_, ?_, ?_, ?_, by simp [mF_sF], by omega, a7, a8⟩, fun i hi => ?_, fun i hi h0' => ?_, fun b' hb' => oR _ _ (b3 b' hb') (by omega), fun b' hb' => oR _ _ (b4 b' hb') (by omega)⟩
      · rw [mF_sF, if_neg (by omega), f2.2.2.1]; exact a1
      · rw [mF_sF, if_neg (by omega), f2.2.2.1]; exact a2
      · rw [mF_sF, if_neg (by omega), f2.2.2.1]; exact a3
      · rw [mF_sF, if_neg (by omega), f2.2.2.1]; exact a4
      · show mA M2 (p + 402 + J) i = _ ∧ _
        rw [o2 _ _ (by omega), mA_sA]
        by_cases e : i = full
        · rw [if_pos ⟨rfl, e⟩]; simp only [e, if_true]; exact ⟨trivial, by omega, by omega⟩
        · rw [if_neg (fun hh => e hh.2)]; simp only [e, if_false]; exact b1 i (by omega)
      · by_cases e : i = full
        · subst e
          rw [fu_s]
          exact ⟨r2.1, fun j hj => r2.2 j hj⟩
        · simp only [e, if_false] at h0'
          rw [fu_n _ _ e]
          exact oR _ _ (b2 i (by omega) h0') (by omega)
    · show mA M2 a i = _
      rw [o2 a i h2', mA_sA, if_neg (fun e => h1' e.1)]; exact o1 a i
end DL
