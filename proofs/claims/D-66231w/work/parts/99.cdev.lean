/-! ===== THE COMPONENT: the device ===== -/
def dfl (f : Nat) : Bool := f == 19 || f == 20 || f == 23 || f == 25 || f == 29
/-- only the device's numbers and rows change -/
def De (p J : Nat) (M M' : Mem) : Prop := M'.1 = M.1 ∧ M'.2.2.1 = M.2.2.1 ∧ M'.2.2.2.2 = M.2.2.2.2 ∧ (∀ f a, ¬ (a = p + 205 ∧ dfl f = true) → mF M' f a = mF M f a) ∧ ∀ a i, (a < p + 206 ∨ p + 402 + J < a) → mA M' a i = mA M a i
theorem De.refl (p J : Nat) (M : Mem) : De p J M M := ⟨rfl, rfl, rfl, fun _ _ _ => rfl, fun _ _ _ => rfl⟩
theorem De.trans {p J : Nat} {M M' M'' : Mem} (h : De p J M M') (h' : De p J M' M'') : De p J M M'' := ⟨h'.1.trans h.1, h'.2.1.trans h.2.1, h'.2.2.1.trans h.2.2.1, fun f a hh => (h'.2.2.2.1 f a hh).trans (h.2.2.2.1 f a hh), fun a i hh => (h'.2.2.2.2 a i hh).trans (h.2.2.2.2 a i hh)⟩
theorem De.f1 {p J : Nat} {M M' : Mem} (h : De p J M M') : (∀ a, kO M' a = kO M a) ∧ (∀ a, kX M' a = kX M a) ∧ (∀ f a, mR M' f a = mR M f a) ∧ (∀ a i, mQ M' a i = mQ M a i) ∧ (∀ a i, mL M' a i = mL M a i) ∧ mN M' = mN M ∧ mS M' = mS M ∧ ∀ a, mK M' a = mK M a := by
  obtain ⟨h1, h3, h4, _⟩ := h
  have hk : ∀ a, mK M' a = mK M a := fun a => by unfold mK; rw [h1]
  exact ⟨fun a => by unfold kO; rw [hk], fun a => by unfold kX; rw [hk], fun f a => by unfold mR; rw [h3], fun a i => by unfold mQ; rw [h4], fun a i => by unfold mL; rw [h4], by unfold mN; rw [h4], by unfold mS; rw [h4], hk⟩
theorem De.sF (p J : Nat) (M : Mem) {f : Nat} (hf : dfl f = true) (v : Int32) : De p J M (sF M f (p + 205) v) := ⟨rfl, rfl, rfl, fun f' a hh => by rw [mF_sF, if_neg (fun e => hh ⟨e.2, by rw [e.1]; exact hf⟩)], fun _ _ _ => rfl⟩
theorem De.rA {p J w : Nat} (M : Mem) (hw : p + 206 ≤ w ∧ w ≤ p + 402 + J) (g : Nat → Int32) : De p J M (rA M w g) := ⟨rfl, rfl, rfl, fun _ _ _ => rfl, fun a i hh => by rw [mA_rA, if_neg (by omega)]⟩
theorem De.sA {p J w i : Nat} (M : Mem) (hw : p + 206 ≤ w ∧ w ≤ p + 402 + J) (v : Int32) : De p J M (sA M w i v) := ⟨rfl, rfl, rfl, fun _ _ _ => rfl, fun a j hh => by rw [mA_sA, if_neg (fun e => by omega)]⟩
theorem PK.de {M M' : Mem} {p m J : Nat} (h : PK M p m J) (F : De p J M M') : PK M' p m J := by
  have f := F.f1
  exact h.of (fun a _ => f.2.2.2.2.2.2.2 a) (fun a g _ => f.2.2.1 g a) (fun a i _ => f.2.2.2.1 a i) (F.2.2.2.1 7 p (fun h => by cases h.2)) (F.2.2.2.1 28 _ (fun h => by cases h.2))
theorem RM.de {M M' : Mem} {p m J : Nat} {A : Ad} {T : Tr} {py : Nat → List Nat} {e : Option Nat} (R : RM M (p + 201) (p + 199) m A T py e) (N : NB A (p + 403 + J)) (hD : kO M (p + 205) = 4) (F : De p J M M') : RM M' (p + 201) (p + 199) m A T py e := by
  have f := F.f1
  have oF : ∀ g a, a ≠ p + 205 → mF M' g a = mF M g a := fun g a ha => F.2.2.2.1 g a (fun h => ha h.1)
  have oA : ∀ a i, (a < p + 206 ∨ p + 402 + J < a) → mA M' a i = mA M a i := F.2.2.2.2
  obtain ⟨⟨⟨h1, h2, h3, h4, h5, h6, h7, h8⟩, k2, k3, k4, k5⟩, ⟨u1, u2, u3, u4, u5, u6⟩, r3, r4, r5, r6, r7⟩ := R
  have lfk : ∀ q, LfK M q → LfK M' q := fun q ⟨c0, c1, c2, c3, c4, c5, c6⟩ => ⟨by rw [f.1]; exact c0, by rw [f.2.2.1]; exact c1, by rw [f.2.2.1]; exact c2, by rw [f.2.2.1]; exact c3, by rw [f.2.1]; exact c4, by rw [f.2.1]; exact c5, by rw [f.2.1]; exact c6⟩
  have ink : ∀ q, InK M q → InK M' q := fun q ⟨c0, c1, c2⟩ => ⟨by rw [f.1]; exact c0, by rw [f.2.2.1]; exact c1, by rw [f.2.1]; exact c2⟩
  have n1 : ∀ q, LfK M q → q ≠ p + 205 := fun q hq e => by have := hq.1; rw [e, hD] at this; cases this
  have n2 : ∀ q, InK M q → q ≠ p + 205 := fun q hq e => by have := hq.1; rw [e, hD] at this; cases this
  refine ⟨⟨⟨by rw [f.1]; exact h1, by rw [f.2.2.1]; exact h2, by rw [f.2.1]; exact h3, by rw [f.2.2.1]; exact h4, by rw [f.2.1]; exact h5, by rw [f.2.2.1]; exact h6, by rw [f.2.1]; exact h7, by rw [f.2.2.1]; exact h8⟩, fun b hb => by rw [f.2.2.2.1, f.2.2.2.1]; exact k2 b hb, fun b q hq => ?_, fun b q hq => ?_, fun a ha => by rw [f.2.2.2.2.2.2.2]; rw [f.2.2.2.2.2.1] at ha; exact k5 a ha⟩, ⟨by rw [f.1]; exact u1, by rw [oF _ _ (by omega)]; exact u2, by rw [f.2.2.1]; exact u3, by rw [f.2.1]; exact u4, u5, fun b hb => by rw [oA _ _ (by omega)]; exact u6 b hb⟩, fun b hb => ?_, fun h b hb => ?_, fun h b q g1 g2 g3 => by rw [f.2.2.1]; exact r5 h b q g1 g2 g3, fun h b q g1 g2 => by rw [f.2.2.1, f.2.2.1]; exact r6 h b q g1 g2, by rw [f.2.2.1]; exact r7⟩
  · obtain ⟨a1, a2, a3⟩ := k3 b q hq
    exact ⟨a1, lfk q a2, by rw [oF _ _ (n1 q a2)]; exact a3⟩
  · obtain ⟨a1, a2, a3⟩ := k4 b q hq
    exact ⟨a1, ink q a2, by rw [oF _ _ (n2 q a2)]; exact a3⟩
  · obtain ⟨q, g1, ⟨l1, l2, l3, l4, l5, l6, l7⟩, g3⟩ := r3 b hb
    have hlo := N b q (.inl g1)
    exact ⟨q, g1, ⟨lfk q l1, by rw [oF _ _ (n1 q l1)]; exact l2, by rw [oF _ _ (n1 q l1)]; exact l3, l4, l5, fun i k hk => by rw [oA _ _ (by omega), oA _ _ (by omega)]; exact l6 i k hk, fun j v hv => by rw [oA _ _ (by omega)]; exact l7 j v hv⟩, g3⟩
  · obtain ⟨q, g1, ⟨l1, l2, l3, l4, l5⟩, g3⟩ := r4 h b hb
    exact ⟨q, g1, ⟨ink q l1, by rw [oF _ _ (n2 q l1)]; exact l2, l3, fun i c hc => by rw [f.2.2.2.1]; exact l4 i c hc, fun c hc => by rw [f.1]; exact l5 c hc⟩, by rw [oF _ _ (n2 q l1)]; exact g3⟩
section DV
variable {d p m J : Nat} {M : Mem} {Q : Outcome → Mem → Prop}
/-- one write: whether it is done, what is left then -/
theorem c_isDone (P : PK M p m J) {lf wr : Int} (h1 : mF M 23 (p + 205) = I lf) (h2 : mF M 29 (p + 205) = I wr) (l0 : -1 ≤ lf) (l1 : lf < 2147483648)
    (hQ1 : lf = 0 → Q (.returned (some (.int (I 0)))) (sF (sF M 25 (p + 205) (I 1)) 23 (p + 205) (I (-1)))) (hQ2 : lf ≠ 0 → Q (.returned (some (.int (I 1)))) (sF (sF M 23 (p + 205) (I (if 0 < lf then lf - 1 else lf))) 29 (p + 205) (I (wr + 1)))) : Wp d 116 0 [some (.ref (p + 205))] [] M Q := by
  have k4 := P.2.2.2.2.1.1
  have e0 : nrw 2 (I 1) = I 1 := by decide
  simp (disch := first | (simp only [dd, dr]; done) | omega) only [W_116, k4, h1, I_lt, I_le, I_inj, inB_I, tc_I, Int.toNat_natCast, fkt, rf1, rf0, cq, Nat.reduceAdd, Nat.reduceEqDiff, Int.reduceToNat, eq_self, true_and, and_true, true_or, or_true, bI_0, bI_1, mm, rAm, mF_sF, mR_sR, false_and, and_false, if_false, if_true, false_or, or_false, not_true_eq_false, not_false_eq_true, and_self]
  refine ⟨fun h => ?_, fun h => ?_⟩
  · have q2 := hQ2 h
    simp (disch := first | (simp only [dd, dr]; done) | omega) only [W_116, k4, h1, I_lt, I_le, I_inj, inB_I, tc_I, Int.toNat_natCast, fkt, rf1, rf0, cq, Nat.reduceAdd, Nat.reduceEqDiff, Int.reduceToNat, eq_self, true_and, and_true, true_or, or_true, bI_0, bI_1, mm, rAm, mF_sF, mR_sR, false_and, and_false, if_false, if_true, false_or, or_false, not_true_eq_false, not_false_eq_true, and_self]
    refine ⟨fun h3 => ?_, fun h3 => ?_⟩
    · rw [if_neg (by omega)] at q2
      simp (disch := first | (simp only [dd, dr]; done) | omega) only [W_116, k4, h1, h2, Nat.reduceEqDiff, I_lt, I_le, I_inj, inB_I, tc_I, Int.toNat_natCast, fkt, rf1, rf0, cq, Nat.reduceAdd, Nat.reduceEqDiff, Int.reduceToNat, eq_self, true_and, and_true, true_or, or_true, bI_0, bI_1, mm, rAm, mF_sF, mR_sR, false_and, and_false, if_false, if_true, false_or, or_false, not_true_eq_false, not_false_eq_true, and_self]
      rw [show lf - 0 = lf by omega]
      exact q2
    · rw [if_pos (by omega)] at q2
      simp (disch := first | (simp only [dd, dr]; done) | omega) only [W_116, k4, h1, h2, Nat.reduceEqDiff, I_lt, I_le, I_inj, inB_I, tc_I, Int.toNat_natCast, fkt, rf1, rf0, cq, Nat.reduceAdd, Nat.reduceEqDiff, Int.reduceToNat, eq_self, true_and, and_true, true_or, or_true, bI_0, bI_1, mm, rAm, mF_sF, mR_sR, false_and, and_false, if_false, if_true, false_or, or_false, not_true_eq_false, not_false_eq_true, and_self]
      exact q2
  · simp (disch := first | (simp only [dd, dr]; done) | omega) only [W_116, k4, h1, e0, I_lt, I_le, I_inj, inB_I, tc_I, Int.toNat_natCast, fkt, rf1, rf0, cq, Nat.reduceAdd, Nat.reduceEqDiff, Int.reduceToNat, eq_self, true_and, and_true, true_or, or_true, bI_0, bI_1, mm, rAm, mF_sF, mR_sR, false_and, and_false, if_false, if_true, false_or, or_false, not_true_eq_false, not_false_eq_true, and_self]
    exact hQ1 (Decidable.not_not.mp h)
end DV
