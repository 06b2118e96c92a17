/-! ===== THE COMPONENT: its constructor up to the first take() ===== -/
section Cn8
variable {d p m J : Nat} {M M' : Mem} {Q : Outcome → Mem → Prop}
theorem c_new20 (hd : 5 ≤ d) (hk : mK M p = some (.inl 1)) (hN : mN M = p + 1) {z y : Int} (z0 : -2147483648 ≤ z) (z1 : z < 2147483648) (y0 : -2147483648 ≤ y) (y1 : y < 2147483648) (hm : (m : Int) = if z < 16 then 16 else if 96 < z then 96 else z) (hJ : (J : Int) = if y < 6 then 6 else if 64 < y then 64 else y)
    (hE : ∀ a, mN M ≤ a → mK M a = none) (hQ : ∀ M', NK M' p m J → (∀ a, a < p → mK M' a = mK M a ∧ Sm M M' a) → mS M' ≤ mS M + 61000 → Ca d 20 132 [some (.ref p), some (.int (I z)), some (.int (I y)), none, none] 88 [.ref (p + 199)] [] M' Q) :
    Wp d 20 0 [some (.ref p), some (.int (I z)), some (.int (I y)), none, none] [] M Q := by
  have hm2 : 16 ≤ m ∧ m ≤ 96 := by split at hm <;> (try split at hm) <;> omega
  have hJ2 : 6 ≤ J ∧ J ≤ 64 := by split at hJ <;> (try split at hJ) <;> omega
  refine c_new20a (kO_of hk) hN fun M1' M1 q1 q2 => ?_
  have a := NWa.of hN q1 q2
  have k1 : kO M1 p = 1 := kO_of (by rw [a.2.2.1]; rw [if_neg (by omega), if_neg (by omega), if_neg (by omega), if_neg (by omega)]; exact hk)
  refine c_new20b k1 a.1 ?_
  have b := NWb.of (M := M1) (p := p) a.1
  generalize nwB M1 p = M2 at b ⊢
  have k2 : kO M2 p = 1 := by unfold kO; rw [b.2.2.1, if_neg (by omega), if_neg (by omega), if_neg (by omega), if_neg (by omega)]; exact k1
  refine ca_21 (by omega) (c_near z0 z1 (by omega) (by omega) (by omega) (by omega) ?_)
  rw [← hm]
  simp (disch := first | (simp only [dd, dr]; done) | omega) only [I_lt, I_le, I_inj, inB_I, tc_I, Int.toNat_natCast, fkt, rf1, rf0, cq, Nat.reduceAdd, Nat.reduceEqDiff, Int.reduceToNat, eq_self, true_and, and_true, true_or, or_true, bI_0, bI_1, mm, rAm, mF_sF, mR_sR, false_and, and_false, if_false, if_true, false_or, or_false, not_true_eq_false, not_false_eq_true, and_self]
  refine c_new20c (by omega) k2 b.1 ?_
  have c := NWc.of (M := M2) (p := p) (m := m) b.1
  generalize nwC M2 p m = M3 at c ⊢
  have k3 : kO M3 p = 1 := by unfold kO; rw [c.2.2.1, if_neg (by omega), if_neg (by omega), if_neg (by omega)]; exact k2
  have k3' : kO M3 (p + 201) = 3 := kO_of (by rw [c.2.2.1, if_pos rfl])
  have f3 : mF M3 7 p = I (m : Nat) := by rw [c.2.2.2.1, if_neg (by omega), if_neg (by omega), if_pos (by omega)]
  refine c_new20d (by omega) k3 k3' c.1 f3 ?_
  have e := NWd.of (M := M3) (p := p) c.1
  generalize nwD M3 p = M4 at e ⊢
  have k4 : kO M4 p = 1 := by unfold kO; rw [e.2.2.1, if_neg (by omega), if_neg (by omega), if_neg (by omega), if_neg (by omega)]; exact k3
  have k4' : kO M4 (p + 205) = 4 := kO_of (by rw [e.2.2.1, if_pos rfl])
  refine ca_21 (by omega) (c_near y0 y1 (by omega) (by omega) (by omega) (by omega) ?_)
  rw [← hJ]
  simp (disch := first | (simp only [dd, dr]; done) | omega) only [I_lt, I_le, I_inj, inB_I, tc_I, Int.toNat_natCast, fkt, rf1, rf0, cq, Nat.reduceAdd, Nat.reduceEqDiff, Int.reduceToNat, eq_self, true_and, and_true, true_or, or_true, bI_0, bI_1, mm, rAm, mF_sF, mR_sR, false_and, and_false, if_false, if_true, false_or, or_false, not_true_eq_false, not_false_eq_true, and_self]
  simp (disch := first | (simp only [dd, dr]; done) | omega) only [r_20_122, I_lt, I_le, I_inj, inB_I, tc_I, Int.toNat_natCast, fkt, rf1, rf0, cq, Nat.reduceAdd, Nat.reduceEqDiff, Int.reduceToNat, eq_self, true_and, and_true, true_or, or_true, bI_0, bI_1, mm, rAm, mF_sF, mR_sR, false_and, and_false, if_false, if_true, false_or, or_false, not_true_eq_false, not_false_eq_true, and_self]
  refine ca_112 (by omega) (c_dev112 k4' (by rw [e.1]) (by omega) fun M5 M6 M7 q5 q6 q7 => ?_)
  have g := NWe.of (by rw [e.1]) q5 q6 q7
  generalize sR (nw (sR M7 26 (p + 205) (some (p + 205 + 196))) (.inr (0, J)) J) 27 (p + 205) (some (p + 205 + 197 + J)) = M8 at g ⊢
  have k8 : kO M8 p = 1 := by unfold kO; rw [g.2.2.1, if_neg (by omega), if_neg (by omega), if_neg (by omega), if_neg (by omega), if_neg (by omega), if_neg (by omega), if_neg (by omega), if_neg (by omega)]; exact k4
  have hK := NK.of hN hk hE ⟨hm2.1, hm2.2, hJ2.1, hJ2.2⟩ a b c e g
  have hL := NK.low ⟨hm2.1, hm2.2, hJ2.1, hJ2.2⟩ a b c e g
  have r6 : mR M8 6 p = some (p + 199) := by
    have := hK.1.1.2.2.2.2.2.2.2.1
    rw [rR_sR, if_neg (by omega)] at this
    exact this
  have kr : kO M8 (p + 199) = 2 := hK.2.1.1
  simp (disch := first | (simp only [dd, dr]; done) | omega) only [r_20_125, r_20_128, r_20_129, r_20_132, k8, r6, kr, I_lt, I_le, I_inj, inB_I, tc_I, Int.toNat_natCast, fkt, rf1, rf0, cq, Nat.reduceAdd, Nat.reduceEqDiff, Int.reduceToNat, eq_self, true_and, and_true, true_or, or_true, bI_0, bI_1, mm, rAm, mF_sF, mR_sR, false_and, and_false, if_false, if_true, false_or, or_false, not_true_eq_false, not_false_eq_true, and_self]
  exact hQ _ hK hL.1 hL.2
end Cn8
