/-! ===== THE MODEL: settle, to the right ===== -/
section MRt
variable {d : Nat} {M : Mem} {Q : Outcome → Mem → Prop} {o : Nat} {f : Nat → Int} {b c w : Int → Int} {j : Nat → Bool} {sz tl : Nat → Nat}
theorem last_split {l : List Nat} {k : Nat} (h : l[l.length - 1]? = some k) : l = l.take (l.length - 1) ++ [k] ∧ 0 < l.length := by
  have hlt := (List.getElem?_eq_some_iff.mp h).1
  refine ⟨?_, by omega⟩
  have := List.take_succ (l := l) (i := l.length - 1)
  rw [h, show l.length - 1 + 1 = l.length by omega, List.take_length] at this
  exact this
set_option maxHeartbeats 8000000 in
theorem t_right (hK : MK M o) (hd : 3 ≤ d) {x a : Nat} {v2 v4 : Option Value} (h2 : lo v2 = false) (h4 : lo v4 = false) (hx : x < 96) (ha : a < 96) (hxa : x ≠ a) : ∀ (n : Nat) (T : Tr) (s : Int → Int), (tI T x).length ≤ n → MT s T sz tl → tC T x = [] → tC T a = [] → uz sz (tI T a) ≤ 120 → uz sz (tI T x) < 10000 → (∀ s', MT s' (uI (uI T x (mvR sz n (tI T x) (tI T a)).1) a (mvR sz n (tI T x) (tI T a)).2) sz tl → Frz s s' → Wp d 169 131 [some (.ref o), some (.int (I (x : Nat))), v2, some (.int (I (a : Nat))), v4] [] (ms M o f s' b c w j) Q) →
    Wp d 169 66 [some (.ref o), some (.int (I (x : Nat))), v2, some (.int (I (a : Nat))), v4] [] (ms M o f s b c w j) Q := by
  have hK' := hK
  obtain ⟨k0, k1, k2, k3, k4, k5, k6, k7, k8, k9, k10⟩ := hK
  intro n
  induction n with
  | zero =>
    intro T s hn m hcx hca hua hux hQ
    have hl : tI T x = [] := List.eq_nil_of_length_eq_zero (by omega)
    simp (disch := first | (simp only [dd, dr]; done) | omega) only [w_169_66, W_169, msK, msR, msF, ms1, msS1, k0, k1, k6, I_lt, I_le, I_inj, inB_I, tc_I, Int.toNat_natCast, fkt, rf1, rf0, cq, Nat.reduceAdd, Nat.reduceEqDiff, Int.reduceToNat, eq_self, true_and, and_true, true_or, or_true, bI_0, bI_1, mm, rAm, mF_sF, mR_sR, false_and, and_false, if_false, if_true, false_or, or_false, not_true_eq_false, not_false_eq_true, and_self]
    refine ca_173 (by omega) (t_used hK' m hx hcx ?_)
    rw [hl, uz]
    simp (disch := first | (simp only [dd, dr]; done) | omega) only [W_169, msK, msR, msF, ms1, msS1, k0, k1, k6, I_lt, I_le, I_inj, inB_I, tc_I, Int.toNat_natCast, fkt, rf1, rf0, cq, Nat.reduceAdd, Nat.reduceEqDiff, Int.reduceToNat, eq_self, true_and, and_true, true_or, or_true, bI_0, bI_1, mm, rAm, mF_sF, mR_sR, false_and, and_false, if_false, if_true, false_or, or_false, not_true_eq_false, not_false_eq_true, and_self]
    refine ⟨fun _ => ?_, fun h => absurd (show (((0 : Nat) : Int)) ≤ 120 by omega) h⟩
    have := hQ s
    rw [mvR, uI_id T x rfl, uI_id T a rfl] at this
    exact this m (Frz.refl s)
  | succ n ih =>
    intro T s hn m hcx hca hua hux hQ
    cases hk : (tI T x)[(tI T x).length - 1]? with
    | none =>
      have hl : tI T x = [] := by
        rw [List.getElem?_eq_none_iff] at hk
        exact List.eq_nil_of_length_eq_zero (by omega)
      simp (disch := first | (simp only [dd, dr]; done) | omega) only [w_169_66, W_169, msK, msR, msF, ms1, msS1, k0, k1, k6, I_lt, I_le, I_inj, inB_I, tc_I, Int.toNat_natCast, fkt, rf1, rf0, cq, Nat.reduceAdd, Nat.reduceEqDiff, Int.reduceToNat, eq_self, true_and, and_true, true_or, or_true, bI_0, bI_1, mm, rAm, mF_sF, mR_sR, false_and, and_false, if_false, if_true, false_or, or_false, not_true_eq_false, not_false_eq_true, and_self]
      refine ca_173 (by omega) (t_used hK' m hx hcx ?_)
      rw [hl, uz]
      simp (disch := first | (simp only [dd, dr]; done) | omega) only [W_169, msK, msR, msF, ms1, msS1, k0, k1, k6, I_lt, I_le, I_inj, inB_I, tc_I, Int.toNat_natCast, fkt, rf1, rf0, cq, Nat.reduceAdd, Nat.reduceEqDiff, Int.reduceToNat, eq_self, true_and, and_true, true_or, or_true, bI_0, bI_1, mm, rAm, mF_sF, mR_sR, false_and, and_false, if_false, if_true, false_or, or_false, not_true_eq_false, not_false_eq_true, and_self]
      refine ⟨fun _ => ?_, fun h => absurd (show (((0 : Nat) : Int)) ≤ 120 by omega) h⟩
      have := hQ s
      simp only [mvR, hk] at this
      rw [uI_id T x rfl, uI_id T a rfl] at this
      exact this m (Frz.refl s)
    | some k =>
      obtain ⟨hsp, hpos⟩ := last_split hk
      have stop : ¬ (120 < uz sz (tI T x) ∧ uz sz (tI T a) + (8 + sz k) ≤ 120) → Wp d 169 131 [some (.ref o), some (.int (I (x : Nat))), v2, some (.int (I (a : Nat))), v4] [] (ms M o f s b c w j) Q := by
        intro hne
        have := hQ s
        simp only [mvR, hk] at this
        rw [if_neg hne, uI_id T x rfl, uI_id T a rfl] at this
        exact this m (Frz.refl s)
      have hlen := uz_len sz (tI T a)
      have hux2 : uz sz (tI T x) = uz sz ((tI T x).take ((tI T x).length - 1)) + (8 + sz k) := by
        have := congrArg (uz sz) hsp
        rw [uz_app] at this
        simpa [uz] using this
      have hcn : s (3852 + (x : Int)) = ((tI T x).length : Nat) := by have := m.2.2.1 x hx; rw [hcx] at this; simpa using this
      have hl16 := (m.2.2.2.2.2.1 x hx).2.1
      simp (disch := first | (simp only [dd, dr]; done) | omega) only [w_169_66, W_169, msK, msR, msF, ms1, msS1, k0, k1, k6, I_lt, I_le, I_inj, inB_I, tc_I, Int.toNat_natCast, fkt, rf1, rf0, cq, Nat.reduceAdd, Nat.reduceEqDiff, Int.reduceToNat, eq_self, true_and, and_true, true_or, or_true, bI_0, bI_1, mm, rAm, mF_sF, mR_sR, false_and, and_false, if_false, if_true, false_or, or_false, not_true_eq_false, not_false_eq_true, and_self]
      refine ca_173 (by omega) (t_used hK' m hx hcx ?_)
      simp (disch := first | (simp only [dd, dr]; done) | omega) only [W_169, msK, msR, msF, ms1, msS1, k0, k1, k6, I_lt, I_le, I_inj, inB_I, tc_I, Int.toNat_natCast, fkt, rf1, rf0, cq, Nat.reduceAdd, Nat.reduceEqDiff, Int.reduceToNat, eq_self, true_and, and_true, true_or, or_true, bI_0, bI_1, mm, rAm, mF_sF, mR_sR, false_and, and_false, if_false, if_true, false_or, or_false, not_true_eq_false, not_false_eq_true, and_self]
      refine ⟨fun h => stop (by omega), fun h1 => ?_⟩
      simp (disch := first | (simp only [dd, dr]; done) | omega) only [W_169, msK, msR, msF, ms1, msS1, k0, k1, k6, I_lt, I_le, I_inj, inB_I, tc_I, Int.toNat_natCast, fkt, rf1, rf0, cq, Nat.reduceAdd, Nat.reduceEqDiff, Int.reduceToNat, eq_self, true_and, and_true, true_or, or_true, bI_0, bI_1, mm, rAm, mF_sF, mR_sR, false_and, and_false, if_false, if_true, false_or, or_false, not_true_eq_false, not_false_eq_true, and_self]
      refine ⟨fun h => absurd h (by omega), fun _ => ?_⟩
      simp (disch := first | (simp only [dd, dr]; done) | omega) only [W_169, msK, msR, msF, ms1, msS1, k0, k1, k6, I_lt, I_le, I_inj, inB_I, tc_I, Int.toNat_natCast, fkt, rf1, rf0, cq, Nat.reduceAdd, Nat.reduceEqDiff, Int.reduceToNat, eq_self, true_and, and_true, true_or, or_true, bI_0, bI_1, mm, rAm, mF_sF, mR_sR, false_and, and_false, if_false, if_true, false_or, or_false, not_true_eq_false, not_false_eq_true, and_self]
      refine ca_173 (by omega) (t_used hK' m ha hca ?_)
      simp (disch := first | (simp only [dd, dr]; done) | omega) only [W_169, msK, msR, msF, ms1, msS1, k0, k1, k6, hcn, I_lt, I_le, I_inj, inB_I, tc_I, Int.toNat_natCast, fkt, rf1, rf0, cq, Nat.reduceAdd, Nat.reduceEqDiff, Int.reduceToNat, eq_self, true_and, and_true, true_or, or_true, bI_0, bI_1, mm, rAm, mF_sF, mR_sR, false_and, and_false, if_false, if_true, false_or, or_false, not_true_eq_false, not_false_eq_true, and_self]
      rw [show (((tI T x).length : Int) - 1) = (((tI T x).length - 1 : Nat) : Int) by omega]
      refine ca_174 (by omega) (t_cost hK' m hx hk ?_)
      simp (disch := first | (simp only [dd, dr]; done) | omega) only [W_169, msK, msR, msF, ms1, msS1, k0, k1, k6, I_lt, I_le, I_inj, inB_I, tc_I, Int.toNat_natCast, fkt, rf1, rf0, cq, Nat.reduceAdd, Nat.reduceEqDiff, Int.reduceToNat, eq_self, true_and, and_true, true_or, or_true, bI_0, bI_1, mm, rAm, mF_sF, mR_sR, false_and, and_false, if_false, if_true, false_or, or_false, not_true_eq_false, not_false_eq_true, and_self]
      refine ⟨fun h => stop (by omega), fun h2 => ?_⟩
      simp (disch := first | (simp only [dd, dr]; done) | omega) only [W_169, msK, msR, msF, ms1, msS1, k0, k1, k6, hcn, I_lt, I_le, I_inj, inB_I, tc_I, Int.toNat_natCast, fkt, rf1, rf0, cq, Nat.reduceAdd, Nat.reduceEqDiff, Int.reduceToNat, eq_self, true_and, and_true, true_or, or_true, bI_0, bI_1, mm, rAm, mF_sF, mR_sR, false_and, and_false, if_false, if_true, false_or, or_false, not_true_eq_false, not_false_eq_true, and_self]
      rw [show (((tI T x).length : Int) - 1) = (((tI T x).length - 1 : Nat) : Int) by omega]
      refine ca_175 (by omega) (t_carry (a := 0) hK' (by omega) m hx ha hxa hcx hca hk (Nat.zero_le _) (by omega) ?_)
      intro s1 m1 fr1
      simp (disch := first | (simp only [dd, dr]; done) | omega) only [W_169, msK, msR, msF, ms1, msS1, k0, k1, k6, I_lt, I_le, I_inj, inB_I, tc_I, Int.toNat_natCast, fkt, rf1, rf0, cq, Nat.reduceAdd, Nat.reduceEqDiff, Int.reduceToNat, eq_self, true_and, and_true, true_or, or_true, bI_0, bI_1, mm, rAm, mF_sF, mR_sR, false_and, and_false, if_false, if_true, false_or, or_false, not_true_eq_false, not_false_eq_true, and_self]
      rw [show (tI T x).length - 1 + 1 = (tI T x).length by omega, List.drop_length, List.append_nil, List.take_zero, List.nil_append, List.drop_zero] at m1
      have t1 : tI (uI (uI T x ((tI T x).take ((tI T x).length - 1))) a (k :: tI T a)) x = (tI T x).take ((tI T x).length - 1) := by simp only [ti]; rw [fu_n _ _ hxa, fu_s]
      have t2 : tI (uI (uI T x ((tI T x).take ((tI T x).length - 1))) a (k :: tI T a)) a = k :: tI T a := by simp only [ti]; rw [fu_s]
      refine ih _ s1 (by rw [t1, List.length_take]; omega) m1 (by simp only [ti]; exact hcx) (by simp only [ti]; exact hca) (by rw [t2, uz]; omega) (by rw [t1]; omega) (fun s' m' fr' => ?_)
      have := hQ s'
      simp only [mvR, hk] at this
      rw [if_pos (by omega)] at this
      rw [t1, t2] at m'
      have e : ∀ L1 L2 : List Nat, uI (uI (uI (uI T x ((tI T x).take ((tI T x).length - 1))) a (k :: tI T a)) x L1) a L2 = uI (uI T x L1) a L2 := by
        intro L1 L2
        unfold uI
        simp only []
        congr 3
        funext y
        unfold fu
        by_cases e1 : y = a <;> by_cases e2 : y = x <;> simp [e1, e2]
      rw [e] at m'
      exact this m' (fr1.trans fr')
end MRt
