/-! ===== THE MODEL: writes ===== -/
section Mho
variable {d : Nat} {M : Mem} {Q : Outcome → Mem → Prop} {o : Nat} {f : Nat → Int} {s s' b c w : Int → Int} {j : Nat → Bool} {m J : Nat} {v : Dv}
theorem m_goes (hK : MK M o) (l0 : -1 ≤ f 46) (l1 : f 46 < 2147483648) (hQ0 : f 46 = 0 → Q (.returned (some (.int (I 0)))) (ms M o (fu (fu f 52 1) 46 (-1)) s b c w j)) (hQ1 : f 46 ≠ 0 → ∀ f', (∀ g, g ≠ 46 → g ≠ 55 → g ≠ 56 → f' g = f g) → f' 46 = dn (f 46) → f' 55 = f 55 + 1 → f' 56 = f 56 + 1 → Q (.returned (some (.int (I 1)))) (ms M o f' s b c w j)) : Wp d 222 0 [some (.ref o)] [] (ms M o f s b c w j) Q := by
  have hK' := hK
  obtain ⟨k0, k1, k2, k3, k4, k5, k6, k7, k8, k9, k10⟩ := hK
  have n1 : nrw 2 (I 1) = I 1 := by decide
  simp (disch := first | (simp only [dd, dr]; done) | omega) only [W_222, msK, msR, msF, ms1, msS1, k0, k1, k6, I_lt, I_le, I_inj, inB_I, tc_I, Int.toNat_natCast, fkt, rf1, rf0, cq, Nat.reduceAdd, Nat.reduceEqDiff, Int.reduceToNat, eq_self, true_and, and_true, true_or, or_true, bI_0, bI_1, mm, rAm, mF_sF, mR_sR, false_and, and_false, if_false, if_true, false_or, or_false, not_true_eq_false, not_false_eq_true, and_self]
  refine ⟨fun h => ?_, fun h => ?_⟩
  rotate_left
  · have h : f 46 = 0 := by omega
    simp (disch := first | (simp only [dd, dr]; done) | omega) only [W_222, msK, msR, msF, ms1, msS1, k0, k1, k6, n1, msSF, I_lt, I_le, I_inj, inB_I, tc_I, Int.toNat_natCast, fkt, rf1, rf0, cq, Nat.reduceAdd, Nat.reduceEqDiff, Int.reduceToNat, eq_self, true_and, and_true, true_or, or_true, bI_0, bI_1, mm, rAm, mF_sF, mR_sR, false_and, and_false, if_false, if_true, false_or, or_false, not_true_eq_false, not_false_eq_true, and_self]
    exact hQ0 h
  have h : f 46 ≠ 0 := by omega
  have fin : ∀ z : Int, z = dn (f 46) → Q (.returned (some (.int (I 1)))) (ms M o (fu (fu (fu f 46 z) 56 (fu f 46 z 56 + 1)) 55 (fu (fu f 46 z) 56 (fu f 46 z 56 + 1) 55 + 1)) s b c w j) := by
    intro z hz
    refine hQ1 h _ (fun g a1 a2 a3 => ?_) ?_ ?_ ?_
    · rw [fu_n _ _ a2, fu_n _ _ a3, fu_n _ _ a1]
    · rw [fu_n _ _ (by omega), fu_n _ _ (by omega), fu_s, hz]
    · rw [fu_s, fu_n _ _ (by omega), fu_n _ _ (by omega)]
    · rw [fu_n _ _ (by omega), fu_s, fu_n _ _ (by omega)]
  simp (disch := first | (simp only [dd, dr]; done) | omega) only [W_222, msK, msR, msF, ms1, msS1, k0, k1, k6, I_lt, I_le, I_inj, inB_I, tc_I, Int.toNat_natCast, fkt, rf1, rf0, cq, Nat.reduceAdd, Nat.reduceEqDiff, Int.reduceToNat, eq_self, true_and, and_true, true_or, or_true, bI_0, bI_1, mm, rAm, mF_sF, mR_sR, false_and, and_false, if_false, if_true, false_or, or_false, not_true_eq_false, not_false_eq_true, and_self]
  refine ⟨fun h' => ?_, fun h' => ?_⟩
  · simp (disch := first | (simp only [dd, dr]; done) | omega) only [W_222, msK, msR, msF, ms1, msS1, k0, k1, k6, msSF, I_lt, I_le, I_inj, inB_I, tc_I, Int.toNat_natCast, fkt, rf1, rf0, cq, Nat.reduceAdd, Nat.reduceEqDiff, Int.reduceToNat, eq_self, true_and, and_true, true_or, or_true, bI_0, bI_1, mm, rAm, mF_sF, mR_sR, false_and, and_false, if_false, if_true, false_or, or_false, not_true_eq_false, not_false_eq_true, and_self]
    exact fin _ (by unfold dn; rw [if_neg (by omega)]; omega)
  · simp (disch := first | (simp only [dd, dr]; done) | omega) only [W_222, msK, msR, msF, ms1, msS1, k0, k1, k6, msSF, I_lt, I_le, I_inj, inB_I, tc_I, Int.toNat_natCast, fkt, rf1, rf0, cq, Nat.reduceAdd, Nat.reduceEqDiff, Int.reduceToNat, eq_self, true_and, and_true, true_or, or_true, bI_0, bI_1, mm, rAm, mF_sF, mR_sR, false_and, and_false, if_false, if_true, false_or, or_false, not_true_eq_false, not_false_eq_true, and_self]
    exact fin _ (by unfold dn; rw [if_pos (by omega)])
/-- fields and journal of the model, by the device's numbers -/
def FV (f : Nat → Int) (j : Nat → Bool) (m J : Nat) (v : Dv) : Prop := f 43 = m ∧ f 49 = J ∧ f 55 = v.1 ∧ f 46 = v.2.1 ∧ f 52 = bI v.2.2.1 ∧ f 44 = v.2.2.2.1 ∧ f 50 = (v.2.2.2.2.1 : Nat) ∧ ∀ x, x < 96 → j x = v.2.2.2.2.2 x
/-- after so many writes -/
def Gn (f f' : Nat → Int) (a : Nat) : Prop := (∀ g, g ≠ 46 → g ≠ 55 → g ≠ 56 → f' g = f g) ∧ f' 55 = f 55 + (a : Int) ∧ f' 56 = f 56 + (a : Int) ∧ wn (f 46) a = (a, f' 46, false)
theorem Gn.zero (f : Nat → Int) : Gn f f 0 := ⟨fun _ _ _ _ => rfl, by simp, by simp, rfl⟩
theorem dn_rng {l : Int} (l0 : -1 ≤ l) (l1 : l < 2147483648) : -1 ≤ dn l ∧ dn l < 2147483648 := by unfold dn; split <;> omega
theorem wn_rng : ∀ {a : Nat} {l l' : Int} {n : Nat} {t : Bool}, -1 ≤ l → l < 2147483648 → wn l a = (n, l', t) → -1 ≤ l' ∧ l' < 2147483648
  | 0, l, l', n, t, h0, h1, h => by
    rw [wn] at h
    injection h with _ h
    injection h with h _
    rw [← h]; exact ⟨h0, h1⟩
  | a + 1, l, l', n, t, h0, h1, h => by
    rw [wn] at h
    by_cases e : l = 0
    · rw [if_pos e] at h
      injection h with _ h
      injection h with h _
      rw [← h]; exact ⟨by omega, by omega⟩
    · rw [if_neg e] at h
      injection h with _ h
      injection h with h _
      obtain ⟨d0, d1⟩ := dn_rng h0 h1
      exact wn_rng (a := a) (n := (wn (dn l) a).1) (t := (wn (dn l) a).2.2) d0 d1 (by rw [← h])
/-- one more write -/
theorem m_goesN (hK : MK M o) {f0 : Nat → Int} {a : Nat} (g : Gn f0 f a) (l0 : -1 ≤ f0 46) (l1 : f0 46 < 2147483648) (hQ0 : wn (f0 46) (a + 1) = (a, -1, true) → Q (.returned (some (.int (I 0)))) (ms M o (fu (fu f 52 1) 46 (-1)) s b c w j)) (hQ1 : ∀ f', Gn f0 f' (a + 1) → Q (.returned (some (.int (I 1)))) (ms M o f' s b c w j)) : Wp d 222 0 [some (.ref o)] [] (ms M o f s b c w j) Q := by
  obtain ⟨g1, g2, g3, g4⟩ := g
  obtain ⟨r0, r1⟩ := wn_rng l0 l1 g4
  have h1 := wn_one g4
  refine m_goes hK r0 r1 (fun h => hQ0 (by rw [h1, if_pos h])) (fun h f' e1 e2 e3 e4 => hQ1 f' ⟨fun g a1 a2 a3 => by rw [e1 g a1 a2 a3]; exact g1 g a1 a2 a3, by rw [e3, g2]; omega, by rw [e4, g3]; omega, ?_⟩)
  rw [h1, if_neg h, e2]
theorem cn_ext {u u' : Nat → Bool} : ∀ {n : Nat}, (∀ i, i < n → u i = u' i) → cn u n = cn u' n
  | 0, _ => rfl
  | n + 1, h => by rw [cn, cn, cn_ext (fun i hi => h i (by omega)), h n (by omega)]
theorem cn_more {u : Nat → Bool} {m : Nat} (h : ∀ x, u x = true → x < m) : ∀ {n : Nat}, m ≤ n → cn u n = cn u m
  | 0, hn => by rw [show m = 0 by omega]
  | n + 1, hn => by
    by_cases e : m = n + 1
    · rw [e]
    · rw [cn, cn_more h (show m ≤ n by omega), if_neg (fun hc => by have := h n hc; omega)]; rfl
set_option maxHeartbeats 1000000 in
theorem m_home (hK : MK M o) (hd : 2 ≤ d) (V : FV f j m J v) (hm : m ≤ 96) (hlj : ∀ x, v.2.2.2.2.2 x = true → x < m) (ho : v.2.2.1 = false) (l0 : -1 ≤ v.2.1) (l1 : v.2.1 < 2147483648)
    (hju : v.2.2.2.2.1 < 100000)
    (hQ : ∀ f' j', FV f' j' m J (dvH m v) → f' 54 = f 54 → f' 47 = f 47 → f' 56 = f 56 + ((dvH m v).1 - v.1) → Q (.returned (some (.int (I (bI (!(dvH m v).2.2.1)))))) (ms M o f' s b c w j')) : Wp d 221 0 [some (.ref o), none] [] (ms M o f s b c w j) Q := by
  have hK' := hK
  obtain ⟨k0, k1, k2, k3, k4, k5, k6, k7, k8, k9, k10⟩ := hK
  obtain ⟨wr, lf, off, cm, ju, lj⟩ := v
  obtain ⟨v1, v2, v3, v4, v5, v6, v7, v8⟩ := id V
  simp only at v1 v2 v3 v4 v5 v6 v7 v8 hlj ho l0 l1 hju
  subst ho
  unfold dvH at hQ
  simp only at hQ
  simp (disch := first | (simp only [dd, dr]; done) | omega) only [W_221, msK, msR, msF, ms1, msS1, k0, k1, k6, v7, I_lt, I_le, I_inj, inB_I, tc_I, Int.toNat_natCast, fkt, rf1, rf0, cq, Nat.reduceAdd, Nat.reduceEqDiff, Int.reduceToNat, eq_self, true_and, and_true, true_or, or_true, bI_0, bI_1, mm, rAm, mF_sF, mR_sR, false_and, and_false, if_false, if_true, false_or, or_false, not_true_eq_false, not_false_eq_true, and_self]
  refine ⟨fun h => ?_, fun h => ?_⟩
  rotate_left
  · have e : ju = 0 := by omega
    rw [if_pos e] at hQ
    simp (disch := first | (simp only [dd, dr]; done) | omega) only [W_221, I_lt, I_le, I_inj, inB_I, tc_I, Int.toNat_natCast, fkt, rf1, rf0, cq, Nat.reduceAdd, Nat.reduceEqDiff, Int.reduceToNat, eq_self, true_and, and_true, true_or, or_true, bI_0, bI_1, mm, rAm, mF_sF, mR_sR, false_and, and_false, if_false, if_true, false_or, or_false, not_true_eq_false, not_false_eq_true, and_self]
    exact hQ f j V rfl rfl (by simp)
  rw [if_neg (by omega)] at hQ
  have hcn : cn lj m = cn j 96 := by
    rw [cn_ext (fun i hi => v8 i hi), cn_more hlj hm]
  rw [hcn] at hQ
  -- a write that fails
  have bad : ∀ (a : Nat) (f1 : Nat → Int), Gn f f1 a → wn lf (cn j 96 + 1) = (a, -1, true) → Q (.returned (some (.int (I 0)))) (ms M o (fu (fu f1 52 1) 46 (-1)) s b c w j) := by
    intro a f1 ⟨g1, g2, g3, g4⟩ hw
    rw [hw] at hQ
    simp only [if_true] at hQ
    have := hQ (fu (fu f1 52 1) 46 (-1)) j ⟨?_, ?_, ?_, ?_, ?_, ?_, ?_, v8⟩ ?_ ?_ ?_
    · exact this
    · rw [fu_n _ _ (by omega), fu_n _ _ (by omega), g1 _ (by omega) (by omega) (by omega)]; exact v1
    · rw [fu_n _ _ (by omega), fu_n _ _ (by omega), g1 _ (by omega) (by omega) (by omega)]; exact v2
    · rw [fu_n _ _ (by omega), fu_n _ _ (by omega), g2, v3]
    · rw [fu_s]
    · rw [fu_n _ _ (by omega), fu_s]; rfl
    · rw [fu_n _ _ (by omega), fu_n _ _ (by omega), g1 _ (by omega) (by omega) (by omega)]; exact v6
    · rw [fu_n _ _ (by omega), fu_n _ _ (by omega), g1 _ (by omega) (by omega) (by omega)]; exact v7
    · rw [fu_n _ _ (by omega), fu_n _ _ (by omega), g1 _ (by omega) (by omega) (by omega)]
    · rw [fu_n _ _ (by omega), fu_n _ _ (by omega), g1 _ (by omega) (by omega) (by omega)]
    · rw [fu_n _ _ (by omega), fu_n _ _ (by omega), g3]; omega
  simp (disch := first | (simp only [dd, dr]; done) | omega) only [W_221, I_lt, I_le, I_inj, inB_I, tc_I, Int.toNat_natCast, fkt, rf1, rf0, cq, Nat.reduceAdd, Nat.reduceEqDiff, Int.reduceToNat, eq_self, true_and, and_true, true_or, or_true, bI_0, bI_1, mm, rAm, mF_sF, mR_sR, false_and, and_false, if_false, if_true, false_or, or_false, not_true_eq_false, not_false_eq_true, and_self]
  suffices H : ∀ N (k : Nat) (f1 : Nat → Int), k + N = 96 → Gn f f1 (cn j k) → Wp d 221 11 [some (.ref o), some (.int (I (k : Nat)))] [] (ms M o f1 s b c w j) Q from H 96 0 f (by omega) (Gn.zero f)
  intro N
  induction N with
  | zero =>
    intro k f1 hk g
    obtain rfl : k = 96 := by omega
    simp (disch := first | (simp only [dd, dr]; done) | omega) only [w_221_11, W_221, I_lt, I_le, I_inj, inB_I, tc_I, Int.toNat_natCast, fkt, rf1, rf0, cq, Nat.reduceAdd, Nat.reduceEqDiff, Int.reduceToNat, eq_self, true_and, and_true, true_or, or_true, bI_0, bI_1, mm, rAm, mF_sF, mR_sR, false_and, and_false, if_false, if_true, false_or, or_false, not_true_eq_false, not_false_eq_true, and_self]
    refine ⟨fun _ => ?_, (fun h => by first | exact False.elim h | exact absurd trivial h | (exfalso; omega) | exact absurd rfl h | cases h)⟩
    simp (disch := first | (simp only [dd, dr]; done) | omega) only [W_221, msK, msR, msF, ms1, msS1, k0, k1, k6, I_lt, I_le, I_inj, inB_I, tc_I, Int.toNat_natCast, fkt, rf1, rf0, cq, Nat.reduceAdd, Nat.reduceEqDiff, Int.reduceToNat, eq_self, true_and, and_true, true_or, or_true, bI_0, bI_1, mm, rAm, mF_sF, mR_sR, false_and, and_false, if_false, if_true, false_or, or_false, not_true_eq_false, not_false_eq_true, and_self]
    refine ca_222 (by omega) (m_goesN hK' g (by rw [v4]; exact l0) (by rw [v4]; exact l1) (fun hw => ?_) (fun f2 g2 => ?_))
    · rw [v4] at hw
      simp (disch := first | (simp only [dd, dr]; done) | omega) only [W_221, I_lt, I_le, I_inj, inB_I, tc_I, Int.toNat_natCast, fkt, rf1, rf0, cq, Nat.reduceAdd, Nat.reduceEqDiff, Int.reduceToNat, eq_self, true_and, and_true, true_or, or_true, bI_0, bI_1, mm, rAm, mF_sF, mR_sR, false_and, and_false, if_false, if_true, false_or, or_false, not_true_eq_false, not_false_eq_true, and_self]
      refine ⟨(fun h => by first | exact False.elim h | exact absurd trivial h | (exfalso; omega) | exact absurd rfl h | cases h), fun _ => ?_⟩
      simp (disch := first | (simp only [dd, dr]; done) | omega) only [W_221, I_lt, I_le, I_inj, inB_I, tc_I, Int.toNat_natCast, fkt, rf1, rf0, cq, Nat.reduceAdd, Nat.reduceEqDiff, Int.reduceToNat, eq_self, true_and, and_true, true_or, or_true, bI_0, bI_1, mm, rAm, mF_sF, mR_sR, false_and, and_false, if_false, if_true, false_or, or_false, not_true_eq_false, not_false_eq_true, and_self]
      exact bad _ _ g hw
    · simp (disch := first | (simp only [dd, dr]; done) | omega) only [W_221, I_lt, I_le, I_inj, inB_I, tc_I, Int.toNat_natCast, fkt, rf1, rf0, cq, Nat.reduceAdd, Nat.reduceEqDiff, Int.reduceToNat, eq_self, true_and, and_true, true_or, or_true, bI_0, bI_1, mm, rAm, mF_sF, mR_sR, false_and, and_false, if_false, if_true, false_or, or_false, not_true_eq_false, not_false_eq_true, and_self]
      refine ⟨fun _ => ?_, (fun h => by first | exact False.elim h | exact absurd trivial h | (exfalso; omega) | exact absurd rfl h | cases h)⟩
      simp (disch := first | (simp only [dd, dr]; done) | omega) only [W_221, I_lt, I_le, I_inj, inB_I, tc_I, Int.toNat_natCast, fkt, rf1, rf0, cq, Nat.reduceAdd, Nat.reduceEqDiff, Int.reduceToNat, eq_self, true_and, and_true, true_or, or_true, bI_0, bI_1, mm, rAm, mF_sF, mR_sR, false_and, and_false, if_false, if_true, false_or, or_false, not_true_eq_false, not_false_eq_true, and_self]
      obtain ⟨q1, q2, q3, q4⟩ := g2
      rw [v4] at q4
      rw [q4] at hQ
      simp only at hQ
      rw [if_neg (by simp)] at hQ
      have n0 : nrw 2 (I 0) = I 0 := by decide
      suffices H2 : ∀ N (k : Nat) (j2 : Nat → Bool), k + N = 96 → (∀ x, x < k → j2 x = false) → Wp d 221 52 [some (.ref o), some (.int (I (k : Nat)))] [] (ms M o f2 s b c w j2) Q from H2 96 0 j (by omega) (fun x hx => by omega)
      intro N
      induction N with
      | zero =>
        intro k j2 hk hj
        simp (disch := first | (simp only [dd, dr]; done) | omega) only [w_221_52, W_221, I_lt, I_le, I_inj, inB_I, tc_I, Int.toNat_natCast, fkt, rf1, rf0, cq, Nat.reduceAdd, Nat.reduceEqDiff, Int.reduceToNat, eq_self, true_and, and_true, true_or, or_true, bI_0, bI_1, mm, rAm, mF_sF, mR_sR, false_and, and_false, if_false, if_true, false_or, or_false, not_true_eq_false, not_false_eq_true, and_self]
        refine ⟨fun _ => ?_, (fun h => by first | exact False.elim h | exact absurd trivial h | (exfalso; omega) | exact absurd rfl h | cases h)⟩
        simp (disch := first | (simp only [dd, dr]; done) | omega) only [W_221, msK, msR, msF, ms1, msS1, k0, k1, k6, msSF, I_lt, I_le, I_inj, inB_I, tc_I, Int.toNat_natCast, fkt, rf1, rf0, cq, Nat.reduceAdd, Nat.reduceEqDiff, Int.reduceToNat, eq_self, true_and, and_true, true_or, or_true, bI_0, bI_1, mm, rAm, mF_sF, mR_sR, false_and, and_false, if_false, if_true, false_or, or_false, not_true_eq_false, not_false_eq_true, and_self]
        have := hQ (fu f2 50 0) j2 ⟨?_, ?_, ?_, ?_, ?_, ?_, ?_, fun x hx => hj x (by omega)⟩ ?_ ?_ ?_
        · exact this
        · rw [fu_n _ _ (by omega), q1 _ (by omega) (by omega) (by omega)]; exact v1
        · rw [fu_n _ _ (by omega), q1 _ (by omega) (by omega) (by omega)]; exact v2
        · rw [fu_n _ _ (by omega), q2, v3]
        · rw [fu_n _ _ (by omega)]
        · rw [fu_n _ _ (by omega), q1 _ (by omega) (by omega) (by omega)]; exact v5
        · rw [fu_n _ _ (by omega), q1 _ (by omega) (by omega) (by omega)]; exact v6
        · rw [fu_s]; rfl
        · rw [fu_n _ _ (by omega), q1 _ (by omega) (by omega) (by omega)]
        · rw [fu_n _ _ (by omega), q1 _ (by omega) (by omega) (by omega)]
        · rw [fu_n _ _ (by omega), q3]; omega
      | succ N ih =>
        intro k j2 hk hj
        have e5 : sA (ms M o f2 s b c w j2) (o + 5) k (I 0) = ms M o f2 s b c w (fu j2 k false) := msS5 M o f2 s b c w j2 k false
        simp (disch := first | (simp only [dd, dr]; done) | omega) only [w_221_52, W_221, I_lt, I_le, I_inj, inB_I, tc_I, Int.toNat_natCast, fkt, rf1, rf0, cq, Nat.reduceAdd, Nat.reduceEqDiff, Int.reduceToNat, eq_self, true_and, and_true, true_or, or_true, bI_0, bI_1, mm, rAm, mF_sF, mR_sR, false_and, and_false, if_false, if_true, false_or, or_false, not_true_eq_false, not_false_eq_true, and_self]
        refine ⟨(fun h => by first | exact False.elim h | exact absurd trivial h | (exfalso; omega) | exact absurd rfl h | cases h), fun _ => ?_⟩
        simp (disch := first | (simp only [dd, dr]; done) | omega) only [W_221, msK, msR, msF, ms1, msS1, k0, k1, k6, k5, k10, n0, e5, I_lt, I_le, I_inj, inB_I, tc_I, Int.toNat_natCast, fkt, rf1, rf0, cq, Nat.reduceAdd, Nat.reduceEqDiff, Int.reduceToNat, eq_self, true_and, and_true, true_or, or_true, bI_0, bI_1, mm, rAm, mF_sF, mR_sR, false_and, and_false, if_false, if_true, false_or, or_false, not_true_eq_false, not_false_eq_true, and_self]
        rw [show ((k : Int) + 1) = ((k + 1 : Nat) : Int) by omega]
        refine ih (k + 1) _ (by omega) (fun x hx => ?_)
        by_cases e : x = k
        · rw [e, fu_s]
        · rw [fu_n _ _ e]; exact hj x (by omega)
  | succ N ih =>
    intro k f1 hk g
    simp (disch := first | (simp only [dd, dr]; done) | omega) only [w_221_11, W_221, I_lt, I_le, I_inj, inB_I, tc_I, Int.toNat_natCast, fkt, rf1, rf0, cq, Nat.reduceAdd, Nat.reduceEqDiff, Int.reduceToNat, eq_self, true_and, and_true, true_or, or_true, bI_0, bI_1, mm, rAm, mF_sF, mR_sR, false_and, and_false, if_false, if_true, false_or, or_false, not_true_eq_false, not_false_eq_true, and_self]
    refine ⟨(fun h => by first | exact False.elim h | exact absurd trivial h | (exfalso; omega) | exact absurd rfl h | cases h), fun _ => ?_⟩
    simp (disch := first | (simp only [dd, dr]; done) | omega) only [W_221, msK, msR, msF, ms1, msS1, k0, k1, k6, k5, k10, ms5, I_lt, I_le, I_inj, inB_I, tc_I, Int.toNat_natCast, fkt, rf1, rf0, cq, Nat.reduceAdd, Nat.reduceEqDiff, Int.reduceToNat, eq_self, true_and, and_true, true_or, or_true, bI_0, bI_1, mm, rAm, mF_sF, mR_sR, false_and, and_false, if_false, if_true, false_or, or_false, not_true_eq_false, not_false_eq_true, and_self]
    refine ⟨fun h' => ?_, fun h' => ?_⟩
    · have hjk : j k = false := h'
      simp (disch := first | (simp only [dd, dr]; done) | omega) only [W_221, I_lt, I_le, I_inj, inB_I, tc_I, Int.toNat_natCast, fkt, rf1, rf0, cq, Nat.reduceAdd, Nat.reduceEqDiff, Int.reduceToNat, eq_self, true_and, and_true, true_or, or_true, bI_0, bI_1, mm, rAm, mF_sF, mR_sR, false_and, and_false, if_false, if_true, false_or, or_false, not_true_eq_false, not_false_eq_true, and_self]
      rw [show ((k : Int) + 1) = ((k + 1 : Nat) : Int) by omega]
      refine ih (k + 1) f1 (by omega) ?_
      rw [cn, if_neg (by rw [hjk]; simp)]; exact g
    · have hjk : j k = true := by simpa using h'
      simp (disch := first | (simp only [dd, dr]; done) | omega) only [W_221, msK, msR, msF, ms1, msS1, k0, k1, k6, I_lt, I_le, I_inj, inB_I, tc_I, Int.toNat_natCast, fkt, rf1, rf0, cq, Nat.reduceAdd, Nat.reduceEqDiff, Int.reduceToNat, eq_self, true_and, and_true, true_or, or_true, bI_0, bI_1, mm, rAm, mF_sF, mR_sR, false_and, and_false, if_false, if_true, false_or, or_false, not_true_eq_false, not_false_eq_true, and_self]
      refine ca_222 (by omega) (m_goesN hK' g (by rw [v4]; exact l0) (by rw [v4]; exact l1) (fun hw => ?_) (fun f2 g2 => ?_))
      · rw [v4] at hw
        simp (disch := first | (simp only [dd, dr]; done) | omega) only [W_221, I_lt, I_le, I_inj, inB_I, tc_I, Int.toNat_natCast, fkt, rf1, rf0, cq, Nat.reduceAdd, Nat.reduceEqDiff, Int.reduceToNat, eq_self, true_and, and_true, true_or, or_true, bI_0, bI_1, mm, rAm, mF_sF, mR_sR, false_and, and_false, if_false, if_true, false_or, or_false, not_true_eq_false, not_false_eq_true, and_self]
        refine ⟨(fun h => by first | exact False.elim h | exact absurd trivial h | (exfalso; omega) | exact absurd rfl h | cases h), fun _ => ?_⟩
        simp (disch := first | (simp only [dd, dr]; done) | omega) only [W_221, I_lt, I_le, I_inj, inB_I, tc_I, Int.toNat_natCast, fkt, rf1, rf0, cq, Nat.reduceAdd, Nat.reduceEqDiff, Int.reduceToNat, eq_self, true_and, and_true, true_or, or_true, bI_0, bI_1, mm, rAm, mF_sF, mR_sR, false_and, and_false, if_false, if_true, false_or, or_false, not_true_eq_false, not_false_eq_true, and_self]
        have hle : cn j k + 1 ≤ cn j 96 := by
          have := cn_all j (a := k + 1) (b := 96) (by omega)
          rw [cn, if_pos hjk] at this
          exact this
        obtain ⟨e, he⟩ : ∃ e, cn j 96 + 1 = (cn j k + 1) + e := ⟨cn j 96 - cn j k, by omega⟩
        exact bad _ _ g (by rw [he]; exact wn_bad hw)
      · simp (disch := first | (simp only [dd, dr]; done) | omega) only [W_221, I_lt, I_le, I_inj, inB_I, tc_I, Int.toNat_natCast, fkt, rf1, rf0, cq, Nat.reduceAdd, Nat.reduceEqDiff, Int.reduceToNat, eq_self, true_and, and_true, true_or, or_true, bI_0, bI_1, mm, rAm, mF_sF, mR_sR, false_and, and_false, if_false, if_true, false_or, or_false, not_true_eq_false, not_false_eq_true, and_self]
        refine ⟨fun _ => ?_, (fun h => by first | exact False.elim h | exact absurd trivial h | (exfalso; omega) | exact absurd rfl h | cases h)⟩
        simp (disch := first | (simp only [dd, dr]; done) | omega) only [W_221, I_lt, I_le, I_inj, inB_I, tc_I, Int.toNat_natCast, fkt, rf1, rf0, cq, Nat.reduceAdd, Nat.reduceEqDiff, Int.reduceToNat, eq_self, true_and, and_true, true_or, or_true, bI_0, bI_1, mm, rAm, mF_sF, mR_sR, false_and, and_false, if_false, if_true, false_or, or_false, not_true_eq_false, not_false_eq_true, and_self]
        rw [show ((k : Int) + 1) = ((k + 1 : Nat) : Int) by omega]
        refine ih (k + 1) f2 (by omega) ?_
        rw [cn, if_pos hjk]; exact g2
end Mho
