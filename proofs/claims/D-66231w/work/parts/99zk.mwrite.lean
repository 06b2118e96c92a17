/-! ===== THE MODEL: write, fill, cut ===== -/
section Mwr
variable {d : Nat} {M : Mem} {Q : Outcome → Mem → Prop} {o : Nat} {f : Nat → Int} {s s' b c w : Int → Int} {j : Nat → Bool} {T T' T1 T2 : Tr} {X X' : Ob} {dt : Nat → Nat → Nat} {m : Nat} {sz tl : Nat → Nat}
theorem m_refused (hK : MK M o) (hd : 4 ≤ d) (S : MS s T X dt) (O : OK1 T X) {off : Bool} (f52 : f 52 = bI off) {z t n v : Int} (z0 : -2147483648 ≤ z) (z1 : z < 2147483648) (t0 : -2147483648 ≤ t) (t1 : t < 2147483648) (n0 : -2147483648 ≤ n) (n1 : n < 2147483648) (v0 : 0 ≤ v) (v1 : v ≤ 512) (hQ : Q (.returned (some (.int (I (mwC off T X z t n v : Nat))))) (ms M o f s b c w j)) :
    Wp d 198 0 [some (.ref o), some (.int (I z)), some (.int (I t)), some (.int (I n)), some (.int (I v))] [] (ms M o f s b c w j) Q := by
  have hK' := hK
  obtain ⟨k0, k1, k2, k3, k4, k5, k6, k7, k8, k9, k10⟩ := hK
  unfold mwC at hQ
  simp (disch := first | (simp only [dd, dr]; done) | omega) only [W_198, msK, msR, msF, ms1, msS1, k0, k1, k6, f52, I_lt, I_le, I_inj, inB_I, tc_I, Int.toNat_natCast, fkt, rf1, rf0, cq, Nat.reduceAdd, Nat.reduceEqDiff, Int.reduceToNat, eq_self, true_and, and_true, true_or, or_true, bI_0, bI_1, mm, rAm, mF_sF, mR_sR, false_and, and_false, if_false, if_true, false_or, or_false, not_true_eq_false, not_false_eq_true, and_self]
  refine ⟨fun h1 => ?_, fun h1 => ?_⟩
  rotate_left
  · have h1 : off = true := by simpa using h1
    rw [if_pos h1] at hQ
    simp (disch := first | (simp only [dd, dr]; done) | omega) only [W_198, I_lt, I_le, I_inj, inB_I, tc_I, Int.toNat_natCast, fkt, rf1, rf0, cq, Nat.reduceAdd, Nat.reduceEqDiff, Int.reduceToNat, eq_self, true_and, and_true, true_or, or_true, bI_0, bI_1, mm, rAm, mF_sF, mR_sR, false_and, and_false, if_false, if_true, false_or, or_false, not_true_eq_false, not_false_eq_true, and_self]
    exact hQ
  have h1' : ¬ off = true := by rw [h1]; simp
  rw [if_neg h1'] at hQ
  simp (disch := first | (simp only [dd, dr]; done) | omega) only [W_198, msK, msR, msF, ms1, msS1, k0, k1, k6, I_lt, I_le, I_inj, inB_I, tc_I, Int.toNat_natCast, fkt, rf1, rf0, cq, Nat.reduceAdd, Nat.reduceEqDiff, Int.reduceToNat, eq_self, true_and, and_true, true_or, or_true, bI_0, bI_1, mm, rAm, mF_sF, mR_sR, false_and, and_false, if_false, if_true, false_or, or_false, not_true_eq_false, not_false_eq_true, and_self]
  refine ca_185 (by omega) (m_isFile hK' (by omega) S O z0 z1 ?_)
  simp (disch := first | (simp only [dd, dr]; done) | omega) only [W_198, I_lt, I_le, I_inj, inB_I, tc_I, Int.toNat_natCast, fkt, rf1, rf0, cq, Nat.reduceAdd, Nat.reduceEqDiff, Int.reduceToNat, eq_self, true_and, and_true, true_or, or_true, bI_0, bI_1, mm, rAm, mF_sF, mR_sR, false_and, and_false, if_false, if_true, false_or, or_false, not_true_eq_false, not_false_eq_true, and_self]
  refine ⟨fun h2 => ?_, fun h2 => ?_⟩
  · rw [if_neg (fun h => by rw [h.1] at h2; cases h2)] at hQ
    simp (disch := first | (simp only [dd, dr]; done) | omega) only [W_198, I_lt, I_le, I_inj, inB_I, tc_I, Int.toNat_natCast, fkt, rf1, rf0, cq, Nat.reduceAdd, Nat.reduceEqDiff, Int.reduceToNat, eq_self, true_and, and_true, true_or, or_true, bI_0, bI_1, mm, rAm, mF_sF, mR_sR, false_and, and_false, if_false, if_true, false_or, or_false, not_true_eq_false, not_false_eq_true, and_self]
    exact hQ
  have h2 : isk T X z 1 = true := by simpa using h2
  obtain ⟨zo, rfl, o1, o2, o3, o4⟩ := isk_of h2
  simp only [Int.toNat_natCast] at *
  obtain ⟨x1, x2, _⟩ := S.2.2.1 zo (by omega) o3
  obtain ⟨zo1, zo2, zo3, zo4⟩ := O zo (by omega) o3
  simp (disch := first | (simp only [dd, dr]; done) | omega) only [W_198, msK, msR, msF, ms1, msS1, k0, k1, k6, x2, I_lt, I_le, I_inj, inB_I, tc_I, Int.toNat_natCast, fkt, rf1, rf0, cq, Nat.reduceAdd, Nat.reduceEqDiff, Int.reduceToNat, eq_self, true_and, and_true, true_or, or_true, bI_0, bI_1, mm, rAm, mF_sF, mR_sR, false_and, and_false, if_false, if_true, false_or, or_false, not_true_eq_false, not_false_eq_true, and_self]
  refine ca_159 (by omega) (m_isIn (by omega) (by omega) (by omega) (by omega) (by omega) (by omega) ?_)
  simp (disch := first | (simp only [dd, dr]; done) | omega) only [W_198, I_lt, I_le, I_inj, inB_I, tc_I, Int.toNat_natCast, fkt, rf1, rf0, cq, Nat.reduceAdd, Nat.reduceEqDiff, Int.reduceToNat, eq_self, true_and, and_true, true_or, or_true, bI_0, bI_1, mm, rAm, mF_sF, mR_sR, false_and, and_false, if_false, if_true, false_or, or_false, not_true_eq_false, not_false_eq_true, and_self]
  refine ⟨fun h3 => ?_, fun h3 => ?_⟩
  rotate_left
  · have h3 : ¬ (0 ≤ t ∧ t ≤ (oS X zo : Int)) := by simpa using h3
    rw [if_neg (fun h => h3 h.2)] at hQ
    simp (disch := first | (simp only [dd, dr]; done) | omega) only [W_198, I_lt, I_le, I_inj, inB_I, tc_I, Int.toNat_natCast, fkt, rf1, rf0, cq, Nat.reduceAdd, Nat.reduceEqDiff, Int.reduceToNat, eq_self, true_and, and_true, true_or, or_true, bI_0, bI_1, mm, rAm, mF_sF, mR_sR, false_and, and_false, if_false, if_true, false_or, or_false, not_true_eq_false, not_false_eq_true, and_self]
    exact hQ
  have h3 : 0 ≤ t ∧ t ≤ (oS X zo : Int) := by simpa using h3
  rw [if_pos ⟨h2, h3⟩] at hQ
  simp (disch := first | (simp only [dd, dr]; done) | omega) only [W_198, I_lt, I_le, I_inj, inB_I, tc_I, Int.toNat_natCast, fkt, rf1, rf0, cq, Nat.reduceAdd, Nat.reduceEqDiff, Int.reduceToNat, eq_self, true_and, and_true, true_or, or_true, bI_0, bI_1, mm, rAm, mF_sF, mR_sR, false_and, and_false, if_false, if_true, false_or, or_false, not_true_eq_false, not_false_eq_true, and_self]
  refine ca_159 (by omega) (m_isIn (by omega) (by omega) (by omega) (by omega) (by omega) (by omega) ?_)
  simp (disch := first | (simp only [dd, dr]; done) | omega) only [W_198, I_lt, I_le, I_inj, inB_I, tc_I, Int.toNat_natCast, fkt, rf1, rf0, cq, Nat.reduceAdd, Nat.reduceEqDiff, Int.reduceToNat, eq_self, true_and, and_true, true_or, or_true, bI_0, bI_1, mm, rAm, mF_sF, mR_sR, false_and, and_false, if_false, if_true, false_or, or_false, not_true_eq_false, not_false_eq_true, and_self]
  refine ⟨fun h4 => ?_, fun h4 => ?_⟩
  · have h4 : ¬ (1 ≤ n ∧ n ≤ v) := of_decide_eq_false h4
    rw [if_neg (fun h => h4 ⟨h.1, h.2.1⟩)] at hQ
    simp (disch := first | (simp only [dd, dr]; done) | omega) only [W_198, I_lt, I_le, I_inj, inB_I, tc_I, Int.toNat_natCast, fkt, rf1, rf0, cq, Nat.reduceAdd, Nat.reduceEqDiff, Int.reduceToNat, eq_self, true_and, and_true, true_or, or_true, bI_0, bI_1, mm, rAm, mF_sF, mR_sR, false_and, and_false, if_false, if_true, false_or, or_false, not_true_eq_false, not_false_eq_true, and_self]
    exact hQ
  have h4 : 1 ≤ n ∧ n ≤ v := by simpa using h4
  simp (disch := first | (simp only [dd, dr]; done) | omega) only [W_198, I_lt, I_le, I_inj, inB_I, tc_I, Int.toNat_natCast, fkt, rf1, rf0, cq, Nat.reduceAdd, Nat.reduceEqDiff, Int.reduceToNat, eq_self, true_and, and_true, true_or, or_true, bI_0, bI_1, mm, rAm, mF_sF, mR_sR, false_and, and_false, if_false, if_true, false_or, or_false, not_true_eq_false, not_false_eq_true, and_self]
  refine ⟨fun h5 => ?_, fun h5 => ?_⟩
  · rw [if_pos ⟨h4.1, h4.2, by omega⟩] at hQ
    simp (disch := first | (simp only [dd, dr]; done) | omega) only [W_198, I_lt, I_le, I_inj, inB_I, tc_I, Int.toNat_natCast, fkt, rf1, rf0, cq, Nat.reduceAdd, Nat.reduceEqDiff, Int.reduceToNat, eq_self, true_and, and_true, true_or, or_true, bI_0, bI_1, mm, rAm, mF_sF, mR_sR, false_and, and_false, if_false, if_true, false_or, or_false, not_true_eq_false, not_false_eq_true, and_self]
    exact hQ
  · rw [if_neg (fun h => by omega)] at hQ
    simp (disch := first | (simp only [dd, dr]; done) | omega) only [W_198, I_lt, I_le, I_inj, inB_I, tc_I, Int.toNat_natCast, fkt, rf1, rf0, cq, Nat.reduceAdd, Nat.reduceEqDiff, Int.reduceToNat, eq_self, true_and, and_true, true_or, or_true, bI_0, bI_1, mm, rAm, mF_sF, mR_sR, false_and, and_false, if_false, if_true, false_or, or_false, not_true_eq_false, not_false_eq_true, and_self]
    exact hQ
theorem m_gather (hK : MK M o) (hd : 4 ≤ d) (S : MS s T X dt) {v : Nat} (hv : v ≤ 60) (hi : ky v 0 0 ∈ its T) (hO : FO T X v) (hQ : ∀ w' : Int → Int, (∀ i : Nat, i < oS X v → w' i = (fc X dt v i : Nat)) → Q (.returned none) (ms M o f s b c w' j)) : Wp d 199 0 [some (.ref o), some (.int (I (v : Nat))), none] [] (ms M o f s b c w j) Q := by
  have hK' := hK
  obtain ⟨k0, k1, k2, k3, k4, k5, k6, k7, k8, k9, k10⟩ := hK
  obtain ⟨x1, x2, _⟩ := S.2.2.1 v (by omega) hi
  have hs := hO.1
  simp (disch := first | (simp only [dd, dr]; done) | omega) only [W_199, I_lt, I_le, I_inj, inB_I, tc_I, Int.toNat_natCast, fkt, rf1, rf0, cq, Nat.reduceAdd, Nat.reduceEqDiff, Int.reduceToNat, eq_self, true_and, and_true, true_or, or_true, bI_0, bI_1, mm, rAm, mF_sF, mR_sR, false_and, and_false, if_false, if_true, false_or, or_false, not_true_eq_false, not_false_eq_true, and_self]
  suffices H : ∀ N (k : Nat) (w' : Int → Int), k + N = 2560 → (∀ i : Nat, i < k → i < oS X v → w' i = (fc X dt v i : Nat)) → Wp d 199 2 [some (.ref o), some (.int (I (v : Nat))), some (.int (I (k : Nat)))] [] (ms M o f s b c w' j) Q from H 2560 0 w (by omega) (fun i h => by omega)
  intro N
  induction N with
  | zero =>
    intro k w' hk hw
    simp (disch := first | (simp only [dd, dr]; done) | omega) only [w_199_2, W_199, I_lt, I_le, I_inj, inB_I, tc_I, Int.toNat_natCast, fkt, rf1, rf0, cq, Nat.reduceAdd, Nat.reduceEqDiff, Int.reduceToNat, eq_self, true_and, and_true, true_or, or_true, bI_0, bI_1, mm, rAm, mF_sF, mR_sR, false_and, and_false, if_false, if_true, false_or, or_false, not_true_eq_false, not_false_eq_true, and_self]
    refine ⟨fun _ => ?_, (fun h => by first | exact False.elim h | exact absurd trivial h | (exfalso; omega) | exact absurd rfl h | cases h)⟩
    simp (disch := first | (simp only [dd, dr]; done) | omega) only [W_199, I_lt, I_le, I_inj, inB_I, tc_I, Int.toNat_natCast, fkt, rf1, rf0, cq, Nat.reduceAdd, Nat.reduceEqDiff, Int.reduceToNat, eq_self, true_and, and_true, true_or, or_true, bI_0, bI_1, mm, rAm, mF_sF, mR_sR, false_and, and_false, if_false, if_true, false_or, or_false, not_true_eq_false, not_false_eq_true, and_self]
    exact hQ w' (fun i hi' => hw i (by omega) hi')
  | succ N ih =>
    intro k w' hk hw
    have e4 : ∀ z : Int, sA (ms M o f s b c w' j) (o + 4) k (I z) = ms M o f s b c (fz w' (k : Int) z) j := fun z => by
      have := msS4 M o f s b c w' j (z := (k : Int)) (by omega) z
      rw [Int.toNat_natCast] at this
      exact this
    have next : ∀ z : Int, (k < oS X v → z = (fc X dt v k : Nat)) → Wp d 199 2 [some (.ref o), some (.int (I (v : Nat))), some (.int (I ((k : Int) + 1)))] [] (ms M o f s b c (fz w' (k : Int) z) j) Q := by
      intro z hz
      rw [show ((k : Int) + 1) = ((k + 1 : Nat) : Int) by omega]
      refine ih (k + 1) _ (by omega) (fun i h1 h2 => ?_)
      by_cases e : i = k
      · rw [e, fz_e _ _ rfl]; exact hz (by omega)
      · rw [fz_n _ _ (by omega)]; exact hw i (by omega) h2
    simp (disch := first | (simp only [dd, dr]; done) | omega) only [w_199_2, W_199, I_lt, I_le, I_inj, inB_I, tc_I, Int.toNat_natCast, fkt, rf1, rf0, cq, Nat.reduceAdd, Nat.reduceEqDiff, Int.reduceToNat, eq_self, true_and, and_true, true_or, or_true, bI_0, bI_1, mm, rAm, mF_sF, mR_sR, false_and, and_false, if_false, if_true, false_or, or_false, not_true_eq_false, not_false_eq_true, and_self]
    refine ⟨(fun h => by first | exact False.elim h | exact absurd trivial h | (exfalso; omega) | exact absurd rfl h | cases h), fun _ => ?_⟩
    simp (disch := first | (simp only [dd, dr]; done) | omega) only [W_199, msK, msR, msF, ms1, msS1, k0, k1, k6, k4, x2, I_lt, I_le, I_inj, inB_I, tc_I, Int.toNat_natCast, fkt, rf1, rf0, cq, Nat.reduceAdd, Nat.reduceEqDiff, Int.reduceToNat, eq_self, true_and, and_true, true_or, or_true, bI_0, bI_1, mm, rAm, mF_sF, mR_sR, false_and, and_false, if_false, if_true, false_or, or_false, not_true_eq_false, not_false_eq_true, and_self]
    refine ⟨fun h => ?_, fun h => ?_⟩
    · simp (disch := first | (simp only [dd, dr]; done) | omega) only [W_199, msK, msR, msF, ms1, msS1, k0, k1, k6, k9, e4, I_lt, I_le, I_inj, inB_I, tc_I, Int.toNat_natCast, fkt, rf1, rf0, cq, Nat.reduceAdd, Nat.reduceEqDiff, Int.reduceToNat, eq_self, true_and, and_true, true_or, or_true, bI_0, bI_1, mm, rAm, mF_sF, mR_sR, false_and, and_false, if_false, if_true, false_or, or_false, not_true_eq_false, not_false_eq_true, and_self]
      exact next 0 (fun h' => by omega)
    · simp (disch := first | (simp only [dd, dr]; done) | omega) only [W_199, msK, msR, msF, ms1, msS1, k0, k1, k6, I_lt, I_le, I_inj, inB_I, tc_I, Int.toNat_natCast, fkt, rf1, rf0, cq, Nat.reduceAdd, Nat.reduceEqDiff, Int.reduceToNat, eq_self, true_and, and_true, true_or, or_true, bI_0, bI_1, mm, rAm, mF_sF, mR_sR, false_and, and_false, if_false, if_true, false_or, or_false, not_true_eq_false, not_false_eq_true, and_self]
      refine ca_200 (by omega) (m_byteOf hK' S hv hi hO (by omega) ?_)
      simp (disch := first | (simp only [dd, dr]; done) | omega) only [W_199, msK, msR, msF, ms1, msS1, k0, k1, k6, k9, e4, I_lt, I_le, I_inj, inB_I, tc_I, Int.toNat_natCast, fkt, rf1, rf0, cq, Nat.reduceAdd, Nat.reduceEqDiff, Int.reduceToNat, eq_self, true_and, and_true, true_or, or_true, bI_0, bI_1, mm, rAm, mF_sF, mR_sR, false_and, and_false, if_false, if_true, false_or, or_false, not_true_eq_false, not_false_eq_true, and_self]
      exact next _ (fun _ => rfl)
theorem m_change (hK : MK M o) (hd : 14 ≤ d) (S : MS s T X dt) (G : Gt m T (pyO X)) (hm1 : 1 ≤ m) (hm2 : m ≤ 96) (O : OK3 T X) {v e : Nat} (hv : v ≤ 60) (hi : ky v 0 0 ∈ its T) (hk2 : oK X v = 2) (he : e ≤ 2048) (f43 : f 43 = m) (f47 : f 47 = 0) {F : Nat → Nat} (hF : ∀ i : Nat, i < max (oS X v) e → w i = (F i : Nat))
    (hX : rfA m X T v (max (oS X v) e) = none → ∀ s', Q (.returned (some (.int (I 0)))) (ms M o (fu (fu f 47 1) 54 4) (kp b s') b c w j))
    (hR : ∀ l T3, rfA m X T v (max (oS X v) e) = some (l, T3) → ∀ s', MS s' T3 (rfX X v l (tlL F (max (oS X v) e)) (max (oS X v) e)) (rfd dt l F (max (oS X v) e)) → Q (.returned (some (.int (I ((max (oS X v) e : Nat) : Int))))) (ms M o f s' b c w j)) :
    Wp d 201 0 [some (.ref o), some (.int (I (v : Nat))), some (.int (I (e : Nat)))] [] (ms M o f s b c w j) Q := by
  have hK' := hK
  obtain ⟨k0, k1, k2, k3, k4, k5, k6, k7, k8, k9, k10⟩ := hK
  obtain ⟨x1, x2, _⟩ := S.2.2.1 v (by omega) hi
  have hs := (O.fo v hv hi hk2).1
  have go : Ca d 201 30 [some (.ref o), some (.int (I (v : Nat))), some (.int (I (e : Nat)))] 202 [.ref o, .int (I (v : Nat)), .int (I ((max (oS X v) e : Nat) : Int))] [] (ms M o f s b c w j) Q := by
    generalize hN : max (oS X v) e = N at *
    have hN2 : N ≤ 2048 := by omega
    refine ca_202 (by omega) (m_lay hK' (by omega) S G hm1 hm2 O hv hi hk2 hN2 f43 f47 hF (fun hn s' => ?_) (fun l T3 hg hk3 s' S' => ?_))
    · simp (disch := first | (simp only [dd, dr]; done) | omega) only [W_201, msK, msR, msF, ms1, msS1, k0, k1, k6, I_lt, I_le, I_inj, inB_I, tc_I, Int.toNat_natCast, fkt, rf1, rf0, cq, Nat.reduceAdd, Nat.reduceEqDiff, Int.reduceToNat, eq_self, true_and, and_true, true_or, or_true, bI_0, bI_1, mm, rAm, mF_sF, mR_sR, false_and, and_false, if_false, if_true, false_or, or_false, not_true_eq_false, not_false_eq_true, and_self]
      refine ca_183 (by omega) (m_ended hK' (by omega) (fun h => ?_) (fun h => ?_) (.inr (fu_s _ _ _)))
      · rw [fu_s] at h; cases h
      · simp (disch := first | (simp only [dd, dr]; done) | omega) only [W_201, I_lt, I_le, I_inj, inB_I, tc_I, Int.toNat_natCast, fkt, rf1, rf0, cq, Nat.reduceAdd, Nat.reduceEqDiff, Int.reduceToNat, eq_self, true_and, and_true, true_or, or_true, bI_0, bI_1, mm, rAm, mF_sF, mR_sR, false_and, and_false, if_false, if_true, false_or, or_false, not_true_eq_false, not_false_eq_true, and_self]
        refine ⟨fun _ => ?_, (fun h => by first | exact False.elim h | exact absurd trivial h | (exfalso; omega) | exact absurd rfl h | cases h)⟩
        simp (disch := first | (simp only [dd, dr]; done) | omega) only [W_201, I_lt, I_le, I_inj, inB_I, tc_I, Int.toNat_natCast, fkt, rf1, rf0, cq, Nat.reduceAdd, Nat.reduceEqDiff, Int.reduceToNat, eq_self, true_and, and_true, true_or, or_true, bI_0, bI_1, mm, rAm, mF_sF, mR_sR, false_and, and_false, if_false, if_true, false_or, or_false, not_true_eq_false, not_false_eq_true, and_self]
        exact hX hn s'
    · simp (disch := first | (simp only [dd, dr]; done) | omega) only [W_201, msK, msR, msF, ms1, msS1, k0, k1, k6, I_lt, I_le, I_inj, inB_I, tc_I, Int.toNat_natCast, fkt, rf1, rf0, cq, Nat.reduceAdd, Nat.reduceEqDiff, Int.reduceToNat, eq_self, true_and, and_true, true_or, or_true, bI_0, bI_1, mm, rAm, mF_sF, mR_sR, false_and, and_false, if_false, if_true, false_or, or_false, not_true_eq_false, not_false_eq_true, and_self]
      refine ca_183 (by omega) (m_ended hK' (by omega) (fun h => ?_) (fun h => ?_) (.inl f47))
      rotate_left
      · rw [f47] at h; cases h
      have es : s' (218 + (v : Int)) = (N : Nat) := by
        have := (S'.2.2.1 v (by omega) hk3).2.1
        rw [show oS (rfX X v l (tlL F N) N) v = N from fu_s _ _ _] at this
        exact this
      simp (disch := first | (simp only [dd, dr]; done) | omega) only [W_201, I_lt, I_le, I_inj, inB_I, tc_I, Int.toNat_natCast, fkt, rf1, rf0, cq, Nat.reduceAdd, Nat.reduceEqDiff, Int.reduceToNat, eq_self, true_and, and_true, true_or, or_true, bI_0, bI_1, mm, rAm, mF_sF, mR_sR, false_and, and_false, if_false, if_true, false_or, or_false, not_true_eq_false, not_false_eq_true, and_self]
      refine ⟨(fun h => by first | exact False.elim h | exact absurd trivial h | (exfalso; omega) | exact absurd rfl h | cases h), fun _ => ?_⟩
      simp (disch := first | (simp only [dd, dr]; done) | omega) only [W_201, msK, msR, msF, ms1, msS1, k0, k1, k6, es, I_lt, I_le, I_inj, inB_I, tc_I, Int.toNat_natCast, fkt, rf1, rf0, cq, Nat.reduceAdd, Nat.reduceEqDiff, Int.reduceToNat, eq_self, true_and, and_true, true_or, or_true, bI_0, bI_1, mm, rAm, mF_sF, mR_sR, false_and, and_false, if_false, if_true, false_or, or_false, not_true_eq_false, not_false_eq_true, and_self]
      exact hR l T3 hg s' S'
  simp (disch := first | (simp only [dd, dr]; done) | omega) only [W_201, msK, msR, msF, ms1, msS1, k0, k1, k6, x2, I_lt, I_le, I_inj, inB_I, tc_I, Int.toNat_natCast, fkt, rf1, rf0, cq, Nat.reduceAdd, Nat.reduceEqDiff, Int.reduceToNat, eq_self, true_and, and_true, true_or, or_true, bI_0, bI_1, mm, rAm, mF_sF, mR_sR, false_and, and_false, if_false, if_true, false_or, or_false, not_true_eq_false, not_false_eq_true, and_self]
  refine ⟨fun h => ?_, fun h => ?_⟩
  · rw [show max (oS X v) e = oS X v by omega] at go
    simp (disch := first | (simp only [dd, dr]; done) | omega) only [W_201, msK, msR, msF, ms1, msS1, k0, k1, k6, x2, I_lt, I_le, I_inj, inB_I, tc_I, Int.toNat_natCast, fkt, rf1, rf0, cq, Nat.reduceAdd, Nat.reduceEqDiff, Int.reduceToNat, eq_self, true_and, and_true, true_or, or_true, bI_0, bI_1, mm, rAm, mF_sF, mR_sR, false_and, and_false, if_false, if_true, false_or, or_false, not_true_eq_false, not_false_eq_true, and_self]
    exact go
  · rw [show max (oS X v) e = e by omega] at go
    simp (disch := first | (simp only [dd, dr]; done) | omega) only [W_201, msK, msR, msF, ms1, msS1, k0, k1, k6, I_lt, I_le, I_inj, inB_I, tc_I, Int.toNat_natCast, fkt, rf1, rf0, cq, Nat.reduceAdd, Nat.reduceEqDiff, Int.reduceToNat, eq_self, true_and, and_true, true_or, or_true, bI_0, bI_1, mm, rAm, mF_sF, mR_sR, false_and, and_false, if_false, if_true, false_or, or_false, not_true_eq_false, not_false_eq_true, and_self]
    exact go
theorem and255 (v : Int32) : v &&& 255 = I ((v.toBitVec.toNat % 256 : Nat) : Int) := by
  apply Int32.toBitVec_inj.mp
  unfold I
  rw [Int32.toBitVec_ofInt, BitVec.ofInt_natCast, Int32.toBitVec_and]
  apply BitVec.eq_of_toNat_eq
  rw [BitVec.toNat_ofNat, BitVec.toNat_and]
  have h3 : v.toBitVec.toNat &&& 255 = v.toBitVec.toNat % 256 := Nat.and_two_pow_sub_one_eq_mod v.toBitVec.toNat 8
  have h4 : (255 : Int32).toBitVec.toNat = 255 := by decide
  rw [h4, h3]
  omega
theorem lby_m (w : Int64) (k : Nat) : ((w >>> ((I (8 * (k : Int))).toInt64 &&& 63)) &&& 255).toInt32 = I (lby w k : Nat) := by
  rw [Int64.toInt32_and]
  have e : (255 : Int64).toInt32 = 255 := by decide
  rw [e, and255]
  unfold lby
  rw [show (8 * (k : Int)) = ((8 * k : Nat) : Int) by omega]
theorem fby_m (z : Int) (k : Nat) : I (z + 7 * (k : Int)) &&& I 255 = I (fby z k : Nat) := by
  have h : I 255 = 255 := by decide
  rw [h, and255]
  congr 1
  unfold fby
  have : (I (z + 7 * (k : Int))).toBitVec.toNat = ((z + 7 * (k : Int)) % 4294967296).toNat := by
    unfold I
    rw [Int32.toBitVec_ofInt, BitVec.toNat_ofInt]
    rfl
  rw [this]
  omega
set_option maxHeartbeats 1000000 in
theorem m_write (hK : MK M o) (hd : 20 ≤ d) (S : MS s T X dt) (G : Gt m T (pyO X)) (hm1 : 1 ≤ m) (hm2 : m ≤ 96) (O : OK3 T X) (f43 : f 43 = m) {off : Bool} (f52 : f 52 = bI off) {z t n : Int} {v : Int64} (z0 : -2147483648 ≤ z) (z1 : z < 2147483648) (t0 : -2147483648 ≤ t) (t1 : t < 2147483648) (n0 : -2147483648 ≤ n) (n1 : n < 2147483648)
    (hX : wrC m off T X z t n 8 ≠ 0 → ∀ f' s' b' w', Fe f f' → f' 54 = wrC m off T X z t n 8 → (∀ x, 0 ≤ x → x < 25366 → s' x = s x) → Q (.returned (some (.int (I 0)))) (ms M o f' s' b' c w' j))
    (hR : wrC m off T X z t n 8 = 0 → ∀ l T3, rfA m X T z.toNat (wrN X z t n) = some (l, T3) → ∀ f' s' b' w', Fe f f' → f' 54 = 0 → MS s' T3 (rfX X z.toNat l (tlL (ovr (fc X dt z.toNat) t.toNat n.toNat (lby v)) (wrN X z t n)) (wrN X z t n)) (rfd dt l (ovr (fc X dt z.toNat) t.toNat n.toNat (lby v)) (wrN X z t n)) → Q (.returned (some (.int (I (wrN X z t n : Nat))))) (ms M o f' s' b' c w' j)) :
    Wp d 197 0 [some (.ref o), some (.int (I z)), some (.int (I t)), some (.long v), none, some (.int (I n)), none] [] (ms M o f s b c w j) Q := by
  have hK' := hK
  obtain ⟨k0, k1, k2, k3, k4, k5, k6, k7, k8, k9, k10⟩ := hK
  simp (disch := first | (simp only [dd, dr]; done) | omega) only [W_197, msK, msR, msF, ms1, msS1, k0, k1, k6, I_lt, I_le, I_inj, inB_I, tc_I, Int.toNat_natCast, fkt, rf1, rf0, cq, Nat.reduceAdd, Nat.reduceEqDiff, Int.reduceToNat, eq_self, true_and, and_true, true_or, or_true, bI_0, bI_1, mm, rAm, mF_sF, mR_sR, false_and, and_false, if_false, if_true, false_or, or_false, not_true_eq_false, not_false_eq_true, and_self]
  refine ca_198 (by omega) (m_refused hK' (by omega) S O.1.1 f52 z0 z1 t0 t1 n0 n1 (v := 8) (by omega) (by omega) ?_)
  by_cases h1 : mwC off T X z t n 8 ≠ 0
  · have hc : wrC m off T X z t n 8 = mwC off T X z t n 8 := by unfold wrC; rw [if_pos h1]
    have hle : mwC off T X z t n 8 ≤ 3 := by unfold mwC; split; omega; split; split <;> omega; omega
    rw [hc] at hX
    generalize mwC off T X z t n 8 = k at *
    have hf : fu f 54 (k : Int) 54 = k := fu_s _ _ _
    simp (disch := first | (simp only [dd, dr]; done) | omega) only [W_197, msK, msR, msF, ms1, msS1, k0, k1, k6, msSF, hf, I_lt, I_le, I_inj, inB_I, tc_I, Int.toNat_natCast, fkt, rf1, rf0, cq, Nat.reduceAdd, Nat.reduceEqDiff, Int.reduceToNat, eq_self, true_and, and_true, true_or, or_true, bI_0, bI_1, mm, rAm, mF_sF, mR_sR, false_and, and_false, if_false, if_true, false_or, or_false, not_true_eq_false, not_false_eq_true, and_self]
    refine ⟨(fun h => by first | exact False.elim h | exact absurd trivial h | (exfalso; omega) | exact absurd rfl h | cases h), fun _ => ?_⟩
    simp (disch := first | (simp only [dd, dr]; done) | omega) only [W_197, I_lt, I_le, I_inj, inB_I, tc_I, Int.toNat_natCast, fkt, rf1, rf0, cq, Nat.reduceAdd, Nat.reduceEqDiff, Int.reduceToNat, eq_self, true_and, and_true, true_or, or_true, bI_0, bI_1, mm, rAm, mF_sF, mR_sR, false_and, and_false, if_false, if_true, false_or, or_false, not_true_eq_false, not_false_eq_true, and_self]
    exact hX h1 _ s b w (fun g _ h _ => fu_n _ _ h) hf (fun _ _ _ => rfl)
  have h1 : mwC off T X z t n 8 = 0 := by omega
  rw [h1]
  unfold wrC at hX hR
  rw [if_neg (by omega)] at hX hR
  obtain ⟨hoff0, zo, t, n, rfl, rfl, rfl, o1, o2, o3, o4, ht, hn1, hn2, hn3⟩ := mwC_0 h1
  unfold wrN at hX hR
  simp only [Int.toNat_natCast] at *
  have hO := O.fo zo o2 o3 o4
  have hs := hO.1
  have hf : fu f 54 ((0 : Nat) : Int) 54 = 0 := fu_s _ _ _
  simp (disch := first | (simp only [dd, dr]; done) | omega) only [W_197, msK, msR, msF, ms1, msS1, k0, k1, k6, msSF, hf, I_lt, I_le, I_inj, inB_I, tc_I, Int.toNat_natCast, fkt, rf1, rf0, cq, Nat.reduceAdd, Nat.reduceEqDiff, Int.reduceToNat, eq_self, true_and, and_true, true_or, or_true, bI_0, bI_1, mm, rAm, mF_sF, mR_sR, false_and, and_false, if_false, if_true, false_or, or_false, not_true_eq_false, not_false_eq_true, and_self]
  refine ⟨fun _ => ?_, (fun h => by first | exact False.elim h | exact absurd trivial h | (exfalso; omega) | exact absurd rfl h | cases h)⟩
  simp (disch := first | (simp only [dd, dr]; done) | omega) only [W_197, msK, msR, msF, ms1, msS1, k0, k1, k6, I_lt, I_le, I_inj, inB_I, tc_I, Int.toNat_natCast, fkt, rf1, rf0, cq, Nat.reduceAdd, Nat.reduceEqDiff, Int.reduceToNat, eq_self, true_and, and_true, true_or, or_true, bI_0, bI_1, mm, rAm, mF_sF, mR_sR, false_and, and_false, if_false, if_true, false_or, or_false, not_true_eq_false, not_false_eq_true, and_self]
  refine ca_166 (by omega) (m_begin hK' (by omega) ?_)
  generalize hb1 : kp s b = b1
  have hb1x : ∀ x, 0 ≤ x → x < 25366 → b1 x = s x := fun x _ h => by rw [← hb1]; unfold kp; rw [if_pos h]
  generalize hf1 : fu (fu f 54 ((0 : Nat) : Int)) 47 0 = f1
  have g47 : f1 47 = 0 := by rw [← hf1, fu_s]
  have g54 : f1 54 = 0 := by rw [← hf1, fu_n _ _ (by omega), fu_s]; rfl
  have g43 : f1 43 = m := by rw [← hf1, fu_n _ _ (by omega), fu_n _ _ (by omega)]; exact f43
  have ge : Fe f f1 := fun g a1 a2 _ => by rw [← hf1, fu_n _ _ a1, fu_n _ _ a2]
  clear hf1 hb1
  simp (disch := first | (simp only [dd, dr]; done) | omega) only [W_197, msK, msR, msF, ms1, msS1, k0, k1, k6, I_lt, I_le, I_inj, inB_I, tc_I, Int.toNat_natCast, fkt, rf1, rf0, cq, Nat.reduceAdd, Nat.reduceEqDiff, Int.reduceToNat, eq_self, true_and, and_true, true_or, or_true, bI_0, bI_1, mm, rAm, mF_sF, mR_sR, false_and, and_false, if_false, if_true, false_or, or_false, not_true_eq_false, not_false_eq_true, and_self]
  refine ca_199 (by omega) (m_gather hK' (by omega) S o2 o3 hO (fun w1 hw1 => ?_))
  simp (disch := first | (simp only [dd, dr]; done) | omega) only [W_197, I_lt, I_le, I_inj, inB_I, tc_I, Int.toNat_natCast, fkt, rf1, rf0, cq, Nat.reduceAdd, Nat.reduceEqDiff, Int.reduceToNat, eq_self, true_and, and_true, true_or, or_true, bI_0, bI_1, mm, rAm, mF_sF, mR_sR, false_and, and_false, if_false, if_true, false_or, or_false, not_true_eq_false, not_false_eq_true, and_self]
  suffices H : ∀ N (i : Nat) (w2 : Int → Int), i + N = n → (∀ k : Nat, (k < oS X zo ∨ (t ≤ k ∧ k < t + i)) → w2 k = (ovr (fc X dt zo) t i (lby v) k : Nat)) → Wp d 197 35 [some (.ref o), some (.int (I (zo : Nat))), some (.int (I (t : Nat))), some (.long v), none, some (.int (I (n : Nat))), some (.int (I (i : Nat)))] [] (ms M o f1 s b1 c w2 j) Q by
    exact H n 0 w1 (by omega) (fun k hk => by
      unfold ovr
      rw [if_neg (by omega)]
      exact hw1 k (by omega))
  intro N
  induction N with
  | zero =>
    intro i w2 hi hw
    obtain rfl : i = n := by omega
    simp (disch := first | (simp only [dd, dr]; done) | omega) only [w_197_35, W_197, I_lt, I_le, I_inj, inB_I, tc_I, Int.toNat_natCast, fkt, rf1, rf0, cq, Nat.reduceAdd, Nat.reduceEqDiff, Int.reduceToNat, eq_self, true_and, and_true, true_or, or_true, bI_0, bI_1, mm, rAm, mF_sF, mR_sR, false_and, and_false, if_false, if_true, false_or, or_false, not_true_eq_false, not_false_eq_true, and_self]
    refine ⟨fun _ => ?_, (fun h => by first | exact False.elim h | exact absurd trivial h | (exfalso; omega) | exact absurd rfl h | cases h)⟩
    simp (disch := first | (simp only [dd, dr]; done) | omega) only [W_197, msK, msR, msF, ms1, msS1, k0, k1, k6, I_lt, I_le, I_inj, inB_I, tc_I, Int.toNat_natCast, fkt, rf1, rf0, cq, Nat.reduceAdd, Nat.reduceEqDiff, Int.reduceToNat, eq_self, true_and, and_true, true_or, or_true, bI_0, bI_1, mm, rAm, mF_sF, mR_sR, false_and, and_false, if_false, if_true, false_or, or_false, not_true_eq_false, not_false_eq_true, and_self]
    rw [show (t : Int) + (i : Int) = ((t + i : Nat) : Int) by omega]
    refine ca_201 (by omega) (m_change (F := ovr (fc X dt zo) t i (lby v)) hK' (by omega) S G hm1 hm2 O o2 o3 o4 (by omega) g43 g47 (fun k hk => hw k (by omega)) (fun hn s' => ?_) (fun l T3 hg s' S' => ?_))
    · simp (disch := first | (simp only [dd, dr]; done) | omega) only [W_197, I_lt, I_le, I_inj, inB_I, tc_I, Int.toNat_natCast, fkt, rf1, rf0, cq, Nat.reduceAdd, Nat.reduceEqDiff, Int.reduceToNat, eq_self, true_and, and_true, true_or, or_true, bI_0, bI_1, mm, rAm, mF_sF, mR_sR, false_and, and_false, if_false, if_true, false_or, or_false, not_true_eq_false, not_false_eq_true, and_self]
      rw [if_pos hn] at hX
      refine hX (by omega) _ _ b1 w2 (fun g a1 a2 a3 => ?_) ?_ (fun x a1 a2 => ?_)
      · rw [fu_n _ _ a2, fu_n _ _ a1]; exact ge g a1 a2 a3
      · rw [fu_s]; rfl
      · unfold kp; rw [if_pos a2]; exact hb1x x a1 a2
    · simp (disch := first | (simp only [dd, dr]; done) | omega) only [W_197, I_lt, I_le, I_inj, inB_I, tc_I, Int.toNat_natCast, fkt, rf1, rf0, cq, Nat.reduceAdd, Nat.reduceEqDiff, Int.reduceToNat, eq_self, true_and, and_true, true_or, or_true, bI_0, bI_1, mm, rAm, mF_sF, mR_sR, false_and, and_false, if_false, if_true, false_or, or_false, not_true_eq_false, not_false_eq_true, and_self]
      rw [if_neg (by rw [hg]; simp)] at hR
      exact hR rfl l T3 hg f1 s' b1 w2 ge g54 S'
  | succ N ih =>
    intro i w2 hi hw
    have e4 : ∀ z : Int, sA (ms M o f1 s b1 c w2 j) (o + 4) (t + i) (I z) = ms M o f1 s b1 c (fz w2 ((t + i : Nat) : Int) z) j := fun z => by
      have := msS4 M o f1 s b1 c w2 j (z := ((t + i : Nat) : Int)) (by omega) z
      rw [Int.toNat_natCast] at this
      exact this
    have ea : (t : Int) + (i : Int) = ((t + i : Nat) : Int) := by omega
    simp (disch := first | (simp only [dd, dr]; done) | omega) only [w_197_35, W_197, I_lt, I_le, I_inj, inB_I, tc_I, Int.toNat_natCast, fkt, rf1, rf0, cq, Nat.reduceAdd, Nat.reduceEqDiff, Int.reduceToNat, eq_self, true_and, and_true, true_or, or_true, bI_0, bI_1, mm, rAm, mF_sF, mR_sR, false_and, and_false, if_false, if_true, false_or, or_false, not_true_eq_false, not_false_eq_true, and_self]
    refine ⟨(fun h => by first | exact False.elim h | exact absurd trivial h | (exfalso; omega) | exact absurd rfl h | cases h), fun _ => ?_⟩
    simp (disch := first | (simp only [dd, dr]; done) | omega) only [W_197, msK, msR, msF, ms1, msS1, k0, k1, k6, k4, k9, ea, lby_m, e4, I_lt, I_le, I_inj, inB_I, tc_I, Int.toNat_natCast, fkt, rf1, rf0, cq, Nat.reduceAdd, Nat.reduceEqDiff, Int.reduceToNat, eq_self, true_and, and_true, true_or, or_true, bI_0, bI_1, mm, rAm, mF_sF, mR_sR, false_and, and_false, if_false, if_true, false_or, or_false, not_true_eq_false, not_false_eq_true, and_self]
    rw [show ((i : Int) + 1) = ((i + 1 : Nat) : Int) by omega]
    refine ih (i + 1) _ (by omega) (fun k hk => ?_)
    by_cases e : k = t + i
    · rw [e, fz_e _ _ rfl]
      unfold ovr
      rw [if_pos (by omega), show t + i - t = i by omega]
    · rw [fz_n _ _ (by omega), hw k (by omega)]
      unfold ovr
      by_cases e2 : t ≤ k ∧ k < t + i
      · rw [if_pos e2, if_pos (by omega)]
      · rw [if_neg e2, if_neg (by omega)]
set_option maxHeartbeats 1000000 in
theorem m_fill (hK : MK M o) (hd : 20 ≤ d) (S : MS s T X dt) (G : Gt m T (pyO X)) (hm1 : 1 ≤ m) (hm2 : m ≤ 96) (O : OK3 T X) (f43 : f 43 = m) {off : Bool} (f52 : f 52 = bI off) {z t n : Int} {v : Int} (z0 : -2147483648 ≤ z) (z1 : z < 2147483648) (t0 : -2147483648 ≤ t) (t1 : t < 2147483648) (n0 : -2147483648 ≤ n) (n1 : n < 2147483648)
    (hX : wrC m off T X z t n 512 ≠ 0 → ∀ f' s' b' w', Fe f f' → f' 54 = wrC m off T X z t n 512 → (∀ x, 0 ≤ x → x < 25366 → s' x = s x) → Q (.returned (some (.int (I 0)))) (ms M o f' s' b' c w' j))
    (hR : wrC m off T X z t n 512 = 0 → ∀ l T3, rfA m X T z.toNat (wrN X z t n) = some (l, T3) → ∀ f' s' b' w', Fe f f' → f' 54 = 0 → MS s' T3 (rfX X z.toNat l (tlL (ovr (fc X dt z.toNat) t.toNat n.toNat (fby v)) (wrN X z t n)) (wrN X z t n)) (rfd dt l (ovr (fc X dt z.toNat) t.toNat n.toNat (fby v)) (wrN X z t n)) → Q (.returned (some (.int (I (wrN X z t n : Nat))))) (ms M o f' s' b' c w' j)) :
    Wp d 204 0 [some (.ref o), some (.int (I z)), some (.int (I t)), some (.int (I v)), some (.int (I n)), none] [] (ms M o f s b c w j) Q := by
  have hK' := hK
  obtain ⟨k0, k1, k2, k3, k4, k5, k6, k7, k8, k9, k10⟩ := hK
  simp (disch := first | (simp only [dd, dr]; done) | omega) only [W_204, msK, msR, msF, ms1, msS1, k0, k1, k6, I_lt, I_le, I_inj, inB_I, tc_I, Int.toNat_natCast, fkt, rf1, rf0, cq, Nat.reduceAdd, Nat.reduceEqDiff, Int.reduceToNat, eq_self, true_and, and_true, true_or, or_true, bI_0, bI_1, mm, rAm, mF_sF, mR_sR, false_and, and_false, if_false, if_true, false_or, or_false, not_true_eq_false, not_false_eq_true, and_self]
  refine ca_198 (by omega) (m_refused hK' (by omega) S O.1.1 f52 z0 z1 t0 t1 n0 n1 (v := 512) (by omega) (by omega) ?_)
  by_cases h1 : mwC off T X z t n 512 ≠ 0
  · have hc : wrC m off T X z t n 512 = mwC off T X z t n 512 := by unfold wrC; rw [if_pos h1]
    have hle : mwC off T X z t n 512 ≤ 3 := by unfold mwC; split; omega; split; split <;> omega; omega
    rw [hc] at hX
    generalize mwC off T X z t n 512 = k at *
    have hf : fu f 54 (k : Int) 54 = k := fu_s _ _ _
    simp (disch := first | (simp only [dd, dr]; done) | omega) only [W_204, msK, msR, msF, ms1, msS1, k0, k1, k6, msSF, hf, I_lt, I_le, I_inj, inB_I, tc_I, Int.toNat_natCast, fkt, rf1, rf0, cq, Nat.reduceAdd, Nat.reduceEqDiff, Int.reduceToNat, eq_self, true_and, and_true, true_or, or_true, bI_0, bI_1, mm, rAm, mF_sF, mR_sR, false_and, and_false, if_false, if_true, false_or, or_false, not_true_eq_false, not_false_eq_true, and_self]
    refine ⟨(fun h => by first | exact False.elim h | exact absurd trivial h | (exfalso; omega) | exact absurd rfl h | cases h), fun _ => ?_⟩
    simp (disch := first | (simp only [dd, dr]; done) | omega) only [W_204, I_lt, I_le, I_inj, inB_I, tc_I, Int.toNat_natCast, fkt, rf1, rf0, cq, Nat.reduceAdd, Nat.reduceEqDiff, Int.reduceToNat, eq_self, true_and, and_true, true_or, or_true, bI_0, bI_1, mm, rAm, mF_sF, mR_sR, false_and, and_false, if_false, if_true, false_or, or_false, not_true_eq_false, not_false_eq_true, and_self]
    exact hX h1 _ s b w (fun g _ h _ => fu_n _ _ h) hf (fun _ _ _ => rfl)
  have h1 : mwC off T X z t n 512 = 0 := by omega
  rw [h1]
  unfold wrC at hX hR
  rw [if_neg (by omega)] at hX hR
  obtain ⟨hoff0, zo, t, n, rfl, rfl, rfl, o1, o2, o3, o4, ht, hn1, hn2, hn3⟩ := mwC_0 h1
  unfold wrN at hX hR
  simp only [Int.toNat_natCast] at *
  have hO := O.fo zo o2 o3 o4
  have hs := hO.1
  have hf : fu f 54 ((0 : Nat) : Int) 54 = 0 := fu_s _ _ _
  simp (disch := first | (simp only [dd, dr]; done) | omega) only [W_204, msK, msR, msF, ms1, msS1, k0, k1, k6, msSF, hf, I_lt, I_le, I_inj, inB_I, tc_I, Int.toNat_natCast, fkt, rf1, rf0, cq, Nat.reduceAdd, Nat.reduceEqDiff, Int.reduceToNat, eq_self, true_and, and_true, true_or, or_true, bI_0, bI_1, mm, rAm, mF_sF, mR_sR, false_and, and_false, if_false, if_true, false_or, or_false, not_true_eq_false, not_false_eq_true, and_self]
  refine ⟨fun _ => ?_, (fun h => by first | exact False.elim h | exact absurd trivial h | (exfalso; omega) | exact absurd rfl h | cases h)⟩
  simp (disch := first | (simp only [dd, dr]; done) | omega) only [W_204, msK, msR, msF, ms1, msS1, k0, k1, k6, I_lt, I_le, I_inj, inB_I, tc_I, Int.toNat_natCast, fkt, rf1, rf0, cq, Nat.reduceAdd, Nat.reduceEqDiff, Int.reduceToNat, eq_self, true_and, and_true, true_or, or_true, bI_0, bI_1, mm, rAm, mF_sF, mR_sR, false_and, and_false, if_false, if_true, false_or, or_false, not_true_eq_false, not_false_eq_true, and_self]
  refine ca_166 (by omega) (m_begin hK' (by omega) ?_)
  generalize hb1 : kp s b = b1
  have hb1x : ∀ x, 0 ≤ x → x < 25366 → b1 x = s x := fun x _ h => by rw [← hb1]; unfold kp; rw [if_pos h]
  generalize hf1 : fu (fu f 54 ((0 : Nat) : Int)) 47 0 = f1
  have g47 : f1 47 = 0 := by rw [← hf1, fu_s]
  have g54 : f1 54 = 0 := by rw [← hf1, fu_n _ _ (by omega), fu_s]; rfl
  have g43 : f1 43 = m := by rw [← hf1, fu_n _ _ (by omega), fu_n _ _ (by omega)]; exact f43
  have ge : Fe f f1 := fun g a1 a2 _ => by rw [← hf1, fu_n _ _ a1, fu_n _ _ a2]
  clear hf1 hb1
  simp (disch := first | (simp only [dd, dr]; done) | omega) only [W_204, msK, msR, msF, ms1, msS1, k0, k1, k6, I_lt, I_le, I_inj, inB_I, tc_I, Int.toNat_natCast, fkt, rf1, rf0, cq, Nat.reduceAdd, Nat.reduceEqDiff, Int.reduceToNat, eq_self, true_and, and_true, true_or, or_true, bI_0, bI_1, mm, rAm, mF_sF, mR_sR, false_and, and_false, if_false, if_true, false_or, or_false, not_true_eq_false, not_false_eq_true, and_self]
  refine ca_199 (by omega) (m_gather hK' (by omega) S o2 o3 hO (fun w1 hw1 => ?_))
  simp (disch := first | (simp only [dd, dr]; done) | omega) only [W_204, I_lt, I_le, I_inj, inB_I, tc_I, Int.toNat_natCast, fkt, rf1, rf0, cq, Nat.reduceAdd, Nat.reduceEqDiff, Int.reduceToNat, eq_self, true_and, and_true, true_or, or_true, bI_0, bI_1, mm, rAm, mF_sF, mR_sR, false_and, and_false, if_false, if_true, false_or, or_false, not_true_eq_false, not_false_eq_true, and_self]
  suffices H : ∀ N (i : Nat) (w2 : Int → Int), i + N = n → (∀ k : Nat, (k < oS X zo ∨ (t ≤ k ∧ k < t + i)) → w2 k = (ovr (fc X dt zo) t i (fby v) k : Nat)) → Wp d 204 36 [some (.ref o), some (.int (I (zo : Nat))), some (.int (I (t : Nat))), some (.int (I v)), some (.int (I (n : Nat))), some (.int (I (i : Nat)))] [] (ms M o f1 s b1 c w2 j) Q by
    exact H n 0 w1 (by omega) (fun k hk => by
      unfold ovr
      rw [if_neg (by omega)]
      exact hw1 k (by omega))
  intro N
  induction N with
  | zero =>
    intro i w2 hi hw
    obtain rfl : i = n := by omega
    simp (disch := first | (simp only [dd, dr]; done) | omega) only [w_204_36, W_204, I_lt, I_le, I_inj, inB_I, tc_I, Int.toNat_natCast, fkt, rf1, rf0, cq, Nat.reduceAdd, Nat.reduceEqDiff, Int.reduceToNat, eq_self, true_and, and_true, true_or, or_true, bI_0, bI_1, mm, rAm, mF_sF, mR_sR, false_and, and_false, if_false, if_true, false_or, or_false, not_true_eq_false, not_false_eq_true, and_self]
    refine ⟨fun _ => ?_, (fun h => by first | exact False.elim h | exact absurd trivial h | (exfalso; omega) | exact absurd rfl h | cases h)⟩
    simp (disch := first | (simp only [dd, dr]; done) | omega) only [W_204, msK, msR, msF, ms1, msS1, k0, k1, k6, I_lt, I_le, I_inj, inB_I, tc_I, Int.toNat_natCast, fkt, rf1, rf0, cq, Nat.reduceAdd, Nat.reduceEqDiff, Int.reduceToNat, eq_self, true_and, and_true, true_or, or_true, bI_0, bI_1, mm, rAm, mF_sF, mR_sR, false_and, and_false, if_false, if_true, false_or, or_false, not_true_eq_false, not_false_eq_true, and_self]
    rw [show (t : Int) + (i : Int) = ((t + i : Nat) : Int) by omega]
    refine ca_201 (by omega) (m_change (F := ovr (fc X dt zo) t i (fby v)) hK' (by omega) S G hm1 hm2 O o2 o3 o4 (by omega) g43 g47 (fun k hk => hw k (by omega)) (fun hn s' => ?_) (fun l T3 hg s' S' => ?_))
    · simp (disch := first | (simp only [dd, dr]; done) | omega) only [W_204, I_lt, I_le, I_inj, inB_I, tc_I, Int.toNat_natCast, fkt, rf1, rf0, cq, Nat.reduceAdd, Nat.reduceEqDiff, Int.reduceToNat, eq_self, true_and, and_true, true_or, or_true, bI_0, bI_1, mm, rAm, mF_sF, mR_sR, false_and, and_false, if_false, if_true, false_or, or_false, not_true_eq_false, not_false_eq_true, and_self]
      rw [if_pos hn] at hX
      refine hX (by omega) _ _ b1 w2 (fun g a1 a2 a3 => ?_) ?_ (fun x a1 a2 => ?_)
      · rw [fu_n _ _ a2, fu_n _ _ a1]; exact ge g a1 a2 a3
      · rw [fu_s]; rfl
      · unfold kp; rw [if_pos a2]; exact hb1x x a1 a2
    · simp (disch := first | (simp only [dd, dr]; done) | omega) only [W_204, I_lt, I_le, I_inj, inB_I, tc_I, Int.toNat_natCast, fkt, rf1, rf0, cq, Nat.reduceAdd, Nat.reduceEqDiff, Int.reduceToNat, eq_self, true_and, and_true, true_or, or_true, bI_0, bI_1, mm, rAm, mF_sF, mR_sR, false_and, and_false, if_false, if_true, false_or, or_false, not_true_eq_false, not_false_eq_true, and_self]
      rw [if_neg (by rw [hg]; simp)] at hR
      exact hR rfl l T3 hg f1 s' b1 w2 ge g54 S'
  | succ N ih =>
    intro i w2 hi hw
    have e4 : ∀ z : Int, sA (ms M o f1 s b1 c w2 j) (o + 4) (t + i) (I z) = ms M o f1 s b1 c (fz w2 ((t + i : Nat) : Int) z) j := fun z => by
      have := msS4 M o f1 s b1 c w2 j (z := ((t + i : Nat) : Int)) (by omega) z
      rw [Int.toNat_natCast] at this
      exact this
    have ea : (t : Int) + (i : Int) = ((t + i : Nat) : Int) := by omega
    simp (disch := first | (simp only [dd, dr]; done) | omega) only [w_204_36, W_204, I_lt, I_le, I_inj, inB_I, tc_I, Int.toNat_natCast, fkt, rf1, rf0, cq, Nat.reduceAdd, Nat.reduceEqDiff, Int.reduceToNat, eq_self, true_and, and_true, true_or, or_true, bI_0, bI_1, mm, rAm, mF_sF, mR_sR, false_and, and_false, if_false, if_true, false_or, or_false, not_true_eq_false, not_false_eq_true, and_self]
    refine ⟨(fun h => by first | exact False.elim h | exact absurd trivial h | (exfalso; omega) | exact absurd rfl h | cases h), fun _ => ?_⟩
    simp (disch := first | (simp only [dd, dr]; done) | omega) only [W_204, msK, msR, msF, ms1, msS1, k0, k1, k6, k4, k9, ea, fby_m, e4, I_lt, I_le, I_inj, inB_I, tc_I, Int.toNat_natCast, fkt, rf1, rf0, cq, Nat.reduceAdd, Nat.reduceEqDiff, Int.reduceToNat, eq_self, true_and, and_true, true_or, or_true, bI_0, bI_1, mm, rAm, mF_sF, mR_sR, false_and, and_false, if_false, if_true, false_or, or_false, not_true_eq_false, not_false_eq_true, and_self]
    rw [show ((i : Int) + 1) = ((i + 1 : Nat) : Int) by omega]
    refine ih (i + 1) _ (by omega) (fun k hk => ?_)
    by_cases e : k = t + i
    · rw [e, fz_e _ _ rfl]
      unfold ovr
      rw [if_pos (by omega), show t + i - t = i by omega]
    · rw [fz_n _ _ (by omega), hw k (by omega)]
      unfold ovr
      by_cases e2 : t ≤ k ∧ k < t + i
      · rw [if_pos e2, if_pos (by omega)]
      · rw [if_neg e2, if_neg (by omega)]
set_option maxHeartbeats 1000000 in
theorem m_cut (hK : MK M o) (hd : 20 ≤ d) (S : MS s T X dt) (G : Gt m T (pyO X)) (hm1 : 1 ≤ m) (hm2 : m ≤ 96) (O : OK3 T X) (f43 : f 43 = m) {off : Bool} (f52 : f 52 = bI off) {z n : Int} (z0 : -2147483648 ≤ z) (z1 : z < 2147483648) (n0 : -2147483648 ≤ n) (n1 : n < 2147483648)
    (hX : cuC m off T X z n ≠ 0 → ∀ f' s' b' w', Fe f f' → f' 54 = cuC m off T X z n → (∀ x, 0 ≤ x → x < 25366 → s' x = s x) → Q (.returned (some (.int (I 0)))) (ms M o f' s' b' c w' j))
    (hR : cuC m off T X z n = 0 → ∀ l T3, rfA m X T z.toNat n.toNat = some (l, T3) → ∀ f' s' b' w', Fe f f' → f' 54 = 0 → MS s' T3 (rfX X z.toNat l (tlL (fc X dt z.toNat) n.toNat) n.toNat) (rfd dt l (fc X dt z.toNat) n.toNat) → Q (.returned (some (.int (I (dtO n.toNat : Nat))))) (ms M o f' s' b' c w' j)) :
    Wp d 205 0 [some (.ref o), some (.int (I z)), some (.int (I n))] [] (ms M o f s b c w j) Q := by
  have hK' := hK
  obtain ⟨k0, k1, k2, k3, k4, k5, k6, k7, k8, k9, k10⟩ := hK
  have ref : ∀ (k : Nat), 1 ≤ k → k ≤ 3 → cuC m off T X z n = k → Q (.returned (some (.int (I 0)))) (ms M o (fu f 54 (k : Int)) s b c w j) := by
    intro k h1 h2 hk
    have hf : fu f 54 (k : Int) 54 = k := fu_s _ _ _
    exact hX (by omega) _ s b w (fun g _ h _ => fu_n _ _ h) (by rw [hk]; exact hf) (fun _ _ _ => rfl)
  unfold cuC at hX hR ref
  simp (disch := first | (simp only [dd, dr]; done) | omega) only [W_205, msK, msR, msF, ms1, msS1, k0, k1, k6, f52, I_lt, I_le, I_inj, inB_I, tc_I, Int.toNat_natCast, fkt, rf1, rf0, cq, Nat.reduceAdd, Nat.reduceEqDiff, Int.reduceToNat, eq_self, true_and, and_true, true_or, or_true, bI_0, bI_1, mm, rAm, mF_sF, mR_sR, false_and, and_false, if_false, if_true, false_or, or_false, not_true_eq_false, not_false_eq_true, and_self]
  refine ⟨fun h1 => ?_, fun h1 => ?_⟩
  rotate_left
  · have h1 : off = true := by simpa using h1
    have hf : fu f 54 (1 : Int) 54 = 1 := fu_s _ _ _
    simp (disch := first | (simp only [dd, dr]; done) | omega) only [W_205, msK, msR, msF, ms1, msS1, k0, k1, k6, msSF, hf, I_lt, I_le, I_inj, inB_I, tc_I, Int.toNat_natCast, fkt, rf1, rf0, cq, Nat.reduceAdd, Nat.reduceEqDiff, Int.reduceToNat, eq_self, true_and, and_true, true_or, or_true, bI_0, bI_1, mm, rAm, mF_sF, mR_sR, false_and, and_false, if_false, if_true, false_or, or_false, not_true_eq_false, not_false_eq_true, and_self]
    refine ⟨(fun h => by first | exact False.elim h | exact absurd trivial h | (exfalso; omega) | exact absurd rfl h | cases h), fun _ => ?_⟩
    simp (disch := first | (simp only [dd, dr]; done) | omega) only [W_205, I_lt, I_le, I_inj, inB_I, tc_I, Int.toNat_natCast, fkt, rf1, rf0, cq, Nat.reduceAdd, Nat.reduceEqDiff, Int.reduceToNat, eq_self, true_and, and_true, true_or, or_true, bI_0, bI_1, mm, rAm, mF_sF, mR_sR, false_and, and_false, if_false, if_true, false_or, or_false, not_true_eq_false, not_false_eq_true, and_self]
    exact ref 1 (by omega) (by omega) (by rw [if_pos h1])
  have h1' : ¬ off = true := by rw [h1]; simp
  simp (disch := first | (simp only [dd, dr]; done) | omega) only [W_205, msK, msR, msF, ms1, msS1, k0, k1, k6, I_lt, I_le, I_inj, inB_I, tc_I, Int.toNat_natCast, fkt, rf1, rf0, cq, Nat.reduceAdd, Nat.reduceEqDiff, Int.reduceToNat, eq_self, true_and, and_true, true_or, or_true, bI_0, bI_1, mm, rAm, mF_sF, mR_sR, false_and, and_false, if_false, if_true, false_or, or_false, not_true_eq_false, not_false_eq_true, and_self]
  refine ca_185 (by omega) (m_isFile hK' (by omega) S O.1.1 z0 z1 ?_)
  simp (disch := first | (simp only [dd, dr]; done) | omega) only [W_205, I_lt, I_le, I_inj, inB_I, tc_I, Int.toNat_natCast, fkt, rf1, rf0, cq, Nat.reduceAdd, Nat.reduceEqDiff, Int.reduceToNat, eq_self, true_and, and_true, true_or, or_true, bI_0, bI_1, mm, rAm, mF_sF, mR_sR, false_and, and_false, if_false, if_true, false_or, or_false, not_true_eq_false, not_false_eq_true, and_self]
  refine ⟨fun h2 => ?_, fun h2 => ?_⟩
  rotate_left
  · have h2 : isk T X z 1 = false := by simpa using h2
    have hf : fu f 54 (2 : Int) 54 = 2 := fu_s _ _ _
    simp (disch := first | (simp only [dd, dr]; done) | omega) only [W_205, msK, msR, msF, ms1, msS1, k0, k1, k6, msSF, hf, I_lt, I_le, I_inj, inB_I, tc_I, Int.toNat_natCast, fkt, rf1, rf0, cq, Nat.reduceAdd, Nat.reduceEqDiff, Int.reduceToNat, eq_self, true_and, and_true, true_or, or_true, bI_0, bI_1, mm, rAm, mF_sF, mR_sR, false_and, and_false, if_false, if_true, false_or, or_false, not_true_eq_false, not_false_eq_true, and_self]
    refine ⟨(fun h => by first | exact False.elim h | exact absurd trivial h | (exfalso; omega) | exact absurd rfl h | cases h), fun _ => ?_⟩
    simp (disch := first | (simp only [dd, dr]; done) | omega) only [W_205, I_lt, I_le, I_inj, inB_I, tc_I, Int.toNat_natCast, fkt, rf1, rf0, cq, Nat.reduceAdd, Nat.reduceEqDiff, Int.reduceToNat, eq_self, true_and, and_true, true_or, or_true, bI_0, bI_1, mm, rAm, mF_sF, mR_sR, false_and, and_false, if_false, if_true, false_or, or_false, not_true_eq_false, not_false_eq_true, and_self]
    exact ref 2 (by omega) (by omega) (by rw [if_neg h1', if_neg (by rw [h2]; simp)])
  have h2 : isk T X z 1 = true := by simpa using h2
  rw [if_neg h1', if_pos h2] at hX hR ref
  obtain ⟨zo, rfl, o1, o2, o3, o4⟩ := isk_of h2
  simp only [Int.toNat_natCast] at *
  obtain ⟨x1, x2, x3, _⟩ := S.2.2.1 zo (by omega) o3
  obtain ⟨zo1, zo2, zo3, zo4⟩ := O.1.1 zo (by omega) o3
  simp (disch := first | (simp only [dd, dr]; done) | omega) only [W_205, msK, msR, msF, ms1, msS1, k0, k1, k6, x2, I_lt, I_le, I_inj, inB_I, tc_I, Int.toNat_natCast, fkt, rf1, rf0, cq, Nat.reduceAdd, Nat.reduceEqDiff, Int.reduceToNat, eq_self, true_and, and_true, true_or, or_true, bI_0, bI_1, mm, rAm, mF_sF, mR_sR, false_and, and_false, if_false, if_true, false_or, or_false, not_true_eq_false, not_false_eq_true, and_self]
  refine ca_159 (by omega) (m_isIn (by omega) (by omega) (by omega) (by omega) (by omega) (by omega) ?_)
  simp (disch := first | (simp only [dd, dr]; done) | omega) only [W_205, I_lt, I_le, I_inj, inB_I, tc_I, Int.toNat_natCast, fkt, rf1, rf0, cq, Nat.reduceAdd, Nat.reduceEqDiff, Int.reduceToNat, eq_self, true_and, and_true, true_or, or_true, bI_0, bI_1, mm, rAm, mF_sF, mR_sR, false_and, and_false, if_false, if_true, false_or, or_false, not_true_eq_false, not_false_eq_true, and_self]
  refine ⟨fun h3 => ?_, fun h3 => ?_⟩
  rotate_left
  · have h3 : ¬ (0 ≤ n ∧ n ≤ (oS X zo : Int)) := by simpa using h3
    have hf : fu f 54 (3 : Int) 54 = 3 := fu_s _ _ _
    simp (disch := first | (simp only [dd, dr]; done) | omega) only [W_205, msK, msR, msF, ms1, msS1, k0, k1, k6, msSF, hf, I_lt, I_le, I_inj, inB_I, tc_I, Int.toNat_natCast, fkt, rf1, rf0, cq, Nat.reduceAdd, Nat.reduceEqDiff, Int.reduceToNat, eq_self, true_and, and_true, true_or, or_true, bI_0, bI_1, mm, rAm, mF_sF, mR_sR, false_and, and_false, if_false, if_true, false_or, or_false, not_true_eq_false, not_false_eq_true, and_self]
    refine ⟨(fun h => by first | exact False.elim h | exact absurd trivial h | (exfalso; omega) | exact absurd rfl h | cases h), fun _ => ?_⟩
    simp (disch := first | (simp only [dd, dr]; done) | omega) only [W_205, I_lt, I_le, I_inj, inB_I, tc_I, Int.toNat_natCast, fkt, rf1, rf0, cq, Nat.reduceAdd, Nat.reduceEqDiff, Int.reduceToNat, eq_self, true_and, and_true, true_or, or_true, bI_0, bI_1, mm, rAm, mF_sF, mR_sR, false_and, and_false, if_false, if_true, false_or, or_false, not_true_eq_false, not_false_eq_true, and_self]
    exact ref 3 (by omega) (by omega) (by rw [if_neg h3])
  have h3 : 0 ≤ n ∧ n ≤ (oS X zo : Int) := by simpa using h3
  rw [if_pos h3] at hX hR
  clear ref
  obtain ⟨nn, rfl⟩ : ∃ nn : Nat, n = nn := ⟨n.toNat, by omega⟩
  simp only [Int.toNat_natCast] at *
  have hO := O.fo zo o2 o3 o4
  have hs := hO.1
  have hf : fu f 54 (0 : Int) 54 = 0 := fu_s _ _ _
  simp (disch := first | (simp only [dd, dr]; done) | omega) only [W_205, msK, msR, msF, ms1, msS1, k0, k1, k6, msSF, hf, I_lt, I_le, I_inj, inB_I, tc_I, Int.toNat_natCast, fkt, rf1, rf0, cq, Nat.reduceAdd, Nat.reduceEqDiff, Int.reduceToNat, eq_self, true_and, and_true, true_or, or_true, bI_0, bI_1, mm, rAm, mF_sF, mR_sR, false_and, and_false, if_false, if_true, false_or, or_false, not_true_eq_false, not_false_eq_true, and_self]
  refine ⟨fun _ => ?_, (fun h => by first | exact False.elim h | exact absurd trivial h | (exfalso; omega) | exact absurd rfl h | cases h)⟩
  simp (disch := first | (simp only [dd, dr]; done) | omega) only [W_205, msK, msR, msF, ms1, msS1, k0, k1, k6, I_lt, I_le, I_inj, inB_I, tc_I, Int.toNat_natCast, fkt, rf1, rf0, cq, Nat.reduceAdd, Nat.reduceEqDiff, Int.reduceToNat, eq_self, true_and, and_true, true_or, or_true, bI_0, bI_1, mm, rAm, mF_sF, mR_sR, false_and, and_false, if_false, if_true, false_or, or_false, not_true_eq_false, not_false_eq_true, and_self]
  refine ca_166 (by omega) (m_begin hK' (by omega) ?_)
  generalize hb1 : kp s b = b1
  have hb1x : ∀ x, 0 ≤ x → x < 25366 → b1 x = s x := fun x _ h => by rw [← hb1]; unfold kp; rw [if_pos h]
  generalize hf1 : fu (fu f 54 (0 : Int)) 47 0 = f1
  have g47 : f1 47 = 0 := by rw [← hf1, fu_s]
  have g54 : f1 54 = 0 := by rw [← hf1, fu_n _ _ (by omega), fu_s]
  have g43 : f1 43 = m := by rw [← hf1, fu_n _ _ (by omega), fu_n _ _ (by omega)]; exact f43
  have ge : Fe f f1 := fun g a1 a2 _ => by rw [← hf1, fu_n _ _ a1, fu_n _ _ a2]
  clear hf1 hb1
  simp (disch := first | (simp only [dd, dr]; done) | omega) only [W_205, msK, msR, msF, ms1, msS1, k0, k1, k6, I_lt, I_le, I_inj, inB_I, tc_I, Int.toNat_natCast, fkt, rf1, rf0, cq, Nat.reduceAdd, Nat.reduceEqDiff, Int.reduceToNat, eq_self, true_and, and_true, true_or, or_true, bI_0, bI_1, mm, rAm, mF_sF, mR_sR, false_and, and_false, if_false, if_true, false_or, or_false, not_true_eq_false, not_false_eq_true, and_self]
  refine ca_199 (by omega) (m_gather hK' (by omega) S o2 o3 hO (fun w1 hw1 => ?_))
  simp (disch := first | (simp only [dd, dr]; done) | omega) only [W_205, msK, msR, msF, ms1, msS1, k0, k1, k6, I_lt, I_le, I_inj, inB_I, tc_I, Int.toNat_natCast, fkt, rf1, rf0, cq, Nat.reduceAdd, Nat.reduceEqDiff, Int.reduceToNat, eq_self, true_and, and_true, true_or, or_true, bI_0, bI_1, mm, rAm, mF_sF, mR_sR, false_and, and_false, if_false, if_true, false_or, or_false, not_true_eq_false, not_false_eq_true, and_self]
  refine ca_202 (by omega) (m_lay (F := fc X dt zo) hK' (by omega) S G hm1 hm2 O o2 o3 o4 (by omega) g43 g47 (fun k hk => hw1 k (by omega)) (fun hn s' => ?_) (fun l T3 hg hk3 s' S' => ?_))
  · simp (disch := first | (simp only [dd, dr]; done) | omega) only [W_205, msK, msR, msF, ms1, msS1, k0, k1, k6, I_lt, I_le, I_inj, inB_I, tc_I, Int.toNat_natCast, fkt, rf1, rf0, cq, Nat.reduceAdd, Nat.reduceEqDiff, Int.reduceToNat, eq_self, true_and, and_true, true_or, or_true, bI_0, bI_1, mm, rAm, mF_sF, mR_sR, false_and, and_false, if_false, if_true, false_or, or_false, not_true_eq_false, not_false_eq_true, and_self]
    refine ca_183 (by omega) (m_ended hK' (by omega) (fun h => ?_) (fun h => ?_) (.inr (fu_s _ _ _)))
    · rw [fu_s] at h; cases h
    · simp (disch := first | (simp only [dd, dr]; done) | omega) only [W_205, I_lt, I_le, I_inj, inB_I, tc_I, Int.toNat_natCast, fkt, rf1, rf0, cq, Nat.reduceAdd, Nat.reduceEqDiff, Int.reduceToNat, eq_self, true_and, and_true, true_or, or_true, bI_0, bI_1, mm, rAm, mF_sF, mR_sR, false_and, and_false, if_false, if_true, false_or, or_false, not_true_eq_false, not_false_eq_true, and_self]
      refine ⟨fun _ => ?_, (fun h => by first | exact False.elim h | exact absurd trivial h | (exfalso; omega) | exact absurd rfl h | cases h)⟩
      simp (disch := first | (simp only [dd, dr]; done) | omega) only [W_205, I_lt, I_le, I_inj, inB_I, tc_I, Int.toNat_natCast, fkt, rf1, rf0, cq, Nat.reduceAdd, Nat.reduceEqDiff, Int.reduceToNat, eq_self, true_and, and_true, true_or, or_true, bI_0, bI_1, mm, rAm, mF_sF, mR_sR, false_and, and_false, if_false, if_true, false_or, or_false, not_true_eq_false, not_false_eq_true, and_self]
      rw [if_pos hn] at hX
      refine hX (by omega) _ _ b1 w1 (fun g a1 a2 a3 => ?_) ?_ (fun x a1 a2 => ?_)
      · rw [fu_n _ _ a2, fu_n _ _ a1]; exact ge g a1 a2 a3
      · rw [fu_s]; rfl
      · unfold kp; rw [if_pos a2]; exact hb1x x a1 a2
  · simp (disch := first | (simp only [dd, dr]; done) | omega) only [W_205, msK, msR, msF, ms1, msS1, k0, k1, k6, I_lt, I_le, I_inj, inB_I, tc_I, Int.toNat_natCast, fkt, rf1, rf0, cq, Nat.reduceAdd, Nat.reduceEqDiff, Int.reduceToNat, eq_self, true_and, and_true, true_or, or_true, bI_0, bI_1, mm, rAm, mF_sF, mR_sR, false_and, and_false, if_false, if_true, false_or, or_false, not_true_eq_false, not_false_eq_true, and_self]
    refine ca_183 (by omega) (m_ended hK' (by omega) (fun h => ?_) (fun h => ?_) (.inl g47))
    rotate_left
    · rw [g47] at h; cases h
    have hll : l.length = dtO nn := by
      unfold rfA at hg
      cases hr : rfT m X T zo nn with
      | none => rw [hr] at hg; cases hg
      | some r =>
        obtain ⟨l', T1⟩ := r
        rw [hr] at hg
        simp only at hg
        have hl' := (rfT_at hr).1
        split at hg
        · split at hg
          · obtain ⟨e1, e2⟩ := Prod.mk.inj (Option.some.inj hg)
            rw [← e1]; exact hl'
          · cases hg
        · cases hg
    have es : s' (279 + (zo : Int)) = (dtO nn : Nat) := by
      have := (S'.2.2.1 zo (by omega) hk3).2.2.1
      rw [show oD (rfX X zo l (tlL (fc X dt zo) nn) nn) zo = l from fu_s _ _ _, hll] at this
      exact this
    simp (disch := first | (simp only [dd, dr]; done) | omega) only [W_205, I_lt, I_le, I_inj, inB_I, tc_I, Int.toNat_natCast, fkt, rf1, rf0, cq, Nat.reduceAdd, Nat.reduceEqDiff, Int.reduceToNat, eq_self, true_and, and_true, true_or, or_true, bI_0, bI_1, mm, rAm, mF_sF, mR_sR, false_and, and_false, if_false, if_true, false_or, or_false, not_true_eq_false, not_false_eq_true, and_self]
    refine ⟨(fun h => by first | exact False.elim h | exact absurd trivial h | (exfalso; omega) | exact absurd rfl h | cases h), fun _ => ?_⟩
    simp (disch := first | (simp only [dd, dr]; done) | omega) only [W_205, msK, msR, msF, ms1, msS1, k0, k1, k6, es, I_lt, I_le, I_inj, inB_I, tc_I, Int.toNat_natCast, fkt, rf1, rf0, cq, Nat.reduceAdd, Nat.reduceEqDiff, Int.reduceToNat, eq_self, true_and, and_true, true_or, or_true, bI_0, bI_1, mm, rAm, mF_sF, mR_sR, false_and, and_false, if_false, if_true, false_or, or_false, not_true_eq_false, not_false_eq_true, and_self]
    rw [if_neg (by rw [hg]; simp)] at hR
    exact hR rfl l T3 hg f1 s' b1 w1 ge g54 S'
end Mwr
