/-! ===== THE MODEL: lay, the whole ===== -/
section Mly2
variable {d : Nat} {M : Mem} {Q : Outcome → Mem → Prop} {o : Nat} {f : Nat → Int} {s s' b c w : Int → Int} {j : Nat → Bool} {T T' T1 T2 : Tr} {X X' : Ob} {dt : Nat → Nat → Nat} {m : Nat} {sz tl : Nat → Nat}
set_option maxHeartbeats 1000000 in
/-- bytes are laid -/
theorem ly_185 (hK : MK M o) {v n had tail has : Nat} {F : Nat → Nat} (hv : v < 61) (hh : has ≤ 16) (hn : n ≤ 2048) (hF : ∀ i : Nat, i < n → w i = (F i : Nat)) {l : List Nat} (hl : l.length = has) (B : BL T l) {s3 : Int → Int} (eD : La s3 (340 + 16 * (v : Int)) l) : ∀ (N k : Nat) (s4 : Int → Int), k + N = 128 * has → (∀ x, x < 13078 → s4 x = s3 x) → (∀ i y j : Nat, l[i]? = some y → j < 128 → 128 * i + j < k → s4 (13078 + 128 * (y : Int) + (j : Int)) = (drf F n i j : Nat)) → (∀ y j : Nat, y ∉ l → j < 128 → s4 (13078 + 128 * (y : Int) + (j : Int)) = s3 (13078 + 128 * (y : Int) + (j : Int))) →
    (∀ (s5 : Int → Int), (∀ x, x < 13078 → s5 x = s3 x) → (∀ i y j : Nat, l[i]? = some y → j < 128 → s5 (13078 + 128 * (y : Int) + (j : Int)) = (drf F n i j : Nat)) → (∀ y j : Nat, y ∉ l → j < 128 → s5 (13078 + 128 * (y : Int) + (j : Int)) = s3 (13078 + 128 * (y : Int) + (j : Int))) → Wp d 202 262 [some (.ref o), some (.int (I (v : Nat))), some (.int (I (n : Nat))), some (.int (I (had : Nat))), some (.int (I (tail : Nat))), some (.int (I (has : Nat))), some (.int (I 0))] [] (ms M o f s5 b c w j) Q) →
    Wp d 202 185 [some (.ref o), some (.int (I (v : Nat))), some (.int (I (n : Nat))), some (.int (I (had : Nat))), some (.int (I (tail : Nat))), some (.int (I (has : Nat))), some (.int (I (k : Nat)))] [] (ms M o f s4 b c w j) Q
  | 0, k, s4, hk, h1, h2, h3, hQ => by
    have hK' := hK
    obtain ⟨k0, k1, k2, k3, k4, k5, k6, k7, k8, k9, k10⟩ := hK
    simp (disch := first | (simp only [dd, dr]; done) | omega) only [w_202_185, W_202, I_lt, I_le, I_inj, inB_I, tc_I, Int.toNat_natCast, fkt, rf1, rf0, cq, Nat.reduceAdd, Nat.reduceEqDiff, Int.reduceToNat, eq_self, true_and, and_true, true_or, or_true, bI_0, bI_1, mm, rAm, mF_sF, mR_sR, false_and, and_false, if_false, if_true, false_or, or_false, not_true_eq_false, not_false_eq_true, and_self]
    refine ⟨fun _ => ?_, (fun h => by first | exact False.elim h | exact absurd trivial h | (exfalso; omega) | exact absurd rfl h | cases h)⟩
    simp (disch := first | (simp only [dd, dr]; done) | omega) only [W_202, I_lt, I_le, I_inj, inB_I, tc_I, Int.toNat_natCast, fkt, rf1, rf0, cq, Nat.reduceAdd, Nat.reduceEqDiff, Int.reduceToNat, eq_self, true_and, and_true, true_or, or_true, bI_0, bI_1, mm, rAm, mF_sF, mR_sR, false_and, and_false, if_false, if_true, false_or, or_false, not_true_eq_false, not_false_eq_true, and_self]
    exact hQ s4 h1 (fun i y j hi hj => h2 i y j hi hj (by have := (List.getElem?_eq_some_iff.mp hi).1; omega)) h3
  | N + 1, k, s4, hk, h1, h2, h3, hQ => by
    have hK' := hK
    obtain ⟨k0, k1, k2, k3, k4, k5, k6, k7, k8, k9, k10⟩ := hK
    have hlt : k / 128 < l.length := by omega
    have hx : l[k / 128]? = some l[k / 128] := List.getElem?_eq_getElem hlt
    generalize l[k / 128] = x at hx
    obtain ⟨b1, b2, b3, b4⟩ := B.2 _ (List.mem_of_getElem? hx)
    have hdv : (k : Int) / 128 = ((k / 128 : Nat) : Int) := by omega
    have hmd : (k : Int) % 128 = ((k % 128 : Nat) : Int) := by omega
    have ex : s4 (340 + 16 * (v : Int) + ((k / 128 : Nat) : Int)) = x := by rw [h1 _ (by omega)]; exact eD _ _ hx
    have next : ∀ vz : Int, vz = (drf F n (k / 128) (k % 128) : Nat) → Wp d 202 185 [some (.ref o), some (.int (I (v : Nat))), some (.int (I (n : Nat))), some (.int (I (had : Nat))), some (.int (I (tail : Nat))), some (.int (I (has : Nat))), some (.int (I ((k : Int) + 1)))] [] (ms M o f (fz s4 (13078 + 128 * (x : Int) + ((k % 128 : Nat) : Int)) vz) b c w j) Q := by
      intro vz hvz
      rw [show ((k : Int) + 1) = ((k + 1 : Nat) : Int) by omega]
      refine ly_185 hK' hv hh hn hF hl B eD N (k + 1) _ (by omega) (fun y hy => by rw [fz_n _ _ (by omega)]; exact h1 y hy) (fun i y j hi hj hij => ?_) (fun y j hy hj => ?_) hQ
      · by_cases e : 128 * i + j = k
        · have ei : i = k / 128 := by omega
          have ej : j = k % 128 := by omega
          rw [ei, hx] at hi
          obtain rfl := Option.some.inj hi
          rw [ej, fz_e _ _ rfl, hvz, ei]
        · by_cases e2 : y = x
          · have hil := (List.getElem?_eq_some_iff.mp hi).1
            have ei : i = k / 128 := (List.getElem?_inj hil B.1).mp (by rw [hi, hx, e2])
            rw [fz_n _ _ (by omega)]
            exact h2 i y j hi hj (by omega)
          · rw [fz_n _ _ (by omega)]
            exact h2 i y j hi hj (by omega)
      · have : y ≠ x := fun e => hy (by rw [e]; exact List.mem_of_getElem? hx)
        rw [fz_n _ _ (by omega)]
        exact h3 y j hy hj
    simp (disch := first | (simp only [dd, dr]; done) | omega) only [w_202_185, W_202, I_lt, I_le, I_inj, inB_I, tc_I, Int.toNat_natCast, fkt, rf1, rf0, cq, Nat.reduceAdd, Nat.reduceEqDiff, Int.reduceToNat, eq_self, true_and, and_true, true_or, or_true, bI_0, bI_1, mm, rAm, mF_sF, mR_sR, false_and, and_false, if_false, if_true, false_or, or_false, not_true_eq_false, not_false_eq_true, and_self]
    refine ⟨(fun h => by first | exact False.elim h | exact absurd trivial h | (exfalso; omega) | exact absurd rfl h | cases h), fun _ => ?_⟩
    simp (disch := first | (simp only [dd, dr]; done) | omega) only [W_202, msK, msR, msF, ms1, msS1, k0, k1, k6, hdv, hmd, ex, I_lt, I_le, I_inj, inB_I, tc_I, Int.toNat_natCast, fkt, rf1, rf0, cq, Nat.reduceAdd, Nat.reduceEqDiff, Int.reduceToNat, eq_self, true_and, and_true, true_or, or_true, bI_0, bI_1, mm, rAm, mF_sF, mR_sR, false_and, and_false, if_false, if_true, false_or, or_false, not_true_eq_false, not_false_eq_true, and_self]
    refine ⟨fun h => ?_, fun h => ?_⟩
    · simp (disch := first | (simp only [dd, dr]; done) | omega) only [W_202, msK, msR, msF, ms1, msS1, k0, k1, k6, I_lt, I_le, I_inj, inB_I, tc_I, Int.toNat_natCast, fkt, rf1, rf0, cq, Nat.reduceAdd, Nat.reduceEqDiff, Int.reduceToNat, eq_self, true_and, and_true, true_or, or_true, bI_0, bI_1, mm, rAm, mF_sF, mR_sR, false_and, and_false, if_false, if_true, false_or, or_false, not_true_eq_false, not_false_eq_true, and_self]
      refine next 0 ?_
      unfold drf
      rw [if_neg (by omega), if_neg (by omega)]; rfl
    · have ew : mA (ms M o f s4 b c w j) (o + 4) k = I (F k : Nat) := by
        have := ms4 M o f s4 b c w j (z := (k : Int)) (by omega)
        rw [Int.toNat_natCast] at this
        rw [this, hF k (by omega)]
      simp (disch := first | (simp only [dd, dr]; done) | omega) only [W_202, msK, msR, msF, ms1, msS1, k0, k1, k6, k4, k9, ew, I_lt, I_le, I_inj, inB_I, tc_I, Int.toNat_natCast, fkt, rf1, rf0, cq, Nat.reduceAdd, Nat.reduceEqDiff, Int.reduceToNat, eq_self, true_and, and_true, true_or, or_true, bI_0, bI_1, mm, rAm, mF_sF, mR_sR, false_and, and_false, if_false, if_true, false_or, or_false, not_true_eq_false, not_false_eq_true, and_self]
      refine next _ ?_
      unfold drf
      rw [if_neg (by omega), if_pos (by omega), show 128 * (k / 128) + k % 128 = k by omega]
set_option maxHeartbeats 1000000 in
/-- the tail is laid -/
theorem ly_262 (hK : MK M o) (hd : 2 ≤ d) {v n had tail has : Nat} {F : Nat → Nat} (hv : v < 61) (hh : has = dtO n) (hn : n ≤ 2048) (hF : ∀ i : Nat, i < n → w i = (F i : Nat)) {s5 : Int → Int} : ∀ (N k : Nat) (s6 : Int → Int), k + N = 40 → (∀ x : Int, ¬ (1316 + 40 * (v : Int) ≤ x ∧ x < 1316 + 40 * (v : Int) + 40) → s6 x = s5 x) → (∀ i : Nat, i < k → s6 (1316 + 40 * (v : Int) + (i : Int)) = ((tlL F n).getD i 0 : Nat)) →
    (∀ (s7 : Int → Int), (∀ x : Int, ¬ (1316 + 40 * (v : Int) ≤ x ∧ x < 1316 + 40 * (v : Int) + 40) → s7 x = s5 x) → (∀ i : Nat, i < 40 → s7 (1316 + 40 * (v : Int) + (i : Int)) = ((tlL F n).getD i 0 : Nat)) → Wp d 202 318 [some (.ref o), some (.int (I (v : Nat))), some (.int (I (n : Nat))), some (.int (I (had : Nat))), some (.int (I (tail : Nat))), some (.int (I (has : Nat))), some (.int (I 40))] [] (ms M o f s7 b c w j) Q) →
    Wp d 202 262 [some (.ref o), some (.int (I (v : Nat))), some (.int (I (n : Nat))), some (.int (I (had : Nat))), some (.int (I (tail : Nat))), some (.int (I (has : Nat))), some (.int (I (k : Nat)))] [] (ms M o f s6 b c w j) Q
  | 0, k, s6, hk, h1, h2, hQ => by
    have hK' := hK
    obtain ⟨k0, k1, k2, k3, k4, k5, k6, k7, k8, k9, k10⟩ := hK
    obtain rfl : k = 40 := by omega
    simp (disch := first | (simp only [dd, dr]; done) | omega) only [w_202_262, W_202, I_lt, I_le, I_inj, inB_I, tc_I, Int.toNat_natCast, fkt, rf1, rf0, cq, Nat.reduceAdd, Nat.reduceEqDiff, Int.reduceToNat, eq_self, true_and, and_true, true_or, or_true, bI_0, bI_1, mm, rAm, mF_sF, mR_sR, false_and, and_false, if_false, if_true, false_or, or_false, not_true_eq_false, not_false_eq_true, and_self]
    refine ⟨fun _ => ?_, (fun h => by first | exact False.elim h | exact absurd trivial h | (exfalso; omega) | exact absurd rfl h | cases h)⟩
    exact hQ s6 h1 h2
  | N + 1, k, s6, hk, h1, h2, hQ => by
    have hK' := hK
    obtain ⟨k0, k1, k2, k3, k4, k5, k6, k7, k8, k9, k10⟩ := hK
    have ht := tlO_le n
    have hdt := dtO_le hn
    obtain ⟨_, _, t3, _⟩ := dtO_tl (n := n)
    have next : ∀ vz : Int, vz = ((tlL F n).getD k 0 : Nat) → Wp d 202 262 [some (.ref o), some (.int (I (v : Nat))), some (.int (I (n : Nat))), some (.int (I (had : Nat))), some (.int (I (tail : Nat))), some (.int (I (has : Nat))), some (.int (I ((k : Int) + 1)))] [] (ms M o f (fz s6 (1316 + 40 * (v : Int) + (k : Int)) vz) b c w j) Q := by
      intro vz hvz
      rw [show ((k : Int) + 1) = ((k + 1 : Nat) : Int) by omega]
      refine ly_262 hK' hd hv hh hn hF N (k + 1) _ (by omega) (fun y hy => by rw [fz_n _ _ (by omega)]; exact h1 y hy) (fun i hi => ?_) hQ
      by_cases e : i = k
      · rw [e, fz_e _ _ rfl, hvz]
      · rw [fz_n _ _ (by omega)]; exact h2 i (by omega)
    simp (disch := first | (simp only [dd, dr]; done) | omega) only [w_202_262, W_202, I_lt, I_le, I_inj, inB_I, tc_I, Int.toNat_natCast, fkt, rf1, rf0, cq, Nat.reduceAdd, Nat.reduceEqDiff, Int.reduceToNat, eq_self, true_and, and_true, true_or, or_true, bI_0, bI_1, mm, rAm, mF_sF, mR_sR, false_and, and_false, if_false, if_true, false_or, or_false, not_true_eq_false, not_false_eq_true, and_self]
    refine ⟨(fun h => by first | exact False.elim h | exact absurd trivial h | (exfalso; omega) | exact absurd rfl h | cases h), fun _ => ?_⟩
    simp (disch := first | (simp only [dd, dr]; done) | omega) only [W_202, msK, msR, msF, ms1, msS1, k0, k1, k6, I_lt, I_le, I_inj, inB_I, tc_I, Int.toNat_natCast, fkt, rf1, rf0, cq, Nat.reduceAdd, Nat.reduceEqDiff, Int.reduceToNat, eq_self, true_and, and_true, true_or, or_true, bI_0, bI_1, mm, rAm, mF_sF, mR_sR, false_and, and_false, if_false, if_true, false_or, or_false, not_true_eq_false, not_false_eq_true, and_self]
    refine ca_192 (by omega) (m_tailOf (by omega) ?_)
    simp (disch := first | (simp only [dd, dr]; done) | omega) only [W_202, I_lt, I_le, I_inj, inB_I, tc_I, Int.toNat_natCast, fkt, rf1, rf0, cq, Nat.reduceAdd, Nat.reduceEqDiff, Int.reduceToNat, eq_self, true_and, and_true, true_or, or_true, bI_0, bI_1, mm, rAm, mF_sF, mR_sR, false_and, and_false, if_false, if_true, false_or, or_false, not_true_eq_false, not_false_eq_true, and_self]
    refine ⟨fun h => ?_, fun h => ?_⟩
    · simp (disch := first | (simp only [dd, dr]; done) | omega) only [W_202, msK, msR, msF, ms1, msS1, k0, k1, k6, I_lt, I_le, I_inj, inB_I, tc_I, Int.toNat_natCast, fkt, rf1, rf0, cq, Nat.reduceAdd, Nat.reduceEqDiff, Int.reduceToNat, eq_self, true_and, and_true, true_or, or_true, bI_0, bI_1, mm, rAm, mF_sF, mR_sR, false_and, and_false, if_false, if_true, false_or, or_false, not_true_eq_false, not_false_eq_true, and_self]
      refine next 0 ?_
      rw [List.getD_eq_getElem?_getD, List.getElem?_eq_none (by rw [tlL_len]; omega)]; rfl
    · have e3 := t3 (by omega)
      have ea : (128 : Int) * (has : Int) + (k : Int) = ((128 * dtO n + k : Nat) : Int) := by rw [hh]; omega
      have ew : mA (ms M o f s6 b c w j) (o + 4) (128 * dtO n + k) = I (F (128 * dtO n + k) : Nat) := by
        have := ms4 M o f s6 b c w j (z := ((128 * dtO n + k : Nat) : Int)) (by omega)
        rw [Int.toNat_natCast] at this
        rw [this, hF _ (by omega)]
      simp (disch := first | (simp only [dd, dr]; done) | omega) only [W_202, msK, msR, msF, ms1, msS1, k0, k1, k6, k4, k9, ea, ew, I_lt, I_le, I_inj, inB_I, tc_I, Int.toNat_natCast, fkt, rf1, rf0, cq, Nat.reduceAdd, Nat.reduceEqDiff, Int.reduceToNat, eq_self, true_and, and_true, true_or, or_true, bI_0, bI_1, mm, rAm, mF_sF, mR_sR, false_and, and_false, if_false, if_true, false_or, or_false, not_true_eq_false, not_false_eq_true, and_self]
      refine next _ ?_
      unfold tlL
      rw [List.getD_eq_getElem?_getD, List.getElem?_map, List.getElem?_range (by omega)]; rfl
set_option maxHeartbeats 4000000 in
theorem m_lay (hK : MK M o) (hd : 10 ≤ d) (S : MS s T X dt) (G : Gt m T (pyO X)) (hm1 : 1 ≤ m) (hm2 : m ≤ 96) (O : OK3 T X) {v n : Nat} (hv : v ≤ 60) (hi : ky v 0 0 ∈ its T) (hk2 : oK X v = 2) (hn : n ≤ 2048) (f43 : f 43 = m) (f47 : f 47 = 0) {F : Nat → Nat} (hF : ∀ i : Nat, i < n → w i = (F i : Nat))
    (hX : rfA m X T v n = none → ∀ s', Q (.returned none) (ms M o (fu f 47 1) s' b c w j))
    (hR : ∀ l T3, rfA m X T v n = some (l, T3) → ky v 0 0 ∈ its T3 → ∀ s', MS s' T3 (rfX X v l (tlL F n) n) (rfd dt l F n) → Q (.returned none) (ms M o f s' b c w j)) :
    Wp d 202 0 [some (.ref o), some (.int (I (v : Nat))), some (.int (I (n : Nat))), none, none, none, none] [] (ms M o f s b c w j) Q := by
  have hK' := hK
  obtain ⟨k0, k1, k2, k3, k4, k5, k6, k7, k8, k9, k10⟩ := hK
  have W : Wf m (szO X) T := G.1
  have hO := O.fo v hv hi hk2
  have hl : ∀ o, o < 61 → ky o 0 0 ∈ its T → (oD X o).length ≤ 16 := fun o h1 h2 => (O.any (by omega) h2).2.2.2.1
  obtain ⟨x1, x2, x3, x4, x5⟩ := S.2.2.1 v (by omega) hi
  have hoS := hO.1
  have hl16 := hl v (by omega) hi
  have hdt := dtO_le hn
  have htl := tlO_le n
  have B := hO.2.2.2.2.2
  simp (disch := first | (simp only [dd, dr]; done) | omega) only [W_202, msK, msR, msF, ms1, msS1, k0, k1, k6, x3, x2, I_lt, I_le, I_inj, inB_I, tc_I, Int.toNat_natCast, fkt, rf1, rf0, cq, Nat.reduceAdd, Nat.reduceEqDiff, Int.reduceToNat, eq_self, true_and, and_true, true_or, or_true, bI_0, bI_1, mm, rAm, mF_sF, mR_sR, false_and, and_false, if_false, if_true, false_or, or_false, not_true_eq_false, not_false_eq_true, and_self]
  refine ca_192 (by omega) (m_tailOf (by omega) ?_)
  simp (disch := first | (simp only [dd, dr]; done) | omega) only [W_202, I_lt, I_le, I_inj, inB_I, tc_I, Int.toNat_natCast, fkt, rf1, rf0, cq, Nat.reduceAdd, Nat.reduceEqDiff, Int.reduceToNat, eq_self, true_and, and_true, true_or, or_true, bI_0, bI_1, mm, rAm, mF_sF, mR_sR, false_and, and_false, if_false, if_true, false_or, or_false, not_true_eq_false, not_false_eq_true, and_self]
  refine ca_203 (by omega) (m_datasOf (by omega) (by omega) ?_)
  simp (disch := first | (simp only [dd, dr]; done) | omega) only [W_202, I_lt, I_le, I_inj, inB_I, tc_I, Int.toNat_natCast, fkt, rf1, rf0, cq, Nat.reduceAdd, Nat.reduceEqDiff, Int.reduceToNat, eq_self, true_and, and_true, true_or, or_true, bI_0, bI_1, mm, rAm, mF_sF, mR_sR, false_and, and_false, if_false, if_true, false_or, or_false, not_true_eq_false, not_false_eq_true, and_self]
  have L0 : Ly m v X s s T (oD X v) (oD X v).length := ⟨S.1, W, x3, x4, fun _ _ _ _ => rfl⟩
  suffices rest : ∀ (l : List Nat) (T1 : Tr) (s3 : Int → Int) (l0 : List Nat), rfT m X T v n = some (l, T1) → Ly m v X s s3 T1 l0 (dtO n) → l = l0.take (dtO n) → BL T1 l → Wp d 202 185 [some (.ref o), some (.int (I (v : Nat))), some (.int (I (n : Nat))), some (.int (I ((oD X v).length : Nat))), some (.int (I (tlO (oS X v) : Nat))), some (.int (I (dtO n : Nat))), some (.int (I 0))] [] (ms M o f s3 b c w j) Q by
    by_cases hc : dtO n ≤ (oD X v).length
    · simp (disch := first | (simp only [dd, dr]; done) | omega) only [w_202_32, W_202, msK, msR, msF, ms1, msS1, k0, k1, k6, x3, I_lt, I_le, I_inj, inB_I, tc_I, Int.toNat_natCast, fkt, rf1, rf0, cq, Nat.reduceAdd, Nat.reduceEqDiff, Int.reduceToNat, eq_self, true_and, and_true, true_or, or_true, bI_0, bI_1, mm, rAm, mF_sF, mR_sR, false_and, and_false, if_false, if_true, false_or, or_false, not_true_eq_false, not_false_eq_true, and_self]
      refine ⟨fun _ => ?_, (fun h => by first | exact False.elim h | exact absurd trivial h | (exfalso; omega) | exact absurd rfl h | cases h)⟩
      simp (disch := first | (simp only [dd, dr]; done) | omega) only [W_202, msK, msR, msF, ms1, msS1, k0, k1, k6, f47, I_lt, I_le, I_inj, inB_I, tc_I, Int.toNat_natCast, fkt, rf1, rf0, cq, Nat.reduceAdd, Nat.reduceEqDiff, Int.reduceToNat, eq_self, true_and, and_true, true_or, or_true, bI_0, bI_1, mm, rAm, mF_sF, mR_sR, false_and, and_false, if_false, if_true, false_or, or_false, not_true_eq_false, not_false_eq_true, and_self]
      refine ⟨fun _ => ?_, (fun h => by first | exact False.elim h | exact absurd trivial h | (exfalso; omega) | exact absurd rfl h | cases h)⟩
      refine ly_122 (s := s) hK' (by omega) (by omega) hdt hl16 W B ((oD X v).length - dtO n) s none (by omega) ?_ (fun s2 L2 => rest _ _ s2 (oD X v) (by unfold rfT; rw [if_pos hc]) L2 rfl (fes_bl B _))
      rw [show dtO n + ((oD X v).length - dtO n) = (oD X v).length by omega, List.drop_length]
      exact L0
    · refine ly_32 (s := s) hK' (by omega) hm1 hm2 f43 f47 (by omega) hdt (dtO n - (oD X v).length) (oD X v) T s none (by omega) L0 B (fun hn' => hX (by unfold rfA rfT; rw [if_neg hc, hn']; rfl)) (fun l2 T2 s2 l6 hn' L2 B2 => ?_)
      have hlen : dtO n = ((oD X v) ++ l2).length := by rw [List.length_append, (tkn_at _ _ hn').1]; omega
      refine ly_122 (s := s) (l := oD X v ++ l2) hK' (by omega) (by omega) hdt (by omega) L2.2.1 B2 0 s2 l6 (by omega) ?_ (fun s3 L3 => rest _ _ s3 (oD X v ++ l2) (by unfold rfT; rw [if_neg hc, hn']; rfl) ?_ ?_ B2)
      · rw [Nat.add_zero, hlen, List.drop_length]
        rw [hlen] at L2
        exact L2
      · rw [hlen, List.drop_length] at L3
        rw [hlen]
        exact L3
      · rw [hlen, List.take_length]
  intro l T1 s3 l0 hrf L3 hl0 B1
  obtain ⟨t3, W3, e279, eD0, Z⟩ := L3
  obtain ⟨hll, hH1, hI1, _, hU1⟩ := rfT_at hrf
  have eD : La s3 (340 + 16 * (v : Int)) l := fun i x hx => eD0 i x (by rw [hl0, List.getElem?_take] at hx; split at hx; exact hx; cases hx)
  refine ly_185 (F := F) hK' (by omega) hdt hn hF hll B1 eD (128 * dtO n) 0 s3 (by omega) (fun _ _ => rfl) (fun i y j _ _ h => by omega) (fun _ _ _ _ => rfl) (fun s5 p1 p2 p3 => ?_)
  refine ly_262 (F := F) hK' (by omega) (by omega) rfl hn hF 40 0 s5 (by omega) (fun _ _ => rfl) (fun i h => by omega) (fun s7 q1 q2 => ?_)
  simp (disch := first | (simp only [dd, dr]; done) | omega) only [W_202, msK, msR, msF, ms1, msS1, k0, k1, k6, I_lt, I_le, I_inj, inB_I, tc_I, Int.toNat_natCast, fkt, rf1, rf0, cq, Nat.reduceAdd, Nat.reduceEqDiff, Int.reduceToNat, eq_self, true_and, and_true, true_or, or_true, bI_0, bI_1, mm, rAm, mF_sF, mR_sR, false_and, and_false, if_false, if_true, false_or, or_false, not_true_eq_false, not_false_eq_true, and_self]
  generalize hs8 : fz s7 (218 + (v : Int)) (n : Int) = s8
  have r218 : s8 (218 + v) = (n : Nat) := by rw [← hs8, fz_e _ _ rfl]
  have rT : ∀ i : Nat, i < 40 → s8 (1316 + 40 * (v : Int) + (i : Int)) = ((tlL F n).getD i 0 : Nat) := fun i hi' => by rw [← hs8, fz_n _ _ (by omega)]; exact q2 i hi'
  have rO : ∀ x : Int, x < 13078 → x ≠ 218 + (v : Int) → ¬ (1316 + 40 * (v : Int) ≤ x ∧ x < 1316 + 40 * (v : Int) + 40) → s8 x = s3 x := fun x h1 h2 h3 => by rw [← hs8, fz_n _ _ h2, q1 x h3, p1 x h1]
  have rB : ∀ x : Int, 13078 ≤ x → s8 x = s5 x := fun x h1 => by rw [← hs8, fz_n _ _ (by omega), q1 x (by omega)]
  have t8 : MT s8 T1 (szO X) (tlX X) := t3.eqs (fun x hx => rO x (by omega) (by omega) (by omega))
  clear hs8 q1 q2 t3
  -- POINTERS
  have hi1 : ky v 0 0 ∈ its T1 := by rw [hI1]; exact hi
  obtain ⟨ok1, T2, hg1, hgo1⟩ := stT_ok (key := ky v 2 0) (n := 2 * dtO n) hm2 W3 (by omega)
  have h2e : 2 * (oD X v).length = if ky v 2 0 ∈ its T1 then szO X (ky v 2 0) else 0 := by
    rw [hI1]
    by_cases h : ky v 2 0 ∈ its T
    · rw [if_pos h]; unfold szO; rw [pyO_2, (flat2 _).1]
    · rw [if_neg h]
      have : oD X v = [] := by
        apply Classical.byContradiction
        intro h'; exact h (hO.2.2.2.1.mpr h')
      rw [this]; rfl
  rw [show (2 : Int) * ((oD X v).length : Int) = ((2 * (oD X v).length : Nat) : Int) by omega, show (2 : Int) * ((dtO n : Nat) : Int) = ((2 * dtO n : Nat) : Int) by omega]
  refine ca_193 (by omega) (t_res (so := 2) hK' hm1 hm2 f43 f47 (by omega) t8 W3 (by omega) (by omega) (by omega) (tlX_k X (by omega) (by omega)) h2e hg1 (fun hok s9 t9 F9 => ?_) (fun hok s9 F9 => ?_))
  rotate_left
  · subst hok
    have hf1 : fu f 47 1 47 = 1 := fu_s _ _ _
    simp (disch := first | (simp only [dd, dr]; done) | omega) only [W_202, msK, msR, msF, ms1, msS1, k0, k1, k6, I_lt, I_le, I_inj, inB_I, tc_I, Int.toNat_natCast, fkt, rf1, rf0, cq, Nat.reduceAdd, Nat.reduceEqDiff, Int.reduceToNat, eq_self, true_and, and_true, true_or, or_true, bI_0, bI_1, mm, rAm, mF_sF, mR_sR, false_and, and_false, if_false, if_true, false_or, or_false, not_true_eq_false, not_false_eq_true, and_self]
    refine ca_192 (by omega) (m_tailOf (by omega) ?_)
    simp (disch := first | (simp only [dd, dr]; done) | omega) only [W_202, msK, msR, msF, ms1, msS1, k0, k1, k6, I_lt, I_le, I_inj, inB_I, tc_I, Int.toNat_natCast, fkt, rf1, rf0, cq, Nat.reduceAdd, Nat.reduceEqDiff, Int.reduceToNat, eq_self, true_and, and_true, true_or, or_true, bI_0, bI_1, mm, rAm, mF_sF, mR_sR, false_and, and_false, if_false, if_true, false_or, or_false, not_true_eq_false, not_false_eq_true, and_self]
    have := tlO_le (oS X v)
    refine ca_193 (by omega) (t_resize0 (so := 3) hK' (by omega) (by omega) (.inl hf1) ?_)
    simp (disch := first | (simp only [dd, dr]; done) | omega) only [W_202, I_lt, I_le, I_inj, inB_I, tc_I, Int.toNat_natCast, fkt, rf1, rf0, cq, Nat.reduceAdd, Nat.reduceEqDiff, Int.reduceToNat, eq_self, true_and, and_true, true_or, or_true, bI_0, bI_1, mm, rAm, mF_sF, mR_sR, false_and, and_false, if_false, if_true, false_or, or_false, not_true_eq_false, not_false_eq_true, and_self]
    exact hX (by unfold rfA; rw [hrf]; simp only; rw [hg1]) _
  subst hok
  rw [show fu (szO X) (ky v 2 0) (2 * dtO n) = szO (vD X v l) by rw [szO_vD, hll]] at t9
  obtain ⟨W2, SF2⟩ := hgo1 rfl
  rw [show fu (szO X) (ky v 2 0) (2 * dtO n) = szO (vD X v l) by rw [szO_vD, hll]] at W2
  have mem2 := SF2.mem W3
  obtain ⟨ok2, T3, hg2, hgo2⟩ := stT_ok (key := ky v 3 0) (n := tlO n) hm2 W2 (by omega)
  have hg2 : stT m (szO (vD X v l)) T2 (ky v 3 0) (tlO n) = some (ok2, T3) := hg2
  have h3i : ky v 3 0 ∈ its T2 ↔ ky v 3 0 ∈ its T := by
    rw [mem2, hI1]
    constructor
    · rintro (⟨h, _⟩ | ⟨_, h⟩)
      · have := (ky_inj (by omega) (by omega) (by omega) (by omega) h).2.1; omega
      · exact h
    · intro h
      exact .inr ⟨fun e => by have := (ky_inj (by omega) (by omega) (by omega) (by omega) e).2.1; omega, h⟩
  have h3e : tlO (oS X v) = if ky v 3 0 ∈ its T2 then szO (vD X v l) (ky v 3 0) else 0 := by
    rw [← hO.2.2.1]
    by_cases h : ky v 3 0 ∈ its T2
    · rw [if_pos h]; unfold szO; rw [pyO_3]; rfl
    · rw [if_neg h]
      have : oT X v = [] := by
        apply Classical.byContradiction
        intro h'; exact h (h3i.mpr (hO.2.2.2.2.1.mpr h'))
      rw [this]; rfl
  simp (disch := first | (simp only [dd, dr]; done) | omega) only [W_202, msK, msR, msF, ms1, msS1, k0, k1, k6, I_lt, I_le, I_inj, inB_I, tc_I, Int.toNat_natCast, fkt, rf1, rf0, cq, Nat.reduceAdd, Nat.reduceEqDiff, Int.reduceToNat, eq_self, true_and, and_true, true_or, or_true, bI_0, bI_1, mm, rAm, mF_sF, mR_sR, false_and, and_false, if_false, if_true, false_or, or_false, not_true_eq_false, not_false_eq_true, and_self]
  refine ca_192 (by omega) (m_tailOf (by omega) ?_)
  simp (disch := first | (simp only [dd, dr]; done) | omega) only [W_202, msK, msR, msF, ms1, msS1, k0, k1, k6, I_lt, I_le, I_inj, inB_I, tc_I, Int.toNat_natCast, fkt, rf1, rf0, cq, Nat.reduceAdd, Nat.reduceEqDiff, Int.reduceToNat, eq_self, true_and, and_true, true_or, or_true, bI_0, bI_1, mm, rAm, mF_sF, mR_sR, false_and, and_false, if_false, if_true, false_or, or_false, not_true_eq_false, not_false_eq_true, and_self]
  refine ca_193 (by omega) (t_res (so := 3) hK' hm1 hm2 f43 f47 (by omega) t9 W2 (by omega) (by omega) (by omega) (tlX_k X (by omega) (by omega)) h3e hg2 (fun hok s10 t10 F10 => ?_) (fun hok s10 F10 => ?_))
  rotate_left
  · subst hok
    simp (disch := first | (simp only [dd, dr]; done) | omega) only [W_202, I_lt, I_le, I_inj, inB_I, tc_I, Int.toNat_natCast, fkt, rf1, rf0, cq, Nat.reduceAdd, Nat.reduceEqDiff, Int.reduceToNat, eq_self, true_and, and_true, true_or, or_true, bI_0, bI_1, mm, rAm, mF_sF, mR_sR, false_and, and_false, if_false, if_true, false_or, or_false, not_true_eq_false, not_false_eq_true, and_self]
    exact hX (by unfold rfA; rw [hrf]; simp only; rw [hg1]; simp only; rw [hg2]) _
  subst hok
  have SF3 := (hgo2 rfl).2
  have mem3 := SF3.mem W2
  simp (disch := first | (simp only [dd, dr]; done) | omega) only [W_202, I_lt, I_le, I_inj, inB_I, tc_I, Int.toNat_natCast, fkt, rf1, rf0, cq, Nat.reduceAdd, Nat.reduceEqDiff, Int.reduceToNat, eq_self, true_and, and_true, true_or, or_true, bI_0, bI_1, mm, rAm, mF_sF, mR_sR, false_and, and_false, if_false, if_true, false_or, or_false, not_true_eq_false, not_false_eq_true, and_self]
  have hk3 : ky v 0 0 ∈ its T3 := by
    rw [mem3, mem2]
    exact .inr ⟨fun e => by have := (ky_inj (by omega) (by omega) (by omega) (by omega) e).2.1; omega, .inr ⟨fun e => by have := (ky_inj (by omega) (by omega) (by omega) (by omega) e).2.1; omega, hi1⟩⟩
  refine hR l T3 (by unfold rfA; rw [hrf]; simp only; rw [hg1]; simp only; rw [hg2]) hk3 s10 ⟨?_, ?_⟩
  · unfold rfX
    rw [szO_vS, szO_vT, tlL_len, tlX_vS, tlX_vT, tlX_vD]
    exact t10
  · have F810 := F9.trans F10
    have hst : ∀ o', o' < 61 → (ky o' 0 0 ∈ its T3 ↔ ky o' 0 0 ∈ its T) := by
      intro o' ho'
      rw [mem3, mem2, hI1]
      constructor
      · rintro (⟨h, _⟩ | ⟨_, h⟩)
        · have := (ky_inj (by omega) (by omega) (by omega) (by omega) h).2.1; omega
        rcases h with ⟨h, _⟩ | ⟨_, h⟩
        · have := (ky_inj (by omega) (by omega) (by omega) (by omega) h).2.1; omega
        · exact h
      · intro h
        exact .inr ⟨fun e => by have := (ky_inj (by omega) (by omega) (by omega) (by omega) e).2.1; omega, .inr ⟨fun e => by have := (ky_inj (by omega) (by omega) (by omega) (by omega) e).2.1; omega, h⟩⟩
    obtain ⟨m1, m2, m3⟩ := S.2
    have eK : oK (rfX X v l (tlL F n) n) = oK X := fu_idv rfl
    have eL : oL (rfX X v l (tlL F n) n) = oL X := fu_idv rfl
    refine ⟨fun o' ho' => ?_, fun o' ho' h => ?_, fun y hy g1 g2 g3 i hi' => ?_⟩
    · rw [F810 _ (by omega), rO _ (by omega) (by omega) (by omega), Z _ (by omega) (by omega) (by omega), m1 o' ho', eK]
      by_cases e : ky o' 0 0 ∈ its T
      · rw [if_pos e, if_pos ((hst o' ho').mpr e)]
      · rw [if_neg e, if_neg (fun h => e ((hst o' ho').mp h))]
    · have h' := (hst o' ho').mp h
      obtain ⟨a1, a2, a3, a4, a5⟩ := m2 o' ho' h'
      have hlo := hl o' ho' h'
      rw [eL]
      by_cases e : o' = v
      · subst e
        have c1 : oS (rfX X o' l (tlL F n) n) o' = n := fu_s _ _ _
        have c2 : oD (rfX X o' l (tlL F n) n) o' = l := fu_s _ _ _
        have c3 : oT (rfX X o' l (tlL F n) n) o' = tlL F n := fu_s _ _ _
        rw [c1, c2, c3, hll]
        refine ⟨?_, ?_, ?_, eD.eqs (fun x y1 y2 => ?_), fun _ k hk => ?_⟩
        · rw [F810 _ (by omega), rO _ (by omega) (by omega) (by omega), Z _ (by omega) (by omega) (by omega)]; exact a1
        · rw [F810 _ (by omega)]; exact r218
        · rw [F810 _ (by omega), rO _ (by omega) (by omega) (by omega)]; exact e279
        · rw [hll] at y2
          rw [F810 _ (by omega), rO _ (by omega) (by omega) (by omega)]
        · rw [F810 _ (by omega)]; exact rT k hk
      · have c1 : oS (rfX X v l (tlL F n) n) o' = oS X o' := fu_n _ _ e
        have c2 : oD (rfX X v l (tlL F n) n) o' = oD X o' := fu_n _ _ e
        have c3 : oT (rfX X v l (tlL F n) n) o' = oT X o' := fu_n _ _ e
        rw [c1, c2, c3]
        have g : ∀ x : Int, 96 ≤ x → x < 3756 → x ≠ 218 + (v : Int) → x ≠ 279 + (v : Int) → ¬ (340 + 16 * (v : Int) ≤ x ∧ x < 340 + 16 * (v : Int) + 16) → ¬ (1316 + 40 * (v : Int) ≤ x ∧ x < 1316 + 40 * (v : Int) + 40) → s10 x = s x := fun x h1 h2 h3 h4 h5 h6 => by rw [F810 _ (by omega), rO x (by omega) h3 h6, Z x (by omega) h4 h5]
        refine ⟨?_, ?_, ?_, a4.eqs (fun x y1 y2 => ?_), fun hT' k hk => ?_⟩
        · rw [g _ (by omega) (by omega) (by omega) (by omega) (by omega) (by omega)]; exact a1
        · rw [g _ (by omega) (by omega) (by omega) (by omega) (by omega) (by omega)]; exact a2
        · rw [g _ (by omega) (by omega) (by omega) (by omega) (by omega) (by omega)]; exact a3
        · exact g _ (by omega) (by omega) (by omega) (by omega) (by omega) (by omega)
        · rw [g _ (by omega) (by omega) (by omega) (by omega) (by omega) (by omega)]; exact a5 hT' k hk
    · have hp := SF2.2.1.trans SF3.2.1
      obtain ⟨v1, v2⟩ := hp y g1 g2
      rw [F810 _ (by omega), rB _ (by omega)]
      unfold rfd
      by_cases hb : y ∈ l
      · rw [if_pos hb]
        exact p2 _ y i (ix_at hb).1 hi'
      · rw [if_neg hb, p3 y i hb hi', Z _ (by omega) (by omega) (by omega)]
        exact m3 y hy ((hU1 y v1).resolve_left hb) (by rw [hH1] at v2; exact v2) g3 i hi'
end Mly2
