/-! ===== THE MODEL: leaves one by one; above, isWithin; link ===== -/
section Mlk
variable {d : Nat} {M : Mem} {Q : Outcome → Mem → Prop} {o : Nat} {f : Nat → Int} {s s' b c w : Int → Int} {j : Nat → Bool} {T T' T1 T2 : Tr} {X X' : Ob} {dt : Nat → Nat → Nat} {m : Nat} {sz tl : Nat → Nat} {par : Nat → Nat}
/-- a leaf of the row -/
theorem MT.leaf (t : MT s T sz tl) (W : Wf m sz T) {i x : Nat} (h : (tW T 0)[i]? = some x) : s (12300 + (i : Int)) = x ∧ x < 96 ∧ s (3852 + (x : Int)) = ((tI T x).length : Nat) ∧ (tI T x).length ≤ 16 ∧ ∀ k key : Nat, (tI T x)[k]? = some key → s (4620 + 16 * (x : Int) + (k : Int)) = ((key / 4096 : Nat) : Int) ∧ s (6156 + 16 * (x : Int) + (k : Int)) = ((key / 1024 % 4 : Nat) : Int) ∧ s (7692 + 16 * (x : Int) + (k : Int)) = ((key % 1024 : Nat) : Int) ∧ s (9228 + 16 * (x : Int) + (k : Int)) = ((sz key : Nat) : Int) ∧ s (10764 + 16 * (x : Int) + (k : Int)) = ((tl key : Nat) : Int) ∧ key < 249856 := by
  obtain ⟨r1, r2, r3, r4⟩ := t.2.2.2.2.2.2.1 0 (by omega)
  have hm := List.mem_of_getElem? h
  have hx := r4 x hm
  obtain ⟨a1, a2, a3⟩ := t.2.2.2.2.2.1 x hx
  have hn := t.2.2.1 x hx
  rw [W.1.2.2.2.2.1 x hm] at hn
  refine ⟨r2 i x h, hx, by simpa using hn, a2, fun k key hk => ?_⟩
  have hit := a1 k (rk sz tl key) (by rw [List.getElem?_map, hk]; rfl)
  refine ⟨?_, ?_, ?_, ?_, ?_, a3 key (List.mem_of_getElem? hk)⟩
  · rw [show (4620 + 16 * (x : Int) + (k : Int)) = 4620 + (16 * (x : Int) + (k : Int)) by omega]; exact congrArg (fun r : R5 => r.1) hit
  · rw [show (6156 + 16 * (x : Int) + (k : Int)) = 6156 + (16 * (x : Int) + (k : Int)) by omega]; exact congrArg (fun r : R5 => r.2.1) hit
  · rw [show (7692 + 16 * (x : Int) + (k : Int)) = 7692 + (16 * (x : Int) + (k : Int)) by omega]; exact congrArg (fun r : R5 => r.2.2.1) hit
  · rw [show (9228 + 16 * (x : Int) + (k : Int)) = 9228 + (16 * (x : Int) + (k : Int)) by omega]; exact congrArg (fun r : R5 => r.2.2.2.1) hit
  · rw [show (10764 + 16 * (x : Int) + (k : Int)) = 10764 + (16 * (x : Int) + (k : Int)) by omega]; exact congrArg (fun r : R5 => r.2.2.2.2) hit
set_option maxHeartbeats 1000000 in
theorem m_above (hK : MK M o) (S : MS s T X dt) (W : Wf m (szO X) T) (O : OK2 T X) {v : Nat} (hv : v < 256) (hQ : Q (.returned (some (.int (I (fpL X v (its T)))))) (ms M o f s b c w j)) : Wp d 196 0 [some (.ref o), some (.int (I (v : Nat))), none, none, none] [] (ms M o f s b c w j) Q := by
  have hK' := hK
  obtain ⟨k0, k1, k2, k3, k4, k5, k6, k7, k8, k9, k10⟩ := hK
  have e13s : s 13068 = ((tW T 0).length : Nat) := (S.1.2.2.2.2.2.2.1 0 (by omega)).1
  have e13 : ∀ f' : Nat → Int, mA (ms M o f' s b c w j) (o + 1) 13068 = I ((tW T 0).length : Nat) := fun f' => ms_lit 13068 e13s
  have hrow := (S.1.2.2.2.2.2.2.1 0 (by omega)).2.2.1
  simp (disch := first | (simp only [dd, dr]; done) | omega) only [W_196, I_lt, I_le, I_inj, inB_I, tc_I, Int.toNat_natCast, fkt, rf1, rf0, cq, Nat.reduceAdd, Nat.reduceEqDiff, Int.reduceToNat, eq_self, true_and, and_true, true_or, or_true, bI_0, bI_1, mm, rAm, mF_sF, mR_sR, false_and, and_false, if_false, if_true, false_or, or_false, not_true_eq_false, not_false_eq_true, and_self]
  suffices H : ∀ N (i : Nat) (l3 l4 : Option Value), i + N = (tW T 0).length → fpL X v (its T) = fpL X v (((tW T 0).drop i).flatMap (tI T)) → Wp d 196 2 [some (.ref o), some (.int (I (v : Nat))), some (.int (I (i : Nat))), l3, l4] [] (ms M o f s b c w j) Q from H (tW T 0).length 0 none none (by omega) rfl
  intro N
  induction N with
  | zero =>
    intro i l3 l4 hi hf
    rw [List.drop_eq_nil_of_le (by omega)] at hf
    rw [hf] at hQ
    simp (disch := first | (simp only [dd, dr]; done) | omega) only [w_196_2, W_196, msK, msR, msF, ms1, msS1, k0, k1, k6, e13, I_lt, I_le, I_inj, inB_I, tc_I, Int.toNat_natCast, fkt, rf1, rf0, cq, Nat.reduceAdd, Nat.reduceEqDiff, Int.reduceToNat, eq_self, true_and, and_true, true_or, or_true, bI_0, bI_1, mm, rAm, mF_sF, mR_sR, false_and, and_false, if_false, if_true, false_or, or_false, not_true_eq_false, not_false_eq_true, and_self]
    refine ⟨fun _ => ?_, (fun h => by first | exact False.elim h | exact absurd trivial h | (exfalso; omega) | exact absurd rfl h | cases h)⟩
    simp (disch := first | (simp only [dd, dr]; done) | omega) only [W_196, I_lt, I_le, I_inj, inB_I, tc_I, Int.toNat_natCast, fkt, rf1, rf0, cq, Nat.reduceAdd, Nat.reduceEqDiff, Int.reduceToNat, eq_self, true_and, and_true, true_or, or_true, bI_0, bI_1, mm, rAm, mF_sF, mR_sR, false_and, and_false, if_false, if_true, false_or, or_false, not_true_eq_false, not_false_eq_true, and_self]
    exact hQ
  | succ N ih =>
    intro i l3 l4 hi hf
    have hx : (tW T 0)[i]? = some (tW T 0)[i] := List.getElem?_eq_getElem (by omega)
    generalize (tW T 0)[i] = x at hx
    obtain ⟨e1, e2, e3, e4, e5⟩ := S.1.leaf W hx
    rw [drop_get hx, List.flatMap_cons] at hf
    have hm : ∀ k ∈ tI T x, k ∈ its T := fun k hk => by unfold its; exact List.mem_flatMap.mpr ⟨x, List.mem_of_getElem? hx, hk⟩
    simp (disch := first | (simp only [dd, dr]; done) | omega) only [w_196_2, W_196, msK, msR, msF, ms1, msS1, k0, k1, k6, e13, I_lt, I_le, I_inj, inB_I, tc_I, Int.toNat_natCast, fkt, rf1, rf0, cq, Nat.reduceAdd, Nat.reduceEqDiff, Int.reduceToNat, eq_self, true_and, and_true, true_or, or_true, bI_0, bI_1, mm, rAm, mF_sF, mR_sR, false_and, and_false, if_false, if_true, false_or, or_false, not_true_eq_false, not_false_eq_true, and_self]
    refine ⟨(fun h => by first | exact False.elim h | exact absurd trivial h | (exfalso; omega) | exact absurd rfl h | cases h), fun _ => ?_⟩
    simp (disch := first | (simp only [dd, dr]; done) | omega) only [W_196, msK, msR, msF, ms1, msS1, k0, k1, k6, e1, I_lt, I_le, I_inj, inB_I, tc_I, Int.toNat_natCast, fkt, rf1, rf0, cq, Nat.reduceAdd, Nat.reduceEqDiff, Int.reduceToNat, eq_self, true_and, and_true, true_or, or_true, bI_0, bI_1, mm, rAm, mF_sF, mR_sR, false_and, and_false, if_false, if_true, false_or, or_false, not_true_eq_false, not_false_eq_true, and_self]
    suffices H2 : ∀ n2 (k : Nat), k + n2 = (tI T x).length → fpL X v (its T) = fpL X v ((tI T x).drop k ++ ((tW T 0).drop (i + 1)).flatMap (tI T)) → Wp d 196 28 [some (.ref o), some (.int (I (v : Nat))), some (.int (I (i : Nat))), some (.int (I (x : Nat))), some (.int (I (k : Nat)))] [] (ms M o f s b c w j) Q from H2 (tI T x).length 0 (by omega) hf
    intro n2
    induction n2 with
    | zero =>
      intro k hk hf2
      rw [List.drop_eq_nil_of_le (by omega), List.nil_append] at hf2
      simp (disch := first | (simp only [dd, dr]; done) | omega) only [w_196_28, W_196, msK, msR, msF, ms1, msS1, k0, k1, k6, e3, I_lt, I_le, I_inj, inB_I, tc_I, Int.toNat_natCast, fkt, rf1, rf0, cq, Nat.reduceAdd, Nat.reduceEqDiff, Int.reduceToNat, eq_self, true_and, and_true, true_or, or_true, bI_0, bI_1, mm, rAm, mF_sF, mR_sR, false_and, and_false, if_false, if_true, false_or, or_false, not_true_eq_false, not_false_eq_true, and_self]
      refine ⟨fun _ => ?_, (fun h => by first | exact False.elim h | exact absurd trivial h | (exfalso; omega) | exact absurd rfl h | cases h)⟩
      simp (disch := first | (simp only [dd, dr]; done) | omega) only [W_196, I_lt, I_le, I_inj, inB_I, tc_I, Int.toNat_natCast, fkt, rf1, rf0, cq, Nat.reduceAdd, Nat.reduceEqDiff, Int.reduceToNat, eq_self, true_and, and_true, true_or, or_true, bI_0, bI_1, mm, rAm, mF_sF, mR_sR, false_and, and_false, if_false, if_true, false_or, or_false, not_true_eq_false, not_false_eq_true, and_self]
      rw [show ((i : Int) + 1) = ((i + 1 : Nat) : Int) by omega]
      exact ih (i + 1) _ _ (by omega) hf2
    | succ n2 ih2 =>
      intro k hk hf2
      have hkx : (tI T x)[k]? = some (tI T x)[k] := List.getElem?_eq_getElem (by omega)
      generalize (tI T x)[k] = key at hkx
      obtain ⟨g1, g2, g3, g4, g5, g6⟩ := e5 k key hkx
      have hkm := hm key (List.mem_of_getElem? hkx)
      have hE := O.2 key hkm
      rw [drop_get hkx, List.cons_append, fpL] at hf2
      have next : fpL X v (its T) = fpL X v ((tI T x).drop (k + 1) ++ ((tW T 0).drop (i + 1)).flatMap (tI T)) → Wp d 196 100 [some (.ref o), some (.int (I (v : Nat))), some (.int (I (i : Nat))), some (.int (I (x : Nat))), some (.int (I (k : Nat)))] [] (ms M o f s b c w j) Q := by
        intro hf3
        simp (disch := first | (simp only [dd, dr]; done) | omega) only [W_196, I_lt, I_le, I_inj, inB_I, tc_I, Int.toNat_natCast, fkt, rf1, rf0, cq, Nat.reduceAdd, Nat.reduceEqDiff, Int.reduceToNat, eq_self, true_and, and_true, true_or, or_true, bI_0, bI_1, mm, rAm, mF_sF, mR_sR, false_and, and_false, if_false, if_true, false_or, or_false, not_true_eq_false, not_false_eq_true, and_self]
        rw [show ((k : Int) + 1) = ((k + 1 : Nat) : Int) by omega]
        exact ih2 (k + 1) (by omega) hf3
      simp (disch := first | (simp only [dd, dr]; done) | omega) only [w_196_28, W_196, msK, msR, msF, ms1, msS1, k0, k1, k6, e3, I_lt, I_le, I_inj, inB_I, tc_I, Int.toNat_natCast, fkt, rf1, rf0, cq, Nat.reduceAdd, Nat.reduceEqDiff, Int.reduceToNat, eq_self, true_and, and_true, true_or, or_true, bI_0, bI_1, mm, rAm, mF_sF, mR_sR, false_and, and_false, if_false, if_true, false_or, or_false, not_true_eq_false, not_false_eq_true, and_self]
      refine ⟨(fun h => by first | exact False.elim h | exact absurd trivial h | (exfalso; omega) | exact absurd rfl h | cases h), fun _ => ?_⟩
      simp (disch := first | (simp only [dd, dr]; done) | omega) only [W_196, msK, msR, msF, ms1, msS1, k0, k1, k6, g2, I_lt, I_le, I_inj, inB_I, tc_I, Int.toNat_natCast, fkt, rf1, rf0, cq, Nat.reduceAdd, Nat.reduceEqDiff, Int.reduceToNat, eq_self, true_and, and_true, true_or, or_true, bI_0, bI_1, mm, rAm, mF_sF, mR_sR, false_and, and_false, if_false, if_true, false_or, or_false, not_true_eq_false, not_false_eq_true, and_self]
      refine ⟨fun h => ?_, fun h => ?_⟩
      · rw [if_neg (fun h' => by have := h'.1; omega)] at hf2
        exact next hf2
      · have hk1 : key / 1024 % 4 = 1 := by omega
        have gt : s (10764 + 16 * (x : Int) + (k : Int)) = ((oE X key : Nat) : Int) := by
          rw [g5]; unfold tlX; rw [if_pos hk1]
        simp (disch := first | (simp only [dd, dr]; done) | omega) only [W_196, msK, msR, msF, ms1, msS1, k0, k1, k6, gt, I_lt, I_le, I_inj, inB_I, tc_I, Int.toNat_natCast, fkt, rf1, rf0, cq, Nat.reduceAdd, Nat.reduceEqDiff, Int.reduceToNat, eq_self, true_and, and_true, true_or, or_true, bI_0, bI_1, mm, rAm, mF_sF, mR_sR, false_and, and_false, if_false, if_true, false_or, or_false, not_true_eq_false, not_false_eq_true, and_self]
        refine ⟨fun h' => ?_, fun h' => ?_⟩
        · rw [if_neg (fun h'' => by have := h''.2; omega)] at hf2
          exact next hf2
        · rw [if_pos ⟨hk1, by omega⟩] at hf2
          rw [hf2] at hQ
          simp (disch := first | (simp only [dd, dr]; done) | omega) only [W_196, msK, msR, msF, ms1, msS1, k0, k1, k6, g1, I_lt, I_le, I_inj, inB_I, tc_I, Int.toNat_natCast, fkt, rf1, rf0, cq, Nat.reduceAdd, Nat.reduceEqDiff, Int.reduceToNat, eq_self, true_and, and_true, true_or, or_true, bI_0, bI_1, mm, rAm, mF_sF, mR_sR, false_and, and_false, if_false, if_true, false_or, or_false, not_true_eq_false, not_false_eq_true, and_self]
          exact hQ
theorem m_isWithin (hK : MK M o) (hd : 1 ≤ d) (S : MS s T X dt) (W : Wf m (szO X) T) (O : OK2 T X) (Pa : Par T X par) {v : Nat} (hv2 : 2 ≤ v) (hv : v < 256) : ∀ (n x : Nat), itr par n x = 1 → oK X x = 1 → Q (.returned (some (.int (I (bI (wth par v n x)))))) (ms M o f s b c w j) → ∀ z, Wp d 195 2 [some (.ref o), some z, some (.int (I (v : Nat))), some (.int (I (x : Nat)))] [] (ms M o f s b c w j) Q := by
  have hK' := hK
  obtain ⟨k0, k1, k2, k3, k4, k5, k6, k7, k8, k9, k10⟩ := hK
  have one : Q (.returned (some (.int (I 0)))) (ms M o f s b c w j) → ∀ z, Wp d 195 2 [some (.ref o), some z, some (.int (I (v : Nat))), some (.int (I ((1 : Nat) : Int)))] [] (ms M o f s b c w j) Q := by
    intro hQ z
    simp (disch := first | (simp only [dd, dr]; done) | omega) only [w_195_2, W_195, I_lt, I_le, I_inj, inB_I, tc_I, Int.toNat_natCast, fkt, rf1, rf0, cq, Nat.reduceAdd, Nat.reduceEqDiff, Int.reduceToNat, eq_self, true_and, and_true, true_or, or_true, bI_0, bI_1, mm, rAm, mF_sF, mR_sR, false_and, and_false, if_false, if_true, false_or, or_false, not_true_eq_false, not_false_eq_true, and_self]
    refine ⟨(fun h => by first | exact False.elim h | exact absurd trivial h | (exfalso; omega) | exact absurd rfl h | cases h), fun _ => ?_⟩
    simp (disch := first | (simp only [dd, dr]; done) | omega) only [W_195, I_lt, I_le, I_inj, inB_I, tc_I, Int.toNat_natCast, fkt, rf1, rf0, cq, Nat.reduceAdd, Nat.reduceEqDiff, Int.reduceToNat, eq_self, true_and, and_true, true_or, or_true, bI_0, bI_1, mm, rAm, mF_sF, mR_sR, false_and, and_false, if_false, if_true, false_or, or_false, not_true_eq_false, not_false_eq_true, and_self]
    refine ⟨(fun h => by first | exact False.elim h | exact absurd trivial h | (exfalso; omega) | exact absurd rfl h | cases h), fun _ => ?_⟩
    simp (disch := first | (simp only [dd, dr]; done) | omega) only [W_195, msK, msR, msF, ms1, msS1, k0, k1, k6, I_lt, I_le, I_inj, inB_I, tc_I, Int.toNat_natCast, fkt, rf1, rf0, cq, Nat.reduceAdd, Nat.reduceEqDiff, Int.reduceToNat, eq_self, true_and, and_true, true_or, or_true, bI_0, bI_1, mm, rAm, mF_sF, mR_sR, false_and, and_false, if_false, if_true, false_or, or_false, not_true_eq_false, not_false_eq_true, and_self]
    refine ca_196 (by omega) (m_above (v := 1) hK' S W O (by omega) ?_)
    rw [Pa.2.2]
    simp (disch := first | (simp only [dd, dr]; done) | omega) only [W_195, I_lt, I_le, I_inj, inB_I, tc_I, Int.toNat_natCast, fkt, rf1, rf0, cq, Nat.reduceAdd, Nat.reduceEqDiff, Int.reduceToNat, eq_self, true_and, and_true, true_or, or_true, bI_0, bI_1, mm, rAm, mF_sF, mR_sR, false_and, and_false, if_false, if_true, false_or, or_false, not_true_eq_false, not_false_eq_true, and_self]
    simp (disch := first | (simp only [dd, dr]; done) | omega) only [w_195_2, W_195, I_lt, I_le, I_inj, inB_I, tc_I, Int.toNat_natCast, fkt, rf1, rf0, cq, Nat.reduceAdd, Nat.reduceEqDiff, Int.reduceToNat, eq_self, true_and, and_true, true_or, or_true, bI_0, bI_1, mm, rAm, mF_sF, mR_sR, false_and, and_false, if_false, if_true, false_or, or_false, not_true_eq_false, not_false_eq_true, and_self]
    refine ⟨fun _ => ?_, (fun h => by first | exact False.elim h | exact absurd trivial h | (exfalso; omega) | exact absurd rfl h | cases h)⟩
    simp (disch := first | (simp only [dd, dr]; done) | omega) only [W_195, I_lt, I_le, I_inj, inB_I, tc_I, Int.toNat_natCast, fkt, rf1, rf0, cq, Nat.reduceAdd, Nat.reduceEqDiff, Int.reduceToNat, eq_self, true_and, and_true, true_or, or_true, bI_0, bI_1, mm, rAm, mF_sF, mR_sR, false_and, and_false, if_false, if_true, false_or, or_false, not_true_eq_false, not_false_eq_true, and_self]
    refine ⟨fun _ => ?_, (fun h => by first | exact False.elim h | exact absurd trivial h | (exfalso; omega) | exact absurd rfl h | cases h)⟩
    simp (disch := first | (simp only [dd, dr]; done) | omega) only [W_195, I_lt, I_le, I_inj, inB_I, tc_I, Int.toNat_natCast, fkt, rf1, rf0, cq, Nat.reduceAdd, Nat.reduceEqDiff, Int.reduceToNat, eq_self, true_and, and_true, true_or, or_true, bI_0, bI_1, mm, rAm, mF_sF, mR_sR, false_and, and_false, if_false, if_true, false_or, or_false, not_true_eq_false, not_false_eq_true, and_self]
    exact hQ
  intro n
  induction n with
  | zero =>
    intro x hx hk hQ z
    have hx : x = 1 := hx
    rw [wth, decide_eq_false (by omega)] at hQ
    rw [hx]
    exact one hQ z
  | succ n ih =>
    intro x hx hk hQ z
    have hx60 := (Pa.2.1 x hk).1
    rw [wth] at hQ
    by_cases e1 : x = 1
    · rw [if_neg (by omega), if_pos e1] at hQ
      rw [e1]
      exact one hQ z
    · obtain ⟨p1, p2⟩ := Pa.1 x hk e1
      simp (disch := first | (simp only [dd, dr]; done) | omega) only [w_195_2, W_195, I_lt, I_le, I_inj, inB_I, tc_I, Int.toNat_natCast, fkt, rf1, rf0, cq, Nat.reduceAdd, Nat.reduceEqDiff, Int.reduceToNat, eq_self, true_and, and_true, true_or, or_true, bI_0, bI_1, mm, rAm, mF_sF, mR_sR, false_and, and_false, if_false, if_true, false_or, or_false, not_true_eq_false, not_false_eq_true, and_self]
      refine ⟨(fun h => by first | exact False.elim h | exact absurd trivial h | (exfalso; omega) | exact absurd rfl h | cases h), fun _ => ?_⟩
      simp (disch := first | (simp only [dd, dr]; done) | omega) only [W_195, I_lt, I_le, I_inj, inB_I, tc_I, Int.toNat_natCast, fkt, rf1, rf0, cq, Nat.reduceAdd, Nat.reduceEqDiff, Int.reduceToNat, eq_self, true_and, and_true, true_or, or_true, bI_0, bI_1, mm, rAm, mF_sF, mR_sR, false_and, and_false, if_false, if_true, false_or, or_false, not_true_eq_false, not_false_eq_true, and_self]
      refine ⟨fun h => ?_, fun h => ?_⟩
      · rw [if_pos (by omega)] at hQ
        simp (disch := first | (simp only [dd, dr]; done) | omega) only [W_195, I_lt, I_le, I_inj, inB_I, tc_I, Int.toNat_natCast, fkt, rf1, rf0, cq, Nat.reduceAdd, Nat.reduceEqDiff, Int.reduceToNat, eq_self, true_and, and_true, true_or, or_true, bI_0, bI_1, mm, rAm, mF_sF, mR_sR, false_and, and_false, if_false, if_true, false_or, or_false, not_true_eq_false, not_false_eq_true, and_self]
        refine ⟨(fun h => by first | exact False.elim h | exact absurd trivial h | (exfalso; omega) | exact absurd rfl h | cases h), fun _ => ?_⟩
        simp (disch := first | (simp only [dd, dr]; done) | omega) only [W_195, I_lt, I_le, I_inj, inB_I, tc_I, Int.toNat_natCast, fkt, rf1, rf0, cq, Nat.reduceAdd, Nat.reduceEqDiff, Int.reduceToNat, eq_self, true_and, and_true, true_or, or_true, bI_0, bI_1, mm, rAm, mF_sF, mR_sR, false_and, and_false, if_false, if_true, false_or, or_false, not_true_eq_false, not_false_eq_true, and_self]
        exact hQ
      · rw [if_neg (by omega), if_neg e1] at hQ
        simp (disch := first | (simp only [dd, dr]; done) | omega) only [W_195, msK, msR, msF, ms1, msS1, k0, k1, k6, I_lt, I_le, I_inj, inB_I, tc_I, Int.toNat_natCast, fkt, rf1, rf0, cq, Nat.reduceAdd, Nat.reduceEqDiff, Int.reduceToNat, eq_self, true_and, and_true, true_or, or_true, bI_0, bI_1, mm, rAm, mF_sF, mR_sR, false_and, and_false, if_false, if_true, false_or, or_false, not_true_eq_false, not_false_eq_true, and_self]
        refine ca_196 (by omega) (m_above hK' S W O (by omega) ?_)
        rw [p1]
        simp (disch := first | (simp only [dd, dr]; done) | omega) only [W_195, I_lt, I_le, I_inj, inB_I, tc_I, Int.toNat_natCast, fkt, rf1, rf0, cq, Nat.reduceAdd, Nat.reduceEqDiff, Int.reduceToNat, eq_self, true_and, and_true, true_or, or_true, bI_0, bI_1, mm, rAm, mF_sF, mR_sR, false_and, and_false, if_false, if_true, false_or, or_false, not_true_eq_false, not_false_eq_true, and_self]
        exact ih (par x) hx p2 hQ z
/-- link: the code of the exception -/
def lkC (m : Nat) (off : Bool) (T : Tr) (X : Ob) (z n w : Int) : Nat :=
  if off = true then 1 else if ¬ (isk T X z 0 = true ∧ isk T X w 1 = true) then 2 else if ¬ (0 ≤ n ∧ n < 1000) then 3 else if ¬ tol T X z.toNat n = -1 then 4 else
  match stT m (szO X) T (ky z.toNat 1 n.toNat) 3 with
  | some (true, _) => 0
  | _ => 4
theorem tol_no {zo n : Nat} (hn : n < 1000) (h : tol T X zo (n : Int) = -1) : ky zo 1 n ∉ its T := by
  intro hk
  unfold tol at h
  rw [Int.toNat_natCast, if_pos ⟨by omega, by omega, hk⟩] at h
  omega
set_option maxHeartbeats 2000000 in
theorem m_link (hK : MK M o) (hd : 10 ≤ d) (S : MS s T X dt) (G : Gt m T (pyO X)) (hm1 : 1 ≤ m) (hm2 : m ≤ 96) (O : OK2 T X) (hn : ∀ k ∈ its T, k / 1024 % 4 = 1 → k % 1024 < 1000) (hl : ∀ o, o < 61 → ky o 0 0 ∈ its T → (oD X o).length ≤ 16) (f43 : f 43 = m) {off : Bool} (f52 : f 52 = bI off) {z n v : Int} (z0 : -2147483648 ≤ z) (z1 : z < 2147483648) (n0 : -2147483648 ≤ n) (n1 : n < 2147483648) (v0 : -2147483648 ≤ v) (v1 : v < 2147483648)
    (hX : lkC m off T X z n v ≠ 0 → ∀ f' s' b', Fe f f' → f' 54 = lkC m off T X z n v → (∀ x, 0 ≤ x → x < 25366 → s' x = s x) → Q (.returned (some (.int (I 0)))) (ms M o f' s' b' c w j))
    (hR : lkC m off T X z n v = 0 → ∀ T1, stT m (szO X) T (ky z.toNat 1 n.toNat) 3 = some (true, T1) → ∀ f' s' b', Fe f f' → f' 54 = 0 → MS s' T1 (lkX X z.toNat n.toNat v.toNat) dt → Q (.returned (some (.int (I ((oL X v.toNat + 1 : Nat) : Int))))) (ms M o f' s' b' c w j)) :
    Wp d 184 0 [some (.ref o), some (.int (I z)), some (.int (I n)), some (.int (I v))] [] (ms M o f s b c w j) Q := by
  have hK' := hK
  obtain ⟨k0, k1, k2, k3, k4, k5, k6, k7, k8, k9, k10⟩ := hK
  have W := G.1
  unfold lkC at hX hR
  have ref : ∀ (k : Nat), 1 ≤ k → k ≤ 4 → (if off = true then 1 else if ¬ (isk T X z 0 = true ∧ isk T X v 1 = true) then 2 else if ¬ (0 ≤ n ∧ n < 1000) then 3 else if ¬ tol T X z.toNat n = -1 then 4 else 0) = k → Q (.returned (some (.int (I 0)))) (ms M o (fu f 54 (k : Int)) s b c w j) := by
    intro k h1 h2 hk
    have hx : ∀ f' s' b', Fe f f' → f' 54 = k → (∀ x, 0 ≤ x → x < 25366 → s' x = s x) → Q (.returned (some (.int (I 0)))) (ms M o f' s' b' c w j) := by
      by_cases a1 : off = true
      · rw [if_pos a1] at hk hX
        subst hk
        exact hX (by omega)
      rw [if_neg a1] at hk hX
      by_cases a2 : ¬ (isk T X z 0 = true ∧ isk T X v 1 = true)
      · rw [if_pos a2] at hk hX
        subst hk
        exact hX (by omega)
      rw [if_neg a2] at hk hX
      by_cases a3 : ¬ (0 ≤ n ∧ n < 1000)
      · rw [if_pos a3] at hk hX
        subst hk
        exact hX (by omega)
      rw [if_neg a3] at hk hX
      by_cases a4 : ¬ tol T X z.toNat n = -1
      · rw [if_pos a4] at hk hX
        subst hk
        exact hX (by omega)
      rw [if_neg a4] at hk
      omega
    have hf : fu f 54 (k : Int) 54 = k := fu_s _ _ _
    exact hx _ s b (fun g _ h _ => fu_n _ _ h) hf (fun _ _ _ => rfl)
  simp (disch := first | (simp only [dd, dr]; done) | omega) only [W_184, msK, msR, msF, ms1, msS1, k0, k1, k6, f52, I_lt, I_le, I_inj, inB_I, tc_I, Int.toNat_natCast, fkt, rf1, rf0, cq, Nat.reduceAdd, Nat.reduceEqDiff, Int.reduceToNat, eq_self, true_and, and_true, true_or, or_true, bI_0, bI_1, mm, rAm, mF_sF, mR_sR, false_and, and_false, if_false, if_true, false_or, or_false, not_true_eq_false, not_false_eq_true, and_self]
  refine ⟨fun h1 => ?_, fun h1 => ?_⟩
  rotate_left
  · have h1 : off = true := by simpa using h1
    have hf : fu f 54 (1 : Int) 54 = 1 := fu_s _ _ _
    simp (disch := first | (simp only [dd, dr]; done) | omega) only [W_184, msK, msR, msF, ms1, msS1, k0, k1, k6, msSF, hf, I_lt, I_le, I_inj, inB_I, tc_I, Int.toNat_natCast, fkt, rf1, rf0, cq, Nat.reduceAdd, Nat.reduceEqDiff, Int.reduceToNat, eq_self, true_and, and_true, true_or, or_true, bI_0, bI_1, mm, rAm, mF_sF, mR_sR, false_and, and_false, if_false, if_true, false_or, or_false, not_true_eq_false, not_false_eq_true, and_self]
    refine ⟨(fun h => by first | exact False.elim h | exact absurd trivial h | (exfalso; omega) | exact absurd rfl h | cases h), fun _ => ?_⟩
    simp (disch := first | (simp only [dd, dr]; done) | omega) only [W_184, I_lt, I_le, I_inj, inB_I, tc_I, Int.toNat_natCast, fkt, rf1, rf0, cq, Nat.reduceAdd, Nat.reduceEqDiff, Int.reduceToNat, eq_self, true_and, and_true, true_or, or_true, bI_0, bI_1, mm, rAm, mF_sF, mR_sR, false_and, and_false, if_false, if_true, false_or, or_false, not_true_eq_false, not_false_eq_true, and_self]
    exact ref 1 (by omega) (by omega) (by rw [if_pos h1])
  have h1' : ¬ off = true := by rw [h1]; simp
  simp (disch := first | (simp only [dd, dr]; done) | omega) only [W_184, msK, msR, msF, ms1, msS1, k0, k1, k6, I_lt, I_le, I_inj, inB_I, tc_I, Int.toNat_natCast, fkt, rf1, rf0, cq, Nat.reduceAdd, Nat.reduceEqDiff, Int.reduceToNat, eq_self, true_and, and_true, true_or, or_true, bI_0, bI_1, mm, rAm, mF_sF, mR_sR, false_and, and_false, if_false, if_true, false_or, or_false, not_true_eq_false, not_false_eq_true, and_self]
  refine ca_157 (by omega) (m_isDirectory hK' (by omega) S O.1 z0 z1 ?_)
  simp (disch := first | (simp only [dd, dr]; done) | omega) only [W_184, I_lt, I_le, I_inj, inB_I, tc_I, Int.toNat_natCast, fkt, rf1, rf0, cq, Nat.reduceAdd, Nat.reduceEqDiff, Int.reduceToNat, eq_self, true_and, and_true, true_or, or_true, bI_0, bI_1, mm, rAm, mF_sF, mR_sR, false_and, and_false, if_false, if_true, false_or, or_false, not_true_eq_false, not_false_eq_true, and_self]
  refine ⟨fun h2 => ?_, fun h2 => ?_⟩
  · have hf : fu f 54 (2 : Int) 54 = 2 := fu_s _ _ _
    simp (disch := first | (simp only [dd, dr]; done) | omega) only [W_184, msK, msR, msF, ms1, msS1, k0, k1, k6, msSF, hf, I_lt, I_le, I_inj, inB_I, tc_I, Int.toNat_natCast, fkt, rf1, rf0, cq, Nat.reduceAdd, Nat.reduceEqDiff, Int.reduceToNat, eq_self, true_and, and_true, true_or, or_true, bI_0, bI_1, mm, rAm, mF_sF, mR_sR, false_and, and_false, if_false, if_true, false_or, or_false, not_true_eq_false, not_false_eq_true, and_self]
    refine ⟨(fun h => by first | exact False.elim h | exact absurd trivial h | (exfalso; omega) | exact absurd rfl h | cases h), fun _ => ?_⟩
    simp (disch := first | (simp only [dd, dr]; done) | omega) only [W_184, I_lt, I_le, I_inj, inB_I, tc_I, Int.toNat_natCast, fkt, rf1, rf0, cq, Nat.reduceAdd, Nat.reduceEqDiff, Int.reduceToNat, eq_self, true_and, and_true, true_or, or_true, bI_0, bI_1, mm, rAm, mF_sF, mR_sR, false_and, and_false, if_false, if_true, false_or, or_false, not_true_eq_false, not_false_eq_true, and_self]
    exact ref 2 (by omega) (by omega) (by rw [if_neg h1', if_pos (fun h => by rw [h.1] at h2; cases h2)])
  have h2 : isk T X z 0 = true := by simpa using h2
  simp (disch := first | (simp only [dd, dr]; done) | omega) only [W_184, msK, msR, msF, ms1, msS1, k0, k1, k6, I_lt, I_le, I_inj, inB_I, tc_I, Int.toNat_natCast, fkt, rf1, rf0, cq, Nat.reduceAdd, Nat.reduceEqDiff, Int.reduceToNat, eq_self, true_and, and_true, true_or, or_true, bI_0, bI_1, mm, rAm, mF_sF, mR_sR, false_and, and_false, if_false, if_true, false_or, or_false, not_true_eq_false, not_false_eq_true, and_self]
  refine ca_185 (by omega) (m_isFile hK' (by omega) S O.1 v0 v1 ?_)
  simp (disch := first | (simp only [dd, dr]; done) | omega) only [W_184, I_lt, I_le, I_inj, inB_I, tc_I, Int.toNat_natCast, fkt, rf1, rf0, cq, Nat.reduceAdd, Nat.reduceEqDiff, Int.reduceToNat, eq_self, true_and, and_true, true_or, or_true, bI_0, bI_1, mm, rAm, mF_sF, mR_sR, false_and, and_false, if_false, if_true, false_or, or_false, not_true_eq_false, not_false_eq_true, and_self]
  refine ⟨fun h3 => ?_, fun h3 => ?_⟩
  rotate_left
  · have h3 : isk T X v 1 = false := by simpa using h3
    have hf : fu f 54 (2 : Int) 54 = 2 := fu_s _ _ _
    simp (disch := first | (simp only [dd, dr]; done) | omega) only [W_184, msK, msR, msF, ms1, msS1, k0, k1, k6, msSF, hf, I_lt, I_le, I_inj, inB_I, tc_I, Int.toNat_natCast, fkt, rf1, rf0, cq, Nat.reduceAdd, Nat.reduceEqDiff, Int.reduceToNat, eq_self, true_and, and_true, true_or, or_true, bI_0, bI_1, mm, rAm, mF_sF, mR_sR, false_and, and_false, if_false, if_true, false_or, or_false, not_true_eq_false, not_false_eq_true, and_self]
    refine ⟨(fun h => by first | exact False.elim h | exact absurd trivial h | (exfalso; omega) | exact absurd rfl h | cases h), fun _ => ?_⟩
    simp (disch := first | (simp only [dd, dr]; done) | omega) only [W_184, I_lt, I_le, I_inj, inB_I, tc_I, Int.toNat_natCast, fkt, rf1, rf0, cq, Nat.reduceAdd, Nat.reduceEqDiff, Int.reduceToNat, eq_self, true_and, and_true, true_or, or_true, bI_0, bI_1, mm, rAm, mF_sF, mR_sR, false_and, and_false, if_false, if_true, false_or, or_false, not_true_eq_false, not_false_eq_true, and_self]
    exact ref 2 (by omega) (by omega) (by rw [if_neg h1', if_pos (fun h => by rw [h.2] at h3; cases h3)])
  have h3 : isk T X v 1 = true := by simpa using h3
  have h23 : ¬ ¬ (isk T X z 0 = true ∧ isk T X v 1 = true) := fun h => h ⟨h2, h3⟩
  obtain ⟨zo, rfl, o1, o2, o3, o4⟩ := isk_of h2
  obtain ⟨vo, rfl, p1, p2, p3, p4⟩ := isk_of h3
  simp only [Int.toNat_natCast] at *
  have hzv : vo ≠ zo := fun e => by rw [e] at p4; omega
  simp (disch := first | (simp only [dd, dr]; done) | omega) only [W_184, msK, msR, msF, ms1, msS1, k0, k1, k6, I_lt, I_le, I_inj, inB_I, tc_I, Int.toNat_natCast, fkt, rf1, rf0, cq, Nat.reduceAdd, Nat.reduceEqDiff, Int.reduceToNat, eq_self, true_and, and_true, true_or, or_true, bI_0, bI_1, mm, rAm, mF_sF, mR_sR, false_and, and_false, if_false, if_true, false_or, or_false, not_true_eq_false, not_false_eq_true, and_self]
  refine ca_160 (by omega) (m_isName hK' (by omega) n0 n1 ?_)
  simp (disch := first | (simp only [dd, dr]; done) | omega) only [W_184, I_lt, I_le, I_inj, inB_I, tc_I, Int.toNat_natCast, fkt, rf1, rf0, cq, Nat.reduceAdd, Nat.reduceEqDiff, Int.reduceToNat, eq_self, true_and, and_true, true_or, or_true, bI_0, bI_1, mm, rAm, mF_sF, mR_sR, false_and, and_false, if_false, if_true, false_or, or_false, not_true_eq_false, not_false_eq_true, and_self]
  refine ⟨fun h4 => ?_, fun h4 => ?_⟩
  rotate_left
  · have h4 : ¬ (0 ≤ n ∧ n < 1000) := by simpa using h4
    have hf : fu f 54 (3 : Int) 54 = 3 := fu_s _ _ _
    simp (disch := first | (simp only [dd, dr]; done) | omega) only [W_184, msK, msR, msF, ms1, msS1, k0, k1, k6, msSF, hf, I_lt, I_le, I_inj, inB_I, tc_I, Int.toNat_natCast, fkt, rf1, rf0, cq, Nat.reduceAdd, Nat.reduceEqDiff, Int.reduceToNat, eq_self, true_and, and_true, true_or, or_true, bI_0, bI_1, mm, rAm, mF_sF, mR_sR, false_and, and_false, if_false, if_true, false_or, or_false, not_true_eq_false, not_false_eq_true, and_self]
    refine ⟨(fun h => by first | exact False.elim h | exact absurd trivial h | (exfalso; omega) | exact absurd rfl h | cases h), fun _ => ?_⟩
    simp (disch := first | (simp only [dd, dr]; done) | omega) only [W_184, I_lt, I_le, I_inj, inB_I, tc_I, Int.toNat_natCast, fkt, rf1, rf0, cq, Nat.reduceAdd, Nat.reduceEqDiff, Int.reduceToNat, eq_self, true_and, and_true, true_or, or_true, bI_0, bI_1, mm, rAm, mF_sF, mR_sR, false_and, and_false, if_false, if_true, false_or, or_false, not_true_eq_false, not_false_eq_true, and_self]
    exact ref 3 (by omega) (by omega) (by rw [if_neg h1', if_neg h23, if_pos h4])
  have h4 : 0 ≤ n ∧ n < 1000 := by simpa using h4
  have h4' : ¬ ¬ (0 ≤ n ∧ n < 1000) := fun h => h h4
  obtain ⟨nn, rfl⟩ : ∃ nn : Nat, n = nn := ⟨n.toNat, by omega⟩
  simp only [Int.toNat_natCast] at *
  simp (disch := first | (simp only [dd, dr]; done) | omega) only [W_184, msK, msR, msF, ms1, msS1, k0, k1, k6, I_lt, I_le, I_inj, inB_I, tc_I, Int.toNat_natCast, fkt, rf1, rf0, cq, Nat.reduceAdd, Nat.reduceEqDiff, Int.reduceToNat, eq_self, true_and, and_true, true_or, or_true, bI_0, bI_1, mm, rAm, mF_sF, mR_sR, false_and, and_false, if_false, if_true, false_or, or_false, not_true_eq_false, not_false_eq_true, and_self]
  refine ca_161 (by omega) (m_entry hK' (by omega) S W hn (by omega) n0 n1 ?_)
  have ht := tol_rng O zo (nn : Int)
  simp (disch := first | (simp only [dd, dr]; done) | omega) only [W_184, I_lt, I_le, I_inj, inB_I, tc_I, Int.toNat_natCast, fkt, rf1, rf0, cq, Nat.reduceAdd, Nat.reduceEqDiff, Int.reduceToNat, eq_self, true_and, and_true, true_or, or_true, bI_0, bI_1, mm, rAm, mF_sF, mR_sR, false_and, and_false, if_false, if_true, false_or, or_false, not_true_eq_false, not_false_eq_true, and_self]
  refine ⟨fun h5 => ?_, fun h5 => ?_⟩
  rotate_left
  · have hf : fu f 54 (4 : Int) 54 = 4 := fu_s _ _ _
    simp (disch := first | (simp only [dd, dr]; done) | omega) only [W_184, msK, msR, msF, ms1, msS1, k0, k1, k6, msSF, hf, I_lt, I_le, I_inj, inB_I, tc_I, Int.toNat_natCast, fkt, rf1, rf0, cq, Nat.reduceAdd, Nat.reduceEqDiff, Int.reduceToNat, eq_self, true_and, and_true, true_or, or_true, bI_0, bI_1, mm, rAm, mF_sF, mR_sR, false_and, and_false, if_false, if_true, false_or, or_false, not_true_eq_false, not_false_eq_true, and_self]
    refine ⟨(fun h => by first | exact False.elim h | exact absurd trivial h | (exfalso; omega) | exact absurd rfl h | cases h), fun _ => ?_⟩
    simp (disch := first | (simp only [dd, dr]; done) | omega) only [W_184, I_lt, I_le, I_inj, inB_I, tc_I, Int.toNat_natCast, fkt, rf1, rf0, cq, Nat.reduceAdd, Nat.reduceEqDiff, Int.reduceToNat, eq_self, true_and, and_true, true_or, or_true, bI_0, bI_1, mm, rAm, mF_sF, mR_sR, false_and, and_false, if_false, if_true, false_or, or_false, not_true_eq_false, not_false_eq_true, and_self]
    exact ref 4 (by omega) (by omega) (by rw [if_neg h1', if_neg h23, if_neg h4', if_pos (by omega)])
  have h5 : tol T X zo (nn : Int) = -1 := by omega
  rw [if_neg h1', if_neg h23, if_neg h4', if_neg (fun h => h h5)] at hX hR
  have hkn := tol_no (by omega) h5
  have hf0 : fu f 54 (0 : Int) 54 = 0 := fu_s _ _ _
  simp (disch := first | (simp only [dd, dr]; done) | omega) only [W_184, msK, msR, msF, ms1, msS1, k0, k1, k6, msSF, hf0, I_lt, I_le, I_inj, inB_I, tc_I, Int.toNat_natCast, fkt, rf1, rf0, cq, Nat.reduceAdd, Nat.reduceEqDiff, Int.reduceToNat, eq_self, true_and, and_true, true_or, or_true, bI_0, bI_1, mm, rAm, mF_sF, mR_sR, false_and, and_false, if_false, if_true, false_or, or_false, not_true_eq_false, not_false_eq_true, and_self]
  refine ⟨fun _ => ?_, (fun h => by first | exact False.elim h | exact absurd trivial h | (exfalso; omega) | exact absurd rfl h | cases h)⟩
  simp (disch := first | (simp only [dd, dr]; done) | omega) only [W_184, msK, msR, msF, ms1, msS1, k0, k1, k6, I_lt, I_le, I_inj, inB_I, tc_I, Int.toNat_natCast, fkt, rf1, rf0, cq, Nat.reduceAdd, Nat.reduceEqDiff, Int.reduceToNat, eq_self, true_and, and_true, true_or, or_true, bI_0, bI_1, mm, rAm, mF_sF, mR_sR, false_and, and_false, if_false, if_true, false_or, or_false, not_true_eq_false, not_false_eq_true, and_self]
  refine ca_166 (by omega) (m_begin hK' (by omega) ?_)
  simp (disch := first | (simp only [dd, dr]; done) | omega) only [W_184, msK, msR, msF, ms1, msS1, k0, k1, k6, I_lt, I_le, I_inj, inB_I, tc_I, Int.toNat_natCast, fkt, rf1, rf0, cq, Nat.reduceAdd, Nat.reduceEqDiff, Int.reduceToNat, eq_self, true_and, and_true, true_or, or_true, bI_0, bI_1, mm, rAm, mF_sF, mR_sR, false_and, and_false, if_false, if_true, false_or, or_false, not_true_eq_false, not_false_eq_true, and_self]
  generalize hb1 : kp s b = b1
  have hb1x : ∀ x, 0 ≤ x → x < 25366 → b1 x = s x := fun x _ h => by rw [← hb1]; unfold kp; rw [if_pos h]
  generalize hf1 : fu (fu f 54 0) 47 0 = f1
  have g47 : f1 47 = 0 := by rw [← hf1, fu_s]
  have g54 : f1 54 = 0 := by rw [← hf1, fu_n _ _ (by omega), fu_s]
  have g43 : f1 43 = m := by rw [← hf1, fu_n _ _ (by omega), fu_n _ _ (by omega)]; exact f43
  have ge : Fe f f1 := fun g a1 a2 _ => by rw [← hf1, fu_n _ _ a1, fu_n _ _ a2]
  clear hf1 hb1 ref
  generalize hcd : (match stT m (szO X) T (ky zo 1 nn) 3 with
    | some (true, _) => 0
    | _ => 4 : Nat) = cd at hX hR
  obtain ⟨ok1, T1, hg1, hgo1⟩ := stT_ok (key := ky zo 1 nn) (n := 3) hm2 W (by omega)
  have hg1 : stT m (szO X) T (ky zo 1 nn) 3 = some (ok1, T1) := hg1
  rw [hg1] at hcd
  refine ca_167 (by omega) (t_put1 hK' hm1 hm2 g43 g47 (ob := zo) (so := 1) (na := nn) (body := 3) (told := vo) (by omega) S.1 W (by omega) (by omega) (by omega) (by omega) (by omega) (by omega) hkn hg1 (fun hok s2 m2 F2 => ?_) (fun hok s2 F2 => ?_))
  rotate_left
  · subst hok
    have h4 : cd = 4 := hcd.symm
    simp (disch := first | (simp only [dd, dr]; done) | omega) only [W_184, msK, msR, msF, ms1, msS1, k0, k1, k6, I_lt, I_le, I_inj, inB_I, tc_I, Int.toNat_natCast, fkt, rf1, rf0, cq, Nat.reduceAdd, Nat.reduceEqDiff, Int.reduceToNat, eq_self, true_and, and_true, true_or, or_true, bI_0, bI_1, mm, rAm, mF_sF, mR_sR, false_and, and_false, if_false, if_true, false_or, or_false, not_true_eq_false, not_false_eq_true, and_self]
    refine ca_183 (by omega) (m_ended hK' (by omega) (fun h => ?_) (fun h => ?_) (.inr (fu_s _ _ _)))
    · rw [fu_s] at h; cases h
    · simp (disch := first | (simp only [dd, dr]; done) | omega) only [W_184, I_lt, I_le, I_inj, inB_I, tc_I, Int.toNat_natCast, fkt, rf1, rf0, cq, Nat.reduceAdd, Nat.reduceEqDiff, Int.reduceToNat, eq_self, true_and, and_true, true_or, or_true, bI_0, bI_1, mm, rAm, mF_sF, mR_sR, false_and, and_false, if_false, if_true, false_or, or_false, not_true_eq_false, not_false_eq_true, and_self]
      refine ⟨fun _ => ?_, (fun h => by first | exact False.elim h | exact absurd trivial h | (exfalso; omega) | exact absurd rfl h | cases h)⟩
      simp (disch := first | (simp only [dd, dr]; done) | omega) only [W_184, I_lt, I_le, I_inj, inB_I, tc_I, Int.toNat_natCast, fkt, rf1, rf0, cq, Nat.reduceAdd, Nat.reduceEqDiff, Int.reduceToNat, eq_self, true_and, and_true, true_or, or_true, bI_0, bI_1, mm, rAm, mF_sF, mR_sR, false_and, and_false, if_false, if_true, false_or, or_false, not_true_eq_false, not_false_eq_true, and_self]
      refine hX (by omega) _ _ b1 (fun g a1 a2 a3 => ?_) ?_ (fun x a1 a2 => ?_)
      · rw [fu_n _ _ a2, fu_n _ _ a1]; exact ge g a1 a2 a3
      · rw [fu_s, h4]; rfl
      · unfold kp; rw [if_pos a2]; exact hb1x x a1 a2
  subst hok
  simp only [] at hcd
  rw [fu_idv (szO_1 X zo (by omega))] at m2
  obtain ⟨W1, SF1⟩ := hgo1 rfl
  have mem1 := SF1.mem W
  have hi1 : ∀ o', o' < 61 → (ky o' 0 0 ∈ its T1 ↔ ky o' 0 0 ∈ its T) := by
    intro o' ho'
    rw [mem1]
    constructor
    · rintro (⟨h, _⟩ | ⟨_, h⟩)
      · have := (ky_inj (by omega) (by omega) (by omega) (by omega) h).2.1; omega
      · exact h
    · intro h
      exact .inr ⟨fun e => by have := (ky_inj (by omega) (by omega) (by omega) (by omega) e).2.1; omega, h⟩
  have mo1 : MO s2 T1 X dt := S.2.tree F2 hl hi1 SF1.2.1
  have hl1 : ∀ o, o < 61 → ky o 0 0 ∈ its T1 → (oD X o).length ≤ 16 := fun o' ho' h => hl o' ho' ((hi1 o' ho').mp h)
  obtain ⟨y1, y2, _⟩ := mo1.2.1 zo (by omega) ((hi1 zo (by omega)).mpr o3)
  obtain ⟨x1, x2, _⟩ := mo1.2.1 vo (by omega) ((hi1 vo (by omega)).mpr p3)
  have xl : fz s2 (218 + (zo : Int)) ((oS X zo : Int) + 1) (157 + (vo : Int)) = oL X vo := by rw [fz_n _ _ (by omega)]; exact x1
  have fin : MS (fz (fz s2 (218 + (zo : Int)) ((oS X zo : Int) + 1)) (157 + (vo : Int)) ((oL X vo : Int) + 1)) T1 (lkX X zo nn vo) dt := by
    refine ⟨?_, ?_⟩
    · have t3 : MT (fz (fz s2 (218 + (zo : Int)) ((oS X zo : Int) + 1)) (157 + (vo : Int)) ((oL X vo : Int) + 1)) T1 (szO X) (fu (tlX X) (ky zo 1 nn) vo) := m2.eqs (fun x hx => by rw [fz_n _ _ (by omega), fz_n _ _ (by omega)])
      unfold lkX
      rw [szO_vS, szO_vS, szO_vE _ _ _ (by omega), tlX_vS, tlX_vS, tlX_vE _ _ _ (by omega)]
      exact t3
    · have mo2 : MO s2 T1 (vE X (ky zo 1 nn) vo) dt := mo1
      have mo3 : MO (fz s2 (218 + (zo : Int)) ((oS X zo : Int) + 1)) T1 (vS (vE X (ky zo 1 nn) vo) zo (oK X zo) (oL X zo) (oS X zo + 1)) dt := mo2.st (by omega) hl1 (by rw [fz_n _ _ (by omega)]; exact y1) (by rw [fz_e _ _ rfl]; rfl) (fun x a1 a2 => fz_n _ _ a2)
      have e1 : oK (vS (vE X (ky zo 1 nn) vo) zo (oK X zo) (oL X zo) (oS X zo + 1)) vo = oK X vo := by rw [(vS_at _ _ _ _ _).1, fu_n _ _ hzv]; rfl
      have e3 : oS (vS (vE X (ky zo 1 nn) vo) zo (oK X zo) (oL X zo) (oS X zo + 1)) vo = oS X vo := by rw [(vS_at _ _ _ _ _).2.2.1, fu_n _ _ hzv]; rfl
      have mo4 := mo3.st (s' := fz (fz s2 (218 + (zo : Int)) ((oS X zo : Int) + 1)) (157 + (vo : Int)) ((oL X vo : Int) + 1)) (v := vo) (l := oL X vo + 1) (n := oS X vo) (by omega) hl1 (by rw [fz_e _ _ rfl]; rfl) (by rw [fz_n _ _ (by omega), fz_n _ _ (by omega)]; exact x2) (fun x a1 a2 => fz_n _ _ a1)
      rw [e1] at mo4
      exact mo4
  simp (disch := first | (simp only [dd, dr]; done) | omega) only [W_184, msK, msR, msF, ms1, msS1, k0, k1, k6, y2, xl, I_lt, I_le, I_inj, inB_I, tc_I, Int.toNat_natCast, fkt, rf1, rf0, cq, Nat.reduceAdd, Nat.reduceEqDiff, Int.reduceToNat, eq_self, true_and, and_true, true_or, or_true, bI_0, bI_1, mm, rAm, mF_sF, mR_sR, false_and, and_false, if_false, if_true, false_or, or_false, not_true_eq_false, not_false_eq_true, and_self]
  refine ca_183 (by omega) (m_ended hK' (by omega) (fun h => ?_) (fun h => ?_) (.inl g47))
  rotate_left
  · rw [g47] at h; cases h
  have rl : fz (fz s2 (218 + (zo : Int)) ((oS X zo : Int) + 1)) (157 + (vo : Int)) ((oL X vo : Int) + 1) (157 + (vo : Int)) = ((oL X vo + 1 : Nat) : Int) := by rw [fz_e _ _ rfl]; rfl
  simp (disch := first | (simp only [dd, dr]; done) | omega) only [W_184, I_lt, I_le, I_inj, inB_I, tc_I, Int.toNat_natCast, fkt, rf1, rf0, cq, Nat.reduceAdd, Nat.reduceEqDiff, Int.reduceToNat, eq_self, true_and, and_true, true_or, or_true, bI_0, bI_1, mm, rAm, mF_sF, mR_sR, false_and, and_false, if_false, if_true, false_or, or_false, not_true_eq_false, not_false_eq_true, and_self]
  refine ⟨(fun h => by first | exact False.elim h | exact absurd trivial h | (exfalso; omega) | exact absurd rfl h | cases h), fun _ => ?_⟩
  simp (disch := first | (simp only [dd, dr]; done) | omega) only [W_184, msK, msR, msF, ms1, msS1, k0, k1, k6, rl, I_lt, I_le, I_inj, inB_I, tc_I, Int.toNat_natCast, fkt, rf1, rf0, cq, Nat.reduceAdd, Nat.reduceEqDiff, Int.reduceToNat, eq_self, true_and, and_true, true_or, or_true, bI_0, bI_1, mm, rAm, mF_sF, mR_sR, false_and, and_false, if_false, if_true, false_or, or_false, not_true_eq_false, not_false_eq_true, and_self]
  exact hR hcd.symm T1 hg1 f1 _ b1 ge g54 fin
end Mlk
