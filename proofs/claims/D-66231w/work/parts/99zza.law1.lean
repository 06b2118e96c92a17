/-! ===== THE LAW: its cases ===== -/
section Lw2
variable {d p o q a m J n i k N0 S0 : Nat} {sc : Nat → Int} {M M' : Mem} {A A' : Ad} {T T' Tc : Tr} {X X' Xc : Ob} {dt dtc la : Nat → Nat → Nat} {par parc : Nat → Nat} {v : Dv} {Q : Outcome → Mem → Prop}
theorem rd_lt (w : WO m T X dt par) {off : Bool} {z y : Int} (h : rdC off T X z y = 0) : fc X dt z.toNat y.toNat < 256 := by
  unfold rdC at h
  split at h
  · cases h
  · split at h
    · rename_i hh
      obtain ⟨zo, rfl, o1, o2, o3, o4⟩ := isk_of hh.1
      have := hh.2.2
      simp only [Int.toNat_natCast] at *
      exact w.fc o4 (by omega)
    · cases h
theorem win_ex (w : WO m T X dt par) (z y x : Int) : ∃ win, ∀ nw, isk T X x 0 = true → itr par nw x.toNat = 1 → wth par (tol T X z.toNat y).toNat nw x.toNat = win := by
  by_cases h : isk T X x 0 = true
  · obtain ⟨xo, rfl, p1, p2, p3, p4⟩ := isk_of h
    simp only [Int.toNat_natCast]
    have w14 := w.2.2.2.2.2.2.2.2.2.2.2.2.2
    obtain ⟨nx, hnx⟩ := w14.2.2 xo p4
    refine ⟨wth par (tol T X z.toNat y).toNat nx xo, fun nw _ hnw => ?_⟩
    by_cases h1 : (tol T X z.toNat y).toNat = 1
    · exfalso
      unfold tol at h1
      split at h1
      · rename_i hh
        rw [Int.toNat_natCast] at h1
        have := (w.he z.toNat y.toNat (by omega) hh.2.2).1
        omega
      · simp at h1
    · exact wth_eq w14.1 h1 nw nx xo hnw hnx
  · exact ⟨false, fun nw h' => absurd h' h⟩
set_option maxHeartbeats 2000000 in
theorem law_read (hd : 120 ≤ d) (hn : n ≤ 3074) (hsc : ∀ i, i32 (sc i)) (L : LWs M p o q a m J n sc N0 S0 A T X dt par Tc Xc dtc parc la v k) (hi : i + 6 ≤ n) {l5 l6 : Option Value} (next : Nx d p o q a m J n sc N0 S0 k i Q) : Wp d 233 776 [some (.ref a), some (.ref p), some (.ref o), some (.ref q), some (.int (I (i : Nat))), l5, l6] [] M Q := by
  have L0 := L
  obtain ⟨⟨C, D, V, K⟩, ⟨f, s, b, c, w, j, md, fv, S1, S2⟩, ⟨w1, w2, dv⟩, ⟨kq, ka, hs⟩, ap, hqo, hao, haq, _, _⟩ := L
  have ql := (ap q (.inr (.inl rfl))).1
  have hm := C.m96
  have hm1 : 1 ≤ m := by have := C.1.2.2.2.2.2.2.2.2.2.2.1; omega
  have kp1 := C.1.1.1
  have hoff := V.f.2.2.1
  have hl6 : (i : Int) + 6 = ((i + 6 : Nat) : Int) := by omega
  have e1 := hs (i + 1) (by omega)
  have ha1 : (i : Int) + 1 = ((i + 1 : Nat) : Int) := by omega
  obtain ⟨b10, b11⟩ := hsc (i + 1)
  have e2 := hs (i + 2) (by omega)
  have ha2 : (i : Int) + 2 = ((i + 2 : Nat) : Int) := by omega
  obtain ⟨b20, b21⟩ := hsc (i + 2)
  simp (disch := first | (simp only [dd, dr]; done) | omega) only [W_233_11, W_233_12, ha1, ha2, ka, e1, e2, I_lt, I_le, I_inj, inB_I, tc_I, Int.toNat_natCast, fkt, rf1, rf0, cq, Nat.reduceAdd, Nat.reduceEqDiff, Int.reduceToNat, eq_self, true_and, and_true, true_or, or_true, bI_0, bI_1, mm, rAm, mF_sF, mR_sR, false_and, and_false, if_false, if_true, false_or, or_false, not_true_eq_false, not_false_eq_true, and_self]
  refine cr_8 (by omega) (wr_8 (by omega) kp1 (c_read (by omega) C D w1.ok.1 w1.ok.fo hoff b10 b11 b20 b21 (fun k' M' A' e ke hP C' D' F' => ?_) (fun hc M' C' D' F' => ?_)))
  · obtain ⟨hc, hk⟩ := hP
    subst hk
    obtain ⟨g1, g2, g3, g4, g5⟩ := L0.mid (F'.cd J)
    have md1 := g1 _ _ _ _ _ _ md
    have hK := md1.1
    have k8 := hK.1
    have V1 := DJ.cf V C.2.2.2.1 C.2.2.2.2 hm F'
    refine .inr ⟨e, _, _, rfl, ke, mem2 hc rdC_le, ?_⟩
    rw [← md1.eq]
    have e1m : mA (ms M' o f s b c w j) a (i + 1) = I (sc (i + 1)) := by rw [md1.eq]; exact g4 _ (by omega)
    have e2m : mA (ms M' o f s b c w j) a (i + 2) = I (sc (i + 2)) := by rw [md1.eq]; exact g4 _ (by omega)
    simp (disch := first | (simp only [dd, dr]; done) | omega) only [W_233_11, W_233_12, ha1, ha2, msK, g3, e1m, e2m, k8, I_lt, I_le, I_inj, inB_I, tc_I, Int.toNat_natCast, fkt, rf1, rf0, cq, Nat.reduceAdd, Nat.reduceEqDiff, Int.reduceToNat, eq_self, true_and, and_true, true_or, or_true, bI_0, bI_1, mm, rAm, mF_sF, mR_sR, false_and, and_false, if_false, if_true, false_or, or_false, not_true_eq_false, not_false_eq_true, and_self]
    refine ca_206 (by omega) (m_read hK (by omega) S1 w1.ok fv.2.2.2.2.1 b10 b11 b20 b21 (fun _ f' he h54 => ?_) (fun h => absurd h hc))
    simp (disch := first | (simp only [dd, dr]; done) | omega) only [W_233_11, W_233_12, msK, k8, I_lt, I_le, I_inj, inB_I, tc_I, Int.toNat_natCast, fkt, rf1, rf0, cq, Nat.reduceAdd, Nat.reduceEqDiff, Int.reduceToNat, eq_self, true_and, and_true, true_or, or_true, bI_0, bI_1, mm, rAm, mF_sF, mR_sR, false_and, and_false, if_false, if_true, false_or, or_false, not_true_eq_false, not_false_eq_true, and_self]
    refine ca_155 (by omega) (m_thrown hK ?_)
    rw [h54]
    have hle := rdC_le (T := T) (X := X) (off := v.2.2.1) (z := sc (i + 1)) (y := sc (i + 2))
    generalize rdC v.2.2.1 T X (sc (i + 1)) (sc (i + 2)) = cd at *
    simp (disch := first | (simp only [dd, dr]; done) | omega) only [W_233_11, W_233_12, I_lt, I_le, I_inj, inB_I, tc_I, Int.toNat_natCast, fkt, rf1, rf0, cq, Nat.reduceAdd, Nat.reduceEqDiff, Int.reduceToNat, eq_self, true_and, and_true, true_or, or_true, bI_0, bI_1, mm, rAm, mF_sF, mR_sR, false_and, and_false, if_false, if_true, false_or, or_false, not_true_eq_false, not_false_eq_true, and_self]
    refine ⟨fun _ => ?_, (fun h => by first | exact False.elim h | exact absurd trivial h | (exfalso; omega) | exact absurd rfl h | cases h)⟩
    simp (disch := first | (simp only [dd, dr]; done) | omega) only [W_233_11, W_233_12, I_lt, I_le, I_inj, inB_I, tc_I, Int.toNat_natCast, fkt, rf1, rf0, cq, Nat.reduceAdd, Nat.reduceEqDiff, Int.reduceToNat, eq_self, true_and, and_true, true_or, or_true, bI_0, bI_1, mm, rAm, mF_sF, mR_sR, false_and, and_false, if_false, if_true, false_or, or_false, not_true_eq_false, not_false_eq_true, and_self]
    refine ⟨fun _ => ?_, (fun h => by first | exact False.elim h | exact absurd trivial h | (exfalso; omega) | exact absurd rfl h | cases h)⟩
    simp (disch := first | (simp only [dd, dr]; done) | omega) only [W_233_11, W_233_12, W_233_22, W_233_23, hl6, I_lt, I_le, I_inj, inB_I, tc_I, Int.toNat_natCast, fkt, rf1, rf0, cq, Nat.reduceAdd, Nat.reduceEqDiff, Int.reduceToNat, eq_self, true_and, and_true, true_or, or_true, bI_0, bI_1, mm, rAm, mF_sF, mR_sR, false_and, and_false, if_false, if_true, false_or, or_false, not_true_eq_false, not_false_eq_true, and_self]
    exact next _ A' T X dt par Tc Xc dtc parc la v _ _ (L0.step (F'.cd J) (by omega) (.inl rfl) C' D' V1 K (fv.fe he) (S1) S2 w1 w2 dv)
  · skip
    obtain ⟨g1, g2, g3, g4, g5⟩ := L0.mid (F'.cd J)
    have md1 := g1 _ _ _ _ _ _ md
    have V1 := DJ.cf V C.2.2.2.1 C.2.2.2.2 hm F'
    refine .inl ⟨_, rfl, g2, ?_⟩
    rw [Nat.mod_eq_of_lt (rd_lt w1 hc)]
    have md2 := md1.sL hqo (I (fc X dt (sc (i + 1)).toNat (sc (i + 2)).toNat : Nat)).toInt64
    have hK := md2.1
    have k8 := hK.1
    rw [← md2.eq]
    have e1m : mA (ms (sL M' q 0 (I (fc X dt (sc (i + 1)).toNat (sc (i + 2)).toNat : Nat)).toInt64) o f s b c w j) a (i + 1) = I (sc (i + 1)) := by rw [md2.eq]; exact g4 _ (by omega)
    have e2m : mA (ms (sL M' q 0 (I (fc X dt (sc (i + 1)).toNat (sc (i + 2)).toNat : Nat)).toInt64) o f s b c w j) a (i + 2) = I (sc (i + 2)) := by rw [md2.eq]; exact g4 _ (by omega)
    simp (disch := first | (simp only [dd, dr]; done) | omega) only [W_233_11, W_233_12, ha1, ha2, msK, g3, e1m, e2m, k8, I_lt, I_le, I_inj, inB_I, tc_I, Int.toNat_natCast, fkt, rf1, rf0, cq, Nat.reduceAdd, Nat.reduceEqDiff, Int.reduceToNat, eq_self, true_and, and_true, true_or, or_true, bI_0, bI_1, mm, rAm, mF_sF, mR_sR, false_and, and_false, if_false, if_true, false_or, or_false, not_true_eq_false, not_false_eq_true, and_self]
    refine ca_206 (by omega) (m_read hK (by omega) S1 w1.ok fv.2.2.2.2.1 b10 b11 b20 b21 (fun h => absurd hc h) (fun _ f' he h54 => ?_))
    simp (disch := first | (simp only [dd, dr]; done) | omega) only [W_233_11, W_233_12, msK, k8, I_lt, I_le, I_inj, inB_I, tc_I, Int.toNat_natCast, fkt, rf1, rf0, cq, Nat.reduceAdd, Nat.reduceEqDiff, Int.reduceToNat, eq_self, true_and, and_true, true_or, or_true, bI_0, bI_1, mm, rAm, mF_sF, mR_sR, false_and, and_false, if_false, if_true, false_or, or_false, not_true_eq_false, not_false_eq_true, and_self]
    refine ca_155 (by omega) (m_thrown hK ?_)
    rw [h54]
    simp (disch := first | (simp only [dd, dr]; done) | omega) only [W_233_11, W_233_12, I_lt, I_le, I_inj, inB_I, tc_I, Int.toNat_natCast, fkt, rf1, rf0, cq, Nat.reduceAdd, Nat.reduceEqDiff, Int.reduceToNat, eq_self, true_and, and_true, true_or, or_true, bI_0, bI_1, mm, rAm, mF_sF, mR_sR, false_and, and_false, if_false, if_true, false_or, or_false, not_true_eq_false, not_false_eq_true, and_self]
    refine ⟨fun _ => ?_, (fun h => by first | exact False.elim h | exact absurd trivial h | (exfalso; omega) | exact absurd rfl h | cases h)⟩
    simp (disch := first | (simp only [dd, dr]; done) | omega) only [W_233_11, W_233_12, I_lt, I_le, I_inj, inB_I, tc_I, Int.toNat_natCast, fkt, rf1, rf0, cq, Nat.reduceAdd, Nat.reduceEqDiff, Int.reduceToNat, eq_self, true_and, and_true, true_or, or_true, bI_0, bI_1, mm, rAm, mF_sF, mR_sR, false_and, and_false, if_false, if_true, false_or, or_false, not_true_eq_false, not_false_eq_true, and_self]
    refine ⟨(fun h => by first | exact False.elim h | exact absurd trivial h | (exfalso; omega) | exact absurd rfl h | cases h), fun _ => ?_⟩
    simp (disch := first | (simp only [dd, dr]; done) | omega) only [W_233_11, W_233_12, msK, msR, g2, mL_sL, lgc, I_lt, I_le, I_inj, inB_I, tc_I, Int.toNat_natCast, fkt, rf1, rf0, cq, Nat.reduceAdd, Nat.reduceEqDiff, Int.reduceToNat, eq_self, true_and, and_true, true_or, or_true, bI_0, bI_1, mm, rAm, mF_sF, mR_sR, false_and, and_false, if_false, if_true, false_or, or_false, not_true_eq_false, not_false_eq_true, and_self]
    refine ⟨fun _ => ?_, (fun h => by first | exact False.elim h | exact absurd trivial h | (exfalso; omega) | exact absurd rfl h | cases h)⟩
    simp (disch := first | (simp only [dd, dr]; done) | omega) only [W_233_11, W_233_12, W_233_22, W_233_23, hl6, I_lt, I_le, I_inj, inB_I, tc_I, Int.toNat_natCast, fkt, rf1, rf0, cq, Nat.reduceAdd, Nat.reduceEqDiff, Int.reduceToNat, eq_self, true_and, and_true, true_or, or_true, bI_0, bI_1, mm, rAm, mF_sF, mR_sR, false_and, and_false, if_false, if_true, false_or, or_false, not_true_eq_false, not_false_eq_true, and_self]
    exact next _ A T X dt par Tc Xc dtc parc la v _ _ (L0.step (F'.cd J) (by omega) (.inr ⟨_, rfl⟩) C' D' V1 K (fv.fe he) S1 S2 w1 w2 dv)
set_option maxHeartbeats 2000000 in
theorem law_name (hd : 120 ≤ d) (hn : n ≤ 3074) (hsc : ∀ i, i32 (sc i)) (L : LWs M p o q a m J n sc N0 S0 A T X dt par Tc Xc dtc parc la v k) (hi : i + 6 ≤ n) {l5 l6 : Option Value} (next : Nx d p o q a m J n sc N0 S0 k i Q) : Wp d 233 912 [some (.ref a), some (.ref p), some (.ref o), some (.ref q), some (.int (I (i : Nat))), l5, l6] [] M Q := by
  have L0 := L
  obtain ⟨⟨C, D, V, K⟩, ⟨f, s, b, c, w, j, md, fv, S1, S2⟩, ⟨w1, w2, dv⟩, ⟨kq, ka, hs⟩, ap, hqo, hao, haq, _, _⟩ := L
  have ql := (ap q (.inr (.inl rfl))).1
  have hm := C.m96
  have hm1 : 1 ≤ m := by have := C.1.2.2.2.2.2.2.2.2.2.2.1; omega
  have kp1 := C.1.1.1
  have hoff := V.f.2.2.1
  have hl6 : (i : Int) + 6 = ((i + 6 : Nat) : Int) := by omega
  have e1 := hs (i + 1) (by omega)
  have ha1 : (i : Int) + 1 = ((i + 1 : Nat) : Int) := by omega
  obtain ⟨b10, b11⟩ := hsc (i + 1)
  have e2 := hs (i + 2) (by omega)
  have ha2 : (i : Int) + 2 = ((i + 2 : Nat) : Int) := by omega
  obtain ⟨b20, b21⟩ := hsc (i + 2)
  simp (disch := first | (simp only [dd, dr]; done) | omega) only [W_233_14, W_233_15, ha1, ha2, ka, e1, e2, I_lt, I_le, I_inj, inB_I, tc_I, Int.toNat_natCast, fkt, rf1, rf0, cq, Nat.reduceAdd, Nat.reduceEqDiff, Int.reduceToNat, eq_self, true_and, and_true, true_or, or_true, bI_0, bI_1, mm, rAm, mF_sF, mR_sR, false_and, and_false, if_false, if_true, false_or, or_false, not_true_eq_false, not_false_eq_true, and_self]
  refine cr_10 (by omega) (wr_10 (by omega) kp1 (c_name (by omega) C D w1.ok hoff b10 b11 b20 b21 (fun k' M' A' e ke hP C' D' F' => ?_) (fun hc M' C' D' F' => ?_)))
  · obtain ⟨hc, hk⟩ := hP
    subst hk
    obtain ⟨g1, g2, g3, g4, g5⟩ := L0.mid (F'.cd J)
    have md1 := g1 _ _ _ _ _ _ md
    have hK := md1.1
    have k8 := hK.1
    have V1 := DJ.cf V C.2.2.2.1 C.2.2.2.2 hm F'
    refine .inr ⟨e, _, _, rfl, ke, mem2 hc nameC_le, ?_⟩
    rw [← md1.eq]
    have e1m : mA (ms M' o f s b c w j) a (i + 1) = I (sc (i + 1)) := by rw [md1.eq]; exact g4 _ (by omega)
    have e2m : mA (ms M' o f s b c w j) a (i + 2) = I (sc (i + 2)) := by rw [md1.eq]; exact g4 _ (by omega)
    simp (disch := first | (simp only [dd, dr]; done) | omega) only [W_233_14, W_233_15, ha1, ha2, msK, g3, e1m, e2m, k8, I_lt, I_le, I_inj, inB_I, tc_I, Int.toNat_natCast, fkt, rf1, rf0, cq, Nat.reduceAdd, Nat.reduceEqDiff, Int.reduceToNat, eq_self, true_and, and_true, true_or, or_true, bI_0, bI_1, mm, rAm, mF_sF, mR_sR, false_and, and_false, if_false, if_true, false_or, or_false, not_true_eq_false, not_false_eq_true, and_self]
    refine ca_208 (by omega) (m_name hK (by omega) S1 w1.1.1 w1.ok fv.2.2.2.2.1 b10 b11 b20 b21 (fun _ f' he h54 => ?_) (fun h => absurd h hc))
    simp (disch := first | (simp only [dd, dr]; done) | omega) only [W_233_14, W_233_15, msK, k8, I_lt, I_le, I_inj, inB_I, tc_I, Int.toNat_natCast, fkt, rf1, rf0, cq, Nat.reduceAdd, Nat.reduceEqDiff, Int.reduceToNat, eq_self, true_and, and_true, true_or, or_true, bI_0, bI_1, mm, rAm, mF_sF, mR_sR, false_and, and_false, if_false, if_true, false_or, or_false, not_true_eq_false, not_false_eq_true, and_self]
    refine ca_155 (by omega) (m_thrown hK ?_)
    rw [h54]
    have hle := nameC_le (T := T) (X := X) (off := v.2.2.1) (z := sc (i + 1)) (y := sc (i + 2))
    generalize nameC v.2.2.1 T X (sc (i + 1)) (sc (i + 2)) = cd at *
    simp (disch := first | (simp only [dd, dr]; done) | omega) only [W_233_14, W_233_15, I_lt, I_le, I_inj, inB_I, tc_I, Int.toNat_natCast, fkt, rf1, rf0, cq, Nat.reduceAdd, Nat.reduceEqDiff, Int.reduceToNat, eq_self, true_and, and_true, true_or, or_true, bI_0, bI_1, mm, rAm, mF_sF, mR_sR, false_and, and_false, if_false, if_true, false_or, or_false, not_true_eq_false, not_false_eq_true, and_self]
    refine ⟨fun _ => ?_, (fun h => by first | exact False.elim h | exact absurd trivial h | (exfalso; omega) | exact absurd rfl h | cases h)⟩
    simp (disch := first | (simp only [dd, dr]; done) | omega) only [W_233_14, W_233_15, I_lt, I_le, I_inj, inB_I, tc_I, Int.toNat_natCast, fkt, rf1, rf0, cq, Nat.reduceAdd, Nat.reduceEqDiff, Int.reduceToNat, eq_self, true_and, and_true, true_or, or_true, bI_0, bI_1, mm, rAm, mF_sF, mR_sR, false_and, and_false, if_false, if_true, false_or, or_false, not_true_eq_false, not_false_eq_true, and_self]
    refine ⟨fun _ => ?_, (fun h => by first | exact False.elim h | exact absurd trivial h | (exfalso; omega) | exact absurd rfl h | cases h)⟩
    simp (disch := first | (simp only [dd, dr]; done) | omega) only [W_233_14, W_233_15, W_233_22, W_233_23, hl6, I_lt, I_le, I_inj, inB_I, tc_I, Int.toNat_natCast, fkt, rf1, rf0, cq, Nat.reduceAdd, Nat.reduceEqDiff, Int.reduceToNat, eq_self, true_and, and_true, true_or, or_true, bI_0, bI_1, mm, rAm, mF_sF, mR_sR, false_and, and_false, if_false, if_true, false_or, or_false, not_true_eq_false, not_false_eq_true, and_self]
    exact next _ A' T X dt par Tc Xc dtc parc la v _ _ (L0.step (F'.cd J) (by omega) (.inl rfl) C' D' V1 K (fv.fe he) (S1) S2 w1 w2 dv)
  · skip
    obtain ⟨g1, g2, g3, g4, g5⟩ := L0.mid (F'.cd J)
    have md1 := g1 _ _ _ _ _ _ md
    have V1 := DJ.cf V C.2.2.2.1 C.2.2.2.2 hm F'
    refine .inl ⟨_, rfl, g2, ?_⟩
    have md2 := md1.sL hqo (I (((ents T (sc (i + 1)).toNat).getD (sc (i + 2)).toNat 0 % 1024 : Nat) : Int)).toInt64
    have hK := md2.1
    have k8 := hK.1
    rw [← md2.eq]
    have e1m : mA (ms (sL M' q 0 (I (((ents T (sc (i + 1)).toNat).getD (sc (i + 2)).toNat 0 % 1024 : Nat) : Int)).toInt64) o f s b c w j) a (i + 1) = I (sc (i + 1)) := by rw [md2.eq]; exact g4 _ (by omega)
    have e2m : mA (ms (sL M' q 0 (I (((ents T (sc (i + 1)).toNat).getD (sc (i + 2)).toNat 0 % 1024 : Nat) : Int)).toInt64) o f s b c w j) a (i + 2) = I (sc (i + 2)) := by rw [md2.eq]; exact g4 _ (by omega)
    simp (disch := first | (simp only [dd, dr]; done) | omega) only [W_233_14, W_233_15, ha1, ha2, msK, g3, e1m, e2m, k8, I_lt, I_le, I_inj, inB_I, tc_I, Int.toNat_natCast, fkt, rf1, rf0, cq, Nat.reduceAdd, Nat.reduceEqDiff, Int.reduceToNat, eq_self, true_and, and_true, true_or, or_true, bI_0, bI_1, mm, rAm, mF_sF, mR_sR, false_and, and_false, if_false, if_true, false_or, or_false, not_true_eq_false, not_false_eq_true, and_self]
    refine ca_208 (by omega) (m_name hK (by omega) S1 w1.1.1 w1.ok fv.2.2.2.2.1 b10 b11 b20 b21 (fun h => absurd hc h) (fun _ f' he h54 => ?_))
    simp (disch := first | (simp only [dd, dr]; done) | omega) only [W_233_14, W_233_15, msK, k8, I_lt, I_le, I_inj, inB_I, tc_I, Int.toNat_natCast, fkt, rf1, rf0, cq, Nat.reduceAdd, Nat.reduceEqDiff, Int.reduceToNat, eq_self, true_and, and_true, true_or, or_true, bI_0, bI_1, mm, rAm, mF_sF, mR_sR, false_and, and_false, if_false, if_true, false_or, or_false, not_true_eq_false, not_false_eq_true, and_self]
    refine ca_155 (by omega) (m_thrown hK ?_)
    rw [h54]
    simp (disch := first | (simp only [dd, dr]; done) | omega) only [W_233_14, W_233_15, I_lt, I_le, I_inj, inB_I, tc_I, Int.toNat_natCast, fkt, rf1, rf0, cq, Nat.reduceAdd, Nat.reduceEqDiff, Int.reduceToNat, eq_self, true_and, and_true, true_or, or_true, bI_0, bI_1, mm, rAm, mF_sF, mR_sR, false_and, and_false, if_false, if_true, false_or, or_false, not_true_eq_false, not_false_eq_true, and_self]
    refine ⟨fun _ => ?_, (fun h => by first | exact False.elim h | exact absurd trivial h | (exfalso; omega) | exact absurd rfl h | cases h)⟩
    simp (disch := first | (simp only [dd, dr]; done) | omega) only [W_233_14, W_233_15, I_lt, I_le, I_inj, inB_I, tc_I, Int.toNat_natCast, fkt, rf1, rf0, cq, Nat.reduceAdd, Nat.reduceEqDiff, Int.reduceToNat, eq_self, true_and, and_true, true_or, or_true, bI_0, bI_1, mm, rAm, mF_sF, mR_sR, false_and, and_false, if_false, if_true, false_or, or_false, not_true_eq_false, not_false_eq_true, and_self]
    refine ⟨(fun h => by first | exact False.elim h | exact absurd trivial h | (exfalso; omega) | exact absurd rfl h | cases h), fun _ => ?_⟩
    simp (disch := first | (simp only [dd, dr]; done) | omega) only [W_233_14, W_233_15, msK, msR, g2, mL_sL, lgc, I_lt, I_le, I_inj, inB_I, tc_I, Int.toNat_natCast, fkt, rf1, rf0, cq, Nat.reduceAdd, Nat.reduceEqDiff, Int.reduceToNat, eq_self, true_and, and_true, true_or, or_true, bI_0, bI_1, mm, rAm, mF_sF, mR_sR, false_and, and_false, if_false, if_true, false_or, or_false, not_true_eq_false, not_false_eq_true, and_self]
    refine ⟨fun _ => ?_, (fun h => by first | exact False.elim h | exact absurd trivial h | (exfalso; omega) | exact absurd rfl h | cases h)⟩
    simp (disch := first | (simp only [dd, dr]; done) | omega) only [W_233_14, W_233_15, W_233_22, W_233_23, hl6, I_lt, I_le, I_inj, inB_I, tc_I, Int.toNat_natCast, fkt, rf1, rf0, cq, Nat.reduceAdd, Nat.reduceEqDiff, Int.reduceToNat, eq_self, true_and, and_true, true_or, or_true, bI_0, bI_1, mm, rAm, mF_sF, mR_sR, false_and, and_false, if_false, if_true, false_or, or_false, not_true_eq_false, not_false_eq_true, and_self]
    exact next _ A T X dt par Tc Xc dtc parc la v _ _ (L0.step (F'.cd J) (by omega) (.inr ⟨_, rfl⟩) C' D' V1 K (fv.fe he) S1 S2 w1 w2 dv)
set_option maxHeartbeats 2000000 in
theorem law_about (hd : 120 ≤ d) (hn : n ≤ 3074) (hsc : ∀ i, i32 (sc i)) (L : LWs M p o q a m J n sc N0 S0 A T X dt par Tc Xc dtc parc la v k) (hi : i + 6 ≤ n) {l5 l6 : Option Value} (next : Nx d p o q a m J n sc N0 S0 k i Q) : Wp d 233 980 [some (.ref a), some (.ref p), some (.ref o), some (.ref q), some (.int (I (i : Nat))), l5, l6] [] M Q := by
  have L0 := L
  obtain ⟨⟨C, D, V, K⟩, ⟨f, s, b, c, w, j, md, fv, S1, S2⟩, ⟨w1, w2, dv⟩, ⟨kq, ka, hs⟩, ap, hqo, hao, haq, _, _⟩ := L
  have ql := (ap q (.inr (.inl rfl))).1
  have hm := C.m96
  have hm1 : 1 ≤ m := by have := C.1.2.2.2.2.2.2.2.2.2.2.1; omega
  have kp1 := C.1.1.1
  have hoff := V.f.2.2.1
  have hl6 : (i : Int) + 6 = ((i + 6 : Nat) : Int) := by omega
  have e1 := hs (i + 1) (by omega)
  have ha1 : (i : Int) + 1 = ((i + 1 : Nat) : Int) := by omega
  obtain ⟨b10, b11⟩ := hsc (i + 1)
  have e2 := hs (i + 2) (by omega)
  have ha2 : (i : Int) + 2 = ((i + 2 : Nat) : Int) := by omega
  obtain ⟨b20, b21⟩ := hsc (i + 2)
  simp (disch := first | (simp only [dd, dr]; done) | omega) only [W_233_15, W_233_16, ha1, ha2, ka, e1, e2, I_lt, I_le, I_inj, inB_I, tc_I, Int.toNat_natCast, fkt, rf1, rf0, cq, Nat.reduceAdd, Nat.reduceEqDiff, Int.reduceToNat, eq_self, true_and, and_true, true_or, or_true, bI_0, bI_1, mm, rAm, mF_sF, mR_sR, false_and, and_false, if_false, if_true, false_or, or_false, not_true_eq_false, not_false_eq_true, and_self]
  refine cr_11 (by omega) (wr_11 (by omega) kp1 (c_about (by omega) C D w1.ok hoff b10 b11 b20 b21 (fun k' M' A' e ke hP C' D' F' => ?_) (fun hc M' C' D' F' => ?_)))
  · obtain ⟨hc, hk⟩ := hP
    subst hk
    obtain ⟨g1, g2, g3, g4, g5⟩ := L0.mid (F'.cd J)
    have md1 := g1 _ _ _ _ _ _ md
    have hK := md1.1
    have k8 := hK.1
    have V1 := DJ.cf V C.2.2.2.1 C.2.2.2.2 hm F'
    refine .inr ⟨e, _, _, rfl, ke, mem3 hc abC_le, ?_⟩
    rw [← md1.eq]
    have e1m : mA (ms M' o f s b c w j) a (i + 1) = I (sc (i + 1)) := by rw [md1.eq]; exact g4 _ (by omega)
    have e2m : mA (ms M' o f s b c w j) a (i + 2) = I (sc (i + 2)) := by rw [md1.eq]; exact g4 _ (by omega)
    simp (disch := first | (simp only [dd, dr]; done) | omega) only [W_233_15, W_233_16, ha1, ha2, msK, g3, e1m, e2m, k8, I_lt, I_le, I_inj, inB_I, tc_I, Int.toNat_natCast, fkt, rf1, rf0, cq, Nat.reduceAdd, Nat.reduceEqDiff, Int.reduceToNat, eq_self, true_and, and_true, true_or, or_true, bI_0, bI_1, mm, rAm, mF_sF, mR_sR, false_and, and_false, if_false, if_true, false_or, or_false, not_true_eq_false, not_false_eq_true, and_self]
    refine ca_209 (by omega) (m_about hK (by omega) S1 w1.ok fv.2.2.2.2.1 b10 b11 b20 b21 (fun _ f' he h54 => ?_) (fun h => absurd h hc))
    simp (disch := first | (simp only [dd, dr]; done) | omega) only [W_233_15, W_233_16, msK, k8, I_lt, I_le, I_inj, inB_I, tc_I, Int.toNat_natCast, fkt, rf1, rf0, cq, Nat.reduceAdd, Nat.reduceEqDiff, Int.reduceToNat, eq_self, true_and, and_true, true_or, or_true, bI_0, bI_1, mm, rAm, mF_sF, mR_sR, false_and, and_false, if_false, if_true, false_or, or_false, not_true_eq_false, not_false_eq_true, and_self]
    refine ca_155 (by omega) (m_thrown hK ?_)
    rw [h54]
    have hle := abC_le (T := T) (X := X) (off := v.2.2.1) (z := sc (i + 1)) (y := sc (i + 2))
    generalize abC v.2.2.1 T X (sc (i + 1)) (sc (i + 2)) = cd at *
    simp (disch := first | (simp only [dd, dr]; done) | omega) only [W_233_15, W_233_16, I_lt, I_le, I_inj, inB_I, tc_I, Int.toNat_natCast, fkt, rf1, rf0, cq, Nat.reduceAdd, Nat.reduceEqDiff, Int.reduceToNat, eq_self, true_and, and_true, true_or, or_true, bI_0, bI_1, mm, rAm, mF_sF, mR_sR, false_and, and_false, if_false, if_true, false_or, or_false, not_true_eq_false, not_false_eq_true, and_self]
    refine ⟨fun _ => ?_, (fun h => by first | exact False.elim h | exact absurd trivial h | (exfalso; omega) | exact absurd rfl h | cases h)⟩
    simp (disch := first | (simp only [dd, dr]; done) | omega) only [W_233_15, W_233_16, I_lt, I_le, I_inj, inB_I, tc_I, Int.toNat_natCast, fkt, rf1, rf0, cq, Nat.reduceAdd, Nat.reduceEqDiff, Int.reduceToNat, eq_self, true_and, and_true, true_or, or_true, bI_0, bI_1, mm, rAm, mF_sF, mR_sR, false_and, and_false, if_false, if_true, false_or, or_false, not_true_eq_false, not_false_eq_true, and_self]
    refine ⟨fun _ => ?_, (fun h => by first | exact False.elim h | exact absurd trivial h | (exfalso; omega) | exact absurd rfl h | cases h)⟩
    simp (disch := first | (simp only [dd, dr]; done) | omega) only [W_233_15, W_233_16, W_233_22, W_233_23, hl6, I_lt, I_le, I_inj, inB_I, tc_I, Int.toNat_natCast, fkt, rf1, rf0, cq, Nat.reduceAdd, Nat.reduceEqDiff, Int.reduceToNat, eq_self, true_and, and_true, true_or, or_true, bI_0, bI_1, mm, rAm, mF_sF, mR_sR, false_and, and_false, if_false, if_true, false_or, or_false, not_true_eq_false, not_false_eq_true, and_self]
    exact next _ A' T X dt par Tc Xc dtc parc la v _ _ (L0.step (F'.cd J) (by omega) (.inl rfl) C' D' V1 K (fv.fe he) (S1) S2 w1 w2 dv)
  · skip
    obtain ⟨g1, g2, g3, g4, g5⟩ := L0.mid (F'.cd J)
    have md1 := g1 _ _ _ _ _ _ md
    have V1 := DJ.cf V C.2.2.2.1 C.2.2.2.2 hm F'
    refine .inl ⟨_, rfl, g2, ?_⟩
    have md2 := md1.sL hqo (I (abV X (sc (i + 1)).toNat (sc (i + 2)).toNat : Nat)).toInt64
    have hK := md2.1
    have k8 := hK.1
    rw [← md2.eq]
    have e1m : mA (ms (sL M' q 0 (I (abV X (sc (i + 1)).toNat (sc (i + 2)).toNat : Nat)).toInt64) o f s b c w j) a (i + 1) = I (sc (i + 1)) := by rw [md2.eq]; exact g4 _ (by omega)
    have e2m : mA (ms (sL M' q 0 (I (abV X (sc (i + 1)).toNat (sc (i + 2)).toNat : Nat)).toInt64) o f s b c w j) a (i + 2) = I (sc (i + 2)) := by rw [md2.eq]; exact g4 _ (by omega)
    simp (disch := first | (simp only [dd, dr]; done) | omega) only [W_233_15, W_233_16, ha1, ha2, msK, g3, e1m, e2m, k8, I_lt, I_le, I_inj, inB_I, tc_I, Int.toNat_natCast, fkt, rf1, rf0, cq, Nat.reduceAdd, Nat.reduceEqDiff, Int.reduceToNat, eq_self, true_and, and_true, true_or, or_true, bI_0, bI_1, mm, rAm, mF_sF, mR_sR, false_and, and_false, if_false, if_true, false_or, or_false, not_true_eq_false, not_false_eq_true, and_self]
    refine ca_209 (by omega) (m_about hK (by omega) S1 w1.ok fv.2.2.2.2.1 b10 b11 b20 b21 (fun h => absurd hc h) (fun _ f' he h54 => ?_))
    simp (disch := first | (simp only [dd, dr]; done) | omega) only [W_233_15, W_233_16, msK, k8, I_lt, I_le, I_inj, inB_I, tc_I, Int.toNat_natCast, fkt, rf1, rf0, cq, Nat.reduceAdd, Nat.reduceEqDiff, Int.reduceToNat, eq_self, true_and, and_true, true_or, or_true, bI_0, bI_1, mm, rAm, mF_sF, mR_sR, false_and, and_false, if_false, if_true, false_or, or_false, not_true_eq_false, not_false_eq_true, and_self]
    refine ca_155 (by omega) (m_thrown hK ?_)
    rw [h54]
    simp (disch := first | (simp only [dd, dr]; done) | omega) only [W_233_15, W_233_16, I_lt, I_le, I_inj, inB_I, tc_I, Int.toNat_natCast, fkt, rf1, rf0, cq, Nat.reduceAdd, Nat.reduceEqDiff, Int.reduceToNat, eq_self, true_and, and_true, true_or, or_true, bI_0, bI_1, mm, rAm, mF_sF, mR_sR, false_and, and_false, if_false, if_true, false_or, or_false, not_true_eq_false, not_false_eq_true, and_self]
    refine ⟨fun _ => ?_, (fun h => by first | exact False.elim h | exact absurd trivial h | (exfalso; omega) | exact absurd rfl h | cases h)⟩
    simp (disch := first | (simp only [dd, dr]; done) | omega) only [W_233_15, W_233_16, I_lt, I_le, I_inj, inB_I, tc_I, Int.toNat_natCast, fkt, rf1, rf0, cq, Nat.reduceAdd, Nat.reduceEqDiff, Int.reduceToNat, eq_self, true_and, and_true, true_or, or_true, bI_0, bI_1, mm, rAm, mF_sF, mR_sR, false_and, and_false, if_false, if_true, false_or, or_false, not_true_eq_false, not_false_eq_true, and_self]
    refine ⟨(fun h => by first | exact False.elim h | exact absurd trivial h | (exfalso; omega) | exact absurd rfl h | cases h), fun _ => ?_⟩
    simp (disch := first | (simp only [dd, dr]; done) | omega) only [W_233_15, W_233_16, msK, msR, g2, mL_sL, lgc, I_lt, I_le, I_inj, inB_I, tc_I, Int.toNat_natCast, fkt, rf1, rf0, cq, Nat.reduceAdd, Nat.reduceEqDiff, Int.reduceToNat, eq_self, true_and, and_true, true_or, or_true, bI_0, bI_1, mm, rAm, mF_sF, mR_sR, false_and, and_false, if_false, if_true, false_or, or_false, not_true_eq_false, not_false_eq_true, and_self]
    refine ⟨fun _ => ?_, (fun h => by first | exact False.elim h | exact absurd trivial h | (exfalso; omega) | exact absurd rfl h | cases h)⟩
    simp (disch := first | (simp only [dd, dr]; done) | omega) only [W_233_15, W_233_16, W_233_22, W_233_23, hl6, I_lt, I_le, I_inj, inB_I, tc_I, Int.toNat_natCast, fkt, rf1, rf0, cq, Nat.reduceAdd, Nat.reduceEqDiff, Int.reduceToNat, eq_self, true_and, and_true, true_or, or_true, bI_0, bI_1, mm, rAm, mF_sF, mR_sR, false_and, and_false, if_false, if_true, false_or, or_false, not_true_eq_false, not_false_eq_true, and_self]
    exact next _ A T X dt par Tc Xc dtc parc la v _ _ (L0.step (F'.cd J) (by omega) (.inr ⟨_, rfl⟩) C' D' V1 K (fv.fe he) S1 S2 w1 w2 dv)
set_option maxHeartbeats 2000000 in
theorem law_node (hd : 120 ≤ d) (hn : n ≤ 3074) (hsc : ∀ i, i32 (sc i)) (L : LWs M p o q a m J n sc N0 S0 A T X dt par Tc Xc dtc parc la v k) (hi : i + 6 ≤ n) {l5 l6 : Option Value} (next : Nx d p o q a m J n sc N0 S0 k i Q) : Wp d 233 1048 [some (.ref a), some (.ref p), some (.ref o), some (.ref q), some (.int (I (i : Nat))), l5, l6] [] M Q := by
  have L0 := L
  obtain ⟨⟨C, D, V, K⟩, ⟨f, s, b, c, w, j, md, fv, S1, S2⟩, ⟨w1, w2, dv⟩, ⟨kq, ka, hs⟩, ap, hqo, hao, haq, _, _⟩ := L
  have ql := (ap q (.inr (.inl rfl))).1
  have hm := C.m96
  have hm1 : 1 ≤ m := by have := C.1.2.2.2.2.2.2.2.2.2.2.1; omega
  have kp1 := C.1.1.1
  have hoff := V.f.2.2.1
  have hl6 : (i : Int) + 6 = ((i + 6 : Nat) : Int) := by omega
  have e1 := hs (i + 1) (by omega)
  have ha1 : (i : Int) + 1 = ((i + 1 : Nat) : Int) := by omega
  obtain ⟨b10, b11⟩ := hsc (i + 1)
  have e2 := hs (i + 2) (by omega)
  have ha2 : (i : Int) + 2 = ((i + 2 : Nat) : Int) := by omega
  obtain ⟨b20, b21⟩ := hsc (i + 2)
  have e3 := hs (i + 3) (by omega)
  have ha3 : (i : Int) + 3 = ((i + 3 : Nat) : Int) := by omega
  obtain ⟨b30, b31⟩ := hsc (i + 3)
  simp (disch := first | (simp only [dd, dr]; done) | omega) only [W_233_16, W_233_17, ha1, ha2, ha3, ka, e1, e2, e3, I_lt, I_le, I_inj, inB_I, tc_I, Int.toNat_natCast, fkt, rf1, rf0, cq, Nat.reduceAdd, Nat.reduceEqDiff, Int.reduceToNat, eq_self, true_and, and_true, true_or, or_true, bI_0, bI_1, mm, rAm, mF_sF, mR_sR, false_and, and_false, if_false, if_true, false_or, or_false, not_true_eq_false, not_false_eq_true, and_self]
  refine cr_12 (by omega) (wr_12 (by omega) kp1 (c_node (by omega) C D hoff b10 b11 b20 b21 b30 b31 (fun k' M' A' e ke hP C' D' F' => ?_) (fun hc => ?_)))
  · obtain ⟨hc, hk⟩ := hP
    subst hk
    obtain ⟨g1, g2, g3, g4, g5⟩ := L0.mid (F'.cd J)
    have md1 := g1 _ _ _ _ _ _ md
    have hK := md1.1
    have k8 := hK.1
    have V1 := DJ.cf V C.2.2.2.1 C.2.2.2.2 hm F'
    refine .inr ⟨e, _, _, rfl, ke, mem3 hc noC_le, ?_⟩
    rw [← md1.eq]
    have e1m : mA (ms M' o f s b c w j) a (i + 1) = I (sc (i + 1)) := by rw [md1.eq]; exact g4 _ (by omega)
    have e2m : mA (ms M' o f s b c w j) a (i + 2) = I (sc (i + 2)) := by rw [md1.eq]; exact g4 _ (by omega)
    have e3m : mA (ms M' o f s b c w j) a (i + 3) = I (sc (i + 3)) := by rw [md1.eq]; exact g4 _ (by omega)
    simp (disch := first | (simp only [dd, dr]; done) | omega) only [W_233_16, W_233_17, ha1, ha2, ha3, msK, g3, e1m, e2m, e3m, k8, I_lt, I_le, I_inj, inB_I, tc_I, Int.toNat_natCast, fkt, rf1, rf0, cq, Nat.reduceAdd, Nat.reduceEqDiff, Int.reduceToNat, eq_self, true_and, and_true, true_or, or_true, bI_0, bI_1, mm, rAm, mF_sF, mR_sR, false_and, and_false, if_false, if_true, false_or, or_false, not_true_eq_false, not_false_eq_true, and_self]
    refine ca_210 (by omega) (m_node hK (by omega) S1 w1.1.1 fv.2.2.2.2.1 b10 b11 b20 b21 b30 b31 (fun _ f' he h54 => ?_) (fun h => absurd h hc))
    simp (disch := first | (simp only [dd, dr]; done) | omega) only [W_233_16, W_233_17, msK, k8, I_lt, I_le, I_inj, inB_I, tc_I, Int.toNat_natCast, fkt, rf1, rf0, cq, Nat.reduceAdd, Nat.reduceEqDiff, Int.reduceToNat, eq_self, true_and, and_true, true_or, or_true, bI_0, bI_1, mm, rAm, mF_sF, mR_sR, false_and, and_false, if_false, if_true, false_or, or_false, not_true_eq_false, not_false_eq_true, and_self]
    refine ca_155 (by omega) (m_thrown hK ?_)
    rw [h54]
    have hle := noC_le (T := T) (off := v.2.2.1) (z := sc (i + 1)) (y := sc (i + 2)) (u := sc (i + 3))
    generalize noC v.2.2.1 T (sc (i + 1)) (sc (i + 2)) (sc (i + 3)) = cd at *
    simp (disch := first | (simp only [dd, dr]; done) | omega) only [W_233_16, W_233_17, I_lt, I_le, I_inj, inB_I, tc_I, Int.toNat_natCast, fkt, rf1, rf0, cq, Nat.reduceAdd, Nat.reduceEqDiff, Int.reduceToNat, eq_self, true_and, and_true, true_or, or_true, bI_0, bI_1, mm, rAm, mF_sF, mR_sR, false_and, and_false, if_false, if_true, false_or, or_false, not_true_eq_false, not_false_eq_true, and_self]
    refine ⟨fun _ => ?_, (fun h => by first | exact False.elim h | exact absurd trivial h | (exfalso; omega) | exact absurd rfl h | cases h)⟩
    simp (disch := first | (simp only [dd, dr]; done) | omega) only [W_233_16, W_233_17, I_lt, I_le, I_inj, inB_I, tc_I, Int.toNat_natCast, fkt, rf1, rf0, cq, Nat.reduceAdd, Nat.reduceEqDiff, Int.reduceToNat, eq_self, true_and, and_true, true_or, or_true, bI_0, bI_1, mm, rAm, mF_sF, mR_sR, false_and, and_false, if_false, if_true, false_or, or_false, not_true_eq_false, not_false_eq_true, and_self]
    refine ⟨fun _ => ?_, (fun h => by first | exact False.elim h | exact absurd trivial h | (exfalso; omega) | exact absurd rfl h | cases h)⟩
    simp (disch := first | (simp only [dd, dr]; done) | omega) only [W_233_16, W_233_17, W_233_22, W_233_23, hl6, I_lt, I_le, I_inj, inB_I, tc_I, Int.toNat_natCast, fkt, rf1, rf0, cq, Nat.reduceAdd, Nat.reduceEqDiff, Int.reduceToNat, eq_self, true_and, and_true, true_or, or_true, bI_0, bI_1, mm, rAm, mF_sF, mR_sR, false_and, and_false, if_false, if_true, false_or, or_false, not_true_eq_false, not_false_eq_true, and_self]
    exact next _ A' T X dt par Tc Xc dtc parc la v _ _ (L0.step (F'.cd J) (by omega) (.inl rfl) C' D' V1 K (fv.fe he) (S1) S2 w1 w2 dv)
  · have F' := CF.refl p A M
    have C' := C
    have D' := D
    obtain ⟨g1, g2, g3, g4, g5⟩ := L0.mid (F'.cd J)
    have md1 := g1 _ _ _ _ _ _ md
    have V1 := DJ.cf V C.2.2.2.1 C.2.2.2.2 hm F'
    refine .inl ⟨_, rfl, g2, ?_⟩
    have md2 := md1.sL hqo (I (noV T X (sc (i + 1)).toNat (sc (i + 2)).toNat (sc (i + 3)).toNat)).toInt64
    have hK := md2.1
    have k8 := hK.1
    rw [← md2.eq]
    have e1m : mA (ms (sL M q 0 (I (noV T X (sc (i + 1)).toNat (sc (i + 2)).toNat (sc (i + 3)).toNat)).toInt64) o f s b c w j) a (i + 1) = I (sc (i + 1)) := by rw [md2.eq]; exact g4 _ (by omega)
    have e2m : mA (ms (sL M q 0 (I (noV T X (sc (i + 1)).toNat (sc (i + 2)).toNat (sc (i + 3)).toNat)).toInt64) o f s b c w j) a (i + 2) = I (sc (i + 2)) := by rw [md2.eq]; exact g4 _ (by omega)
    have e3m : mA (ms (sL M q 0 (I (noV T X (sc (i + 1)).toNat (sc (i + 2)).toNat (sc (i + 3)).toNat)).toInt64) o f s b c w j) a (i + 3) = I (sc (i + 3)) := by rw [md2.eq]; exact g4 _ (by omega)
    simp (disch := first | (simp only [dd, dr]; done) | omega) only [W_233_16, W_233_17, ha1, ha2, ha3, msK, g3, e1m, e2m, e3m, k8, I_lt, I_le, I_inj, inB_I, tc_I, Int.toNat_natCast, fkt, rf1, rf0, cq, Nat.reduceAdd, Nat.reduceEqDiff, Int.reduceToNat, eq_self, true_and, and_true, true_or, or_true, bI_0, bI_1, mm, rAm, mF_sF, mR_sR, false_and, and_false, if_false, if_true, false_or, or_false, not_true_eq_false, not_false_eq_true, and_self]
    refine ca_210 (by omega) (m_node hK (by omega) S1 w1.1.1 fv.2.2.2.2.1 b10 b11 b20 b21 b30 b31 (fun h => absurd hc h) (fun _ f' he h54 => ?_))
    simp (disch := first | (simp only [dd, dr]; done) | omega) only [W_233_16, W_233_17, msK, k8, I_lt, I_le, I_inj, inB_I, tc_I, Int.toNat_natCast, fkt, rf1, rf0, cq, Nat.reduceAdd, Nat.reduceEqDiff, Int.reduceToNat, eq_self, true_and, and_true, true_or, or_true, bI_0, bI_1, mm, rAm, mF_sF, mR_sR, false_and, and_false, if_false, if_true, false_or, or_false, not_true_eq_false, not_false_eq_true, and_self]
    refine ca_155 (by omega) (m_thrown hK ?_)
    rw [h54]
    simp (disch := first | (simp only [dd, dr]; done) | omega) only [W_233_16, W_233_17, I_lt, I_le, I_inj, inB_I, tc_I, Int.toNat_natCast, fkt, rf1, rf0, cq, Nat.reduceAdd, Nat.reduceEqDiff, Int.reduceToNat, eq_self, true_and, and_true, true_or, or_true, bI_0, bI_1, mm, rAm, mF_sF, mR_sR, false_and, and_false, if_false, if_true, false_or, or_false, not_true_eq_false, not_false_eq_true, and_self]
    refine ⟨fun _ => ?_, (fun h => by first | exact False.elim h | exact absurd trivial h | (exfalso; omega) | exact absurd rfl h | cases h)⟩
    simp (disch := first | (simp only [dd, dr]; done) | omega) only [W_233_16, W_233_17, I_lt, I_le, I_inj, inB_I, tc_I, Int.toNat_natCast, fkt, rf1, rf0, cq, Nat.reduceAdd, Nat.reduceEqDiff, Int.reduceToNat, eq_self, true_and, and_true, true_or, or_true, bI_0, bI_1, mm, rAm, mF_sF, mR_sR, false_and, and_false, if_false, if_true, false_or, or_false, not_true_eq_false, not_false_eq_true, and_self]
    refine ⟨(fun h => by first | exact False.elim h | exact absurd trivial h | (exfalso; omega) | exact absurd rfl h | cases h), fun _ => ?_⟩
    simp (disch := first | (simp only [dd, dr]; done) | omega) only [W_233_16, W_233_17, msK, msR, g2, mL_sL, lgc, I_lt, I_le, I_inj, inB_I, tc_I, Int.toNat_natCast, fkt, rf1, rf0, cq, Nat.reduceAdd, Nat.reduceEqDiff, Int.reduceToNat, eq_self, true_and, and_true, true_or, or_true, bI_0, bI_1, mm, rAm, mF_sF, mR_sR, false_and, and_false, if_false, if_true, false_or, or_false, not_true_eq_false, not_false_eq_true, and_self]
    refine ⟨fun _ => ?_, (fun h => by first | exact False.elim h | exact absurd trivial h | (exfalso; omega) | exact absurd rfl h | cases h)⟩
    simp (disch := first | (simp only [dd, dr]; done) | omega) only [W_233_16, W_233_17, W_233_22, W_233_23, hl6, I_lt, I_le, I_inj, inB_I, tc_I, Int.toNat_natCast, fkt, rf1, rf0, cq, Nat.reduceAdd, Nat.reduceEqDiff, Int.reduceToNat, eq_self, true_and, and_true, true_or, or_true, bI_0, bI_1, mm, rAm, mF_sF, mR_sR, false_and, and_false, if_false, if_true, false_or, or_false, not_true_eq_false, not_false_eq_true, and_self]
    exact next _ A T X dt par Tc Xc dtc parc la v _ _ (L0.step (F'.cd J) (by omega) (.inr ⟨_, rfl⟩) C' D' V1 K (fv.fe he) S1 S2 w1 w2 dv)
set_option maxHeartbeats 2000000 in
theorem law_item (hd : 120 ≤ d) (hn : n ≤ 3074) (hsc : ∀ i, i32 (sc i)) (L : LWs M p o q a m J n sc N0 S0 A T X dt par Tc Xc dtc parc la v k) (hi : i + 6 ≤ n) {l5 l6 : Option Value} (next : Nx d p o q a m J n sc N0 S0 k i Q) : Wp d 233 1128 [some (.ref a), some (.ref p), some (.ref o), some (.ref q), some (.int (I (i : Nat))), l5, l6] [] M Q := by
  have L0 := L
  obtain ⟨⟨C, D, V, K⟩, ⟨f, s, b, c, w, j, md, fv, S1, S2⟩, ⟨w1, w2, dv⟩, ⟨kq, ka, hs⟩, ap, hqo, hao, haq, _, _⟩ := L
  have ql := (ap q (.inr (.inl rfl))).1
  have hm := C.m96
  have hm1 : 1 ≤ m := by have := C.1.2.2.2.2.2.2.2.2.2.2.1; omega
  have kp1 := C.1.1.1
  have hoff := V.f.2.2.1
  have hl6 : (i : Int) + 6 = ((i + 6 : Nat) : Int) := by omega
  have e1 := hs (i + 1) (by omega)
  have ha1 : (i : Int) + 1 = ((i + 1 : Nat) : Int) := by omega
  obtain ⟨b10, b11⟩ := hsc (i + 1)
  have e2 := hs (i + 2) (by omega)
  have ha2 : (i : Int) + 2 = ((i + 2 : Nat) : Int) := by omega
  obtain ⟨b20, b21⟩ := hsc (i + 2)
  simp (disch := first | (simp only [dd, dr]; done) | omega) only [W_233_17, W_233_18, ha1, ha2, ka, e1, e2, I_lt, I_le, I_inj, inB_I, tc_I, Int.toNat_natCast, fkt, rf1, rf0, cq, Nat.reduceAdd, Nat.reduceEqDiff, Int.reduceToNat, eq_self, true_and, and_true, true_or, or_true, bI_0, bI_1, mm, rAm, mF_sF, mR_sR, false_and, and_false, if_false, if_true, false_or, or_false, not_true_eq_false, not_false_eq_true, and_self]
  refine cr_13 (by omega) (wr_13 (by omega) kp1 (c_item (by omega) C D hoff b10 b11 b20 b21 (fun k' M' A' e ke hP C' D' F' => ?_) (fun hc => ?_)))
  · obtain ⟨hc, hk⟩ := hP
    subst hk
    obtain ⟨g1, g2, g3, g4, g5⟩ := L0.mid (F'.cd J)
    have md1 := g1 _ _ _ _ _ _ md
    have hK := md1.1
    have k8 := hK.1
    have V1 := DJ.cf V C.2.2.2.1 C.2.2.2.2 hm F'
    refine .inr ⟨e, _, _, rfl, ke, mem3 hc itC_le, ?_⟩
    rw [← md1.eq]
    have e1m : mA (ms M' o f s b c w j) a (i + 1) = I (sc (i + 1)) := by rw [md1.eq]; exact g4 _ (by omega)
    have e2m : mA (ms M' o f s b c w j) a (i + 2) = I (sc (i + 2)) := by rw [md1.eq]; exact g4 _ (by omega)
    simp (disch := first | (simp only [dd, dr]; done) | omega) only [W_233_17, W_233_18, ha1, ha2, msK, g3, e1m, e2m, k8, I_lt, I_le, I_inj, inB_I, tc_I, Int.toNat_natCast, fkt, rf1, rf0, cq, Nat.reduceAdd, Nat.reduceEqDiff, Int.reduceToNat, eq_self, true_and, and_true, true_or, or_true, bI_0, bI_1, mm, rAm, mF_sF, mR_sR, false_and, and_false, if_false, if_true, false_or, or_false, not_true_eq_false, not_false_eq_true, and_self]
    refine ca_211 (by omega) (m_item hK (by omega) S1 w1.1.1 fv.2.2.2.2.1 b10 b11 b20 b21 (by have := its_len w1.1.1; omega) (fun _ f' he h54 => ?_) (fun h => absurd h hc))
    simp (disch := first | (simp only [dd, dr]; done) | omega) only [W_233_17, W_233_18, msK, k8, I_lt, I_le, I_inj, inB_I, tc_I, Int.toNat_natCast, fkt, rf1, rf0, cq, Nat.reduceAdd, Nat.reduceEqDiff, Int.reduceToNat, eq_self, true_and, and_true, true_or, or_true, bI_0, bI_1, mm, rAm, mF_sF, mR_sR, false_and, and_false, if_false, if_true, false_or, or_false, not_true_eq_false, not_false_eq_true, and_self]
    refine ca_155 (by omega) (m_thrown hK ?_)
    rw [h54]
    have hle := itC_le (T := T) (off := v.2.2.1) (z := sc (i + 1)) (y := sc (i + 2))
    generalize itC v.2.2.1 T (sc (i + 1)) (sc (i + 2)) = cd at *
    simp (disch := first | (simp only [dd, dr]; done) | omega) only [W_233_17, W_233_18, I_lt, I_le, I_inj, inB_I, tc_I, Int.toNat_natCast, fkt, rf1, rf0, cq, Nat.reduceAdd, Nat.reduceEqDiff, Int.reduceToNat, eq_self, true_and, and_true, true_or, or_true, bI_0, bI_1, mm, rAm, mF_sF, mR_sR, false_and, and_false, if_false, if_true, false_or, or_false, not_true_eq_false, not_false_eq_true, and_self]
    refine ⟨fun _ => ?_, (fun h => by first | exact False.elim h | exact absurd trivial h | (exfalso; omega) | exact absurd rfl h | cases h)⟩
    simp (disch := first | (simp only [dd, dr]; done) | omega) only [W_233_17, W_233_18, I_lt, I_le, I_inj, inB_I, tc_I, Int.toNat_natCast, fkt, rf1, rf0, cq, Nat.reduceAdd, Nat.reduceEqDiff, Int.reduceToNat, eq_self, true_and, and_true, true_or, or_true, bI_0, bI_1, mm, rAm, mF_sF, mR_sR, false_and, and_false, if_false, if_true, false_or, or_false, not_true_eq_false, not_false_eq_true, and_self]
    refine ⟨fun _ => ?_, (fun h => by first | exact False.elim h | exact absurd trivial h | (exfalso; omega) | exact absurd rfl h | cases h)⟩
    simp (disch := first | (simp only [dd, dr]; done) | omega) only [W_233_17, W_233_18, W_233_22, W_233_23, hl6, I_lt, I_le, I_inj, inB_I, tc_I, Int.toNat_natCast, fkt, rf1, rf0, cq, Nat.reduceAdd, Nat.reduceEqDiff, Int.reduceToNat, eq_self, true_and, and_true, true_or, or_true, bI_0, bI_1, mm, rAm, mF_sF, mR_sR, false_and, and_false, if_false, if_true, false_or, or_false, not_true_eq_false, not_false_eq_true, and_self]
    exact next _ A' T X dt par Tc Xc dtc parc la v _ _ (L0.step (F'.cd J) (by omega) (.inl rfl) C' D' V1 K (fv.fe he) (S1) S2 w1 w2 dv)
  · have F' := CF.refl p A M
    have C' := C
    have D' := D
    obtain ⟨g1, g2, g3, g4, g5⟩ := L0.mid (F'.cd J)
    have md1 := g1 _ _ _ _ _ _ md
    have V1 := DJ.cf V C.2.2.2.1 C.2.2.2.2 hm F'
    refine .inl ⟨_, rfl, g2, ?_⟩
    have md2 := md1.sL hqo (I (itV T X (sc (i + 1)).toNat (sc (i + 2)).toNat : Nat)).toInt64
    have hK := md2.1
    have k8 := hK.1
    rw [← md2.eq]
    have e1m : mA (ms (sL M q 0 (I (itV T X (sc (i + 1)).toNat (sc (i + 2)).toNat : Nat)).toInt64) o f s b c w j) a (i + 1) = I (sc (i + 1)) := by rw [md2.eq]; exact g4 _ (by omega)
    have e2m : mA (ms (sL M q 0 (I (itV T X (sc (i + 1)).toNat (sc (i + 2)).toNat : Nat)).toInt64) o f s b c w j) a (i + 2) = I (sc (i + 2)) := by rw [md2.eq]; exact g4 _ (by omega)
    simp (disch := first | (simp only [dd, dr]; done) | omega) only [W_233_17, W_233_18, ha1, ha2, msK, g3, e1m, e2m, k8, I_lt, I_le, I_inj, inB_I, tc_I, Int.toNat_natCast, fkt, rf1, rf0, cq, Nat.reduceAdd, Nat.reduceEqDiff, Int.reduceToNat, eq_self, true_and, and_true, true_or, or_true, bI_0, bI_1, mm, rAm, mF_sF, mR_sR, false_and, and_false, if_false, if_true, false_or, or_false, not_true_eq_false, not_false_eq_true, and_self]
    refine ca_211 (by omega) (m_item hK (by omega) S1 w1.1.1 fv.2.2.2.2.1 b10 b11 b20 b21 (by have := its_len w1.1.1; omega) (fun h => absurd hc h) (fun _ f' he h54 => ?_))
    simp (disch := first | (simp only [dd, dr]; done) | omega) only [W_233_17, W_233_18, msK, k8, I_lt, I_le, I_inj, inB_I, tc_I, Int.toNat_natCast, fkt, rf1, rf0, cq, Nat.reduceAdd, Nat.reduceEqDiff, Int.reduceToNat, eq_self, true_and, and_true, true_or, or_true, bI_0, bI_1, mm, rAm, mF_sF, mR_sR, false_and, and_false, if_false, if_true, false_or, or_false, not_true_eq_false, not_false_eq_true, and_self]
    refine ca_155 (by omega) (m_thrown hK ?_)
    rw [h54]
    simp (disch := first | (simp only [dd, dr]; done) | omega) only [W_233_17, W_233_18, I_lt, I_le, I_inj, inB_I, tc_I, Int.toNat_natCast, fkt, rf1, rf0, cq, Nat.reduceAdd, Nat.reduceEqDiff, Int.reduceToNat, eq_self, true_and, and_true, true_or, or_true, bI_0, bI_1, mm, rAm, mF_sF, mR_sR, false_and, and_false, if_false, if_true, false_or, or_false, not_true_eq_false, not_false_eq_true, and_self]
    refine ⟨fun _ => ?_, (fun h => by first | exact False.elim h | exact absurd trivial h | (exfalso; omega) | exact absurd rfl h | cases h)⟩
    simp (disch := first | (simp only [dd, dr]; done) | omega) only [W_233_17, W_233_18, I_lt, I_le, I_inj, inB_I, tc_I, Int.toNat_natCast, fkt, rf1, rf0, cq, Nat.reduceAdd, Nat.reduceEqDiff, Int.reduceToNat, eq_self, true_and, and_true, true_or, or_true, bI_0, bI_1, mm, rAm, mF_sF, mR_sR, false_and, and_false, if_false, if_true, false_or, or_false, not_true_eq_false, not_false_eq_true, and_self]
    refine ⟨(fun h => by first | exact False.elim h | exact absurd trivial h | (exfalso; omega) | exact absurd rfl h | cases h), fun _ => ?_⟩
    simp (disch := first | (simp only [dd, dr]; done) | omega) only [W_233_17, W_233_18, msK, msR, g2, mL_sL, lgc, I_lt, I_le, I_inj, inB_I, tc_I, Int.toNat_natCast, fkt, rf1, rf0, cq, Nat.reduceAdd, Nat.reduceEqDiff, Int.reduceToNat, eq_self, true_and, and_true, true_or, or_true, bI_0, bI_1, mm, rAm, mF_sF, mR_sR, false_and, and_false, if_false, if_true, false_or, or_false, not_true_eq_false, not_false_eq_true, and_self]
    refine ⟨fun _ => ?_, (fun h => by first | exact False.elim h | exact absurd trivial h | (exfalso; omega) | exact absurd rfl h | cases h)⟩
    simp (disch := first | (simp only [dd, dr]; done) | omega) only [W_233_17, W_233_18, W_233_22, W_233_23, hl6, I_lt, I_le, I_inj, inB_I, tc_I, Int.toNat_natCast, fkt, rf1, rf0, cq, Nat.reduceAdd, Nat.reduceEqDiff, Int.reduceToNat, eq_self, true_and, and_true, true_or, or_true, bI_0, bI_1, mm, rAm, mF_sF, mR_sR, false_and, and_false, if_false, if_true, false_or, or_false, not_true_eq_false, not_false_eq_true, and_self]
    exact next _ A T X dt par Tc Xc dtc parc la v _ _ (L0.step (F'.cd J) (by omega) (.inr ⟨_, rfl⟩) C' D' V1 K (fv.fe he) S1 S2 w1 w2 dv)
set_option maxHeartbeats 2000000 in
theorem law_link (hd : 120 ≤ d) (hn : n ≤ 3074) (hsc : ∀ i, i32 (sc i)) (L : LWs M p o q a m J n sc N0 S0 A T X dt par Tc Xc dtc parc la v k) (hi : i + 6 ≤ n) {l5 l6 : Option Value} (next : Nx d p o q a m J n sc N0 S0 k i Q) : Wp d 233 252 [some (.ref a), some (.ref p), some (.ref o), some (.ref q), some (.int (I (i : Nat))), l5, l6] [] M Q := by
  have L0 := L
  obtain ⟨⟨C, D, V, K⟩, ⟨f, s, b, c, w, j, md, fv, S1, S2⟩, ⟨w1, w2, dv⟩, ⟨kq, ka, hs⟩, ap, hqo, hao, haq, _, _⟩ := L
  have ql := (ap q (.inr (.inl rfl))).1
  have hm := C.m96
  have hm1 : 1 ≤ m := by have := C.1.2.2.2.2.2.2.2.2.2.2.1; omega
  have kp1 := C.1.1.1
  have hoff := V.f.2.2.1
  have hl6 : (i : Int) + 6 = ((i + 6 : Nat) : Int) := by omega
  have e1 := hs (i + 1) (by omega)
  have ha1 : (i : Int) + 1 = ((i + 1 : Nat) : Int) := by omega
  obtain ⟨b10, b11⟩ := hsc (i + 1)
  have e2 := hs (i + 2) (by omega)
  have ha2 : (i : Int) + 2 = ((i + 2 : Nat) : Int) := by omega
  obtain ⟨b20, b21⟩ := hsc (i + 2)
  have e3 := hs (i + 3) (by omega)
  have ha3 : (i : Int) + 3 = ((i + 3 : Nat) : Int) := by omega
  obtain ⟨b30, b31⟩ := hsc (i + 3)
  simp (disch := first | (simp only [dd, dr]; done) | omega) only [W_233_2, W_233_3, W_233_4, ha1, ha2, ha3, ka, e1, e2, e3, I_lt, I_le, I_inj, inB_I, tc_I, Int.toNat_natCast, fkt, rf1, rf0, cq, Nat.reduceAdd, Nat.reduceEqDiff, Int.reduceToNat, eq_self, true_and, and_true, true_or, or_true, bI_0, bI_1, mm, rAm, mF_sF, mR_sR, false_and, and_false, if_false, if_true, false_or, or_false, not_true_eq_false, not_false_eq_true, and_self]
  refine cr_2 (by omega) (wr_2 (by omega) kp1 (C_link (by omega) C D w1 hoff b10 b11 b20 b21 b30 b31 (fun hc k' M' A' e ke hP C' D' F' => ?_) (fun hc T1 gg1 M' A' C' D' F' w1' => ?_)))
  · subst hP
    obtain ⟨g1, g2, g3, g4, g5⟩ := L0.mid (F'.cd J)
    have md1 := g1 _ _ _ _ _ _ md
    have hK := md1.1
    have k8 := hK.1
    have V1 := DJ.cf V C.2.2.2.1 C.2.2.2.2 hm F'
    refine .inr ⟨e, _, _, rfl, ke, mem4 hc lkC_le, ?_⟩
    rw [← md1.eq]
    have e1m : mA (ms M' o f s b c w j) a (i + 1) = I (sc (i + 1)) := by rw [md1.eq]; exact g4 _ (by omega)
    have e2m : mA (ms M' o f s b c w j) a (i + 2) = I (sc (i + 2)) := by rw [md1.eq]; exact g4 _ (by omega)
    have e3m : mA (ms M' o f s b c w j) a (i + 3) = I (sc (i + 3)) := by rw [md1.eq]; exact g4 _ (by omega)
    simp (disch := first | (simp only [dd, dr]; done) | omega) only [W_233_2, W_233_3, W_233_4, ha1, ha2, ha3, msK, g3, e1m, e2m, e3m, k8, I_lt, I_le, I_inj, inB_I, tc_I, Int.toNat_natCast, fkt, rf1, rf0, cq, Nat.reduceAdd, Nat.reduceEqDiff, Int.reduceToNat, eq_self, true_and, and_true, true_or, or_true, bI_0, bI_1, mm, rAm, mF_sF, mR_sR, false_and, and_false, if_false, if_true, false_or, or_false, not_true_eq_false, not_false_eq_true, and_self]
    refine ca_184 (by omega) (m_link hK (by omega) S1 w1.1 hm1 hm w1.ok.1 w1.nm w1.l16 fv.1 fv.2.2.2.2.1 b10 b11 b20 b21 b30 b31 (fun _ f' s' b' he h54 hs' => ?_) (fun h => absurd h hc))
    simp (disch := first | (simp only [dd, dr]; done) | omega) only [W_233_2, W_233_3, W_233_4, msK, k8, I_lt, I_le, I_inj, inB_I, tc_I, Int.toNat_natCast, fkt, rf1, rf0, cq, Nat.reduceAdd, Nat.reduceEqDiff, Int.reduceToNat, eq_self, true_and, and_true, true_or, or_true, bI_0, bI_1, mm, rAm, mF_sF, mR_sR, false_and, and_false, if_false, if_true, false_or, or_false, not_true_eq_false, not_false_eq_true, and_self]
    refine ca_155 (by omega) (m_thrown hK ?_)
    rw [h54]
    have hle := lkC_le (m := m) (T := T) (X := X) (off := v.2.2.1) (z := sc (i + 1)) (y := sc (i + 2)) (u := sc (i + 3))
    generalize lkC m v.2.2.1 T X (sc (i + 1)) (sc (i + 2)) (sc (i + 3)) = cd at *
    simp (disch := first | (simp only [dd, dr]; done) | omega) only [W_233_2, W_233_3, W_233_4, I_lt, I_le, I_inj, inB_I, tc_I, Int.toNat_natCast, fkt, rf1, rf0, cq, Nat.reduceAdd, Nat.reduceEqDiff, Int.reduceToNat, eq_self, true_and, and_true, true_or, or_true, bI_0, bI_1, mm, rAm, mF_sF, mR_sR, false_and, and_false, if_false, if_true, false_or, or_false, not_true_eq_false, not_false_eq_true, and_self]
    refine ⟨fun _ => ?_, (fun h => by first | exact False.elim h | exact absurd trivial h | (exfalso; omega) | exact absurd rfl h | cases h)⟩
    simp (disch := first | (simp only [dd, dr]; done) | omega) only [W_233_2, W_233_3, W_233_4, I_lt, I_le, I_inj, inB_I, tc_I, Int.toNat_natCast, fkt, rf1, rf0, cq, Nat.reduceAdd, Nat.reduceEqDiff, Int.reduceToNat, eq_self, true_and, and_true, true_or, or_true, bI_0, bI_1, mm, rAm, mF_sF, mR_sR, false_and, and_false, if_false, if_true, false_or, or_false, not_true_eq_false, not_false_eq_true, and_self]
    refine ⟨fun _ => ?_, (fun h => by first | exact False.elim h | exact absurd trivial h | (exfalso; omega) | exact absurd rfl h | cases h)⟩
    simp (disch := first | (simp only [dd, dr]; done) | omega) only [W_233_2, W_233_3, W_233_4, W_233_22, W_233_23, hl6, I_lt, I_le, I_inj, inB_I, tc_I, Int.toNat_natCast, fkt, rf1, rf0, cq, Nat.reduceAdd, Nat.reduceEqDiff, Int.reduceToNat, eq_self, true_and, and_true, true_or, or_true, bI_0, bI_1, mm, rAm, mF_sF, mR_sR, false_and, and_false, if_false, if_true, false_or, or_false, not_true_eq_false, not_false_eq_true, and_self]
    exact next _ A' T X dt par Tc Xc dtc parc la v _ _ (L0.step (F'.cd J) (by omega) (.inl rfl) C' D' V1 K (fv.fe he) (S1.eqs hs' w1.l16) S2 w1 w2 dv)
  · skip
    obtain ⟨g1, g2, g3, g4, g5⟩ := L0.mid (F'.cd J)
    have md1 := g1 _ _ _ _ _ _ md
    have V1 := DJ.cf V C.2.2.2.1 C.2.2.2.2 hm F'
    refine .inl ⟨_, rfl, g2, ?_⟩
    have md2 := md1.sL hqo (I ((oL X (sc (i + 3)).toNat + 1 : Nat) : Int)).toInt64
    have hK := md2.1
    have k8 := hK.1
    rw [← md2.eq]
    have e1m : mA (ms (sL M' q 0 (I ((oL X (sc (i + 3)).toNat + 1 : Nat) : Int)).toInt64) o f s b c w j) a (i + 1) = I (sc (i + 1)) := by rw [md2.eq]; exact g4 _ (by omega)
    have e2m : mA (ms (sL M' q 0 (I ((oL X (sc (i + 3)).toNat + 1 : Nat) : Int)).toInt64) o f s b c w j) a (i + 2) = I (sc (i + 2)) := by rw [md2.eq]; exact g4 _ (by omega)
    have e3m : mA (ms (sL M' q 0 (I ((oL X (sc (i + 3)).toNat + 1 : Nat) : Int)).toInt64) o f s b c w j) a (i + 3) = I (sc (i + 3)) := by rw [md2.eq]; exact g4 _ (by omega)
    simp (disch := first | (simp only [dd, dr]; done) | omega) only [W_233_2, W_233_3, W_233_4, ha1, ha2, ha3, msK, g3, e1m, e2m, e3m, k8, I_lt, I_le, I_inj, inB_I, tc_I, Int.toNat_natCast, fkt, rf1, rf0, cq, Nat.reduceAdd, Nat.reduceEqDiff, Int.reduceToNat, eq_self, true_and, and_true, true_or, or_true, bI_0, bI_1, mm, rAm, mF_sF, mR_sR, false_and, and_false, if_false, if_true, false_or, or_false, not_true_eq_false, not_false_eq_true, and_self]
    refine ca_184 (by omega) (m_link hK (by omega) S1 w1.1 hm1 hm w1.ok.1 w1.nm w1.l16 fv.1 fv.2.2.2.2.1 b10 b11 b20 b21 b30 b31 (fun h => absurd hc h) (fun _ T1' g1' f' s' b' he h54 S1' => ?_))
    rw [gg1] at g1'
    obtain ⟨_, rfl⟩ := Prod.mk.inj (Option.some.inj g1')
    simp (disch := first | (simp only [dd, dr]; done) | omega) only [W_233_2, W_233_3, W_233_4, msK, k8, I_lt, I_le, I_inj, inB_I, tc_I, Int.toNat_natCast, fkt, rf1, rf0, cq, Nat.reduceAdd, Nat.reduceEqDiff, Int.reduceToNat, eq_self, true_and, and_true, true_or, or_true, bI_0, bI_1, mm, rAm, mF_sF, mR_sR, false_and, and_false, if_false, if_true, false_or, or_false, not_true_eq_false, not_false_eq_true, and_self]
    refine ca_155 (by omega) (m_thrown hK ?_)
    rw [h54]
    simp (disch := first | (simp only [dd, dr]; done) | omega) only [W_233_2, W_233_3, W_233_4, I_lt, I_le, I_inj, inB_I, tc_I, Int.toNat_natCast, fkt, rf1, rf0, cq, Nat.reduceAdd, Nat.reduceEqDiff, Int.reduceToNat, eq_self, true_and, and_true, true_or, or_true, bI_0, bI_1, mm, rAm, mF_sF, mR_sR, false_and, and_false, if_false, if_true, false_or, or_false, not_true_eq_false, not_false_eq_true, and_self]
    refine ⟨fun _ => ?_, (fun h => by first | exact False.elim h | exact absurd trivial h | (exfalso; omega) | exact absurd rfl h | cases h)⟩
    simp (disch := first | (simp only [dd, dr]; done) | omega) only [W_233_2, W_233_3, W_233_4, I_lt, I_le, I_inj, inB_I, tc_I, Int.toNat_natCast, fkt, rf1, rf0, cq, Nat.reduceAdd, Nat.reduceEqDiff, Int.reduceToNat, eq_self, true_and, and_true, true_or, or_true, bI_0, bI_1, mm, rAm, mF_sF, mR_sR, false_and, and_false, if_false, if_true, false_or, or_false, not_true_eq_false, not_false_eq_true, and_self]
    refine ⟨(fun h => by first | exact False.elim h | exact absurd trivial h | (exfalso; omega) | exact absurd rfl h | cases h), fun _ => ?_⟩
    simp (disch := first | (simp only [dd, dr]; done) | omega) only [W_233_2, W_233_3, W_233_4, msK, msR, g2, mL_sL, lgc, I_lt, I_le, I_inj, inB_I, tc_I, Int.toNat_natCast, fkt, rf1, rf0, cq, Nat.reduceAdd, Nat.reduceEqDiff, Int.reduceToNat, eq_self, true_and, and_true, true_or, or_true, bI_0, bI_1, mm, rAm, mF_sF, mR_sR, false_and, and_false, if_false, if_true, false_or, or_false, not_true_eq_false, not_false_eq_true, and_self]
    refine ⟨fun _ => ?_, (fun h => by first | exact False.elim h | exact absurd trivial h | (exfalso; omega) | exact absurd rfl h | cases h)⟩
    simp (disch := first | (simp only [dd, dr]; done) | omega) only [W_233_2, W_233_3, W_233_4, W_233_22, W_233_23, hl6, I_lt, I_le, I_inj, inB_I, tc_I, Int.toNat_natCast, fkt, rf1, rf0, cq, Nat.reduceAdd, Nat.reduceEqDiff, Int.reduceToNat, eq_self, true_and, and_true, true_or, or_true, bI_0, bI_1, mm, rAm, mF_sF, mR_sR, false_and, and_false, if_false, if_true, false_or, or_false, not_true_eq_false, not_false_eq_true, and_self]
    exact next _ A' T1 (lkX X (sc (i + 1)).toNat (sc (i + 2)).toNat (sc (i + 3)).toNat) dt par Tc Xc dtc parc la v _ _ (L0.step (F'.cd J) (by omega) (.inr ⟨_, rfl⟩) C' D' V1 K (fv.fe he) S1' S2 w1' w2 dv)
set_option maxHeartbeats 2000000 in
theorem law_write (hd : 120 ≤ d) (hn : n ≤ 3074) (hsc : ∀ i, i32 (sc i)) (L : LWs M p o q a m J n sc N0 S0 A T X dt par Tc Xc dtc parc la v k) (hi : i + 6 ≤ n) {l5 l6 : Option Value} (next : Nx d p o q a m J n sc N0 S0 k i Q) : Wp d 233 492 [some (.ref a), some (.ref p), some (.ref o), some (.ref q), some (.int (I (i : Nat))), l5, l6] [] M Q := by
  have L0 := L
  obtain ⟨⟨C, D, V, K⟩, ⟨f, s, b, c, w, j, md, fv, S1, S2⟩, ⟨w1, w2, dv⟩, ⟨kq, ka, hs⟩, ap, hqo, hao, haq, _, _⟩ := L
  have ql := (ap q (.inr (.inl rfl))).1
  have hm := C.m96
  have hm1 : 1 ≤ m := by have := C.1.2.2.2.2.2.2.2.2.2.2.1; omega
  have kp1 := C.1.1.1
  have hoff := V.f.2.2.1
  have hl6 : (i : Int) + 6 = ((i + 6 : Nat) : Int) := by omega
  have e1 := hs (i + 1) (by omega)
  have ha1 : (i : Int) + 1 = ((i + 1 : Nat) : Int) := by omega
  obtain ⟨b10, b11⟩ := hsc (i + 1)
  have e2 := hs (i + 2) (by omega)
  have ha2 : (i : Int) + 2 = ((i + 2 : Nat) : Int) := by omega
  obtain ⟨b20, b21⟩ := hsc (i + 2)
  have e3 := hs (i + 3) (by omega)
  have ha3 : (i : Int) + 3 = ((i + 3 : Nat) : Int) := by omega
  obtain ⟨b30, b31⟩ := hsc (i + 3)
  have e4 := hs (i + 4) (by omega)
  have ha4 : (i : Int) + 4 = ((i + 4 : Nat) : Int) := by omega
  obtain ⟨b40, b41⟩ := hsc (i + 4)
  have e5 := hs (i + 5) (by omega)
  have ha5 : (i : Int) + 5 = ((i + 5 : Nat) : Int) := by omega
  obtain ⟨b50, b51⟩ := hsc (i + 5)
  simp (disch := first | (simp only [dd, dr]; done) | omega) only [W_233_6, W_233_7, W_233_8, W_233_9, ha1, ha2, ha3, ha4, ha5, ka, e1, e2, e3, e4, e5, I_lt, I_le, I_inj, inB_I, tc_I, Int.toNat_natCast, fkt, rf1, rf0, cq, Nat.reduceAdd, Nat.reduceEqDiff, Int.reduceToNat, eq_self, true_and, and_true, true_or, or_true, bI_0, bI_1, mm, rAm, mF_sF, mR_sR, false_and, and_false, if_false, if_true, false_or, or_false, not_true_eq_false, not_false_eq_true, and_self]
  refine cr_5 (by omega) (wr_5 (by omega) kp1 (C_write (by omega) C D w1 hoff b10 b11 b20 b21 b50 b51 (fun k' M' A' e ke hP C' D' F' => ?_) (fun hc l T3 g3' M' A' C' D' F' w1' => ?_)))
  · obtain ⟨hc, hk⟩ := hP
    subst hk
    obtain ⟨g1, g2, g3, g4, g5⟩ := L0.mid (F'.cd J)
    have md1 := g1 _ _ _ _ _ _ md
    have hK := md1.1
    have k8 := hK.1
    have V1 := DJ.cf V C.2.2.2.1 C.2.2.2.2 hm F'
    refine .inr ⟨e, _, _, rfl, ke, mem4 hc wrC_le, ?_⟩
    rw [← md1.eq]
    have e1m : mA (ms M' o f s b c w j) a (i + 1) = I (sc (i + 1)) := by rw [md1.eq]; exact g4 _ (by omega)
    have e2m : mA (ms M' o f s b c w j) a (i + 2) = I (sc (i + 2)) := by rw [md1.eq]; exact g4 _ (by omega)
    have e3m : mA (ms M' o f s b c w j) a (i + 3) = I (sc (i + 3)) := by rw [md1.eq]; exact g4 _ (by omega)
    have e4m : mA (ms M' o f s b c w j) a (i + 4) = I (sc (i + 4)) := by rw [md1.eq]; exact g4 _ (by omega)
    have e5m : mA (ms M' o f s b c w j) a (i + 5) = I (sc (i + 5)) := by rw [md1.eq]; exact g4 _ (by omega)
    simp (disch := first | (simp only [dd, dr]; done) | omega) only [W_233_6, W_233_7, W_233_8, W_233_9, ha1, ha2, ha3, ha4, ha5, msK, g3, e1m, e2m, e3m, e4m, e5m, k8, I_lt, I_le, I_inj, inB_I, tc_I, Int.toNat_natCast, fkt, rf1, rf0, cq, Nat.reduceAdd, Nat.reduceEqDiff, Int.reduceToNat, eq_self, true_and, and_true, true_or, or_true, bI_0, bI_1, mm, rAm, mF_sF, mR_sR, false_and, and_false, if_false, if_true, false_or, or_false, not_true_eq_false, not_false_eq_true, and_self]
    refine ca_197 (by omega) (m_write hK (by omega) S1 w1.1 hm1 hm w1.ok fv.1 fv.2.2.2.2.1 b10 b11 b20 b21 b50 b51 (fun _ f' s' b' w' he h54 hs' => ?_) (fun h => absurd h hc))
    simp (disch := first | (simp only [dd, dr]; done) | omega) only [W_233_6, W_233_7, W_233_8, W_233_9, msK, k8, I_lt, I_le, I_inj, inB_I, tc_I, Int.toNat_natCast, fkt, rf1, rf0, cq, Nat.reduceAdd, Nat.reduceEqDiff, Int.reduceToNat, eq_self, true_and, and_true, true_or, or_true, bI_0, bI_1, mm, rAm, mF_sF, mR_sR, false_and, and_false, if_false, if_true, false_or, or_false, not_true_eq_false, not_false_eq_true, and_self]
    refine ca_155 (by omega) (m_thrown hK ?_)
    rw [h54]
    have hle := wrC_le (m := m) (T := T) (X := X) (off := v.2.2.1) (z := sc (i + 1)) (t := sc (i + 2)) (y := sc (i + 5)) (u := 8)
    generalize wrC m v.2.2.1 T X (sc (i + 1)) (sc (i + 2)) (sc (i + 5)) 8 = cd at *
    simp (disch := first | (simp only [dd, dr]; done) | omega) only [W_233_6, W_233_7, W_233_8, W_233_9, I_lt, I_le, I_inj, inB_I, tc_I, Int.toNat_natCast, fkt, rf1, rf0, cq, Nat.reduceAdd, Nat.reduceEqDiff, Int.reduceToNat, eq_self, true_and, and_true, true_or, or_true, bI_0, bI_1, mm, rAm, mF_sF, mR_sR, false_and, and_false, if_false, if_true, false_or, or_false, not_true_eq_false, not_false_eq_true, and_self]
    refine ⟨fun _ => ?_, (fun h => by first | exact False.elim h | exact absurd trivial h | (exfalso; omega) | exact absurd rfl h | cases h)⟩
    simp (disch := first | (simp only [dd, dr]; done) | omega) only [W_233_6, W_233_7, W_233_8, W_233_9, I_lt, I_le, I_inj, inB_I, tc_I, Int.toNat_natCast, fkt, rf1, rf0, cq, Nat.reduceAdd, Nat.reduceEqDiff, Int.reduceToNat, eq_self, true_and, and_true, true_or, or_true, bI_0, bI_1, mm, rAm, mF_sF, mR_sR, false_and, and_false, if_false, if_true, false_or, or_false, not_true_eq_false, not_false_eq_true, and_self]
    refine ⟨fun _ => ?_, (fun h => by first | exact False.elim h | exact absurd trivial h | (exfalso; omega) | exact absurd rfl h | cases h)⟩
    simp (disch := first | (simp only [dd, dr]; done) | omega) only [W_233_6, W_233_7, W_233_8, W_233_9, W_233_22, W_233_23, hl6, I_lt, I_le, I_inj, inB_I, tc_I, Int.toNat_natCast, fkt, rf1, rf0, cq, Nat.reduceAdd, Nat.reduceEqDiff, Int.reduceToNat, eq_self, true_and, and_true, true_or, or_true, bI_0, bI_1, mm, rAm, mF_sF, mR_sR, false_and, and_false, if_false, if_true, false_or, or_false, not_true_eq_false, not_false_eq_true, and_self]
    exact next _ A' T X dt par Tc Xc dtc parc la v _ _ (L0.step (F'.cd J) (by omega) (.inl rfl) C' D' V1 K (fv.fe he) (S1.eqs hs' w1.l16) S2 w1 w2 dv)
  · skip
    obtain ⟨g1, g2, g3, g4, g5⟩ := L0.mid (F'.cd J)
    have md1 := g1 _ _ _ _ _ _ md
    have V1 := DJ.cf V C.2.2.2.1 C.2.2.2.2 hm F'
    refine .inl ⟨_, rfl, g2, ?_⟩
    have md2 := md1.sL hqo (I ((wrN X (sc (i + 1)) (sc (i + 2)) (sc (i + 5))) : Nat)).toInt64
    have hK := md2.1
    have k8 := hK.1
    rw [← md2.eq]
    have e1m : mA (ms (sL M' q 0 (I ((wrN X (sc (i + 1)) (sc (i + 2)) (sc (i + 5))) : Nat)).toInt64) o f s b c w j) a (i + 1) = I (sc (i + 1)) := by rw [md2.eq]; exact g4 _ (by omega)
    have e2m : mA (ms (sL M' q 0 (I ((wrN X (sc (i + 1)) (sc (i + 2)) (sc (i + 5))) : Nat)).toInt64) o f s b c w j) a (i + 2) = I (sc (i + 2)) := by rw [md2.eq]; exact g4 _ (by omega)
    have e3m : mA (ms (sL M' q 0 (I ((wrN X (sc (i + 1)) (sc (i + 2)) (sc (i + 5))) : Nat)).toInt64) o f s b c w j) a (i + 3) = I (sc (i + 3)) := by rw [md2.eq]; exact g4 _ (by omega)
    have e4m : mA (ms (sL M' q 0 (I ((wrN X (sc (i + 1)) (sc (i + 2)) (sc (i + 5))) : Nat)).toInt64) o f s b c w j) a (i + 4) = I (sc (i + 4)) := by rw [md2.eq]; exact g4 _ (by omega)
    have e5m : mA (ms (sL M' q 0 (I ((wrN X (sc (i + 1)) (sc (i + 2)) (sc (i + 5))) : Nat)).toInt64) o f s b c w j) a (i + 5) = I (sc (i + 5)) := by rw [md2.eq]; exact g4 _ (by omega)
    simp (disch := first | (simp only [dd, dr]; done) | omega) only [W_233_6, W_233_7, W_233_8, W_233_9, ha1, ha2, ha3, ha4, ha5, msK, g3, e1m, e2m, e3m, e4m, e5m, k8, I_lt, I_le, I_inj, inB_I, tc_I, Int.toNat_natCast, fkt, rf1, rf0, cq, Nat.reduceAdd, Nat.reduceEqDiff, Int.reduceToNat, eq_self, true_and, and_true, true_or, or_true, bI_0, bI_1, mm, rAm, mF_sF, mR_sR, false_and, and_false, if_false, if_true, false_or, or_false, not_true_eq_false, not_false_eq_true, and_self]
    refine ca_197 (by omega) (m_write hK (by omega) S1 w1.1 hm1 hm w1.ok fv.1 fv.2.2.2.2.1 b10 b11 b20 b21 b50 b51 (fun h => absurd hc h) (fun _ l' T3' g3'' f' s' b' w' he h54 S1' => ?_))
    rw [g3'] at g3''
    obtain ⟨rfl, rfl⟩ := Prod.mk.inj (Option.some.inj g3'')
    simp (disch := first | (simp only [dd, dr]; done) | omega) only [W_233_6, W_233_7, W_233_8, W_233_9, msK, k8, I_lt, I_le, I_inj, inB_I, tc_I, Int.toNat_natCast, fkt, rf1, rf0, cq, Nat.reduceAdd, Nat.reduceEqDiff, Int.reduceToNat, eq_self, true_and, and_true, true_or, or_true, bI_0, bI_1, mm, rAm, mF_sF, mR_sR, false_and, and_false, if_false, if_true, false_or, or_false, not_true_eq_false, not_false_eq_true, and_self]
    refine ca_155 (by omega) (m_thrown hK ?_)
    rw [h54]
    simp (disch := first | (simp only [dd, dr]; done) | omega) only [W_233_6, W_233_7, W_233_8, W_233_9, I_lt, I_le, I_inj, inB_I, tc_I, Int.toNat_natCast, fkt, rf1, rf0, cq, Nat.reduceAdd, Nat.reduceEqDiff, Int.reduceToNat, eq_self, true_and, and_true, true_or, or_true, bI_0, bI_1, mm, rAm, mF_sF, mR_sR, false_and, and_false, if_false, if_true, false_or, or_false, not_true_eq_false, not_false_eq_true, and_self]
    refine ⟨fun _ => ?_, (fun h => by first | exact False.elim h | exact absurd trivial h | (exfalso; omega) | exact absurd rfl h | cases h)⟩
    simp (disch := first | (simp only [dd, dr]; done) | omega) only [W_233_6, W_233_7, W_233_8, W_233_9, I_lt, I_le, I_inj, inB_I, tc_I, Int.toNat_natCast, fkt, rf1, rf0, cq, Nat.reduceAdd, Nat.reduceEqDiff, Int.reduceToNat, eq_self, true_and, and_true, true_or, or_true, bI_0, bI_1, mm, rAm, mF_sF, mR_sR, false_and, and_false, if_false, if_true, false_or, or_false, not_true_eq_false, not_false_eq_true, and_self]
    refine ⟨(fun h => by first | exact False.elim h | exact absurd trivial h | (exfalso; omega) | exact absurd rfl h | cases h), fun _ => ?_⟩
    simp (disch := first | (simp only [dd, dr]; done) | omega) only [W_233_6, W_233_7, W_233_8, W_233_9, msK, msR, g2, mL_sL, lgc, I_lt, I_le, I_inj, inB_I, tc_I, Int.toNat_natCast, fkt, rf1, rf0, cq, Nat.reduceAdd, Nat.reduceEqDiff, Int.reduceToNat, eq_self, true_and, and_true, true_or, or_true, bI_0, bI_1, mm, rAm, mF_sF, mR_sR, false_and, and_false, if_false, if_true, false_or, or_false, not_true_eq_false, not_false_eq_true, and_self]
    refine ⟨fun _ => ?_, (fun h => by first | exact False.elim h | exact absurd trivial h | (exfalso; omega) | exact absurd rfl h | cases h)⟩
    simp (disch := first | (simp only [dd, dr]; done) | omega) only [W_233_6, W_233_7, W_233_8, W_233_9, W_233_22, W_233_23, hl6, I_lt, I_le, I_inj, inB_I, tc_I, Int.toNat_natCast, fkt, rf1, rf0, cq, Nat.reduceAdd, Nat.reduceEqDiff, Int.reduceToNat, eq_self, true_and, and_true, true_or, or_true, bI_0, bI_1, mm, rAm, mF_sF, mR_sR, false_and, and_false, if_false, if_true, false_or, or_false, not_true_eq_false, not_false_eq_true, and_self]
    exact next _ A' T3 _ _ par Tc Xc dtc parc la v _ _ (L0.step (F'.cd J) (by omega) (.inr ⟨_, rfl⟩) C' D' V1 K (fv.fe he) S1' S2 w1' w2 dv)
set_option maxHeartbeats 2000000 in
theorem law_fill (hd : 120 ≤ d) (hn : n ≤ 3074) (hsc : ∀ i, i32 (sc i)) (L : LWs M p o q a m J n sc N0 S0 A T X dt par Tc Xc dtc parc la v k) (hi : i + 6 ≤ n) {l5 l6 : Option Value} (next : Nx d p o q a m J n sc N0 S0 k i Q) : Wp d 233 616 [some (.ref a), some (.ref p), some (.ref o), some (.ref q), some (.int (I (i : Nat))), l5, l6] [] M Q := by
  have L0 := L
  obtain ⟨⟨C, D, V, K⟩, ⟨f, s, b, c, w, j, md, fv, S1, S2⟩, ⟨w1, w2, dv⟩, ⟨kq, ka, hs⟩, ap, hqo, hao, haq, _, _⟩ := L
  have ql := (ap q (.inr (.inl rfl))).1
  have hm := C.m96
  have hm1 : 1 ≤ m := by have := C.1.2.2.2.2.2.2.2.2.2.2.1; omega
  have kp1 := C.1.1.1
  have hoff := V.f.2.2.1
  have hl6 : (i : Int) + 6 = ((i + 6 : Nat) : Int) := by omega
  have e1 := hs (i + 1) (by omega)
  have ha1 : (i : Int) + 1 = ((i + 1 : Nat) : Int) := by omega
  obtain ⟨b10, b11⟩ := hsc (i + 1)
  have e2 := hs (i + 2) (by omega)
  have ha2 : (i : Int) + 2 = ((i + 2 : Nat) : Int) := by omega
  obtain ⟨b20, b21⟩ := hsc (i + 2)
  have e3 := hs (i + 3) (by omega)
  have ha3 : (i : Int) + 3 = ((i + 3 : Nat) : Int) := by omega
  obtain ⟨b30, b31⟩ := hsc (i + 3)
  have e4 := hs (i + 4) (by omega)
  have ha4 : (i : Int) + 4 = ((i + 4 : Nat) : Int) := by omega
  obtain ⟨b40, b41⟩ := hsc (i + 4)
  simp (disch := first | (simp only [dd, dr]; done) | omega) only [W_233_9, W_233_10, ha1, ha2, ha3, ha4, ka, e1, e2, e3, e4, I_lt, I_le, I_inj, inB_I, tc_I, Int.toNat_natCast, fkt, rf1, rf0, cq, Nat.reduceAdd, Nat.reduceEqDiff, Int.reduceToNat, eq_self, true_and, and_true, true_or, or_true, bI_0, bI_1, mm, rAm, mF_sF, mR_sR, false_and, and_false, if_false, if_true, false_or, or_false, not_true_eq_false, not_false_eq_true, and_self]
  refine cr_6 (by omega) (wr_6 (by omega) kp1 (C_fill (by omega) C D w1 hoff b10 b11 b20 b21 b40 b41 (fun k' M' A' e ke hP C' D' F' => ?_) (fun hc l T3 g3' M' A' C' D' F' w1' => ?_)))
  · obtain ⟨hc, hk⟩ := hP
    subst hk
    obtain ⟨g1, g2, g3, g4, g5⟩ := L0.mid (F'.cd J)
    have md1 := g1 _ _ _ _ _ _ md
    have hK := md1.1
    have k8 := hK.1
    have V1 := DJ.cf V C.2.2.2.1 C.2.2.2.2 hm F'
    refine .inr ⟨e, _, _, rfl, ke, mem4 hc wrC_le, ?_⟩
    rw [← md1.eq]
    have e1m : mA (ms M' o f s b c w j) a (i + 1) = I (sc (i + 1)) := by rw [md1.eq]; exact g4 _ (by omega)
    have e2m : mA (ms M' o f s b c w j) a (i + 2) = I (sc (i + 2)) := by rw [md1.eq]; exact g4 _ (by omega)
    have e3m : mA (ms M' o f s b c w j) a (i + 3) = I (sc (i + 3)) := by rw [md1.eq]; exact g4 _ (by omega)
    have e4m : mA (ms M' o f s b c w j) a (i + 4) = I (sc (i + 4)) := by rw [md1.eq]; exact g4 _ (by omega)
    simp (disch := first | (simp only [dd, dr]; done) | omega) only [W_233_9, W_233_10, ha1, ha2, ha3, ha4, msK, g3, e1m, e2m, e3m, e4m, k8, I_lt, I_le, I_inj, inB_I, tc_I, Int.toNat_natCast, fkt, rf1, rf0, cq, Nat.reduceAdd, Nat.reduceEqDiff, Int.reduceToNat, eq_self, true_and, and_true, true_or, or_true, bI_0, bI_1, mm, rAm, mF_sF, mR_sR, false_and, and_false, if_false, if_true, false_or, or_false, not_true_eq_false, not_false_eq_true, and_self]
    refine ca_204 (by omega) (m_fill hK (by omega) S1 w1.1 hm1 hm w1.ok fv.1 fv.2.2.2.2.1 b10 b11 b20 b21 b40 b41 (fun _ f' s' b' w' he h54 hs' => ?_) (fun h => absurd h hc))
    simp (disch := first | (simp only [dd, dr]; done) | omega) only [W_233_9, W_233_10, msK, k8, I_lt, I_le, I_inj, inB_I, tc_I, Int.toNat_natCast, fkt, rf1, rf0, cq, Nat.reduceAdd, Nat.reduceEqDiff, Int.reduceToNat, eq_self, true_and, and_true, true_or, or_true, bI_0, bI_1, mm, rAm, mF_sF, mR_sR, false_and, and_false, if_false, if_true, false_or, or_false, not_true_eq_false, not_false_eq_true, and_self]
    refine ca_155 (by omega) (m_thrown hK ?_)
    rw [h54]
    have hle := wrC_le (m := m) (T := T) (X := X) (off := v.2.2.1) (z := sc (i + 1)) (t := sc (i + 2)) (y := sc (i + 4)) (u := 512)
    generalize wrC m v.2.2.1 T X (sc (i + 1)) (sc (i + 2)) (sc (i + 4)) 512 = cd at *
    simp (disch := first | (simp only [dd, dr]; done) | omega) only [W_233_9, W_233_10, I_lt, I_le, I_inj, inB_I, tc_I, Int.toNat_natCast, fkt, rf1, rf0, cq, Nat.reduceAdd, Nat.reduceEqDiff, Int.reduceToNat, eq_self, true_and, and_true, true_or, or_true, bI_0, bI_1, mm, rAm, mF_sF, mR_sR, false_and, and_false, if_false, if_true, false_or, or_false, not_true_eq_false, not_false_eq_true, and_self]
    refine ⟨fun _ => ?_, (fun h => by first | exact False.elim h | exact absurd trivial h | (exfalso; omega) | exact absurd rfl h | cases h)⟩
    simp (disch := first | (simp only [dd, dr]; done) | omega) only [W_233_9, W_233_10, I_lt, I_le, I_inj, inB_I, tc_I, Int.toNat_natCast, fkt, rf1, rf0, cq, Nat.reduceAdd, Nat.reduceEqDiff, Int.reduceToNat, eq_self, true_and, and_true, true_or, or_true, bI_0, bI_1, mm, rAm, mF_sF, mR_sR, false_and, and_false, if_false, if_true, false_or, or_false, not_true_eq_false, not_false_eq_true, and_self]
    refine ⟨fun _ => ?_, (fun h => by first | exact False.elim h | exact absurd trivial h | (exfalso; omega) | exact absurd rfl h | cases h)⟩
    simp (disch := first | (simp only [dd, dr]; done) | omega) only [W_233_9, W_233_10, W_233_22, W_233_23, hl6, I_lt, I_le, I_inj, inB_I, tc_I, Int.toNat_natCast, fkt, rf1, rf0, cq, Nat.reduceAdd, Nat.reduceEqDiff, Int.reduceToNat, eq_self, true_and, and_true, true_or, or_true, bI_0, bI_1, mm, rAm, mF_sF, mR_sR, false_and, and_false, if_false, if_true, false_or, or_false, not_true_eq_false, not_false_eq_true, and_self]
    exact next _ A' T X dt par Tc Xc dtc parc la v _ _ (L0.step (F'.cd J) (by omega) (.inl rfl) C' D' V1 K (fv.fe he) (S1.eqs hs' w1.l16) S2 w1 w2 dv)
  · skip
    obtain ⟨g1, g2, g3, g4, g5⟩ := L0.mid (F'.cd J)
    have md1 := g1 _ _ _ _ _ _ md
    have V1 := DJ.cf V C.2.2.2.1 C.2.2.2.2 hm F'
    refine .inl ⟨_, rfl, g2, ?_⟩
    have md2 := md1.sL hqo (I ((wrN X (sc (i + 1)) (sc (i + 2)) (sc (i + 4))) : Nat)).toInt64
    have hK := md2.1
    have k8 := hK.1
    rw [← md2.eq]
    have e1m : mA (ms (sL M' q 0 (I ((wrN X (sc (i + 1)) (sc (i + 2)) (sc (i + 4))) : Nat)).toInt64) o f s b c w j) a (i + 1) = I (sc (i + 1)) := by rw [md2.eq]; exact g4 _ (by omega)
    have e2m : mA (ms (sL M' q 0 (I ((wrN X (sc (i + 1)) (sc (i + 2)) (sc (i + 4))) : Nat)).toInt64) o f s b c w j) a (i + 2) = I (sc (i + 2)) := by rw [md2.eq]; exact g4 _ (by omega)
    have e3m : mA (ms (sL M' q 0 (I ((wrN X (sc (i + 1)) (sc (i + 2)) (sc (i + 4))) : Nat)).toInt64) o f s b c w j) a (i + 3) = I (sc (i + 3)) := by rw [md2.eq]; exact g4 _ (by omega)
    have e4m : mA (ms (sL M' q 0 (I ((wrN X (sc (i + 1)) (sc (i + 2)) (sc (i + 4))) : Nat)).toInt64) o f s b c w j) a (i + 4) = I (sc (i + 4)) := by rw [md2.eq]; exact g4 _ (by omega)
    simp (disch := first | (simp only [dd, dr]; done) | omega) only [W_233_9, W_233_10, ha1, ha2, ha3, ha4, msK, g3, e1m, e2m, e3m, e4m, k8, I_lt, I_le, I_inj, inB_I, tc_I, Int.toNat_natCast, fkt, rf1, rf0, cq, Nat.reduceAdd, Nat.reduceEqDiff, Int.reduceToNat, eq_self, true_and, and_true, true_or, or_true, bI_0, bI_1, mm, rAm, mF_sF, mR_sR, false_and, and_false, if_false, if_true, false_or, or_false, not_true_eq_false, not_false_eq_true, and_self]
    refine ca_204 (by omega) (m_fill hK (by omega) S1 w1.1 hm1 hm w1.ok fv.1 fv.2.2.2.2.1 b10 b11 b20 b21 b40 b41 (fun h => absurd hc h) (fun _ l' T3' g3'' f' s' b' w' he h54 S1' => ?_))
    rw [g3'] at g3''
    obtain ⟨rfl, rfl⟩ := Prod.mk.inj (Option.some.inj g3'')
    simp (disch := first | (simp only [dd, dr]; done) | omega) only [W_233_9, W_233_10, msK, k8, I_lt, I_le, I_inj, inB_I, tc_I, Int.toNat_natCast, fkt, rf1, rf0, cq, Nat.reduceAdd, Nat.reduceEqDiff, Int.reduceToNat, eq_self, true_and, and_true, true_or, or_true, bI_0, bI_1, mm, rAm, mF_sF, mR_sR, false_and, and_false, if_false, if_true, false_or, or_false, not_true_eq_false, not_false_eq_true, and_self]
    refine ca_155 (by omega) (m_thrown hK ?_)
    rw [h54]
    simp (disch := first | (simp only [dd, dr]; done) | omega) only [W_233_9, W_233_10, I_lt, I_le, I_inj, inB_I, tc_I, Int.toNat_natCast, fkt, rf1, rf0, cq, Nat.reduceAdd, Nat.reduceEqDiff, Int.reduceToNat, eq_self, true_and, and_true, true_or, or_true, bI_0, bI_1, mm, rAm, mF_sF, mR_sR, false_and, and_false, if_false, if_true, false_or, or_false, not_true_eq_false, not_false_eq_true, and_self]
    refine ⟨fun _ => ?_, (fun h => by first | exact False.elim h | exact absurd trivial h | (exfalso; omega) | exact absurd rfl h | cases h)⟩
    simp (disch := first | (simp only [dd, dr]; done) | omega) only [W_233_9, W_233_10, I_lt, I_le, I_inj, inB_I, tc_I, Int.toNat_natCast, fkt, rf1, rf0, cq, Nat.reduceAdd, Nat.reduceEqDiff, Int.reduceToNat, eq_self, true_and, and_true, true_or, or_true, bI_0, bI_1, mm, rAm, mF_sF, mR_sR, false_and, and_false, if_false, if_true, false_or, or_false, not_true_eq_false, not_false_eq_true, and_self]
    refine ⟨(fun h => by first | exact False.elim h | exact absurd trivial h | (exfalso; omega) | exact absurd rfl h | cases h), fun _ => ?_⟩
    simp (disch := first | (simp only [dd, dr]; done) | omega) only [W_233_9, W_233_10, msK, msR, g2, mL_sL, lgc, I_lt, I_le, I_inj, inB_I, tc_I, Int.toNat_natCast, fkt, rf1, rf0, cq, Nat.reduceAdd, Nat.reduceEqDiff, Int.reduceToNat, eq_self, true_and, and_true, true_or, or_true, bI_0, bI_1, mm, rAm, mF_sF, mR_sR, false_and, and_false, if_false, if_true, false_or, or_false, not_true_eq_false, not_false_eq_true, and_self]
    refine ⟨fun _ => ?_, (fun h => by first | exact False.elim h | exact absurd trivial h | (exfalso; omega) | exact absurd rfl h | cases h)⟩
    simp (disch := first | (simp only [dd, dr]; done) | omega) only [W_233_9, W_233_10, W_233_22, W_233_23, hl6, I_lt, I_le, I_inj, inB_I, tc_I, Int.toNat_natCast, fkt, rf1, rf0, cq, Nat.reduceAdd, Nat.reduceEqDiff, Int.reduceToNat, eq_self, true_and, and_true, true_or, or_true, bI_0, bI_1, mm, rAm, mF_sF, mR_sR, false_and, and_false, if_false, if_true, false_or, or_false, not_true_eq_false, not_false_eq_true, and_self]
    exact next _ A' T3 _ _ par Tc Xc dtc parc la v _ _ (L0.step (F'.cd J) (by omega) (.inr ⟨_, rfl⟩) C' D' V1 K (fv.fe he) S1' S2 w1' w2 dv)
set_option maxHeartbeats 2000000 in
theorem law_cut (hd : 120 ≤ d) (hn : n ≤ 3074) (hsc : ∀ i, i32 (sc i)) (L : LWs M p o q a m J n sc N0 S0 A T X dt par Tc Xc dtc parc la v k) (hi : i + 6 ≤ n) {l5 l6 : Option Value} (next : Nx d p o q a m J n sc N0 S0 k i Q) : Wp d 233 708 [some (.ref a), some (.ref p), some (.ref o), some (.ref q), some (.int (I (i : Nat))), l5, l6] [] M Q := by
  have L0 := L
  obtain ⟨⟨C, D, V, K⟩, ⟨f, s, b, c, w, j, md, fv, S1, S2⟩, ⟨w1, w2, dv⟩, ⟨kq, ka, hs⟩, ap, hqo, hao, haq, _, _⟩ := L
  have ql := (ap q (.inr (.inl rfl))).1
  have hm := C.m96
  have hm1 : 1 ≤ m := by have := C.1.2.2.2.2.2.2.2.2.2.2.1; omega
  have kp1 := C.1.1.1
  have hoff := V.f.2.2.1
  have hl6 : (i : Int) + 6 = ((i + 6 : Nat) : Int) := by omega
  have e1 := hs (i + 1) (by omega)
  have ha1 : (i : Int) + 1 = ((i + 1 : Nat) : Int) := by omega
  obtain ⟨b10, b11⟩ := hsc (i + 1)
  have e2 := hs (i + 2) (by omega)
  have ha2 : (i : Int) + 2 = ((i + 2 : Nat) : Int) := by omega
  obtain ⟨b20, b21⟩ := hsc (i + 2)
  simp (disch := first | (simp only [dd, dr]; done) | omega) only [W_233_10, W_233_11, ha1, ha2, ka, e1, e2, I_lt, I_le, I_inj, inB_I, tc_I, Int.toNat_natCast, fkt, rf1, rf0, cq, Nat.reduceAdd, Nat.reduceEqDiff, Int.reduceToNat, eq_self, true_and, and_true, true_or, or_true, bI_0, bI_1, mm, rAm, mF_sF, mR_sR, false_and, and_false, if_false, if_true, false_or, or_false, not_true_eq_false, not_false_eq_true, and_self]
  refine cr_7 (by omega) (wr_7 (by omega) kp1 (C_cut (by omega) C D w1 hoff b10 b11 b20 b21 (fun k' M' A' e ke hP C' D' F' => ?_) (fun hc l T3 g3' M' A' C' D' F' w1' => ?_)))
  · obtain ⟨hc, hk⟩ := hP
    subst hk
    obtain ⟨g1, g2, g3, g4, g5⟩ := L0.mid (F'.cd J)
    have md1 := g1 _ _ _ _ _ _ md
    have hK := md1.1
    have k8 := hK.1
    have V1 := DJ.cf V C.2.2.2.1 C.2.2.2.2 hm F'
    refine .inr ⟨e, _, _, rfl, ke, mem4 hc cuC_le, ?_⟩
    rw [← md1.eq]
    have e1m : mA (ms M' o f s b c w j) a (i + 1) = I (sc (i + 1)) := by rw [md1.eq]; exact g4 _ (by omega)
    have e2m : mA (ms M' o f s b c w j) a (i + 2) = I (sc (i + 2)) := by rw [md1.eq]; exact g4 _ (by omega)
    simp (disch := first | (simp only [dd, dr]; done) | omega) only [W_233_10, W_233_11, ha1, ha2, msK, g3, e1m, e2m, k8, I_lt, I_le, I_inj, inB_I, tc_I, Int.toNat_natCast, fkt, rf1, rf0, cq, Nat.reduceAdd, Nat.reduceEqDiff, Int.reduceToNat, eq_self, true_and, and_true, true_or, or_true, bI_0, bI_1, mm, rAm, mF_sF, mR_sR, false_and, and_false, if_false, if_true, false_or, or_false, not_true_eq_false, not_false_eq_true, and_self]
    refine ca_205 (by omega) (m_cut hK (by omega) S1 w1.1 hm1 hm w1.ok fv.1 fv.2.2.2.2.1 b10 b11 b20 b21 (fun _ f' s' b' w' he h54 hs' => ?_) (fun h => absurd h hc))
    simp (disch := first | (simp only [dd, dr]; done) | omega) only [W_233_10, W_233_11, msK, k8, I_lt, I_le, I_inj, inB_I, tc_I, Int.toNat_natCast, fkt, rf1, rf0, cq, Nat.reduceAdd, Nat.reduceEqDiff, Int.reduceToNat, eq_self, true_and, and_true, true_or, or_true, bI_0, bI_1, mm, rAm, mF_sF, mR_sR, false_and, and_false, if_false, if_true, false_or, or_false, not_true_eq_false, not_false_eq_true, and_self]
    refine ca_155 (by omega) (m_thrown hK ?_)
    rw [h54]
    have hle := cuC_le (m := m) (T := T) (X := X) (off := v.2.2.1) (z := sc (i + 1)) (y := sc (i + 2))
    generalize cuC m v.2.2.1 T X (sc (i + 1)) (sc (i + 2)) = cd at *
    simp (disch := first | (simp only [dd, dr]; done) | omega) only [W_233_10, W_233_11, I_lt, I_le, I_inj, inB_I, tc_I, Int.toNat_natCast, fkt, rf1, rf0, cq, Nat.reduceAdd, Nat.reduceEqDiff, Int.reduceToNat, eq_self, true_and, and_true, true_or, or_true, bI_0, bI_1, mm, rAm, mF_sF, mR_sR, false_and, and_false, if_false, if_true, false_or, or_false, not_true_eq_false, not_false_eq_true, and_self]
    refine ⟨fun _ => ?_, (fun h => by first | exact False.elim h | exact absurd trivial h | (exfalso; omega) | exact absurd rfl h | cases h)⟩
    simp (disch := first | (simp only [dd, dr]; done) | omega) only [W_233_10, W_233_11, I_lt, I_le, I_inj, inB_I, tc_I, Int.toNat_natCast, fkt, rf1, rf0, cq, Nat.reduceAdd, Nat.reduceEqDiff, Int.reduceToNat, eq_self, true_and, and_true, true_or, or_true, bI_0, bI_1, mm, rAm, mF_sF, mR_sR, false_and, and_false, if_false, if_true, false_or, or_false, not_true_eq_false, not_false_eq_true, and_self]
    refine ⟨fun _ => ?_, (fun h => by first | exact False.elim h | exact absurd trivial h | (exfalso; omega) | exact absurd rfl h | cases h)⟩
    simp (disch := first | (simp only [dd, dr]; done) | omega) only [W_233_10, W_233_11, W_233_22, W_233_23, hl6, I_lt, I_le, I_inj, inB_I, tc_I, Int.toNat_natCast, fkt, rf1, rf0, cq, Nat.reduceAdd, Nat.reduceEqDiff, Int.reduceToNat, eq_self, true_and, and_true, true_or, or_true, bI_0, bI_1, mm, rAm, mF_sF, mR_sR, false_and, and_false, if_false, if_true, false_or, or_false, not_true_eq_false, not_false_eq_true, and_self]
    exact next _ A' T X dt par Tc Xc dtc parc la v _ _ (L0.step (F'.cd J) (by omega) (.inl rfl) C' D' V1 K (fv.fe he) (S1.eqs hs' w1.l16) S2 w1 w2 dv)
  · skip
    obtain ⟨g1, g2, g3, g4, g5⟩ := L0.mid (F'.cd J)
    have md1 := g1 _ _ _ _ _ _ md
    have V1 := DJ.cf V C.2.2.2.1 C.2.2.2.2 hm F'
    refine .inl ⟨_, rfl, g2, ?_⟩
    have md2 := md1.sL hqo (I (dtO (sc (i + 2)).toNat : Nat)).toInt64
    have hK := md2.1
    have k8 := hK.1
    rw [← md2.eq]
    have e1m : mA (ms (sL M' q 0 (I (dtO (sc (i + 2)).toNat : Nat)).toInt64) o f s b c w j) a (i + 1) = I (sc (i + 1)) := by rw [md2.eq]; exact g4 _ (by omega)
    have e2m : mA (ms (sL M' q 0 (I (dtO (sc (i + 2)).toNat : Nat)).toInt64) o f s b c w j) a (i + 2) = I (sc (i + 2)) := by rw [md2.eq]; exact g4 _ (by omega)
    simp (disch := first | (simp only [dd, dr]; done) | omega) only [W_233_10, W_233_11, ha1, ha2, msK, g3, e1m, e2m, k8, I_lt, I_le, I_inj, inB_I, tc_I, Int.toNat_natCast, fkt, rf1, rf0, cq, Nat.reduceAdd, Nat.reduceEqDiff, Int.reduceToNat, eq_self, true_and, and_true, true_or, or_true, bI_0, bI_1, mm, rAm, mF_sF, mR_sR, false_and, and_false, if_false, if_true, false_or, or_false, not_true_eq_false, not_false_eq_true, and_self]
    refine ca_205 (by omega) (m_cut hK (by omega) S1 w1.1 hm1 hm w1.ok fv.1 fv.2.2.2.2.1 b10 b11 b20 b21 (fun h => absurd hc h) (fun _ l' T3' g3'' f' s' b' w' he h54 S1' => ?_))
    rw [g3'] at g3''
    obtain ⟨rfl, rfl⟩ := Prod.mk.inj (Option.some.inj g3'')
    simp (disch := first | (simp only [dd, dr]; done) | omega) only [W_233_10, W_233_11, msK, k8, I_lt, I_le, I_inj, inB_I, tc_I, Int.toNat_natCast, fkt, rf1, rf0, cq, Nat.reduceAdd, Nat.reduceEqDiff, Int.reduceToNat, eq_self, true_and, and_true, true_or, or_true, bI_0, bI_1, mm, rAm, mF_sF, mR_sR, false_and, and_false, if_false, if_true, false_or, or_false, not_true_eq_false, not_false_eq_true, and_self]
    refine ca_155 (by omega) (m_thrown hK ?_)
    rw [h54]
    simp (disch := first | (simp only [dd, dr]; done) | omega) only [W_233_10, W_233_11, I_lt, I_le, I_inj, inB_I, tc_I, Int.toNat_natCast, fkt, rf1, rf0, cq, Nat.reduceAdd, Nat.reduceEqDiff, Int.reduceToNat, eq_self, true_and, and_true, true_or, or_true, bI_0, bI_1, mm, rAm, mF_sF, mR_sR, false_and, and_false, if_false, if_true, false_or, or_false, not_true_eq_false, not_false_eq_true, and_self]
    refine ⟨fun _ => ?_, (fun h => by first | exact False.elim h | exact absurd trivial h | (exfalso; omega) | exact absurd rfl h | cases h)⟩
    simp (disch := first | (simp only [dd, dr]; done) | omega) only [W_233_10, W_233_11, I_lt, I_le, I_inj, inB_I, tc_I, Int.toNat_natCast, fkt, rf1, rf0, cq, Nat.reduceAdd, Nat.reduceEqDiff, Int.reduceToNat, eq_self, true_and, and_true, true_or, or_true, bI_0, bI_1, mm, rAm, mF_sF, mR_sR, false_and, and_false, if_false, if_true, false_or, or_false, not_true_eq_false, not_false_eq_true, and_self]
    refine ⟨(fun h => by first | exact False.elim h | exact absurd trivial h | (exfalso; omega) | exact absurd rfl h | cases h), fun _ => ?_⟩
    simp (disch := first | (simp only [dd, dr]; done) | omega) only [W_233_10, W_233_11, msK, msR, g2, mL_sL, lgc, I_lt, I_le, I_inj, inB_I, tc_I, Int.toNat_natCast, fkt, rf1, rf0, cq, Nat.reduceAdd, Nat.reduceEqDiff, Int.reduceToNat, eq_self, true_and, and_true, true_or, or_true, bI_0, bI_1, mm, rAm, mF_sF, mR_sR, false_and, and_false, if_false, if_true, false_or, or_false, not_true_eq_false, not_false_eq_true, and_self]
    refine ⟨fun _ => ?_, (fun h => by first | exact False.elim h | exact absurd trivial h | (exfalso; omega) | exact absurd rfl h | cases h)⟩
    simp (disch := first | (simp only [dd, dr]; done) | omega) only [W_233_10, W_233_11, W_233_22, W_233_23, hl6, I_lt, I_le, I_inj, inB_I, tc_I, Int.toNat_natCast, fkt, rf1, rf0, cq, Nat.reduceAdd, Nat.reduceEqDiff, Int.reduceToNat, eq_self, true_and, and_true, true_or, or_true, bI_0, bI_1, mm, rAm, mF_sF, mR_sR, false_and, and_false, if_false, if_true, false_or, or_false, not_true_eq_false, not_false_eq_true, and_self]
    exact next _ A' T3 _ _ par Tc Xc dtc parc la v _ _ (L0.step (F'.cd J) (by omega) (.inr ⟨_, rfl⟩) C' D' V1 K (fv.fe he) S1' S2 w1' w2 dv)
set_option maxHeartbeats 2000000 in
theorem law_move (hd : 120 ≤ d) (hn : n ≤ 3074) (hsc : ∀ i, i32 (sc i)) (L : LWs M p o q a m J n sc N0 S0 A T X dt par Tc Xc dtc parc la v k) (hi : i + 6 ≤ n) {l5 l6 : Option Value} (next : Nx d p o q a m J n sc N0 S0 k i Q) : Wp d 233 400 [some (.ref a), some (.ref p), some (.ref o), some (.ref q), some (.int (I (i : Nat))), l5, l6] [] M Q := by
  have L0 := L
  obtain ⟨⟨C, D, V, K⟩, ⟨f, s, b, c, w, j, md, fv, S1, S2⟩, ⟨w1, w2, dv⟩, ⟨kq, ka, hs⟩, ap, hqo, hao, haq, _, _⟩ := L
  have ql := (ap q (.inr (.inl rfl))).1
  have hm := C.m96
  have hm1 : 1 ≤ m := by have := C.1.2.2.2.2.2.2.2.2.2.2.1; omega
  have kp1 := C.1.1.1
  have hoff := V.f.2.2.1
  have hl6 : (i : Int) + 6 = ((i + 6 : Nat) : Int) := by omega
  have e1 := hs (i + 1) (by omega)
  have ha1 : (i : Int) + 1 = ((i + 1 : Nat) : Int) := by omega
  obtain ⟨b10, b11⟩ := hsc (i + 1)
  have e2 := hs (i + 2) (by omega)
  have ha2 : (i : Int) + 2 = ((i + 2 : Nat) : Int) := by omega
  obtain ⟨b20, b21⟩ := hsc (i + 2)
  have e3 := hs (i + 3) (by omega)
  have ha3 : (i : Int) + 3 = ((i + 3 : Nat) : Int) := by omega
  obtain ⟨b30, b31⟩ := hsc (i + 3)
  have e4 := hs (i + 4) (by omega)
  have ha4 : (i : Int) + 4 = ((i + 4 : Nat) : Int) := by omega
  obtain ⟨b40, b41⟩ := hsc (i + 4)
  obtain ⟨win, hwin⟩ := win_ex w1 (sc (i + 1)) (sc (i + 2)) (sc (i + 3))
  simp (disch := first | (simp only [dd, dr]; done) | omega) only [W_233_5, W_233_6, ha1, ha2, ha3, ha4, ka, e1, e2, e3, e4, I_lt, I_le, I_inj, inB_I, tc_I, Int.toNat_natCast, fkt, rf1, rf0, cq, Nat.reduceAdd, Nat.reduceEqDiff, Int.reduceToNat, eq_self, true_and, and_true, true_or, or_true, bI_0, bI_1, mm, rAm, mF_sF, mR_sR, false_and, and_false, if_false, if_true, false_or, or_false, not_true_eq_false, not_false_eq_true, and_self]
  refine cr_4 (by omega) (wr_4 (by omega) kp1 (C_move (by omega) C D w1 hoff b10 b11 b20 b21 b30 b31 b40 b41 hwin (fun hc k' M' A' e ke hP C' D' F' => ?_) (fun hc u T2 hu g2' M' A' C' D' F' w1' => ?_)))
  · subst hP
    obtain ⟨g1, g2, g3, g4, g5⟩ := L0.mid (F'.cd J)
    have md1 := g1 _ _ _ _ _ _ md
    have hK := md1.1
    have k8 := hK.1
    have V1 := DJ.cf V C.2.2.2.1 C.2.2.2.2 hm F'
    refine .inr ⟨e, _, _, rfl, ke, mem4 hc mvC_le, ?_⟩
    rw [← md1.eq]
    have e1m : mA (ms M' o f s b c w j) a (i + 1) = I (sc (i + 1)) := by rw [md1.eq]; exact g4 _ (by omega)
    have e2m : mA (ms M' o f s b c w j) a (i + 2) = I (sc (i + 2)) := by rw [md1.eq]; exact g4 _ (by omega)
    have e3m : mA (ms M' o f s b c w j) a (i + 3) = I (sc (i + 3)) := by rw [md1.eq]; exact g4 _ (by omega)
    have e4m : mA (ms M' o f s b c w j) a (i + 4) = I (sc (i + 4)) := by rw [md1.eq]; exact g4 _ (by omega)
    simp (disch := first | (simp only [dd, dr]; done) | omega) only [W_233_5, W_233_6, ha1, ha2, ha3, ha4, msK, g3, e1m, e2m, e3m, e4m, k8, I_lt, I_le, I_inj, inB_I, tc_I, Int.toNat_natCast, fkt, rf1, rf0, cq, Nat.reduceAdd, Nat.reduceEqDiff, Int.reduceToNat, eq_self, true_and, and_true, true_or, or_true, bI_0, bI_1, mm, rAm, mF_sF, mR_sR, false_and, and_false, if_false, if_true, false_or, or_false, not_true_eq_false, not_false_eq_true, and_self]
    refine ca_194 (by omega) (m_move hK (by omega) S1 w1.1 hm1 hm w1.ok w1.nm w1.pa fv.1 fv.2.2.2.2.1 b10 b11 b20 b21 b30 b31 b40 b41 (fun o nn h1 h2 => by obtain ⟨c1, c2, c3, c4, c5, c6⟩ := w1.he o nn h1 h2; exact ⟨c1, c2, c3, c5⟩) hwin (fun _ f' s' b' he h54 hs' => ?_) (fun h => absurd h hc))
    simp (disch := first | (simp only [dd, dr]; done) | omega) only [W_233_5, W_233_6, msK, k8, I_lt, I_le, I_inj, inB_I, tc_I, Int.toNat_natCast, fkt, rf1, rf0, cq, Nat.reduceAdd, Nat.reduceEqDiff, Int.reduceToNat, eq_self, true_and, and_true, true_or, or_true, bI_0, bI_1, mm, rAm, mF_sF, mR_sR, false_and, and_false, if_false, if_true, false_or, or_false, not_true_eq_false, not_false_eq_true, and_self]
    refine ca_155 (by omega) (m_thrown hK ?_)
    rw [h54]
    have hle := mvC_le (m := m) (T := T) (X := X) (off := v.2.2.1) (win := win) (z := sc (i + 1)) (y := sc (i + 2)) (u := sc (i + 3)) (e := sc (i + 4))
    generalize mvC m v.2.2.1 T X (sc (i + 1)) (sc (i + 2)) (sc (i + 3)) (sc (i + 4)) win = cd at *
    simp (disch := first | (simp only [dd, dr]; done) | omega) only [W_233_5, W_233_6, I_lt, I_le, I_inj, inB_I, tc_I, Int.toNat_natCast, fkt, rf1, rf0, cq, Nat.reduceAdd, Nat.reduceEqDiff, Int.reduceToNat, eq_self, true_and, and_true, true_or, or_true, bI_0, bI_1, mm, rAm, mF_sF, mR_sR, false_and, and_false, if_false, if_true, false_or, or_false, not_true_eq_false, not_false_eq_true, and_self]
    refine ⟨fun _ => ?_, (fun h => by first | exact False.elim h | exact absurd trivial h | (exfalso; omega) | exact absurd rfl h | cases h)⟩
    simp (disch := first | (simp only [dd, dr]; done) | omega) only [W_233_5, W_233_6, I_lt, I_le, I_inj, inB_I, tc_I, Int.toNat_natCast, fkt, rf1, rf0, cq, Nat.reduceAdd, Nat.reduceEqDiff, Int.reduceToNat, eq_self, true_and, and_true, true_or, or_true, bI_0, bI_1, mm, rAm, mF_sF, mR_sR, false_and, and_false, if_false, if_true, false_or, or_false, not_true_eq_false, not_false_eq_true, and_self]
    refine ⟨fun _ => ?_, (fun h => by first | exact False.elim h | exact absurd trivial h | (exfalso; omega) | exact absurd rfl h | cases h)⟩
    simp (disch := first | (simp only [dd, dr]; done) | omega) only [W_233_5, W_233_6, W_233_22, W_233_23, hl6, I_lt, I_le, I_inj, inB_I, tc_I, Int.toNat_natCast, fkt, rf1, rf0, cq, Nat.reduceAdd, Nat.reduceEqDiff, Int.reduceToNat, eq_self, true_and, and_true, true_or, or_true, bI_0, bI_1, mm, rAm, mF_sF, mR_sR, false_and, and_false, if_false, if_true, false_or, or_false, not_true_eq_false, not_false_eq_true, and_self]
    exact next _ A' T X dt par Tc Xc dtc parc la v _ _ (L0.step (F'.cd J) (by omega) (.inl rfl) C' D' V1 K (fv.fe he) (S1.eqs hs' w1.l16) S2 w1 w2 dv)
  · skip
    obtain ⟨g1, g2, g3, g4, g5⟩ := L0.mid (F'.cd J)
    have md1 := g1 _ _ _ _ _ _ md
    have V1 := DJ.cf V C.2.2.2.1 C.2.2.2.2 hm F'
    refine .inl ⟨_, rfl, g2, ?_⟩
    have md2 := md1.sL hqo (I (u : Nat)).toInt64
    have hK := md2.1
    have k8 := hK.1
    rw [← md2.eq]
    have e1m : mA (ms (sL M' q 0 (I (u : Nat)).toInt64) o f s b c w j) a (i + 1) = I (sc (i + 1)) := by rw [md2.eq]; exact g4 _ (by omega)
    have e2m : mA (ms (sL M' q 0 (I (u : Nat)).toInt64) o f s b c w j) a (i + 2) = I (sc (i + 2)) := by rw [md2.eq]; exact g4 _ (by omega)
    have e3m : mA (ms (sL M' q 0 (I (u : Nat)).toInt64) o f s b c w j) a (i + 3) = I (sc (i + 3)) := by rw [md2.eq]; exact g4 _ (by omega)
    have e4m : mA (ms (sL M' q 0 (I (u : Nat)).toInt64) o f s b c w j) a (i + 4) = I (sc (i + 4)) := by rw [md2.eq]; exact g4 _ (by omega)
    simp (disch := first | (simp only [dd, dr]; done) | omega) only [W_233_5, W_233_6, ha1, ha2, ha3, ha4, msK, g3, e1m, e2m, e3m, e4m, k8, I_lt, I_le, I_inj, inB_I, tc_I, Int.toNat_natCast, fkt, rf1, rf0, cq, Nat.reduceAdd, Nat.reduceEqDiff, Int.reduceToNat, eq_self, true_and, and_true, true_or, or_true, bI_0, bI_1, mm, rAm, mF_sF, mR_sR, false_and, and_false, if_false, if_true, false_or, or_false, not_true_eq_false, not_false_eq_true, and_self]
    refine ca_194 (by omega) (m_move hK (by omega) S1 w1.1 hm1 hm w1.ok w1.nm w1.pa fv.1 fv.2.2.2.2.1 b10 b11 b20 b21 b30 b31 b40 b41 (fun o nn h1 h2 => by obtain ⟨c1, c2, c3, c4, c5, c6⟩ := w1.he o nn h1 h2; exact ⟨c1, c2, c3, c5⟩) hwin (fun h => absurd hc h) (fun _ u' T2' hu' g2'' f' s' b' he h54 S1' => ?_))
    rw [g2'] at g2''
    obtain ⟨_, rfl⟩ := Prod.mk.inj (Option.some.inj g2'')
    rw [← hu] at hu'
    subst hu'
    simp (disch := first | (simp only [dd, dr]; done) | omega) only [W_233_5, W_233_6, msK, k8, I_lt, I_le, I_inj, inB_I, tc_I, Int.toNat_natCast, fkt, rf1, rf0, cq, Nat.reduceAdd, Nat.reduceEqDiff, Int.reduceToNat, eq_self, true_and, and_true, true_or, or_true, bI_0, bI_1, mm, rAm, mF_sF, mR_sR, false_and, and_false, if_false, if_true, false_or, or_false, not_true_eq_false, not_false_eq_true, and_self]
    refine ca_155 (by omega) (m_thrown hK ?_)
    rw [h54]
    simp (disch := first | (simp only [dd, dr]; done) | omega) only [W_233_5, W_233_6, I_lt, I_le, I_inj, inB_I, tc_I, Int.toNat_natCast, fkt, rf1, rf0, cq, Nat.reduceAdd, Nat.reduceEqDiff, Int.reduceToNat, eq_self, true_and, and_true, true_or, or_true, bI_0, bI_1, mm, rAm, mF_sF, mR_sR, false_and, and_false, if_false, if_true, false_or, or_false, not_true_eq_false, not_false_eq_true, and_self]
    refine ⟨fun _ => ?_, (fun h => by first | exact False.elim h | exact absurd trivial h | (exfalso; omega) | exact absurd rfl h | cases h)⟩
    simp (disch := first | (simp only [dd, dr]; done) | omega) only [W_233_5, W_233_6, I_lt, I_le, I_inj, inB_I, tc_I, Int.toNat_natCast, fkt, rf1, rf0, cq, Nat.reduceAdd, Nat.reduceEqDiff, Int.reduceToNat, eq_self, true_and, and_true, true_or, or_true, bI_0, bI_1, mm, rAm, mF_sF, mR_sR, false_and, and_false, if_false, if_true, false_or, or_false, not_true_eq_false, not_false_eq_true, and_self]
    refine ⟨(fun h => by first | exact False.elim h | exact absurd trivial h | (exfalso; omega) | exact absurd rfl h | cases h), fun _ => ?_⟩
    simp (disch := first | (simp only [dd, dr]; done) | omega) only [W_233_5, W_233_6, msK, msR, g2, mL_sL, lgc, I_lt, I_le, I_inj, inB_I, tc_I, Int.toNat_natCast, fkt, rf1, rf0, cq, Nat.reduceAdd, Nat.reduceEqDiff, Int.reduceToNat, eq_self, true_and, and_true, true_or, or_true, bI_0, bI_1, mm, rAm, mF_sF, mR_sR, false_and, and_false, if_false, if_true, false_or, or_false, not_true_eq_false, not_false_eq_true, and_self]
    refine ⟨fun _ => ?_, (fun h => by first | exact False.elim h | exact absurd trivial h | (exfalso; omega) | exact absurd rfl h | cases h)⟩
    simp (disch := first | (simp only [dd, dr]; done) | omega) only [W_233_5, W_233_6, W_233_22, W_233_23, hl6, I_lt, I_le, I_inj, inB_I, tc_I, Int.toNat_natCast, fkt, rf1, rf0, cq, Nat.reduceAdd, Nat.reduceEqDiff, Int.reduceToNat, eq_self, true_and, and_true, true_or, or_true, bI_0, bI_1, mm, rAm, mF_sF, mR_sR, false_and, and_false, if_false, if_true, false_or, or_false, not_true_eq_false, not_false_eq_true, and_self]
    exact next _ A' T2 _ dt _ Tc Xc dtc parc la v _ _ (L0.step (F'.cd J) (by omega) (.inr ⟨_, rfl⟩) C' D' V1 K (fv.fe he) S1' S2 w1' w2 dv)
set_option maxHeartbeats 2000000 in
theorem law_unlink (hd : 120 ≤ d) (hn : n ≤ 3074) (hsc : ∀ i, i32 (sc i)) (L : LWs M p o q a m J n sc N0 S0 A T X dt par Tc Xc dtc parc la v k) (hi : i + 6 ≤ n) {l5 l6 : Option Value} (next : Nx d p o q a m J n sc N0 S0 k i Q) : Wp d 233 332 [some (.ref a), some (.ref p), some (.ref o), some (.ref q), some (.int (I (i : Nat))), l5, l6] [] M Q := by
  have L0 := L
  obtain ⟨⟨C, D, V, K⟩, ⟨f, s, b, c, w, j, md, fv, S1, S2⟩, ⟨w1, w2, dv⟩, ⟨kq, ka, hs⟩, ap, hqo, hao, haq, _, _⟩ := L
  have ql := (ap q (.inr (.inl rfl))).1
  have hm := C.m96
  have hm1 : 1 ≤ m := by have := C.1.2.2.2.2.2.2.2.2.2.2.1; omega
  have kp1 := C.1.1.1
  have hoff := V.f.2.2.1
  have hl6 : (i : Int) + 6 = ((i + 6 : Nat) : Int) := by omega
  have e1 := hs (i + 1) (by omega)
  have ha1 : (i : Int) + 1 = ((i + 1 : Nat) : Int) := by omega
  obtain ⟨b10, b11⟩ := hsc (i + 1)
  have e2 := hs (i + 2) (by omega)
  have ha2 : (i : Int) + 2 = ((i + 2 : Nat) : Int) := by omega
  obtain ⟨b20, b21⟩ := hsc (i + 2)
  simp (disch := first | (simp only [dd, dr]; done) | omega) only [W_233_4, W_233_5, ha1, ha2, ka, e1, e2, I_lt, I_le, I_inj, inB_I, tc_I, Int.toNat_natCast, fkt, rf1, rf0, cq, Nat.reduceAdd, Nat.reduceEqDiff, Int.reduceToNat, eq_self, true_and, and_true, true_or, or_true, bI_0, bI_1, mm, rAm, mF_sF, mR_sR, false_and, and_false, if_false, if_true, false_or, or_false, not_true_eq_false, not_false_eq_true, and_self]
  refine cr_3 (by omega) (wr_3 (by omega) kp1 (C_unlink (by omega) C D w1 hoff b10 b11 b20 b21 (fun hc k' M' A' e ke hP C' D' F' => ?_) (fun hc u hu hl M' A' C' D' F' w1' => ?_) (fun hc u hu hl M' A' C' D' F' w1' => ?_)))
  · skip
    obtain ⟨g1, g2, g3, g4, g5⟩ := L0.mid (F'.cd J)
    have md1 := g1 _ _ _ _ _ _ md
    have hK := md1.1
    have k8 := hK.1
    have V1 := DJ.cf V C.2.2.2.1 C.2.2.2.2 hm F'
    refine .inr ⟨e, _, _, rfl, ke, hP, ?_⟩
    rw [← md1.eq]
    have e1m : mA (ms M' o f s b c w j) a (i + 1) = I (sc (i + 1)) := by rw [md1.eq]; exact g4 _ (by omega)
    have e2m : mA (ms M' o f s b c w j) a (i + 2) = I (sc (i + 2)) := by rw [md1.eq]; exact g4 _ (by omega)
    simp (disch := first | (simp only [dd, dr]; done) | omega) only [W_233_4, W_233_5, ha1, ha2, msK, g3, e1m, e2m, k8, I_lt, I_le, I_inj, inB_I, tc_I, Int.toNat_natCast, fkt, rf1, rf0, cq, Nat.reduceAdd, Nat.reduceEqDiff, Int.reduceToNat, eq_self, true_and, and_true, true_or, or_true, bI_0, bI_1, mm, rAm, mF_sF, mR_sR, false_and, and_false, if_false, if_true, false_or, or_false, not_true_eq_false, not_false_eq_true, and_self]
    refine ca_186 (by omega) (m_unlink hK (by omega) S1 w1.1 hm1 hm w1.ok w1.nm fv.1 fv.2.2.2.2.1 b10 b11 b20 b21 w1.he (fun _ f' s' b' he h54 hs' => ?_) (fun h => absurd h hc) (fun h => absurd h hc))
    simp (disch := first | (simp only [dd, dr]; done) | omega) only [W_233_4, W_233_5, msK, k8, I_lt, I_le, I_inj, inB_I, tc_I, Int.toNat_natCast, fkt, rf1, rf0, cq, Nat.reduceAdd, Nat.reduceEqDiff, Int.reduceToNat, eq_self, true_and, and_true, true_or, or_true, bI_0, bI_1, mm, rAm, mF_sF, mR_sR, false_and, and_false, if_false, if_true, false_or, or_false, not_true_eq_false, not_false_eq_true, and_self]
    refine ca_155 (by omega) (m_thrown hK ?_)
    rw [h54]
    have hle := ulC_le (T := T) (X := X) (off := v.2.2.1) (z := sc (i + 1)) (y := sc (i + 2))
    generalize ulC v.2.2.1 T X (sc (i + 1)) (sc (i + 2)) = cd at *
    simp (disch := first | (simp only [dd, dr]; done) | omega) only [W_233_4, W_233_5, I_lt, I_le, I_inj, inB_I, tc_I, Int.toNat_natCast, fkt, rf1, rf0, cq, Nat.reduceAdd, Nat.reduceEqDiff, Int.reduceToNat, eq_self, true_and, and_true, true_or, or_true, bI_0, bI_1, mm, rAm, mF_sF, mR_sR, false_and, and_false, if_false, if_true, false_or, or_false, not_true_eq_false, not_false_eq_true, and_self]
    refine ⟨fun _ => ?_, (fun h => by first | exact False.elim h | exact absurd trivial h | (exfalso; omega) | exact absurd rfl h | cases h)⟩
    simp (disch := first | (simp only [dd, dr]; done) | omega) only [W_233_4, W_233_5, I_lt, I_le, I_inj, inB_I, tc_I, Int.toNat_natCast, fkt, rf1, rf0, cq, Nat.reduceAdd, Nat.reduceEqDiff, Int.reduceToNat, eq_self, true_and, and_true, true_or, or_true, bI_0, bI_1, mm, rAm, mF_sF, mR_sR, false_and, and_false, if_false, if_true, false_or, or_false, not_true_eq_false, not_false_eq_true, and_self]
    refine ⟨fun _ => ?_, (fun h => by first | exact False.elim h | exact absurd trivial h | (exfalso; omega) | exact absurd rfl h | cases h)⟩
    simp (disch := first | (simp only [dd, dr]; done) | omega) only [W_233_4, W_233_5, W_233_22, W_233_23, hl6, I_lt, I_le, I_inj, inB_I, tc_I, Int.toNat_natCast, fkt, rf1, rf0, cq, Nat.reduceAdd, Nat.reduceEqDiff, Int.reduceToNat, eq_self, true_and, and_true, true_or, or_true, bI_0, bI_1, mm, rAm, mF_sF, mR_sR, false_and, and_false, if_false, if_true, false_or, or_false, not_true_eq_false, not_false_eq_true, and_self]
    exact next _ A' T X dt par Tc Xc dtc parc la v _ _ (L0.step (F'.cd J) (by omega) (.inl rfl) C' D' V1 K (fv.fe he) (S1.eqs hs' w1.l16) S2 w1 w2 dv)
  · skip
    obtain ⟨g1, g2, g3, g4, g5⟩ := L0.mid (F'.cd J)
    have md1 := g1 _ _ _ _ _ _ md
    have V1 := DJ.cf V C.2.2.2.1 C.2.2.2.2 hm F'
    refine .inl ⟨_, rfl, g2, ?_⟩
    have md2 := md1.sL hqo (I ((oL X u - 1 : Nat) : Int)).toInt64
    have hK := md2.1
    have k8 := hK.1
    rw [← md2.eq]
    have e1m : mA (ms (sL M' q 0 (I ((oL X u - 1 : Nat) : Int)).toInt64) o f s b c w j) a (i + 1) = I (sc (i + 1)) := by rw [md2.eq]; exact g4 _ (by omega)
    have e2m : mA (ms (sL M' q 0 (I ((oL X u - 1 : Nat) : Int)).toInt64) o f s b c w j) a (i + 2) = I (sc (i + 2)) := by rw [md2.eq]; exact g4 _ (by omega)
    simp (disch := first | (simp only [dd, dr]; done) | omega) only [W_233_4, W_233_5, ha1, ha2, msK, g3, e1m, e2m, k8, I_lt, I_le, I_inj, inB_I, tc_I, Int.toNat_natCast, fkt, rf1, rf0, cq, Nat.reduceAdd, Nat.reduceEqDiff, Int.reduceToNat, eq_self, true_and, and_true, true_or, or_true, bI_0, bI_1, mm, rAm, mF_sF, mR_sR, false_and, and_false, if_false, if_true, false_or, or_false, not_true_eq_false, not_false_eq_true, and_self]
    refine ca_186 (by omega) (m_unlink hK (by omega) S1 w1.1 hm1 hm w1.ok w1.nm fv.1 fv.2.2.2.2.1 b10 b11 b20 b21 w1.he (fun h => absurd hc h) (fun _ u' hu' _ f' s' b' he h54 S1' => ?_) (fun _ u' hu' hl' => absurd hl (by rw [hu, ← hu', hl']; omega)))
    rw [← hu] at hu'
    subst hu'
    simp (disch := first | (simp only [dd, dr]; done) | omega) only [W_233_4, W_233_5, msK, k8, I_lt, I_le, I_inj, inB_I, tc_I, Int.toNat_natCast, fkt, rf1, rf0, cq, Nat.reduceAdd, Nat.reduceEqDiff, Int.reduceToNat, eq_self, true_and, and_true, true_or, or_true, bI_0, bI_1, mm, rAm, mF_sF, mR_sR, false_and, and_false, if_false, if_true, false_or, or_false, not_true_eq_false, not_false_eq_true, and_self]
    refine ca_155 (by omega) (m_thrown hK ?_)
    rw [h54]
    simp (disch := first | (simp only [dd, dr]; done) | omega) only [W_233_4, W_233_5, I_lt, I_le, I_inj, inB_I, tc_I, Int.toNat_natCast, fkt, rf1, rf0, cq, Nat.reduceAdd, Nat.reduceEqDiff, Int.reduceToNat, eq_self, true_and, and_true, true_or, or_true, bI_0, bI_1, mm, rAm, mF_sF, mR_sR, false_and, and_false, if_false, if_true, false_or, or_false, not_true_eq_false, not_false_eq_true, and_self]
    refine ⟨fun _ => ?_, (fun h => by first | exact False.elim h | exact absurd trivial h | (exfalso; omega) | exact absurd rfl h | cases h)⟩
    simp (disch := first | (simp only [dd, dr]; done) | omega) only [W_233_4, W_233_5, I_lt, I_le, I_inj, inB_I, tc_I, Int.toNat_natCast, fkt, rf1, rf0, cq, Nat.reduceAdd, Nat.reduceEqDiff, Int.reduceToNat, eq_self, true_and, and_true, true_or, or_true, bI_0, bI_1, mm, rAm, mF_sF, mR_sR, false_and, and_false, if_false, if_true, false_or, or_false, not_true_eq_false, not_false_eq_true, and_self]
    refine ⟨(fun h => by first | exact False.elim h | exact absurd trivial h | (exfalso; omega) | exact absurd rfl h | cases h), fun _ => ?_⟩
    simp (disch := first | (simp only [dd, dr]; done) | omega) only [W_233_4, W_233_5, msK, msR, g2, mL_sL, lgc, I_lt, I_le, I_inj, inB_I, tc_I, Int.toNat_natCast, fkt, rf1, rf0, cq, Nat.reduceAdd, Nat.reduceEqDiff, Int.reduceToNat, eq_self, true_and, and_true, true_or, or_true, bI_0, bI_1, mm, rAm, mF_sF, mR_sR, false_and, and_false, if_false, if_true, false_or, or_false, not_true_eq_false, not_false_eq_true, and_self]
    refine ⟨fun _ => ?_, (fun h => by first | exact False.elim h | exact absurd trivial h | (exfalso; omega) | exact absurd rfl h | cases h)⟩
    simp (disch := first | (simp only [dd, dr]; done) | omega) only [W_233_4, W_233_5, W_233_22, W_233_23, hl6, I_lt, I_le, I_inj, inB_I, tc_I, Int.toNat_natCast, fkt, rf1, rf0, cq, Nat.reduceAdd, Nat.reduceEqDiff, Int.reduceToNat, eq_self, true_and, and_true, true_or, or_true, bI_0, bI_1, mm, rAm, mF_sF, mR_sR, false_and, and_false, if_false, if_true, false_or, or_false, not_true_eq_false, not_false_eq_true, and_self]
    exact next _ A' _ _ dt par Tc Xc dtc parc la v _ _ (L0.step (F'.cd J) (by omega) (.inr ⟨_, rfl⟩) C' D' V1 K (fv.fe he) S1' S2 w1' w2 dv)
  · skip
    obtain ⟨g1, g2, g3, g4, g5⟩ := L0.mid (F'.cd J)
    have md1 := g1 _ _ _ _ _ _ md
    have V1 := DJ.cf V C.2.2.2.1 C.2.2.2.2 hm F'
    refine .inl ⟨_, rfl, g2, ?_⟩
    have md2 := md1.sL hqo (I 0).toInt64
    have hK := md2.1
    have k8 := hK.1
    rw [← md2.eq]
    have e1m : mA (ms (sL M' q 0 (I 0).toInt64) o f s b c w j) a (i + 1) = I (sc (i + 1)) := by rw [md2.eq]; exact g4 _ (by omega)
    have e2m : mA (ms (sL M' q 0 (I 0).toInt64) o f s b c w j) a (i + 2) = I (sc (i + 2)) := by rw [md2.eq]; exact g4 _ (by omega)
    simp (disch := first | (simp only [dd, dr]; done) | omega) only [W_233_4, W_233_5, ha1, ha2, msK, g3, e1m, e2m, k8, I_lt, I_le, I_inj, inB_I, tc_I, Int.toNat_natCast, fkt, rf1, rf0, cq, Nat.reduceAdd, Nat.reduceEqDiff, Int.reduceToNat, eq_self, true_and, and_true, true_or, or_true, bI_0, bI_1, mm, rAm, mF_sF, mR_sR, false_and, and_false, if_false, if_true, false_or, or_false, not_true_eq_false, not_false_eq_true, and_self]
    refine ca_186 (by omega) (m_unlink hK (by omega) S1 w1.1 hm1 hm w1.ok w1.nm fv.1 fv.2.2.2.2.1 b10 b11 b20 b21 w1.he (fun h => absurd hc h) (fun _ u' hu' hl' => absurd hl' (by rw [hu', ← hu, hl]; omega)) (fun _ u' hu' _ f' s' b' he h54 S1' => ?_))
    rw [← hu] at hu'
    subst hu'
    simp (disch := first | (simp only [dd, dr]; done) | omega) only [W_233_4, W_233_5, msK, k8, I_lt, I_le, I_inj, inB_I, tc_I, Int.toNat_natCast, fkt, rf1, rf0, cq, Nat.reduceAdd, Nat.reduceEqDiff, Int.reduceToNat, eq_self, true_and, and_true, true_or, or_true, bI_0, bI_1, mm, rAm, mF_sF, mR_sR, false_and, and_false, if_false, if_true, false_or, or_false, not_true_eq_false, not_false_eq_true, and_self]
    refine ca_155 (by omega) (m_thrown hK ?_)
    rw [h54]
    simp (disch := first | (simp only [dd, dr]; done) | omega) only [W_233_4, W_233_5, I_lt, I_le, I_inj, inB_I, tc_I, Int.toNat_natCast, fkt, rf1, rf0, cq, Nat.reduceAdd, Nat.reduceEqDiff, Int.reduceToNat, eq_self, true_and, and_true, true_or, or_true, bI_0, bI_1, mm, rAm, mF_sF, mR_sR, false_and, and_false, if_false, if_true, false_or, or_false, not_true_eq_false, not_false_eq_true, and_self]
    refine ⟨fun _ => ?_, (fun h => by first | exact False.elim h | exact absurd trivial h | (exfalso; omega) | exact absurd rfl h | cases h)⟩
    simp (disch := first | (simp only [dd, dr]; done) | omega) only [W_233_4, W_233_5, I_lt, I_le, I_inj, inB_I, tc_I, Int.toNat_natCast, fkt, rf1, rf0, cq, Nat.reduceAdd, Nat.reduceEqDiff, Int.reduceToNat, eq_self, true_and, and_true, true_or, or_true, bI_0, bI_1, mm, rAm, mF_sF, mR_sR, false_and, and_false, if_false, if_true, false_or, or_false, not_true_eq_false, not_false_eq_true, and_self]
    refine ⟨(fun h => by first | exact False.elim h | exact absurd trivial h | (exfalso; omega) | exact absurd rfl h | cases h), fun _ => ?_⟩
    simp (disch := first | (simp only [dd, dr]; done) | omega) only [W_233_4, W_233_5, msK, msR, g2, mL_sL, lgc, I_lt, I_le, I_inj, inB_I, tc_I, Int.toNat_natCast, fkt, rf1, rf0, cq, Nat.reduceAdd, Nat.reduceEqDiff, Int.reduceToNat, eq_self, true_and, and_true, true_or, or_true, bI_0, bI_1, mm, rAm, mF_sF, mR_sR, false_and, and_false, if_false, if_true, false_or, or_false, not_true_eq_false, not_false_eq_true, and_self]
    refine ⟨fun _ => ?_, (fun h => by first | exact False.elim h | exact absurd trivial h | (exfalso; omega) | exact absurd rfl h | cases h)⟩
    simp (disch := first | (simp only [dd, dr]; done) | omega) only [W_233_4, W_233_5, W_233_22, W_233_23, hl6, I_lt, I_le, I_inj, inB_I, tc_I, Int.toNat_natCast, fkt, rf1, rf0, cq, Nat.reduceAdd, Nat.reduceEqDiff, Int.reduceToNat, eq_self, true_and, and_true, true_or, or_true, bI_0, bI_1, mm, rAm, mF_sF, mR_sR, false_and, and_false, if_false, if_true, false_or, or_false, not_true_eq_false, not_false_eq_true, and_self]
    exact next _ A' _ _ dt par Tc Xc dtc parc la v _ _ (L0.step (F'.cd J) (by omega) (.inr ⟨_, rfl⟩) C' D' V1 K (fv.fe he) S1' S2 w1' w2 dv)
end Lw2
