/-! ===== THE LAW: its other cases ===== -/
section Lw3
variable {d p o q a m J n i k N0 S0 : Nat} {sc : Nat → Int} {M M' : Mem} {A A' : Ad} {T T' Tc : Tr} {X X' Xc : Ob} {dt dtc la : Nat → Nat → Nat} {par parc : Nat → Nat} {v : Dv} {Q : Outcome → Mem → Prop}
theorem mk_cm {off : Bool} {chg : Nat → Bool} (h : cmC m J off chg ≠ 0) : (10 + cmC m J off chg, cmM m J off chg) ∈ [(11, 1), (14, 2)] := by
  unfold cmC cmM at *
  split
  · simp
  · split
    · simp
    · rename_i h1 h2
      rw [if_neg h1, if_neg h2] at h
      exact absurd rfl h
theorem cmCM {off : Bool} {chg : Nat → Bool} : cmC m J off chg = 0 ↔ cmM m J off chg = 0 := by
  unfold cmC cmM
  split
  · simp
  · split <;> simp
theorem cmM_le {off : Bool} {chg : Nat → Bool} : cmM m J off chg ≤ 2 := by unfold cmM; split; omega; split <;> omega
theorem mk_cn {off : Bool} {z : Int} (h : cnC off z ≠ 0) : (10 + cnC off z, cnM off z) ∈ [(11, 1), (13, 2)] := by
  unfold cnC cnM at *
  split
  · simp
  · split
    · rename_i h1 h2
      rw [if_neg h1, if_pos h2] at h
      exact absurd rfl h
    · simp
theorem cnCM {off : Bool} {z : Int} : cnC off z = 0 ↔ cnM off z = 0 := by
  unfold cnC cnM
  split
  · simp
  · split <;> simp
theorem cnM_le {off : Bool} {z : Int} : cnM off z ≤ 2 := by unfold cnM; split; omega; split <;> omega
theorem cnC_off {off : Bool} {z : Int} (h : cnC off z = 0) : off = false := by
  unfold cnC at h
  cases off with
  | true => simp at h
  | false => rfl
theorem cmC_off {off : Bool} {chg : Nat → Bool} (h : cmC m J off chg = 0) : off = false ∧ (cn chg m ≠ 0 → cn chg m + 2 ≤ J) := by
  unfold cmC at h
  cases off with
  | true => simp at h
  | false =>
    refine ⟨rfl, fun h0 => ?_⟩
    rw [if_neg (by simp)] at h
    apply Classical.byContradiction
    intro hc
    rw [if_pos ⟨h0, by omega⟩] at h
    cases h
theorem DvO.C {chg : Nat → Bool} (D : DvO m J v) (h : v.2.2.1 = false) (hj : cn chg m + 2 ≤ J) : DvO m J (dvC m J v chg) := by
  have D1 : DvO m J (dv1 m J v chg) := by
    unfold dv1
    split
    · exact D.H
    · exact D
  have hroom : (dv1 m J v chg).2.2.1 = false → (dv1 m J v chg).2.2.2.2.1 + cn chg m + 2 ≤ J := by
    intro h3
    unfold dv1 at h3 ⊢
    split
    · rename_i e
      rw [if_pos e] at h3
      rw [dvH_ju h h3]; omega
    · omega
  unfold dvC
  generalize dv1 m J v chg = u at *
  split
  · exact D1
  · rename_i h3
    have hr := hroom (by simpa using h3)
    obtain ⟨E1, E2, E3, E4, E5⟩ := D1
    unfold dvJ
    split
    · exact ⟨by show (-1 : Int) ≤ -1; omega, by show (-1 : Int) < 2147483648; omega, E3, E4, E5⟩
    · have r := wn_rng (a := cn chg m + 2) (n := (wn u.2.1 (cn chg m + 2)).1) (l' := (wn u.2.1 (cn chg m + 2)).2.1) (t := (wn u.2.1 (cn chg m + 2)).2.2) E1 E2 rfl
      refine ⟨r.1, r.2, hr, E4, fun x hx => ?_⟩
      have hx : (u.2.2.2.2.2 x || (decide (x < m) && chg x)) = true := hx
      rw [Bool.or_eq_true, Bool.and_eq_true, decide_eq_true_eq] at hx
      rcases hx with hx | hx
      · exact E5 x hx
      · exact hx.1
theorem C_count (hd : 60 ≤ d) (C : CX M p m J A T X) (D : DR M p T dt) (K : CMt m Tc Xc dtc la) (V : DJv M p m J v la) {w : Int} (w0 : -2147483648 ≤ w) (w1 : w < 2147483648)
    (hX : Thr p m J A T X dt M Q (fun k => cnC v.2.2.1 w ≠ 0 ∧ k = 10 + cnC v.2.2.1 w))
    (hR : cnC v.2.2.1 w = 0 → ∀ M', CX M' p m J A T X → DR M' p T dt → CF p A A 0 M M' → Q (.returned (some (.int (I (cnV m T X (cn (chq m T X dt Tc la) m) (v.2.2.2.2.1 : Nat) v.1 v.2.2.2.1 w.toNat))))) M') :
    Wp d 86 0 [some (.ref p), some (.int (I w)), none, none, none, none, none, none] [] M Q := by
  obtain ⟨fu, hfu, hf2⟩ : ∃ fu : Int, mF M 20 (p + 205) = I fu ∧ (v.2.2.1 = false → fu = (v.2.2.2.2.1 : Nat)) := by
    cases ho : v.2.2.1 with
    | true => exact ⟨(mF M 20 (p + 205)).toInt, (Int32.ofInt_toInt _).symm, fun h => by cases h⟩
    | false => exact ⟨_, V.f.2.2.2.2.1 ho, fun _ => rfl⟩
  refine c_count hd C D V.f.2.2.1 w0 w1 V.f.2.2.2.2.2.2.2.2 K.la0 hfu V.f.1 V.f.2.2.2.1 hX (fun hc M' C' D' F' => ?_)
  have := hf2 (cnC_off hc)
  subst this
  exact hR hc M' C' D' F'
set_option maxHeartbeats 2000000 in
theorem law_count (hd : 120 ≤ d) (hn : n ≤ 3074) (hsc : ∀ i, i32 (sc i)) (L : LWs M p o q a m J n sc N0 S0 A T X dt par Tc Xc dtc parc la v k) (hi : i + 6 ≤ n) {l5 l6 : Option Value} (next : Nx d p o q a m J n sc N0 S0 k i Q) : Wp d 233 1421 [some (.ref a), some (.ref p), some (.ref o), some (.ref q), some (.int (I (i : Nat))), l5, l6] [] M Q := by
  have L0 := L
  obtain ⟨⟨C, D, V, K⟩, ⟨f, s, b, c, w, j, md, fv, S1, S2⟩, ⟨w1, w2, dv⟩, ⟨kq, ka, hs⟩, ap, hqo, hao, haq, _, _⟩ := L
  have ql := (ap q (.inr (.inl rfl))).1
  have hm := C.m96
  have hm1 : 1 ≤ m := by have := C.1.2.2.2.2.2.2.2.2.2.2.1; omega
  have kp1 := C.1.1.1
  have hoff := V.f.2.2.1
  have hl6 : (i : Int) + 6 = ((i + 6 : Nat) : Int) := by omega
  have e1 := hs (i + 1) (by omega)
  have ha1 : (i : Int) + 1 = ((i + 1 : Nat) : Int) := by omega
  obtain ⟨b10, b11⟩ := hsc (i + 1)
  simp (disch := first | (simp only [dd, dr]; done) | omega) only [W_233_22, ha1, ka, e1, I_lt, I_le, I_inj, inB_I, tc_I, Int.toNat_natCast, fkt, rf1, rf0, cq, Nat.reduceAdd, Nat.reduceEqDiff, Int.reduceToNat, eq_self, true_and, and_true, true_or, or_true, bI_0, bI_1, mm, rAm, mF_sF, mR_sR, false_and, and_false, if_false, if_true, false_or, or_false, not_true_eq_false, not_false_eq_true, and_self]
  refine cr_19 (by omega) (wr_19 (by omega) kp1 (C_count (by omega) C D K V b10 b11 (fun k' M' A' e ke hP C' D' F' => ?_) (fun hc M' C' D' F' => ?_)))
  · obtain ⟨hc, hk⟩ := hP
    subst hk
    obtain ⟨g1, g2, g3, g4, g5⟩ := L0.mid (F'.cd J)
    have md1 := g1 _ _ _ _ _ _ md
    have hK := md1.1
    have k8 := hK.1
    have V1 := DJ.cf V C.2.2.2.1 C.2.2.2.2 hm F'
    refine .inr ⟨e, _, _, rfl, ke, mk_cn hc, ?_⟩
    rw [← md1.eq]
    have e1m : mA (ms M' o f s b c w j) a (i + 1) = I (sc (i + 1)) := by rw [md1.eq]; exact g4 _ (by omega)
    simp (disch := first | (simp only [dd, dr]; done) | omega) only [W_233_22, ha1, msK, g3, e1m, k8, I_lt, I_le, I_inj, inB_I, tc_I, Int.toNat_natCast, fkt, rf1, rf0, cq, Nat.reduceAdd, Nat.reduceEqDiff, Int.reduceToNat, eq_self, true_and, and_true, true_or, or_true, bI_0, bI_1, mm, rAm, mF_sF, mR_sR, false_and, and_false, if_false, if_true, false_or, or_false, not_true_eq_false, not_false_eq_true, and_self]
    refine ca_228 (by omega) (m_count hK (by omega) hm (w1.mw S1) (w2.mw S2) K fv (stN_cn w1) b10 b11 (fun _ f' he h54 => ?_) (fun h => absurd (cnCM.mpr h) hc))
    simp (disch := first | (simp only [dd, dr]; done) | omega) only [W_233_22, msK, k8, I_lt, I_le, I_inj, inB_I, tc_I, Int.toNat_natCast, fkt, rf1, rf0, cq, Nat.reduceAdd, Nat.reduceEqDiff, Int.reduceToNat, eq_self, true_and, and_true, true_or, or_true, bI_0, bI_1, mm, rAm, mF_sF, mR_sR, false_and, and_false, if_false, if_true, false_or, or_false, not_true_eq_false, not_false_eq_true, and_self]
    refine ca_155 (by omega) (m_thrown hK ?_)
    rw [h54]
    have hle := cnM_le (off := v.2.2.1) (z := sc (i + 1))
    have hnz := fun h => hc (cnCM.mpr h)
    generalize cnM v.2.2.1 (sc (i + 1)) = cd at *
    simp (disch := first | (simp only [dd, dr]; done) | omega) only [W_233_22, I_lt, I_le, I_inj, inB_I, tc_I, Int.toNat_natCast, fkt, rf1, rf0, cq, Nat.reduceAdd, Nat.reduceEqDiff, Int.reduceToNat, eq_self, true_and, and_true, true_or, or_true, bI_0, bI_1, mm, rAm, mF_sF, mR_sR, false_and, and_false, if_false, if_true, false_or, or_false, not_true_eq_false, not_false_eq_true, and_self]
    refine ⟨fun _ => ?_, (fun h => by first | exact False.elim h | exact absurd trivial h | (exfalso; omega) | exact absurd rfl h | cases h)⟩
    simp (disch := first | (simp only [dd, dr]; done) | omega) only [W_233_22, I_lt, I_le, I_inj, inB_I, tc_I, Int.toNat_natCast, fkt, rf1, rf0, cq, Nat.reduceAdd, Nat.reduceEqDiff, Int.reduceToNat, eq_self, true_and, and_true, true_or, or_true, bI_0, bI_1, mm, rAm, mF_sF, mR_sR, false_and, and_false, if_false, if_true, false_or, or_false, not_true_eq_false, not_false_eq_true, and_self]
    refine ⟨fun _ => ?_, (fun h => by first | exact False.elim h | exact absurd trivial h | (exfalso; omega) | exact absurd rfl h | cases h)⟩
    simp (disch := first | (simp only [dd, dr]; done) | omega) only [W_233_22, W_233_22, W_233_23, hl6, I_lt, I_le, I_inj, inB_I, tc_I, Int.toNat_natCast, fkt, rf1, rf0, cq, Nat.reduceAdd, Nat.reduceEqDiff, Int.reduceToNat, eq_self, true_and, and_true, true_or, or_true, bI_0, bI_1, mm, rAm, mF_sF, mR_sR, false_and, and_false, if_false, if_true, false_or, or_false, not_true_eq_false, not_false_eq_true, and_self]
    exact next _ A' T X dt par Tc Xc dtc parc la v _ _ (L0.step (F'.cd J) (by omega) (.inl rfl) C' D' V1 K (fv.fe he) (S1) S2 w1 w2 dv)
  · skip
    obtain ⟨g1, g2, g3, g4, g5⟩ := L0.mid (F'.cd J)
    have md1 := g1 _ _ _ _ _ _ md
    have V1 := DJ.cf V C.2.2.2.1 C.2.2.2.2 hm F'
    refine .inl ⟨_, rfl, g2, ?_⟩
    have md2 := md1.sL hqo (I (cnV m T X (cn (chq m T X dt Tc la) m) (v.2.2.2.2.1 : Nat) v.1 v.2.2.2.1 (sc (i + 1)).toNat)).toInt64
    have hK := md2.1
    have k8 := hK.1
    rw [← md2.eq]
    have e1m : mA (ms (sL M' q 0 (I (cnV m T X (cn (chq m T X dt Tc la) m) (v.2.2.2.2.1 : Nat) v.1 v.2.2.2.1 (sc (i + 1)).toNat)).toInt64) o f s b c w j) a (i + 1) = I (sc (i + 1)) := by rw [md2.eq]; exact g4 _ (by omega)
    simp (disch := first | (simp only [dd, dr]; done) | omega) only [W_233_22, ha1, msK, g3, e1m, k8, I_lt, I_le, I_inj, inB_I, tc_I, Int.toNat_natCast, fkt, rf1, rf0, cq, Nat.reduceAdd, Nat.reduceEqDiff, Int.reduceToNat, eq_self, true_and, and_true, true_or, or_true, bI_0, bI_1, mm, rAm, mF_sF, mR_sR, false_and, and_false, if_false, if_true, false_or, or_false, not_true_eq_false, not_false_eq_true, and_self]
    refine ca_228 (by omega) (m_count hK (by omega) hm (w1.mw S1) (w2.mw S2) K fv (stN_cn w1) b10 b11 (fun h => absurd (cnCM.mp hc) h) (fun _ f' he h54 => ?_))
    simp (disch := first | (simp only [dd, dr]; done) | omega) only [W_233_22, msK, k8, I_lt, I_le, I_inj, inB_I, tc_I, Int.toNat_natCast, fkt, rf1, rf0, cq, Nat.reduceAdd, Nat.reduceEqDiff, Int.reduceToNat, eq_self, true_and, and_true, true_or, or_true, bI_0, bI_1, mm, rAm, mF_sF, mR_sR, false_and, and_false, if_false, if_true, false_or, or_false, not_true_eq_false, not_false_eq_true, and_self]
    refine ca_155 (by omega) (m_thrown hK ?_)
    rw [h54]
    simp (disch := first | (simp only [dd, dr]; done) | omega) only [W_233_22, I_lt, I_le, I_inj, inB_I, tc_I, Int.toNat_natCast, fkt, rf1, rf0, cq, Nat.reduceAdd, Nat.reduceEqDiff, Int.reduceToNat, eq_self, true_and, and_true, true_or, or_true, bI_0, bI_1, mm, rAm, mF_sF, mR_sR, false_and, and_false, if_false, if_true, false_or, or_false, not_true_eq_false, not_false_eq_true, and_self]
    refine ⟨fun _ => ?_, (fun h => by first | exact False.elim h | exact absurd trivial h | (exfalso; omega) | exact absurd rfl h | cases h)⟩
    simp (disch := first | (simp only [dd, dr]; done) | omega) only [W_233_22, I_lt, I_le, I_inj, inB_I, tc_I, Int.toNat_natCast, fkt, rf1, rf0, cq, Nat.reduceAdd, Nat.reduceEqDiff, Int.reduceToNat, eq_self, true_and, and_true, true_or, or_true, bI_0, bI_1, mm, rAm, mF_sF, mR_sR, false_and, and_false, if_false, if_true, false_or, or_false, not_true_eq_false, not_false_eq_true, and_self]
    refine ⟨(fun h => by first | exact False.elim h | exact absurd trivial h | (exfalso; omega) | exact absurd rfl h | cases h), fun _ => ?_⟩
    simp (disch := first | (simp only [dd, dr]; done) | omega) only [W_233_22, msK, msR, g2, mL_sL, lgc, I_lt, I_le, I_inj, inB_I, tc_I, Int.toNat_natCast, fkt, rf1, rf0, cq, Nat.reduceAdd, Nat.reduceEqDiff, Int.reduceToNat, eq_self, true_and, and_true, true_or, or_true, bI_0, bI_1, mm, rAm, mF_sF, mR_sR, false_and, and_false, if_false, if_true, false_or, or_false, not_true_eq_false, not_false_eq_true, and_self]
    refine ⟨fun _ => ?_, (fun h => by first | exact False.elim h | exact absurd trivial h | (exfalso; omega) | exact absurd rfl h | cases h)⟩
    simp (disch := first | (simp only [dd, dr]; done) | omega) only [W_233_22, W_233_22, W_233_23, hl6, I_lt, I_le, I_inj, inB_I, tc_I, Int.toNat_natCast, fkt, rf1, rf0, cq, Nat.reduceAdd, Nat.reduceEqDiff, Int.reduceToNat, eq_self, true_and, and_true, true_or, or_true, bI_0, bI_1, mm, rAm, mF_sF, mR_sR, false_and, and_false, if_false, if_true, false_or, or_false, not_true_eq_false, not_false_eq_true, and_self]
    exact next _ A T X dt par Tc Xc dtc parc la v _ _ (L0.step (F'.cd J) (by omega) (.inr ⟨_, rfl⟩) C' D' V1 K (fv.fe he) S1 S2 w1 w2 dv)
set_option maxHeartbeats 2000000 in
theorem law_check (hd : 120 ≤ d) (hn : n ≤ 3074) (hsc : ∀ i, i32 (sc i)) (L : LWs M p o q a m J n sc N0 S0 A T X dt par Tc Xc dtc parc la v k) (hi : i + 6 ≤ n) {l5 l6 : Option Value} (next : Nx d p o q a m J n sc N0 S0 k i Q) : Wp d 233 1240 [some (.ref a), some (.ref p), some (.ref o), some (.ref q), some (.int (I (i : Nat))), l5, l6] [] M Q := by
  have L0 := L
  obtain ⟨⟨C, D, V, K⟩, ⟨f, s, b, c, w, j, md, fv, S1, S2⟩, ⟨w1, w2, dv⟩, ⟨kq, ka, hs⟩, ap, hqo, hao, haq, _, _⟩ := L
  have ql := (ap q (.inr (.inl rfl))).1
  have hm := C.m96
  have hm1 : 1 ≤ m := by have := C.1.2.2.2.2.2.2.2.2.2.2.1; omega
  have kp1 := C.1.1.1
  have hoff := V.f.2.2.1
  have hl6 : (i : Int) + 6 = ((i + 6 : Nat) : Int) := by omega
  simp (disch := first | (simp only [dd, dr]; done) | omega) only [W_233_19, W_233_20, I_lt, I_le, I_inj, inB_I, tc_I, Int.toNat_natCast, fkt, rf1, rf0, cq, Nat.reduceAdd, Nat.reduceEqDiff, Int.reduceToNat, eq_self, true_and, and_true, true_or, or_true, bI_0, bI_1, mm, rAm, mF_sF, mR_sR, false_and, and_false, if_false, if_true, false_or, or_false, not_true_eq_false, not_false_eq_true, and_self]
  refine cr_15 (by omega) (wr_15 (by omega) kp1 (c_check (by omega) C D V (fun k' M' A' e ke hP C' D' F' => ?_) (fun hc M' C' D' F' V' => ?_)))
  · obtain ⟨hc, hk⟩ := hP
    subst hk
    obtain ⟨g1, g2, g3, g4, g5⟩ := L0.mid (F'.cd J)
    have md1 := g1 _ _ _ _ _ _ md
    have hK := md1.1
    have k8 := hK.1
    have V1 := DJ.cf V C.2.2.2.1 C.2.2.2.2 hm F'
    refine .inr ⟨e, _, _, rfl, ke, List.mem_singleton.mpr rfl, ?_⟩
    rw [← md1.eq]
    simp (disch := first | (simp only [dd, dr]; done) | omega) only [W_233_19, W_233_20, msK, k8, I_lt, I_le, I_inj, inB_I, tc_I, Int.toNat_natCast, fkt, rf1, rf0, cq, Nat.reduceAdd, Nat.reduceEqDiff, Int.reduceToNat, eq_self, true_and, and_true, true_or, or_true, bI_0, bI_1, mm, rAm, mF_sF, mR_sR, false_and, and_false, if_false, if_true, false_or, or_false, not_true_eq_false, not_false_eq_true, and_self]
    refine ca_223 (by omega) (m_check hK (by omega) hm fv dv (fun _ f' he h54 => ?_) (fun h => absurd (hc.symm.trans h) (by simp)))
    simp (disch := first | (simp only [dd, dr]; done) | omega) only [W_233_19, W_233_20, msK, k8, I_lt, I_le, I_inj, inB_I, tc_I, Int.toNat_natCast, fkt, rf1, rf0, cq, Nat.reduceAdd, Nat.reduceEqDiff, Int.reduceToNat, eq_self, true_and, and_true, true_or, or_true, bI_0, bI_1, mm, rAm, mF_sF, mR_sR, false_and, and_false, if_false, if_true, false_or, or_false, not_true_eq_false, not_false_eq_true, and_self]
    refine ca_155 (by omega) (m_thrown hK ?_)
    rw [h54]
    simp (disch := first | (simp only [dd, dr]; done) | omega) only [W_233_19, W_233_20, I_lt, I_le, I_inj, inB_I, tc_I, Int.toNat_natCast, fkt, rf1, rf0, cq, Nat.reduceAdd, Nat.reduceEqDiff, Int.reduceToNat, eq_self, true_and, and_true, true_or, or_true, bI_0, bI_1, mm, rAm, mF_sF, mR_sR, false_and, and_false, if_false, if_true, false_or, or_false, not_true_eq_false, not_false_eq_true, and_self]
    refine ⟨fun _ => ?_, (fun h => by first | exact False.elim h | exact absurd trivial h | (exfalso; omega) | exact absurd rfl h | cases h)⟩
    simp (disch := first | (simp only [dd, dr]; done) | omega) only [W_233_19, W_233_20, I_lt, I_le, I_inj, inB_I, tc_I, Int.toNat_natCast, fkt, rf1, rf0, cq, Nat.reduceAdd, Nat.reduceEqDiff, Int.reduceToNat, eq_self, true_and, and_true, true_or, or_true, bI_0, bI_1, mm, rAm, mF_sF, mR_sR, false_and, and_false, if_false, if_true, false_or, or_false, not_true_eq_false, not_false_eq_true, and_self]
    refine ⟨fun _ => ?_, (fun h => by first | exact False.elim h | exact absurd trivial h | (exfalso; omega) | exact absurd rfl h | cases h)⟩
    simp (disch := first | (simp only [dd, dr]; done) | omega) only [W_233_19, W_233_20, W_233_22, W_233_23, hl6, I_lt, I_le, I_inj, inB_I, tc_I, Int.toNat_natCast, fkt, rf1, rf0, cq, Nat.reduceAdd, Nat.reduceEqDiff, Int.reduceToNat, eq_self, true_and, and_true, true_or, or_true, bI_0, bI_1, mm, rAm, mF_sF, mR_sR, false_and, and_false, if_false, if_true, false_or, or_false, not_true_eq_false, not_false_eq_true, and_self]
    exact next _ A' T X dt par Tc Xc dtc parc la v _ _ (L0.step (F'.cd J) (by omega) (.inl rfl) C' D' V1 K (fv.fe he) (S1) S2 w1 w2 dv)
  · skip
    obtain ⟨g1, g2, g3, g4, g5⟩ := L0.mid F'
    have md1 := g1 _ _ _ _ _ _ md
    have V1 := V'
    refine .inl ⟨_, rfl, g2, ?_⟩
    have md2 := md1.sL hqo (I ((dvH m v).1 - v.1)).toInt64
    have hK := md2.1
    have k8 := hK.1
    rw [← md2.eq]
    simp (disch := first | (simp only [dd, dr]; done) | omega) only [W_233_19, W_233_20, msK, k8, I_lt, I_le, I_inj, inB_I, tc_I, Int.toNat_natCast, fkt, rf1, rf0, cq, Nat.reduceAdd, Nat.reduceEqDiff, Int.reduceToNat, eq_self, true_and, and_true, true_or, or_true, bI_0, bI_1, mm, rAm, mF_sF, mR_sR, false_and, and_false, if_false, if_true, false_or, or_false, not_true_eq_false, not_false_eq_true, and_self]
    refine ca_223 (by omega) (m_check hK (by omega) hm fv dv (fun h => absurd (hc.symm.trans h) (by simp)) (fun _ f' j' fv' h54 => ?_))
    simp (disch := first | (simp only [dd, dr]; done) | omega) only [W_233_19, W_233_20, msK, k8, I_lt, I_le, I_inj, inB_I, tc_I, Int.toNat_natCast, fkt, rf1, rf0, cq, Nat.reduceAdd, Nat.reduceEqDiff, Int.reduceToNat, eq_self, true_and, and_true, true_or, or_true, bI_0, bI_1, mm, rAm, mF_sF, mR_sR, false_and, and_false, if_false, if_true, false_or, or_false, not_true_eq_false, not_false_eq_true, and_self]
    refine ca_155 (by omega) (m_thrown hK ?_)
    rw [h54]
    simp (disch := first | (simp only [dd, dr]; done) | omega) only [W_233_19, W_233_20, I_lt, I_le, I_inj, inB_I, tc_I, Int.toNat_natCast, fkt, rf1, rf0, cq, Nat.reduceAdd, Nat.reduceEqDiff, Int.reduceToNat, eq_self, true_and, and_true, true_or, or_true, bI_0, bI_1, mm, rAm, mF_sF, mR_sR, false_and, and_false, if_false, if_true, false_or, or_false, not_true_eq_false, not_false_eq_true, and_self]
    refine ⟨fun _ => ?_, (fun h => by first | exact False.elim h | exact absurd trivial h | (exfalso; omega) | exact absurd rfl h | cases h)⟩
    simp (disch := first | (simp only [dd, dr]; done) | omega) only [W_233_19, W_233_20, I_lt, I_le, I_inj, inB_I, tc_I, Int.toNat_natCast, fkt, rf1, rf0, cq, Nat.reduceAdd, Nat.reduceEqDiff, Int.reduceToNat, eq_self, true_and, and_true, true_or, or_true, bI_0, bI_1, mm, rAm, mF_sF, mR_sR, false_and, and_false, if_false, if_true, false_or, or_false, not_true_eq_false, not_false_eq_true, and_self]
    refine ⟨(fun h => by first | exact False.elim h | exact absurd trivial h | (exfalso; omega) | exact absurd rfl h | cases h), fun _ => ?_⟩
    simp (disch := first | (simp only [dd, dr]; done) | omega) only [W_233_19, W_233_20, msK, msR, g2, mL_sL, lgc, I_lt, I_le, I_inj, inB_I, tc_I, Int.toNat_natCast, fkt, rf1, rf0, cq, Nat.reduceAdd, Nat.reduceEqDiff, Int.reduceToNat, eq_self, true_and, and_true, true_or, or_true, bI_0, bI_1, mm, rAm, mF_sF, mR_sR, false_and, and_false, if_false, if_true, false_or, or_false, not_true_eq_false, not_false_eq_true, and_self]
    refine ⟨fun _ => ?_, (fun h => by first | exact False.elim h | exact absurd trivial h | (exfalso; omega) | exact absurd rfl h | cases h)⟩
    simp (disch := first | (simp only [dd, dr]; done) | omega) only [W_233_19, W_233_20, W_233_22, W_233_23, hl6, I_lt, I_le, I_inj, inB_I, tc_I, Int.toNat_natCast, fkt, rf1, rf0, cq, Nat.reduceAdd, Nat.reduceEqDiff, Int.reduceToNat, eq_self, true_and, and_true, true_or, or_true, bI_0, bI_1, mm, rAm, mF_sF, mR_sR, false_and, and_false, if_false, if_true, false_or, or_false, not_true_eq_false, not_false_eq_true, and_self]
    exact next _ A T X dt par Tc Xc dtc parc la _ _ _ (L0.step F' (by omega) (.inr ⟨_, rfl⟩) C' D' V1 K fv' S1 S2 w1 w2 dv.H)
set_option maxHeartbeats 2000000 in
theorem law_back (hd : 120 ≤ d) (hn : n ≤ 3074) (hsc : ∀ i, i32 (sc i)) (L : LWs M p o q a m J n sc N0 S0 A T X dt par Tc Xc dtc parc la v k) (hi : i + 6 ≤ n) {l5 l6 : Option Value} (next : Nx d p o q a m J n sc N0 S0 k i Q) : Wp d 233 1284 [some (.ref a), some (.ref p), some (.ref o), some (.ref q), some (.int (I (i : Nat))), l5, l6] [] M Q := by
  have L0 := L
  obtain ⟨⟨C, D, V, K⟩, ⟨f, s, b, c, w, j, md, fv, S1, S2⟩, ⟨w1, w2, dv⟩, ⟨kq, ka, hs⟩, ap, hqo, hao, haq, _, _⟩ := L
  have ql := (ap q (.inr (.inl rfl))).1
  have hm := C.m96
  have hm1 : 1 ≤ m := by have := C.1.2.2.2.2.2.2.2.2.2.2.1; omega
  have kp1 := C.1.1.1
  have hoff := V.f.2.2.1
  have hl6 : (i : Int) + 6 = ((i + 6 : Nat) : Int) := by omega
  simp (disch := first | (simp only [dd, dr]; done) | omega) only [W_233_20, I_lt, I_le, I_inj, inB_I, tc_I, Int.toNat_natCast, fkt, rf1, rf0, cq, Nat.reduceAdd, Nat.reduceEqDiff, Int.reduceToNat, eq_self, true_and, and_true, true_or, or_true, bI_0, bI_1, mm, rAm, mF_sF, mR_sR, false_and, and_false, if_false, if_true, false_or, or_false, not_true_eq_false, not_false_eq_true, and_self]
  refine cr_16 (by omega) (wr_16 (by omega) kp1 (c_back (by omega) C D K V (fun k' M' A' e ke hP C' D' F' => ?_) (fun hc M' A' C' D' F' => ?_)))
  · obtain ⟨hc, hk⟩ := hP
    subst hk
    obtain ⟨g1, g2, g3, g4, g5⟩ := L0.mid (F'.cd J)
    have md1 := g1 _ _ _ _ _ _ md
    have hK := md1.1
    have k8 := hK.1
    have V1 := DJ.cf V C.2.2.2.1 C.2.2.2.2 hm F'
    refine .inr ⟨e, _, _, rfl, ke, List.mem_singleton.mpr rfl, ?_⟩
    rw [← md1.eq]
    simp (disch := first | (simp only [dd, dr]; done) | omega) only [W_233_20, msK, k8, I_lt, I_le, I_inj, inB_I, tc_I, Int.toNat_natCast, fkt, rf1, rf0, cq, Nat.reduceAdd, Nat.reduceEqDiff, Int.reduceToNat, eq_self, true_and, and_true, true_or, or_true, bI_0, bI_1, mm, rAm, mF_sF, mR_sR, false_and, and_false, if_false, if_true, false_or, or_false, not_true_eq_false, not_false_eq_true, and_self]
    refine ca_224 (by omega) (m_back hK (by omega) hm (w1.mw S1) (w2.mw S2) K fv (fun _ f' he h54 => ?_) (fun h => absurd (hc.symm.trans h) (by simp)))
    simp (disch := first | (simp only [dd, dr]; done) | omega) only [W_233_20, msK, k8, I_lt, I_le, I_inj, inB_I, tc_I, Int.toNat_natCast, fkt, rf1, rf0, cq, Nat.reduceAdd, Nat.reduceEqDiff, Int.reduceToNat, eq_self, true_and, and_true, true_or, or_true, bI_0, bI_1, mm, rAm, mF_sF, mR_sR, false_and, and_false, if_false, if_true, false_or, or_false, not_true_eq_false, not_false_eq_true, and_self]
    refine ca_155 (by omega) (m_thrown hK ?_)
    rw [h54]
    simp (disch := first | (simp only [dd, dr]; done) | omega) only [W_233_20, I_lt, I_le, I_inj, inB_I, tc_I, Int.toNat_natCast, fkt, rf1, rf0, cq, Nat.reduceAdd, Nat.reduceEqDiff, Int.reduceToNat, eq_self, true_and, and_true, true_or, or_true, bI_0, bI_1, mm, rAm, mF_sF, mR_sR, false_and, and_false, if_false, if_true, false_or, or_false, not_true_eq_false, not_false_eq_true, and_self]
    refine ⟨fun _ => ?_, (fun h => by first | exact False.elim h | exact absurd trivial h | (exfalso; omega) | exact absurd rfl h | cases h)⟩
    simp (disch := first | (simp only [dd, dr]; done) | omega) only [W_233_20, I_lt, I_le, I_inj, inB_I, tc_I, Int.toNat_natCast, fkt, rf1, rf0, cq, Nat.reduceAdd, Nat.reduceEqDiff, Int.reduceToNat, eq_self, true_and, and_true, true_or, or_true, bI_0, bI_1, mm, rAm, mF_sF, mR_sR, false_and, and_false, if_false, if_true, false_or, or_false, not_true_eq_false, not_false_eq_true, and_self]
    refine ⟨fun _ => ?_, (fun h => by first | exact False.elim h | exact absurd trivial h | (exfalso; omega) | exact absurd rfl h | cases h)⟩
    simp (disch := first | (simp only [dd, dr]; done) | omega) only [W_233_20, W_233_22, W_233_23, hl6, I_lt, I_le, I_inj, inB_I, tc_I, Int.toNat_natCast, fkt, rf1, rf0, cq, Nat.reduceAdd, Nat.reduceEqDiff, Int.reduceToNat, eq_self, true_and, and_true, true_or, or_true, bI_0, bI_1, mm, rAm, mF_sF, mR_sR, false_and, and_false, if_false, if_true, false_or, or_false, not_true_eq_false, not_false_eq_true, and_self]
    exact next _ A' T X dt par Tc Xc dtc parc la v _ _ (L0.step (F'.cd J) (by omega) (.inl rfl) C' D' V1 K (fv.fe he) (S1) S2 w1 w2 dv)
  · skip
    obtain ⟨g1, g2, g3, g4, g5⟩ := L0.mid (F'.cd J)
    have md1 := g1 _ _ _ _ _ _ md
    have V1 := DJ.cf V C.2.2.2.1 C.2.2.2.2 hm F'
    refine .inl ⟨_, rfl, g2, ?_⟩
    have md2 := md1.sL hqo (I (cn (chq m T X dt Tc la) m : Nat)).toInt64
    have hK := md2.1
    have k8 := hK.1
    rw [← md2.eq]
    simp (disch := first | (simp only [dd, dr]; done) | omega) only [W_233_20, msK, k8, I_lt, I_le, I_inj, inB_I, tc_I, Int.toNat_natCast, fkt, rf1, rf0, cq, Nat.reduceAdd, Nat.reduceEqDiff, Int.reduceToNat, eq_self, true_and, and_true, true_or, or_true, bI_0, bI_1, mm, rAm, mF_sF, mR_sR, false_and, and_false, if_false, if_true, false_or, or_false, not_true_eq_false, not_false_eq_true, and_self]
    refine ca_224 (by omega) (m_back hK (by omega) hm (w1.mw S1) (w2.mw S2) K fv (fun h => absurd (hc.symm.trans h) (by simp)) (fun _ f' s' he h54 hs' => ?_))
    simp (disch := first | (simp only [dd, dr]; done) | omega) only [W_233_20, msK, k8, I_lt, I_le, I_inj, inB_I, tc_I, Int.toNat_natCast, fkt, rf1, rf0, cq, Nat.reduceAdd, Nat.reduceEqDiff, Int.reduceToNat, eq_self, true_and, and_true, true_or, or_true, bI_0, bI_1, mm, rAm, mF_sF, mR_sR, false_and, and_false, if_false, if_true, false_or, or_false, not_true_eq_false, not_false_eq_true, and_self]
    refine ca_155 (by omega) (m_thrown hK ?_)
    rw [h54]
    simp (disch := first | (simp only [dd, dr]; done) | omega) only [W_233_20, I_lt, I_le, I_inj, inB_I, tc_I, Int.toNat_natCast, fkt, rf1, rf0, cq, Nat.reduceAdd, Nat.reduceEqDiff, Int.reduceToNat, eq_self, true_and, and_true, true_or, or_true, bI_0, bI_1, mm, rAm, mF_sF, mR_sR, false_and, and_false, if_false, if_true, false_or, or_false, not_true_eq_false, not_false_eq_true, and_self]
    refine ⟨fun _ => ?_, (fun h => by first | exact False.elim h | exact absurd trivial h | (exfalso; omega) | exact absurd rfl h | cases h)⟩
    simp (disch := first | (simp only [dd, dr]; done) | omega) only [W_233_20, I_lt, I_le, I_inj, inB_I, tc_I, Int.toNat_natCast, fkt, rf1, rf0, cq, Nat.reduceAdd, Nat.reduceEqDiff, Int.reduceToNat, eq_self, true_and, and_true, true_or, or_true, bI_0, bI_1, mm, rAm, mF_sF, mR_sR, false_and, and_false, if_false, if_true, false_or, or_false, not_true_eq_false, not_false_eq_true, and_self]
    refine ⟨(fun h => by first | exact False.elim h | exact absurd trivial h | (exfalso; omega) | exact absurd rfl h | cases h), fun _ => ?_⟩
    simp (disch := first | (simp only [dd, dr]; done) | omega) only [W_233_20, msK, msR, g2, mL_sL, lgc, I_lt, I_le, I_inj, inB_I, tc_I, Int.toNat_natCast, fkt, rf1, rf0, cq, Nat.reduceAdd, Nat.reduceEqDiff, Int.reduceToNat, eq_self, true_and, and_true, true_or, or_true, bI_0, bI_1, mm, rAm, mF_sF, mR_sR, false_and, and_false, if_false, if_true, false_or, or_false, not_true_eq_false, not_false_eq_true, and_self]
    refine ⟨fun _ => ?_, (fun h => by first | exact False.elim h | exact absurd trivial h | (exfalso; omega) | exact absurd rfl h | cases h)⟩
    simp (disch := first | (simp only [dd, dr]; done) | omega) only [W_233_20, W_233_22, W_233_23, hl6, I_lt, I_le, I_inj, inB_I, tc_I, Int.toNat_natCast, fkt, rf1, rf0, cq, Nat.reduceAdd, Nat.reduceEqDiff, Int.reduceToNat, eq_self, true_and, and_true, true_or, or_true, bI_0, bI_1, mm, rAm, mF_sF, mR_sR, false_and, and_false, if_false, if_true, false_or, or_false, not_true_eq_false, not_false_eq_true, and_self]
    exact next _ A' Tc Xc dtc parc Tc Xc dtc parc la v _ _ (L0.step (F'.cd J) (by omega) (.inr ⟨_, rfl⟩) C' D' V1 K (fv.fe he) (S2.eqs (fun x _ h => hs' x h) w2.l16) S2 w2 w2 dv)
set_option maxHeartbeats 2000000 in
theorem law_recover (hd : 120 ≤ d) (hn : n ≤ 3074) (hsc : ∀ i, i32 (sc i)) (L : LWs M p o q a m J n sc N0 S0 A T X dt par Tc Xc dtc parc la v k) (hi : i + 6 ≤ n) {l5 l6 : Option Value} (next : Nx d p o q a m J n sc N0 S0 k i Q) : Wp d 233 1377 [some (.ref a), some (.ref p), some (.ref o), some (.ref q), some (.int (I (i : Nat))), l5, l6] [] M Q := by
  have L0 := L
  obtain ⟨⟨C, D, V, K⟩, ⟨f, s, b, c, w, j, md, fv, S1, S2⟩, ⟨w1, w2, dv⟩, ⟨kq, ka, hs⟩, ap, hqo, hao, haq, _, _⟩ := L
  have ql := (ap q (.inr (.inl rfl))).1
  have hm := C.m96
  have hm1 : 1 ≤ m := by have := C.1.2.2.2.2.2.2.2.2.2.2.1; omega
  have kp1 := C.1.1.1
  have hoff := V.f.2.2.1
  have hl6 : (i : Int) + 6 = ((i + 6 : Nat) : Int) := by omega
  simp (disch := first | (simp only [dd, dr]; done) | omega) only [W_233_21, W_233_22, I_lt, I_le, I_inj, inB_I, tc_I, Int.toNat_natCast, fkt, rf1, rf0, cq, Nat.reduceAdd, Nat.reduceEqDiff, Int.reduceToNat, eq_self, true_and, and_true, true_or, or_true, bI_0, bI_1, mm, rAm, mF_sF, mR_sR, false_and, and_false, if_false, if_true, false_or, or_false, not_true_eq_false, not_false_eq_true, and_self]
  refine cr_18 (by omega) (wr_18 (by omega) kp1 (c_recov (by omega) C D K V (fun k' M' A' e ke hP C' D' F' => ?_) (fun hc M' A' C' D' F' V' => ?_)))
  · obtain ⟨hc, hk⟩ := hP
    subst hk
    obtain ⟨g1, g2, g3, g4, g5⟩ := L0.mid (F'.cd J)
    have md1 := g1 _ _ _ _ _ _ md
    have hK := md1.1
    have k8 := hK.1
    have V1 := DJ.cf V C.2.2.2.1 C.2.2.2.2 hm F'
    refine .inr ⟨e, _, _, rfl, ke, List.mem_singleton.mpr rfl, ?_⟩
    rw [← md1.eq]
    simp (disch := first | (simp only [dd, dr]; done) | omega) only [W_233_21, W_233_22, msK, k8, I_lt, I_le, I_inj, inB_I, tc_I, Int.toNat_natCast, fkt, rf1, rf0, cq, Nat.reduceAdd, Nat.reduceEqDiff, Int.reduceToNat, eq_self, true_and, and_true, true_or, or_true, bI_0, bI_1, mm, rAm, mF_sF, mR_sR, false_and, and_false, if_false, if_true, false_or, or_false, not_true_eq_false, not_false_eq_true, and_self]
    refine ca_227 (by omega) (m_recover hK (by omega) hm fv dv (fun _ f' he h54 => ?_) (fun h => absurd (hc.symm.trans h) (by simp)))
    simp (disch := first | (simp only [dd, dr]; done) | omega) only [W_233_21, W_233_22, msK, k8, I_lt, I_le, I_inj, inB_I, tc_I, Int.toNat_natCast, fkt, rf1, rf0, cq, Nat.reduceAdd, Nat.reduceEqDiff, Int.reduceToNat, eq_self, true_and, and_true, true_or, or_true, bI_0, bI_1, mm, rAm, mF_sF, mR_sR, false_and, and_false, if_false, if_true, false_or, or_false, not_true_eq_false, not_false_eq_true, and_self]
    refine ca_155 (by omega) (m_thrown hK ?_)
    rw [h54]
    simp (disch := first | (simp only [dd, dr]; done) | omega) only [W_233_21, W_233_22, I_lt, I_le, I_inj, inB_I, tc_I, Int.toNat_natCast, fkt, rf1, rf0, cq, Nat.reduceAdd, Nat.reduceEqDiff, Int.reduceToNat, eq_self, true_and, and_true, true_or, or_true, bI_0, bI_1, mm, rAm, mF_sF, mR_sR, false_and, and_false, if_false, if_true, false_or, or_false, not_true_eq_false, not_false_eq_true, and_self]
    refine ⟨fun _ => ?_, (fun h => by first | exact False.elim h | exact absurd trivial h | (exfalso; omega) | exact absurd rfl h | cases h)⟩
    simp (disch := first | (simp only [dd, dr]; done) | omega) only [W_233_21, W_233_22, I_lt, I_le, I_inj, inB_I, tc_I, Int.toNat_natCast, fkt, rf1, rf0, cq, Nat.reduceAdd, Nat.reduceEqDiff, Int.reduceToNat, eq_self, true_and, and_true, true_or, or_true, bI_0, bI_1, mm, rAm, mF_sF, mR_sR, false_and, and_false, if_false, if_true, false_or, or_false, not_true_eq_false, not_false_eq_true, and_self]
    refine ⟨fun _ => ?_, (fun h => by first | exact False.elim h | exact absurd trivial h | (exfalso; omega) | exact absurd rfl h | cases h)⟩
    simp (disch := first | (simp only [dd, dr]; done) | omega) only [W_233_21, W_233_22, W_233_22, W_233_23, hl6, I_lt, I_le, I_inj, inB_I, tc_I, Int.toNat_natCast, fkt, rf1, rf0, cq, Nat.reduceAdd, Nat.reduceEqDiff, Int.reduceToNat, eq_self, true_and, and_true, true_or, or_true, bI_0, bI_1, mm, rAm, mF_sF, mR_sR, false_and, and_false, if_false, if_true, false_or, or_false, not_true_eq_false, not_false_eq_true, and_self]
    exact next _ A' T X dt par Tc Xc dtc parc la v _ _ (L0.step (F'.cd J) (by omega) (.inl rfl) C' D' V1 K (fv.fe he) (S1) S2 w1 w2 dv)
  · skip
    obtain ⟨g1, g2, g3, g4, g5⟩ := L0.mid F'
    have md1 := g1 _ _ _ _ _ _ md
    have V1 := V'
    refine .inl ⟨_, rfl, g2, ?_⟩
    have md2 := md1.sL hqo (I ((dvH m (v.1, v.2.1, false, v.2.2.2)).1 - v.1)).toInt64
    have hK := md2.1
    have k8 := hK.1
    rw [← md2.eq]
    simp (disch := first | (simp only [dd, dr]; done) | omega) only [W_233_21, W_233_22, msK, k8, I_lt, I_le, I_inj, inB_I, tc_I, Int.toNat_natCast, fkt, rf1, rf0, cq, Nat.reduceAdd, Nat.reduceEqDiff, Int.reduceToNat, eq_self, true_and, and_true, true_or, or_true, bI_0, bI_1, mm, rAm, mF_sF, mR_sR, false_and, and_false, if_false, if_true, false_or, or_false, not_true_eq_false, not_false_eq_true, and_self]
    refine ca_227 (by omega) (m_recover hK (by omega) hm fv dv (fun h => absurd (hc.symm.trans h) (by simp)) (fun _ f' s' j' fv' h54 hs' => ?_))
    simp (disch := first | (simp only [dd, dr]; done) | omega) only [W_233_21, W_233_22, msK, k8, I_lt, I_le, I_inj, inB_I, tc_I, Int.toNat_natCast, fkt, rf1, rf0, cq, Nat.reduceAdd, Nat.reduceEqDiff, Int.reduceToNat, eq_self, true_and, and_true, true_or, or_true, bI_0, bI_1, mm, rAm, mF_sF, mR_sR, false_and, and_false, if_false, if_true, false_or, or_false, not_true_eq_false, not_false_eq_true, and_self]
    refine ca_155 (by omega) (m_thrown hK ?_)
    rw [h54]
    simp (disch := first | (simp only [dd, dr]; done) | omega) only [W_233_21, W_233_22, I_lt, I_le, I_inj, inB_I, tc_I, Int.toNat_natCast, fkt, rf1, rf0, cq, Nat.reduceAdd, Nat.reduceEqDiff, Int.reduceToNat, eq_self, true_and, and_true, true_or, or_true, bI_0, bI_1, mm, rAm, mF_sF, mR_sR, false_and, and_false, if_false, if_true, false_or, or_false, not_true_eq_false, not_false_eq_true, and_self]
    refine ⟨fun _ => ?_, (fun h => by first | exact False.elim h | exact absurd trivial h | (exfalso; omega) | exact absurd rfl h | cases h)⟩
    simp (disch := first | (simp only [dd, dr]; done) | omega) only [W_233_21, W_233_22, I_lt, I_le, I_inj, inB_I, tc_I, Int.toNat_natCast, fkt, rf1, rf0, cq, Nat.reduceAdd, Nat.reduceEqDiff, Int.reduceToNat, eq_self, true_and, and_true, true_or, or_true, bI_0, bI_1, mm, rAm, mF_sF, mR_sR, false_and, and_false, if_false, if_true, false_or, or_false, not_true_eq_false, not_false_eq_true, and_self]
    refine ⟨(fun h => by first | exact False.elim h | exact absurd trivial h | (exfalso; omega) | exact absurd rfl h | cases h), fun _ => ?_⟩
    simp (disch := first | (simp only [dd, dr]; done) | omega) only [W_233_21, W_233_22, msK, msR, g2, mL_sL, lgc, I_lt, I_le, I_inj, inB_I, tc_I, Int.toNat_natCast, fkt, rf1, rf0, cq, Nat.reduceAdd, Nat.reduceEqDiff, Int.reduceToNat, eq_self, true_and, and_true, true_or, or_true, bI_0, bI_1, mm, rAm, mF_sF, mR_sR, false_and, and_false, if_false, if_true, false_or, or_false, not_true_eq_false, not_false_eq_true, and_self]
    refine ⟨fun _ => ?_, (fun h => by first | exact False.elim h | exact absurd trivial h | (exfalso; omega) | exact absurd rfl h | cases h)⟩
    simp (disch := first | (simp only [dd, dr]; done) | omega) only [W_233_21, W_233_22, W_233_22, W_233_23, hl6, I_lt, I_le, I_inj, inB_I, tc_I, Int.toNat_natCast, fkt, rf1, rf0, cq, Nat.reduceAdd, Nat.reduceEqDiff, Int.reduceToNat, eq_self, true_and, and_true, true_or, or_true, bI_0, bI_1, mm, rAm, mF_sF, mR_sR, false_and, and_false, if_false, if_true, false_or, or_false, not_true_eq_false, not_false_eq_true, and_self]
    exact next _ A' Tc Xc dtc parc Tc Xc dtc parc la _ _ _ (L0.step F' (by omega) (.inr ⟨_, rfl⟩) C' D' V1 K fv' (S2.eqs (fun x _ h => hs' x h) w2.l16) S2 w2 w2 (DvO.H (v := (v.1, v.2.1, false, v.2.2.2)) dv))
set_option maxHeartbeats 2000000 in
theorem law_commit (hd : 120 ≤ d) (hn : n ≤ 3074) (hsc : ∀ i, i32 (sc i)) (L : LWs M p o q a m J n sc N0 S0 A T X dt par Tc Xc dtc parc la v k) (hi : i + 6 ≤ n) {l5 l6 : Option Value} (next : Nx d p o q a m J n sc N0 S0 k i Q) : Wp d 233 1196 [some (.ref a), some (.ref p), some (.ref o), some (.ref q), some (.int (I (i : Nat))), l5, l6] [] M Q := by
  have L0 := L
  obtain ⟨⟨C, D, V, K⟩, ⟨f, s, b, c, w, j, md, fv, S1, S2⟩, ⟨w1, w2, dv⟩, ⟨kq, ka, hs⟩, ap, hqo, hao, haq, _, _⟩ := L
  have ql := (ap q (.inr (.inl rfl))).1
  have hm := C.m96
  have hm1 : 1 ≤ m := by have := C.1.2.2.2.2.2.2.2.2.2.2.1; omega
  have kp1 := C.1.1.1
  have hoff := V.f.2.2.1
  have hl6 : (i : Int) + 6 = ((i + 6 : Nat) : Int) := by omega
  simp (disch := first | (simp only [dd, dr]; done) | omega) only [W_233_18, W_233_19, I_lt, I_le, I_inj, inB_I, tc_I, Int.toNat_natCast, fkt, rf1, rf0, cq, Nat.reduceAdd, Nat.reduceEqDiff, Int.reduceToNat, eq_self, true_and, and_true, true_or, or_true, bI_0, bI_1, mm, rAm, mF_sF, mR_sR, false_and, and_false, if_false, if_true, false_or, or_false, not_true_eq_false, not_false_eq_true, and_self]
  refine cr_14 (by omega) (wr_14 (by omega) kp1 (c_commit (by omega) C D K V (fun k' M' A' e ke hP C' D' F' => ?_) (fun hc h0 M' C' D' F' => ?_) (fun hc h1 M' C' D' F' V' => ?_)))
  · obtain ⟨hc, hk⟩ := hP
    subst hk
    obtain ⟨g1, g2, g3, g4, g5⟩ := L0.mid (F'.cd J)
    have md1 := g1 _ _ _ _ _ _ md
    have hK := md1.1
    have k8 := hK.1
    have V1 := DJ.cf V C.2.2.2.1 C.2.2.2.2 hm F'
    refine .inr ⟨e, _, _, rfl, ke, mk_cm hc, ?_⟩
    rw [← md1.eq]
    simp (disch := first | (simp only [dd, dr]; done) | omega) only [W_233_18, W_233_19, msK, k8, I_lt, I_le, I_inj, inB_I, tc_I, Int.toNat_natCast, fkt, rf1, rf0, cq, Nat.reduceAdd, Nat.reduceEqDiff, Int.reduceToNat, eq_self, true_and, and_true, true_or, or_true, bI_0, bI_1, mm, rAm, mF_sF, mR_sR, false_and, and_false, if_false, if_true, false_or, or_false, not_true_eq_false, not_false_eq_true, and_self]
    refine ca_213 (by omega) (m_commit hK (by omega) hm (w1.mw S1) (w2.mw S2) K fv dv rfl (fun _ f' he h54 => ?_) (fun h => absurd (cmCM.mpr h) hc) (fun h => absurd (cmCM.mpr h) hc))
    simp (disch := first | (simp only [dd, dr]; done) | omega) only [W_233_18, W_233_19, msK, k8, I_lt, I_le, I_inj, inB_I, tc_I, Int.toNat_natCast, fkt, rf1, rf0, cq, Nat.reduceAdd, Nat.reduceEqDiff, Int.reduceToNat, eq_self, true_and, and_true, true_or, or_true, bI_0, bI_1, mm, rAm, mF_sF, mR_sR, false_and, and_false, if_false, if_true, false_or, or_false, not_true_eq_false, not_false_eq_true, and_self]
    refine ca_155 (by omega) (m_thrown hK ?_)
    rw [h54]
    have hle := cmM_le (m := m) (J := J) (off := v.2.2.1) (chg := (chq m T X dt Tc la))
    have hnz := fun h => hc (cmCM.mpr h)
    generalize cmM m J v.2.2.1 (chq m T X dt Tc la) = cd at *
    simp (disch := first | (simp only [dd, dr]; done) | omega) only [W_233_18, W_233_19, I_lt, I_le, I_inj, inB_I, tc_I, Int.toNat_natCast, fkt, rf1, rf0, cq, Nat.reduceAdd, Nat.reduceEqDiff, Int.reduceToNat, eq_self, true_and, and_true, true_or, or_true, bI_0, bI_1, mm, rAm, mF_sF, mR_sR, false_and, and_false, if_false, if_true, false_or, or_false, not_true_eq_false, not_false_eq_true, and_self]
    refine ⟨fun _ => ?_, (fun h => by first | exact False.elim h | exact absurd trivial h | (exfalso; omega) | exact absurd rfl h | cases h)⟩
    simp (disch := first | (simp only [dd, dr]; done) | omega) only [W_233_18, W_233_19, I_lt, I_le, I_inj, inB_I, tc_I, Int.toNat_natCast, fkt, rf1, rf0, cq, Nat.reduceAdd, Nat.reduceEqDiff, Int.reduceToNat, eq_self, true_and, and_true, true_or, or_true, bI_0, bI_1, mm, rAm, mF_sF, mR_sR, false_and, and_false, if_false, if_true, false_or, or_false, not_true_eq_false, not_false_eq_true, and_self]
    refine ⟨fun _ => ?_, (fun h => by first | exact False.elim h | exact absurd trivial h | (exfalso; omega) | exact absurd rfl h | cases h)⟩
    simp (disch := first | (simp only [dd, dr]; done) | omega) only [W_233_18, W_233_19, W_233_22, W_233_23, hl6, I_lt, I_le, I_inj, inB_I, tc_I, Int.toNat_natCast, fkt, rf1, rf0, cq, Nat.reduceAdd, Nat.reduceEqDiff, Int.reduceToNat, eq_self, true_and, and_true, true_or, or_true, bI_0, bI_1, mm, rAm, mF_sF, mR_sR, false_and, and_false, if_false, if_true, false_or, or_false, not_true_eq_false, not_false_eq_true, and_self]
    exact next _ A' T X dt par Tc Xc dtc parc la v _ _ (L0.step (F'.cd J) (by omega) (.inl rfl) C' D' V1 K (fv.fe he) (S1) S2 w1 w2 dv)
  · skip
    obtain ⟨g1, g2, g3, g4, g5⟩ := L0.mid (F'.cd J)
    have md1 := g1 _ _ _ _ _ _ md
    have V1 := DJ.cf V C.2.2.2.1 C.2.2.2.2 hm F'
    refine .inl ⟨_, rfl, g2, ?_⟩
    have md2 := md1.sL hqo (I 0).toInt64
    have hK := md2.1
    have k8 := hK.1
    rw [← md2.eq]
    simp (disch := first | (simp only [dd, dr]; done) | omega) only [W_233_18, W_233_19, msK, k8, I_lt, I_le, I_inj, inB_I, tc_I, Int.toNat_natCast, fkt, rf1, rf0, cq, Nat.reduceAdd, Nat.reduceEqDiff, Int.reduceToNat, eq_self, true_and, and_true, true_or, or_true, bI_0, bI_1, mm, rAm, mF_sF, mR_sR, false_and, and_false, if_false, if_true, false_or, or_false, not_true_eq_false, not_false_eq_true, and_self]
    refine ca_213 (by omega) (m_commit hK (by omega) hm (w1.mw S1) (w2.mw S2) K fv dv rfl (fun h => absurd (cmCM.mp hc) h) (fun _ _ f' he h54 => ?_) (fun _ h => absurd h0 h))
    simp (disch := first | (simp only [dd, dr]; done) | omega) only [W_233_18, W_233_19, msK, k8, I_lt, I_le, I_inj, inB_I, tc_I, Int.toNat_natCast, fkt, rf1, rf0, cq, Nat.reduceAdd, Nat.reduceEqDiff, Int.reduceToNat, eq_self, true_and, and_true, true_or, or_true, bI_0, bI_1, mm, rAm, mF_sF, mR_sR, false_and, and_false, if_false, if_true, false_or, or_false, not_true_eq_false, not_false_eq_true, and_self]
    refine ca_155 (by omega) (m_thrown hK ?_)
    rw [h54]
    simp (disch := first | (simp only [dd, dr]; done) | omega) only [W_233_18, W_233_19, I_lt, I_le, I_inj, inB_I, tc_I, Int.toNat_natCast, fkt, rf1, rf0, cq, Nat.reduceAdd, Nat.reduceEqDiff, Int.reduceToNat, eq_self, true_and, and_true, true_or, or_true, bI_0, bI_1, mm, rAm, mF_sF, mR_sR, false_and, and_false, if_false, if_true, false_or, or_false, not_true_eq_false, not_false_eq_true, and_self]
    refine ⟨fun _ => ?_, (fun h => by first | exact False.elim h | exact absurd trivial h | (exfalso; omega) | exact absurd rfl h | cases h)⟩
    simp (disch := first | (simp only [dd, dr]; done) | omega) only [W_233_18, W_233_19, I_lt, I_le, I_inj, inB_I, tc_I, Int.toNat_natCast, fkt, rf1, rf0, cq, Nat.reduceAdd, Nat.reduceEqDiff, Int.reduceToNat, eq_self, true_and, and_true, true_or, or_true, bI_0, bI_1, mm, rAm, mF_sF, mR_sR, false_and, and_false, if_false, if_true, false_or, or_false, not_true_eq_false, not_false_eq_true, and_self]
    refine ⟨(fun h => by first | exact False.elim h | exact absurd trivial h | (exfalso; omega) | exact absurd rfl h | cases h), fun _ => ?_⟩
    simp (disch := first | (simp only [dd, dr]; done) | omega) only [W_233_18, W_233_19, msK, msR, g2, mL_sL, lgc, I_lt, I_le, I_inj, inB_I, tc_I, Int.toNat_natCast, fkt, rf1, rf0, cq, Nat.reduceAdd, Nat.reduceEqDiff, Int.reduceToNat, eq_self, true_and, and_true, true_or, or_true, bI_0, bI_1, mm, rAm, mF_sF, mR_sR, false_and, and_false, if_false, if_true, false_or, or_false, not_true_eq_false, not_false_eq_true, and_self]
    refine ⟨fun _ => ?_, (fun h => by first | exact False.elim h | exact absurd trivial h | (exfalso; omega) | exact absurd rfl h | cases h)⟩
    simp (disch := first | (simp only [dd, dr]; done) | omega) only [W_233_18, W_233_19, W_233_22, W_233_23, hl6, I_lt, I_le, I_inj, inB_I, tc_I, Int.toNat_natCast, fkt, rf1, rf0, cq, Nat.reduceAdd, Nat.reduceEqDiff, Int.reduceToNat, eq_self, true_and, and_true, true_or, or_true, bI_0, bI_1, mm, rAm, mF_sF, mR_sR, false_and, and_false, if_false, if_true, false_or, or_false, not_true_eq_false, not_false_eq_true, and_self]
    exact next _ A T X dt par Tc Xc dtc parc la v _ _ (L0.step (F'.cd J) (by omega) (.inr ⟨_, rfl⟩) C' D' V1 K (fv.fe he) S1 S2 w1 w2 dv)
  · skip
    obtain ⟨g1, g2, g3, g4, g5⟩ := L0.mid F'
    have md1 := g1 _ _ _ _ _ _ md
    have V1 := V'
    refine .inl ⟨_, rfl, g2, ?_⟩
    have md2 := md1.sL hqo (I ((dvC m J v (chq m T X dt Tc la)).1 - v.1)).toInt64
    have hK := md2.1
    have k8 := hK.1
    rw [← md2.eq]
    simp (disch := first | (simp only [dd, dr]; done) | omega) only [W_233_18, W_233_19, msK, k8, I_lt, I_le, I_inj, inB_I, tc_I, Int.toNat_natCast, fkt, rf1, rf0, cq, Nat.reduceAdd, Nat.reduceEqDiff, Int.reduceToNat, eq_self, true_and, and_true, true_or, or_true, bI_0, bI_1, mm, rAm, mF_sF, mR_sR, false_and, and_false, if_false, if_true, false_or, or_false, not_true_eq_false, not_false_eq_true, and_self]
    refine ca_213 (by omega) (m_commit hK (by omega) hm (w1.mw S1) (w2.mw S2) K fv dv rfl (fun h => absurd (cmCM.mp hc) h) (fun _ h => absurd h h1) (fun _ _ f' c' j' fv' h54 hT hF => ?_))
    simp (disch := first | (simp only [dd, dr]; done) | omega) only [W_233_18, W_233_19, msK, k8, I_lt, I_le, I_inj, inB_I, tc_I, Int.toNat_natCast, fkt, rf1, rf0, cq, Nat.reduceAdd, Nat.reduceEqDiff, Int.reduceToNat, eq_self, true_and, and_true, true_or, or_true, bI_0, bI_1, mm, rAm, mF_sF, mR_sR, false_and, and_false, if_false, if_true, false_or, or_false, not_true_eq_false, not_false_eq_true, and_self]
    refine ca_155 (by omega) (m_thrown hK ?_)
    rw [h54]
    simp (disch := first | (simp only [dd, dr]; done) | omega) only [W_233_18, W_233_19, I_lt, I_le, I_inj, inB_I, tc_I, Int.toNat_natCast, fkt, rf1, rf0, cq, Nat.reduceAdd, Nat.reduceEqDiff, Int.reduceToNat, eq_self, true_and, and_true, true_or, or_true, bI_0, bI_1, mm, rAm, mF_sF, mR_sR, false_and, and_false, if_false, if_true, false_or, or_false, not_true_eq_false, not_false_eq_true, and_self]
    refine ⟨fun _ => ?_, (fun h => by first | exact False.elim h | exact absurd trivial h | (exfalso; omega) | exact absurd rfl h | cases h)⟩
    simp (disch := first | (simp only [dd, dr]; done) | omega) only [W_233_18, W_233_19, I_lt, I_le, I_inj, inB_I, tc_I, Int.toNat_natCast, fkt, rf1, rf0, cq, Nat.reduceAdd, Nat.reduceEqDiff, Int.reduceToNat, eq_self, true_and, and_true, true_or, or_true, bI_0, bI_1, mm, rAm, mF_sF, mR_sR, false_and, and_false, if_false, if_true, false_or, or_false, not_true_eq_false, not_false_eq_true, and_self]
    refine ⟨(fun h => by first | exact False.elim h | exact absurd trivial h | (exfalso; omega) | exact absurd rfl h | cases h), fun _ => ?_⟩
    simp (disch := first | (simp only [dd, dr]; done) | omega) only [W_233_18, W_233_19, msK, msR, g2, mL_sL, lgc, I_lt, I_le, I_inj, inB_I, tc_I, Int.toNat_natCast, fkt, rf1, rf0, cq, Nat.reduceAdd, Nat.reduceEqDiff, Int.reduceToNat, eq_self, true_and, and_true, true_or, or_true, bI_0, bI_1, mm, rAm, mF_sF, mR_sR, false_and, and_false, if_false, if_true, false_or, or_false, not_true_eq_false, not_false_eq_true, and_self]
    refine ⟨fun _ => ?_, (fun h => by first | exact False.elim h | exact absurd trivial h | (exfalso; omega) | exact absurd rfl h | cases h)⟩
    simp (disch := first | (simp only [dd, dr]; done) | omega) only [W_233_18, W_233_19, W_233_22, W_233_23, hl6, I_lt, I_le, I_inj, inB_I, tc_I, Int.toNat_natCast, fkt, rf1, rf0, cq, Nat.reduceAdd, Nat.reduceEqDiff, Int.reduceToNat, eq_self, true_and, and_true, true_or, or_true, bI_0, bI_1, mm, rAm, mF_sF, mR_sR, false_and, and_false, if_false, if_true, false_or, or_false, not_true_eq_false, not_false_eq_true, and_self]
    have dv' := DvO.C (chg := (chq m T X dt Tc la)) dv (cmC_off hc).1 ((cmC_off hc).2 h1)
    cases hB : dvB m J v (chq m T X dt Tc la) with
    | true =>
      rw [if_pos hB] at V1
      exact next _ A T X dt par T X dt par _ _ _ _ (L0.step F' (by omega) (.inr ⟨_, rfl⟩) C' D' V1 (laC_cm w1.1) fv' S1 (S1.eqs (fun x _ h => hT hB x h) w1.l16) w1 w1 dv')
    | false =>
      rw [if_neg (by rw [hB]; simp)] at V1
      rw [hF hB]
      exact next _ A T X dt par Tc Xc dtc parc _ _ _ _ (L0.step F' (by omega) (.inr ⟨_, rfl⟩) C' D' V1 K fv' S1 S2 w1 w2 dv')
set_option maxHeartbeats 2000000 in
theorem law_fail (hd : 120 ≤ d) (hn : n ≤ 3074) (hsc : ∀ i, i32 (sc i)) (L : LWs M p o q a m J n sc N0 S0 A T X dt par Tc Xc dtc parc la v k) (hi : i + 6 ≤ n) {l5 l6 : Option Value} (next : Nx d p o q a m J n sc N0 S0 k i Q) : Wp d 233 1328 [some (.ref a), some (.ref p), some (.ref o), some (.ref q), some (.int (I (i : Nat))), l5, l6] [] M Q := by
  have L0 := L
  obtain ⟨⟨C, D, V, K⟩, ⟨f, s, b, c, w, j, md, fv, S1, S2⟩, ⟨w1, w2, dv⟩, ⟨kq, ka, hs⟩, ap, hqo, hao, haq, _, _⟩ := L
  have ql := (ap q (.inr (.inl rfl))).1
  have hm := C.m96
  have hm1 : 1 ≤ m := by have := C.1.2.2.2.2.2.2.2.2.2.2.1; omega
  have kp1 := C.1.1.1
  have hoff := V.f.2.2.1
  have hl6 : (i : Int) + 6 = ((i + 6 : Nat) : Int) := by omega
  have e1 := hs (i + 1) (by omega)
  have ha1 : (i : Int) + 1 = ((i + 1 : Nat) : Int) := by omega
  obtain ⟨b10, b11⟩ := hsc (i + 1)
  simp (disch := first | (simp only [dd, dr]; done) | omega) only [W_233_20, W_233_21, ha1, ka, e1, I_lt, I_le, I_inj, inB_I, tc_I, Int.toNat_natCast, fkt, rf1, rf0, cq, Nat.reduceAdd, Nat.reduceEqDiff, Int.reduceToNat, eq_self, true_and, and_true, true_or, or_true, bI_0, bI_1, mm, rAm, mF_sF, mR_sR, false_and, and_false, if_false, if_true, false_or, or_false, not_true_eq_false, not_false_eq_true, and_self]
  refine cr_17 (by omega) (wr_17 (by omega) kp1 (c_fail (by omega) C D V b10 b11 (fun k' M' A' e ke hP C' D' F' => ?_) (fun hc M' C' D' F' V1 => ?_)))
  · obtain ⟨hc, hk⟩ := hP
    subst hk
    obtain ⟨g1, g2, g3, g4, g5⟩ := L0.mid (F'.cd J)
    have md1 := g1 _ _ _ _ _ _ md
    have hK := md1.1
    have k8 := hK.1
    have V1 := DJ.cf V C.2.2.2.1 C.2.2.2.2 hm F'
    refine .inr ⟨e, _, _, rfl, ke, List.mem_singleton.mpr rfl, ?_⟩
    rw [← md1.eq]
    have e1m : mA (ms M' o f s b c w j) a (i + 1) = I (sc (i + 1)) := by rw [md1.eq]; exact g4 _ (by omega)
    simp (disch := first | (simp only [dd, dr]; done) | omega) only [W_233_20, W_233_21, ha1, msK, g3, e1m, k8, I_lt, I_le, I_inj, inB_I, tc_I, Int.toNat_natCast, fkt, rf1, rf0, cq, Nat.reduceAdd, Nat.reduceEqDiff, Int.reduceToNat, eq_self, true_and, and_true, true_or, or_true, bI_0, bI_1, mm, rAm, mF_sF, mR_sR, false_and, and_false, if_false, if_true, false_or, or_false, not_true_eq_false, not_false_eq_true, and_self]
    refine ca_225 (by omega) (m_fail hK fv b10 b11 (fun _ f' he h54 => ?_) (fun h => absurd h (by omega)))
    simp (disch := first | (simp only [dd, dr]; done) | omega) only [W_233_20, W_233_21, msK, k8, I_lt, I_le, I_inj, inB_I, tc_I, Int.toNat_natCast, fkt, rf1, rf0, cq, Nat.reduceAdd, Nat.reduceEqDiff, Int.reduceToNat, eq_self, true_and, and_true, true_or, or_true, bI_0, bI_1, mm, rAm, mF_sF, mR_sR, false_and, and_false, if_false, if_true, false_or, or_false, not_true_eq_false, not_false_eq_true, and_self]
    refine ca_155 (by omega) (m_thrown hK ?_)
    rw [h54]
    simp (disch := first | (simp only [dd, dr]; done) | omega) only [W_233_20, W_233_21, I_lt, I_le, I_inj, inB_I, tc_I, Int.toNat_natCast, fkt, rf1, rf0, cq, Nat.reduceAdd, Nat.reduceEqDiff, Int.reduceToNat, eq_self, true_and, and_true, true_or, or_true, bI_0, bI_1, mm, rAm, mF_sF, mR_sR, false_and, and_false, if_false, if_true, false_or, or_false, not_true_eq_false, not_false_eq_true, and_self]
    refine ⟨fun _ => ?_, (fun h => by first | exact False.elim h | exact absurd trivial h | (exfalso; omega) | exact absurd rfl h | cases h)⟩
    simp (disch := first | (simp only [dd, dr]; done) | omega) only [W_233_20, W_233_21, W_233_22, W_233_23, hl6, I_lt, I_le, I_inj, inB_I, tc_I, Int.toNat_natCast, fkt, rf1, rf0, cq, Nat.reduceAdd, Nat.reduceEqDiff, Int.reduceToNat, eq_self, true_and, and_true, true_or, or_true, bI_0, bI_1, mm, rAm, mF_sF, mR_sR, false_and, and_false, if_false, if_true, false_or, or_false, not_true_eq_false, not_false_eq_true, and_self]
    exact next _ A' T X dt par Tc Xc dtc parc la v _ _ (L0.step (F'.cd J) (by omega) (.inl rfl) C' D' V1 K (fv.fe he) S1 S2 w1 w2 dv)
  · obtain ⟨g1, g2, g3, g4, g5⟩ := L0.mid F'
    have md1 := g1 _ _ _ _ _ _ md
    have hK := md1.1
    have k8 := hK.1
    refine .inl ⟨rfl, ?_⟩
    rw [← md1.eq]
    have e1m : mA (ms M' o f s b c w j) a (i + 1) = I (sc (i + 1)) := by rw [md1.eq]; exact g4 _ (by omega)
    simp (disch := first | (simp only [dd, dr]; done) | omega) only [W_233_20, W_233_21, ha1, msK, g3, e1m, k8, I_lt, I_le, I_inj, inB_I, tc_I, Int.toNat_natCast, fkt, rf1, rf0, cq, Nat.reduceAdd, Nat.reduceEqDiff, Int.reduceToNat, eq_self, true_and, and_true, true_or, or_true, bI_0, bI_1, mm, rAm, mF_sF, mR_sR, false_and, and_false, if_false, if_true, false_or, or_false, not_true_eq_false, not_false_eq_true, and_self]
    refine ca_225 (by omega) (m_fail hK fv b10 b11 (fun h => absurd h (by omega)) (fun _ f' fv' h54 => ?_))
    simp (disch := first | (simp only [dd, dr]; done) | omega) only [W_233_20, W_233_21, msK, k8, I_lt, I_le, I_inj, inB_I, tc_I, Int.toNat_natCast, fkt, rf1, rf0, cq, Nat.reduceAdd, Nat.reduceEqDiff, Int.reduceToNat, eq_self, true_and, and_true, true_or, or_true, bI_0, bI_1, mm, rAm, mF_sF, mR_sR, false_and, and_false, if_false, if_true, false_or, or_false, not_true_eq_false, not_false_eq_true, and_self]
    refine ca_155 (by omega) (m_thrown hK ?_)
    rw [h54]
    simp (disch := first | (simp only [dd, dr]; done) | omega) only [W_233_20, W_233_21, I_lt, I_le, I_inj, inB_I, tc_I, Int.toNat_natCast, fkt, rf1, rf0, cq, Nat.reduceAdd, Nat.reduceEqDiff, Int.reduceToNat, eq_self, true_and, and_true, true_or, or_true, bI_0, bI_1, mm, rAm, mF_sF, mR_sR, false_and, and_false, if_false, if_true, false_or, or_false, not_true_eq_false, not_false_eq_true, and_self]
    refine ⟨fun _ => ?_, (fun h => by first | exact False.elim h | exact absurd trivial h | (exfalso; omega) | exact absurd rfl h | cases h)⟩
    simp (disch := first | (simp only [dd, dr]; done) | omega) only [W_233_20, W_233_21, W_233_22, W_233_23, hl6, I_lt, I_le, I_inj, inB_I, tc_I, Int.toNat_natCast, fkt, rf1, rf0, cq, Nat.reduceAdd, Nat.reduceEqDiff, Int.reduceToNat, eq_self, true_and, and_true, true_or, or_true, bI_0, bI_1, mm, rAm, mF_sF, mR_sR, false_and, and_false, if_false, if_true, false_or, or_false, not_true_eq_false, not_false_eq_true, and_self]
    exact next _ A T X dt par Tc Xc dtc parc la _ _ _ (L0.step F' (by omega) (.inl rfl) C' D' V1 K fv' S1 S2 w1 w2 ⟨hc, b11, dv.2.2⟩)
set_option maxHeartbeats 2000000 in
theorem law_off (hd : 120 ≤ d) (hn : n ≤ 3074) (hsc : ∀ i, i32 (sc i)) (L : LWs M p o q a m J n sc N0 S0 A T X dt par Tc Xc dtc parc la v k) (hi : i + 6 ≤ n) {l5 l6 : Option Value} (next : Nx d p o q a m J n sc N0 S0 k i Q) : Wp d 233 1364 [some (.ref a), some (.ref p), some (.ref o), some (.ref q), some (.int (I (i : Nat))), l5, l6] [] M Q := by
  have L0 := L
  obtain ⟨⟨C, D, V, K⟩, ⟨f, s, b, c, w, j, md, fv, S1, S2⟩, ⟨w1, w2, dv⟩, ⟨kq, ka, hs⟩, ap, hqo, hao, haq, _, _⟩ := L
  have ql := (ap q (.inr (.inl rfl))).1
  have hm := C.m96
  have hm1 : 1 ≤ m := by have := C.1.2.2.2.2.2.2.2.2.2.2.1; omega
  have kp1 := C.1.1.1
  have hoff := V.f.2.2.1
  have hl6 : (i : Int) + 6 = ((i + 6 : Nat) : Int) := by omega
  simp (disch := first | (simp only [dd, dr]; done) | omega) only [W_233_21, kp1, I_lt, I_le, I_inj, inB_I, tc_I, Int.toNat_natCast, fkt, rf1, rf0, cq, Nat.reduceAdd, Nat.reduceEqDiff, Int.reduceToNat, eq_self, true_and, and_true, true_or, or_true, bI_0, bI_1, mm, rAm, mF_sF, mR_sR, false_and, and_false, if_false, if_true, false_or, or_false, not_true_eq_false, not_false_eq_true, and_self]
  refine ca_28 (by omega) (c_off C V ?_)
  obtain ⟨g1, g2, g3, g4, g5⟩ := L0.mid ((CF.refl p A M).cd J)
  have md1 := g1 _ _ _ _ _ _ md
  have hK := md1.1
  have k8 := hK.1
  rw [← md1.eq]
  simp (disch := first | (simp only [dd, dr]; done) | omega) only [W_233_21, msK, k8, I_lt, I_le, I_inj, inB_I, tc_I, Int.toNat_natCast, fkt, rf1, rf0, cq, Nat.reduceAdd, Nat.reduceEqDiff, Int.reduceToNat, eq_self, true_and, and_true, true_or, or_true, bI_0, bI_1, mm, rAm, mF_sF, mR_sR, false_and, and_false, if_false, if_true, false_or, or_false, not_true_eq_false, not_false_eq_true, and_self]
  refine ca_226 (by omega) (m_off hK fv (fun f' he => ?_))
  simp (disch := first | (simp only [dd, dr]; done) | omega) only [W_233_21, I_lt, I_le, I_inj, inB_I, tc_I, Int.toNat_natCast, fkt, rf1, rf0, cq, Nat.reduceAdd, Nat.reduceEqDiff, Int.reduceToNat, eq_self, true_and, and_true, true_or, or_true, bI_0, bI_1, mm, rAm, mF_sF, mR_sR, false_and, and_false, if_false, if_true, false_or, or_false, not_true_eq_false, not_false_eq_true, and_self]
  refine ⟨fun _ => ?_, (fun h => by first | exact False.elim h | exact absurd trivial h | (exfalso; omega) | exact absurd rfl h | cases h)⟩
  simp (disch := first | (simp only [dd, dr]; done) | omega) only [W_233_21, W_233_22, W_233_23, hl6, I_lt, I_le, I_inj, inB_I, tc_I, Int.toNat_natCast, fkt, rf1, rf0, cq, Nat.reduceAdd, Nat.reduceEqDiff, Int.reduceToNat, eq_self, true_and, and_true, true_or, or_true, bI_0, bI_1, mm, rAm, mF_sF, mR_sR, false_and, and_false, if_false, if_true, false_or, or_false, not_true_eq_false, not_false_eq_true, and_self]
  exact next _ A T X dt par Tc Xc dtc parc la v _ _ (L0.step ((CF.refl p A M).cd J) (by omega) (.inl rfl) C D V K (fv.fe he) S1 S2 w1 w2 dv)
set_option maxHeartbeats 2000000 in
theorem law_make (hd : 120 ≤ d) (hn : n ≤ 3074) (hsc : ∀ i, i32 (sc i)) (L : LWs M p o q a m J n sc N0 S0 A T X dt par Tc Xc dtc parc la v k) (hi : i + 6 ≤ n) {l5 l6 : Option Value} (next : Nx d p o q a m J n sc N0 S0 k i Q) : Wp d 233 156 [some (.ref a), some (.ref p), some (.ref o), some (.ref q), some (.int (I (i : Nat))), l5, l6] [] M Q := by
  have L0 := L
  obtain ⟨⟨C, D, V, K⟩, ⟨f, s, b, c, w, j, md, fv, S1, S2⟩, ⟨w1, w2, dv⟩, ⟨kq, ka, hs⟩, ap, hqo, hao, haq, _, _⟩ := L
  have ql := (ap q (.inr (.inl rfl))).1
  have hm := C.m96
  have hm1 : 1 ≤ m := by have := C.1.2.2.2.2.2.2.2.2.2.2.1; omega
  have kp1 := C.1.1.1
  have hoff := V.f.2.2.1
  have hl6 : (i : Int) + 6 = ((i + 6 : Nat) : Int) := by omega
  have e1 := hs (i + 1) (by omega)
  have ha1 : (i : Int) + 1 = ((i + 1 : Nat) : Int) := by omega
  obtain ⟨b10, b11⟩ := hsc (i + 1)
  have e2 := hs (i + 2) (by omega)
  have ha2 : (i : Int) + 2 = ((i + 2 : Nat) : Int) := by omega
  obtain ⟨b20, b21⟩ := hsc (i + 2)
  have e3 := hs (i + 3) (by omega)
  have ha3 : (i : Int) + 3 = ((i + 3 : Nat) : Int) := by omega
  obtain ⟨b30, b31⟩ := hsc (i + 3)
  have hAb : ∀ v, ky v 0 0 ∉ its T → oD X v = [] ∧ oT X v = [] := fun u hu => by
    have h0 : oK X u = 0 := by
      apply Classical.byContradiction
      intro h
      exact hu ((w1.2.2.2.2.1 u).1.mp h)
    have := w1.2.2.2.2.2.2.1 u h0
    exact ⟨this.1, this.2.1⟩
  have h100 : ∀ k ∈ its T, oE X k < 100 := fun k _ => by have := w1.2.2.2.1 k; omega
  -- the model's call
  have mdl : ∀ (dir : Bool) (M1 : Mem) (z : Int32) (l5 : Option Value), (dir = true ↔ sc (i + 3) ≠ 0) → kX M1 a = (8, n) → (∀ i, i < n → mA M1 a i = I (sc i)) → kO M1 o = 8 → Ca d 233 216 [some (.ref a), some (.ref p), some (.ref o), some (.ref q), some (.int (I (i : Nat))), some (.int z), l6] 156 [.ref o, .int (I (sc (i + 1))), .int (I (sc (i + 2))), .int (I (bI dir))] [] M1 Q → Wp d 233 187 [some (.ref a), some (.ref p), some (.ref o), some (.ref q), some (.int (I (i : Nat))), l5, l6] [.int z] M1 Q := by
    intro dir M1 z l5 hdir k1 h1 k8 hQ
    have f1 := h1 (i + 1) (by omega)
    have f2 := h1 (i + 2) (by omega)
    have f3 := h1 (i + 3) (by omega)
    simp (disch := first | (simp only [dd, dr]; done) | omega) only [W_233_1, W_233_2, ha1, ha2, ha3, k1, f1, f2, f3, k8, I_lt, I_le, I_inj, inB_I, tc_I, Int.toNat_natCast, fkt, rf1, rf0, cq, Nat.reduceAdd, Nat.reduceEqDiff, Int.reduceToNat, eq_self, true_and, and_true, true_or, or_true, bI_0, bI_1, mm, rAm, mF_sF, mR_sR, false_and, and_false, if_false, if_true, false_or, or_false, not_true_eq_false, not_false_eq_true, and_self]
    refine ⟨fun h => ?_, fun h => ?_⟩
    · have : dir = false := by
        cases dir with
        | false => rfl
        | true => exact absurd h (hdir.mp rfl)
      subst this
      simp (disch := first | (simp only [dd, dr]; done) | omega) only [W_233_1, W_233_2, ha1, ha2, ha3, k1, f1, f2, f3, k8, I_lt, I_le, I_inj, inB_I, tc_I, Int.toNat_natCast, fkt, rf1, rf0, cq, Nat.reduceAdd, Nat.reduceEqDiff, Int.reduceToNat, eq_self, true_and, and_true, true_or, or_true, bI_0, bI_1, mm, rAm, mF_sF, mR_sR, false_and, and_false, if_false, if_true, false_or, or_false, not_true_eq_false, not_false_eq_true, and_self]
      exact hQ
    · have : dir = true := hdir.mpr h
      subst this
      simp (disch := first | (simp only [dd, dr]; done) | omega) only [W_233_1, W_233_2, ha1, ha2, ha3, k1, f1, f2, f3, k8, I_lt, I_le, I_inj, inB_I, tc_I, Int.toNat_natCast, fkt, rf1, rf0, cq, Nat.reduceAdd, Nat.reduceEqDiff, Int.reduceToNat, eq_self, true_and, and_true, true_or, or_true, bI_0, bI_1, mm, rAm, mF_sF, mR_sR, false_and, and_false, if_false, if_true, false_or, or_false, not_true_eq_false, not_false_eq_true, and_self]
      exact hQ
  have go : ∀ dir : Bool, (dir = true ↔ sc (i + 3) ≠ 0) → Ca d 233 184 [some (.ref a), some (.ref p), some (.ref o), some (.ref q), some (.int (I (i : Nat))), l5, l6] 1 [.ref p, .int (I (sc (i + 1))), .int (I (sc (i + 2))), .int (I (bI dir)), .ref q] [] M Q := by
    intro dir hdir
    refine cr_1 (by omega) (wr_1 (by omega) kp1 (C_make (by omega) C D w1 hoff b10 b11 b20 b21 rfl (fun hc k' M' A' e ke hP C' D' F' => ?_) (fun hc T1 T2 gg1 gg2 M' A' C' D' F' w1' => ?_)))
    · subst hP
      obtain ⟨g1, g2, g3, g4, g5⟩ := L0.mid (F'.cd J)
      have md1 := g1 _ _ _ _ _ _ md
      have hK := md1.1
      have k8 := hK.1
      have V1 := DJ.cf V C.2.2.2.1 C.2.2.2.2 hm F'
      refine .inr ⟨e, _, _, rfl, ke, mem4 hc mkC_le, ?_⟩
      simp (disch := first | (simp only [dd, dr]; done) | omega) only [I_lt, I_le, I_inj, inB_I, tc_I, Int.toNat_natCast, fkt, rf1, rf0, cq, Nat.reduceAdd, Nat.reduceEqDiff, Int.reduceToNat, eq_self, true_and, and_true, true_or, or_true, bI_0, bI_1, mm, rAm, mF_sF, mR_sR, false_and, and_false, if_false, if_true, false_or, or_false, not_true_eq_false, not_false_eq_true, and_self]
      refine mdl dir M' _ _ hdir g3 g4 k8 ?_
      rw [← md1.eq]
      refine ca_156 (by omega) (m_make hK (by omega) S1 w1.1 hm1 hm w1.ok.1 w1.nm hAb w1.l16 fv.1 fv.2.2.2.2.1 b10 b11 b20 b21 rfl h100 (fun _ f' s' b' he h54 hs' => ?_) (fun h => absurd h hc))
      simp (disch := first | (simp only [dd, dr]; done) | omega) only [W_233_1, W_233_2, msK, k8, I_lt, I_le, I_inj, inB_I, tc_I, Int.toNat_natCast, fkt, rf1, rf0, cq, Nat.reduceAdd, Nat.reduceEqDiff, Int.reduceToNat, eq_self, true_and, and_true, true_or, or_true, bI_0, bI_1, mm, rAm, mF_sF, mR_sR, false_and, and_false, if_false, if_true, false_or, or_false, not_true_eq_false, not_false_eq_true, and_self]
      refine ca_155 (by omega) (m_thrown hK ?_)
      rw [h54]
      have hle := mkC_le (m := m) (T := T) (X := X) (off := v.2.2.1) (dir := dir) (z := sc (i + 1)) (y := sc (i + 2))
      generalize mkC m v.2.2.1 T X (sc (i + 1)) (sc (i + 2)) dir = cd at *
      simp (disch := first | (simp only [dd, dr]; done) | omega) only [W_233_1, W_233_2, I_lt, I_le, I_inj, inB_I, tc_I, Int.toNat_natCast, fkt, rf1, rf0, cq, Nat.reduceAdd, Nat.reduceEqDiff, Int.reduceToNat, eq_self, true_and, and_true, true_or, or_true, bI_0, bI_1, mm, rAm, mF_sF, mR_sR, false_and, and_false, if_false, if_true, false_or, or_false, not_true_eq_false, not_false_eq_true, and_self]
      refine ⟨fun _ => ?_, (fun h => by first | exact False.elim h | exact absurd trivial h | (exfalso; omega) | exact absurd rfl h | cases h)⟩
      simp (disch := first | (simp only [dd, dr]; done) | omega) only [W_233_1, W_233_2, I_lt, I_le, I_inj, inB_I, tc_I, Int.toNat_natCast, fkt, rf1, rf0, cq, Nat.reduceAdd, Nat.reduceEqDiff, Int.reduceToNat, eq_self, true_and, and_true, true_or, or_true, bI_0, bI_1, mm, rAm, mF_sF, mR_sR, false_and, and_false, if_false, if_true, false_or, or_false, not_true_eq_false, not_false_eq_true, and_self]
      refine ⟨fun _ => ?_, (fun h => by first | exact False.elim h | exact absurd trivial h | (exfalso; omega) | exact absurd rfl h | cases h)⟩
      simp (disch := first | (simp only [dd, dr]; done) | omega) only [W_233_1, W_233_2, W_233_22, W_233_23, hl6, I_lt, I_le, I_inj, inB_I, tc_I, Int.toNat_natCast, fkt, rf1, rf0, cq, Nat.reduceAdd, Nat.reduceEqDiff, Int.reduceToNat, eq_self, true_and, and_true, true_or, or_true, bI_0, bI_1, mm, rAm, mF_sF, mR_sR, false_and, and_false, if_false, if_true, false_or, or_false, not_true_eq_false, not_false_eq_true, and_self]
      exact next _ A' T X dt par Tc Xc dtc parc la v _ _ (L0.step (F'.cd J) (by omega) (.inl rfl) C' D' V1 K (fv.fe he) (S1.eqs hs' w1.l16) S2 w1 w2 dv)
    · obtain ⟨g1, g2, g3, g4, g5⟩ := L0.mid (F'.cd J)
      have md1 := g1 _ _ _ _ _ _ md
      have V1 := DJ.cf V C.2.2.2.1 C.2.2.2.2 hm F'
      refine .inl ⟨_, rfl, g2, ?_⟩
      have md2 := md1.sL hqo (I (fro (fun o => iso T o) 60 1 : Nat)).toInt64
      have hK := md2.1
      have k8 := hK.1
      simp (disch := first | (simp only [dd, dr]; done) | omega) only [I_lt, I_le, I_inj, inB_I, tc_I, Int.toNat_natCast, fkt, rf1, rf0, cq, Nat.reduceAdd, Nat.reduceEqDiff, Int.reduceToNat, eq_self, true_and, and_true, true_or, or_true, bI_0, bI_1, mm, rAm, mF_sF, mR_sR, false_and, and_false, if_false, if_true, false_or, or_false, not_true_eq_false, not_false_eq_true, and_self]
      refine mdl dir (sL M' q 0 (I (fro (fun o => iso T o) 60 1 : Nat)).toInt64) _ _ hdir g3 g4 k8 ?_
      rw [← md2.eq]
      refine ca_156 (by omega) (m_make hK (by omega) S1 w1.1 hm1 hm w1.ok.1 w1.nm hAb w1.l16 fv.1 fv.2.2.2.2.1 b10 b11 b20 b21 rfl h100 (fun h => absurd hc h) (fun _ T1' T2' gg1' gg2' f' s' b' he h54 S1' => ?_))
      rw [gg1] at gg1'
      obtain ⟨_, rfl⟩ := Prod.mk.inj (Option.some.inj gg1')
      rw [gg2] at gg2'
      obtain ⟨_, rfl⟩ := Prod.mk.inj (Option.some.inj gg2')
      simp (disch := first | (simp only [dd, dr]; done) | omega) only [W_233_1, W_233_2, msK, k8, I_lt, I_le, I_inj, inB_I, tc_I, Int.toNat_natCast, fkt, rf1, rf0, cq, Nat.reduceAdd, Nat.reduceEqDiff, Int.reduceToNat, eq_self, true_and, and_true, true_or, or_true, bI_0, bI_1, mm, rAm, mF_sF, mR_sR, false_and, and_false, if_false, if_true, false_or, or_false, not_true_eq_false, not_false_eq_true, and_self]
      refine ca_155 (by omega) (m_thrown hK ?_)
      rw [h54]
      simp (disch := first | (simp only [dd, dr]; done) | omega) only [W_233_1, W_233_2, I_lt, I_le, I_inj, inB_I, tc_I, Int.toNat_natCast, fkt, rf1, rf0, cq, Nat.reduceAdd, Nat.reduceEqDiff, Int.reduceToNat, eq_self, true_and, and_true, true_or, or_true, bI_0, bI_1, mm, rAm, mF_sF, mR_sR, false_and, and_false, if_false, if_true, false_or, or_false, not_true_eq_false, not_false_eq_true, and_self]
      refine ⟨fun _ => ?_, (fun h => by first | exact False.elim h | exact absurd trivial h | (exfalso; omega) | exact absurd rfl h | cases h)⟩
      simp (disch := first | (simp only [dd, dr]; done) | omega) only [W_233_1, W_233_2, I_lt, I_le, I_inj, inB_I, tc_I, Int.toNat_natCast, fkt, rf1, rf0, cq, Nat.reduceAdd, Nat.reduceEqDiff, Int.reduceToNat, eq_self, true_and, and_true, true_or, or_true, bI_0, bI_1, mm, rAm, mF_sF, mR_sR, false_and, and_false, if_false, if_true, false_or, or_false, not_true_eq_false, not_false_eq_true, and_self]
      refine ⟨(fun h => by first | exact False.elim h | exact absurd trivial h | (exfalso; omega) | exact absurd rfl h | cases h), fun _ => ?_⟩
      simp (disch := first | (simp only [dd, dr]; done) | omega) only [W_233_1, W_233_2, msK, msR, g2, mL_sL, lgc, I_lt, I_le, I_inj, inB_I, tc_I, Int.toNat_natCast, fkt, rf1, rf0, cq, Nat.reduceAdd, Nat.reduceEqDiff, Int.reduceToNat, eq_self, true_and, and_true, true_or, or_true, bI_0, bI_1, mm, rAm, mF_sF, mR_sR, false_and, and_false, if_false, if_true, false_or, or_false, not_true_eq_false, not_false_eq_true, and_self]
      refine ⟨fun _ => ?_, (fun h => by first | exact False.elim h | exact absurd trivial h | (exfalso; omega) | exact absurd rfl h | cases h)⟩
      simp (disch := first | (simp only [dd, dr]; done) | omega) only [W_233_1, W_233_2, W_233_22, W_233_23, hl6, I_lt, I_le, I_inj, inB_I, tc_I, Int.toNat_natCast, fkt, rf1, rf0, cq, Nat.reduceAdd, Nat.reduceEqDiff, Int.reduceToNat, eq_self, true_and, and_true, true_or, or_true, bI_0, bI_1, mm, rAm, mF_sF, mR_sR, false_and, and_false, if_false, if_true, false_or, or_false, not_true_eq_false, not_false_eq_true, and_self]
      exact next _ A' T2 _ dt _ Tc Xc dtc parc la v _ _ (L0.step (F'.cd J) (by omega) (.inr ⟨_, rfl⟩) C' D' V1 K (fv.fe he) S1' S2 w1' w2 dv)
  simp (disch := first | (simp only [dd, dr]; done) | omega) only [W_233_1, W_233_2, ha1, ha2, ha3, ka, e1, e2, e3, I_lt, I_le, I_inj, inB_I, tc_I, Int.toNat_natCast, fkt, rf1, rf0, cq, Nat.reduceAdd, Nat.reduceEqDiff, Int.reduceToNat, eq_self, true_and, and_true, true_or, or_true, bI_0, bI_1, mm, rAm, mF_sF, mR_sR, false_and, and_false, if_false, if_true, false_or, or_false, not_true_eq_false, not_false_eq_true, and_self]
  refine ⟨fun h => ?_, fun h => ?_⟩
  · simp (disch := first | (simp only [dd, dr]; done) | omega) only [W_233_1, W_233_2, I_lt, I_le, I_inj, inB_I, tc_I, Int.toNat_natCast, fkt, rf1, rf0, cq, Nat.reduceAdd, Nat.reduceEqDiff, Int.reduceToNat, eq_self, true_and, and_true, true_or, or_true, bI_0, bI_1, mm, rAm, mF_sF, mR_sR, false_and, and_false, if_false, if_true, false_or, or_false, not_true_eq_false, not_false_eq_true, and_self]
    exact go false ⟨fun h => by (cases h), fun h' => absurd h h'⟩
  · simp (disch := first | (simp only [dd, dr]; done) | omega) only [W_233_1, W_233_2, I_lt, I_le, I_inj, inB_I, tc_I, Int.toNat_natCast, fkt, rf1, rf0, cq, Nat.reduceAdd, Nat.reduceEqDiff, Int.reduceToNat, eq_self, true_and, and_true, true_or, or_true, bI_0, bI_1, mm, rAm, mF_sF, mR_sR, false_and, and_false, if_false, if_true, false_or, or_false, not_true_eq_false, not_false_eq_true, and_self]
    exact go true ⟨fun _ => h, fun _ => rfl⟩
end Lw3
