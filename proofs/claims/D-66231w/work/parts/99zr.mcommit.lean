/-! ===== THE MODEL: commit, checkpoint, back, fail, off, recover, count ===== -/
section Mcm
variable {d : Nat} {M : Mem} {Q : Outcome → Mem → Prop} {o : Nat} {f : Nat → Int} {s s' b c w : Int → Int} {j : Nat → Bool} {T Tc : Tr} {X Xc : Ob} {dt dtc la : Nat → Nat → Nat} {m J : Nat} {v : Dv}
theorem FV.fe {f' : Nat → Int} (V : FV f j m J v) (h : Fe f f') : FV f' j m J v := by
  obtain ⟨v1, v2, v3, v4, v5, v6, v7, v8⟩ := V
  exact ⟨by rw [h _ (by omega) (by omega) (by omega)]; exact v1, by rw [h _ (by omega) (by omega) (by omega)]; exact v2, by rw [h _ (by omega) (by omega) (by omega)]; exact v3, by rw [h _ (by omega) (by omega) (by omega)]; exact v4, by rw [h _ (by omega) (by omega) (by omega)]; exact v5, by rw [h _ (by omega) (by omega) (by omega)]; exact v6, by rw [h _ (by omega) (by omega) (by omega)]; exact v7, v8⟩
/-- a device's numbers are such as they may be -/
def DvO (m J : Nat) (v : Dv) : Prop := -1 ≤ v.2.1 ∧ v.2.1 < 2147483648 ∧ v.2.2.2.2.1 ≤ J ∧ J ≤ 64 ∧ ∀ x, v.2.2.2.2.2 x = true → x < m
theorem DvO.H (h : DvO m J v) : DvO m J (dvH m v) := by
  obtain ⟨h1, h2, h3, h4, h5⟩ := h
  unfold dvH
  split
  · exact ⟨h1, h2, h3, h4, h5⟩
  · have r := wn_rng (a := cn v.2.2.2.2.2 m + 1) (n := (wn v.2.1 (cn v.2.2.2.2.2 m + 1)).1) (l' := (wn v.2.1 (cn v.2.2.2.2.2 m + 1)).2.1) (t := (wn v.2.1 (cn v.2.2.2.2.2 m + 1)).2.2) h1 h2 rfl
    split
    · exact ⟨r.1, r.2, h3, h4, h5⟩
    · exact ⟨r.1, r.2, by show 0 ≤ J; omega, h4, fun x hx => by cases hx⟩
def cmM (m J : Nat) (off : Bool) (chg : Nat → Bool) : Nat := if off = true then 1 else if cn chg m ≠ 0 ∧ J < cn chg m + 2 then 2 else 0
set_option maxHeartbeats 2000000 in
theorem m_commit (hK : MK M o) (hd : 20 ≤ d) (hm : m ≤ 96) (A : MW s m T X dt) (C : MW c m Tc Xc dtc) (K : CMt m Tc Xc dtc la) (V : FV f j m J v) (D : DvO m J v) {chg : Nat → Bool} (hchg : chg = chq m T X dt Tc la)
    (hX : cmM m J v.2.2.1 chg ≠ 0 → ∀ f', Fe f f' → f' 54 = cmM m J v.2.2.1 chg → Q (.returned (some (.int (I 0)))) (ms M o f' s b c w j))
    (hR0 : cmM m J v.2.2.1 chg = 0 → cn chg m = 0 → ∀ f', Fe f f' → f' 54 = 0 → Q (.returned (some (.int (I 0)))) (ms M o f' s b c w j))
    (hR1 : cmM m J v.2.2.1 chg = 0 → cn chg m ≠ 0 → ∀ f' c' j', FV f' j' m J (dvC m J v chg) → f' 54 = 0 → (dvB m J v chg = true → ∀ x, x < 25366 → c' x = s x) → (dvB m J v chg = false → c' = c) → Q (.returned (some (.int (I ((dvC m J v chg).1 - v.1))))) (ms M o f' s b c' w j')) :
    Wp d 213 0 [some (.ref o), none, none] [] (ms M o f s b c w j) Q := by
  have hK' := hK
  obtain ⟨k0, k1, k2, k3, k4, k5, k6, k7, k8, k9, k10⟩ := hK
  obtain ⟨v1, v2, v3, v4, v5, v6, v7, v8⟩ := id V
  obtain ⟨D1, D2, D3, D4, D5⟩ := id D
  have hcn : cn chg m ≤ m := cn_le chg m
  unfold cmM at hX hR0 hR1
  by_cases h1 : v.2.2.1 = true
  · rw [if_pos h1] at hX
    rw [h1] at v5
    have v5 : f 52 = 1 := v5
    have hf : fu f 54 (1 : Int) 54 = 1 := fu_s _ _ _
    simp (disch := first | (simp only [dd, dr]; done) | omega) only [W_213, msK, msR, msF, ms1, msS1, k0, k1, k6, v5, I_lt, I_le, I_inj, inB_I, tc_I, Int.toNat_natCast, fkt, rf1, rf0, cq, Nat.reduceAdd, Nat.reduceEqDiff, Int.reduceToNat, eq_self, true_and, and_true, true_or, or_true, bI_0, bI_1, mm, rAm, mF_sF, mR_sR, false_and, and_false, if_false, if_true, false_or, or_false, not_true_eq_false, not_false_eq_true, and_self]
    refine ⟨(fun h => by first | exact False.elim h | exact absurd trivial h | (exfalso; omega) | exact absurd rfl h | cases h), fun _ => ?_⟩
    simp (disch := first | (simp only [dd, dr]; done) | omega) only [W_213, msK, msR, msF, ms1, msS1, k0, k1, k6, v5, I_lt, I_le, I_inj, inB_I, tc_I, Int.toNat_natCast, fkt, rf1, rf0, cq, Nat.reduceAdd, Nat.reduceEqDiff, Int.reduceToNat, eq_self, true_and, and_true, true_or, or_true, bI_0, bI_1, mm, rAm, mF_sF, mR_sR, false_and, and_false, if_false, if_true, false_or, or_false, not_true_eq_false, not_false_eq_true, and_self]
    refine ⟨(fun h => by first | exact False.elim h | exact absurd trivial h | (exfalso; omega) | exact absurd rfl h | cases h), fun _ => ?_⟩
    simp (disch := first | (simp only [dd, dr]; done) | omega) only [W_213, msK, msR, msF, ms1, msS1, k0, k1, k6, msSF, hf, I_lt, I_le, I_inj, inB_I, tc_I, Int.toNat_natCast, fkt, rf1, rf0, cq, Nat.reduceAdd, Nat.reduceEqDiff, Int.reduceToNat, eq_self, true_and, and_true, true_or, or_true, bI_0, bI_1, mm, rAm, mF_sF, mR_sR, false_and, and_false, if_false, if_true, false_or, or_false, not_true_eq_false, not_false_eq_true, and_self]
    refine ⟨fun _ => ?_, (fun h => by first | exact False.elim h | exact absurd trivial h | (exfalso; omega) | exact absurd rfl h | cases h)⟩
    simp (disch := first | (simp only [dd, dr]; done) | omega) only [W_213, I_lt, I_le, I_inj, inB_I, tc_I, Int.toNat_natCast, fkt, rf1, rf0, cq, Nat.reduceAdd, Nat.reduceEqDiff, Int.reduceToNat, eq_self, true_and, and_true, true_or, or_true, bI_0, bI_1, mm, rAm, mF_sF, mR_sR, false_and, and_false, if_false, if_true, false_or, or_false, not_true_eq_false, not_false_eq_true, and_self]
    exact hX (by omega) _ (fun g _ h _ => fu_n _ _ h) hf
  rw [if_neg h1] at hX hR0 hR1
  have ho : v.2.2.1 = false := by simpa using h1
  rw [ho] at v5
  have v5 : f 52 = 0 := v5
  simp (disch := first | (simp only [dd, dr]; done) | omega) only [W_213, msK, msR, msF, ms1, msS1, k0, k1, k6, v5, I_lt, I_le, I_inj, inB_I, tc_I, Int.toNat_natCast, fkt, rf1, rf0, cq, Nat.reduceAdd, Nat.reduceEqDiff, Int.reduceToNat, eq_self, true_and, and_true, true_or, or_true, bI_0, bI_1, mm, rAm, mF_sF, mR_sR, false_and, and_false, if_false, if_true, false_or, or_false, not_true_eq_false, not_false_eq_true, and_self]
  refine ⟨fun _ => ?_, (fun h => by first | exact False.elim h | exact absurd trivial h | (exfalso; omega) | exact absurd rfl h | cases h)⟩
  simp (disch := first | (simp only [dd, dr]; done) | omega) only [W_213, msK, msR, msF, ms1, msS1, k0, k1, k6, I_lt, I_le, I_inj, inB_I, tc_I, Int.toNat_natCast, fkt, rf1, rf0, cq, Nat.reduceAdd, Nat.reduceEqDiff, Int.reduceToNat, eq_self, true_and, and_true, true_or, or_true, bI_0, bI_1, mm, rAm, mF_sF, mR_sR, false_and, and_false, if_false, if_true, false_or, or_false, not_true_eq_false, not_false_eq_true, and_self]
  refine ca_214 (by omega) (m_changed hK' (by omega) hm A C K v1 ?_)
  rw [← hchg]
  simp (disch := first | (simp only [dd, dr]; done) | omega) only [W_213, msK, msR, msF, ms1, msS1, k0, k1, k6, v5, I_lt, I_le, I_inj, inB_I, tc_I, Int.toNat_natCast, fkt, rf1, rf0, cq, Nat.reduceAdd, Nat.reduceEqDiff, Int.reduceToNat, eq_self, true_and, and_true, true_or, or_true, bI_0, bI_1, mm, rAm, mF_sF, mR_sR, false_and, and_false, if_false, if_true, false_or, or_false, not_true_eq_false, not_false_eq_true, and_self]
  refine ⟨fun _ => ?_, (fun h => by first | exact False.elim h | exact absurd trivial h | (exfalso; omega) | exact absurd rfl h | cases h)⟩
  simp (disch := first | (simp only [dd, dr]; done) | omega) only [W_213, I_lt, I_le, I_inj, inB_I, tc_I, Int.toNat_natCast, fkt, rf1, rf0, cq, Nat.reduceAdd, Nat.reduceEqDiff, Int.reduceToNat, eq_self, true_and, and_true, true_or, or_true, bI_0, bI_1, mm, rAm, mF_sF, mR_sR, false_and, and_false, if_false, if_true, false_or, or_false, not_true_eq_false, not_false_eq_true, and_self]
  have hf0 : fu f 54 (0 : Int) 54 = 0 := fu_s _ _ _
  by_cases e0 : cn chg m = 0
  · rw [if_neg (fun h => h.1 e0)] at hR0
    refine ⟨fun _ => ?_, (fun h => by first | exact False.elim h | exact absurd trivial h | (exfalso; omega) | exact absurd rfl h | cases h)⟩
    simp (disch := first | (simp only [dd, dr]; done) | omega) only [W_213, msK, msR, msF, ms1, msS1, k0, k1, k6, msSF, hf0, I_lt, I_le, I_inj, inB_I, tc_I, Int.toNat_natCast, fkt, rf1, rf0, cq, Nat.reduceAdd, Nat.reduceEqDiff, Int.reduceToNat, eq_self, true_and, and_true, true_or, or_true, bI_0, bI_1, mm, rAm, mF_sF, mR_sR, false_and, and_false, if_false, if_true, false_or, or_false, not_true_eq_false, not_false_eq_true, and_self]
    refine ⟨(fun h => by first | exact False.elim h | exact absurd trivial h | (exfalso; omega) | exact absurd rfl h | cases h), fun _ => ?_⟩
    simp (disch := first | (simp only [dd, dr]; done) | omega) only [W_213, I_lt, I_le, I_inj, inB_I, tc_I, Int.toNat_natCast, fkt, rf1, rf0, cq, Nat.reduceAdd, Nat.reduceEqDiff, Int.reduceToNat, eq_self, true_and, and_true, true_or, or_true, bI_0, bI_1, mm, rAm, mF_sF, mR_sR, false_and, and_false, if_false, if_true, false_or, or_false, not_true_eq_false, not_false_eq_true, and_self]
    refine ⟨(fun h => by first | exact False.elim h | exact absurd trivial h | (exfalso; omega) | exact absurd rfl h | cases h), fun _ => ?_⟩
    simp (disch := first | (simp only [dd, dr]; done) | omega) only [W_213, I_lt, I_le, I_inj, inB_I, tc_I, Int.toNat_natCast, fkt, rf1, rf0, cq, Nat.reduceAdd, Nat.reduceEqDiff, Int.reduceToNat, eq_self, true_and, and_true, true_or, or_true, bI_0, bI_1, mm, rAm, mF_sF, mR_sR, false_and, and_false, if_false, if_true, false_or, or_false, not_true_eq_false, not_false_eq_true, and_self]
    exact hR0 rfl e0 _ (fun g _ h _ => fu_n _ _ h) hf0
  refine ⟨(fun h => by first | exact False.elim h | exact absurd trivial h | (exfalso; omega) | exact absurd rfl h | cases h), fun _ => ?_⟩
  simp (disch := first | (simp only [dd, dr]; done) | omega) only [W_213, msK, msR, msF, ms1, msS1, k0, k1, k6, v2, I_lt, I_le, I_inj, inB_I, tc_I, Int.toNat_natCast, fkt, rf1, rf0, cq, Nat.reduceAdd, Nat.reduceEqDiff, Int.reduceToNat, eq_self, true_and, and_true, true_or, or_true, bI_0, bI_1, mm, rAm, mF_sF, mR_sR, false_and, and_false, if_false, if_true, false_or, or_false, not_true_eq_false, not_false_eq_true, and_self]
  by_cases e1 : J < cn chg m + 2
  · rw [if_pos ⟨e0, e1⟩] at hX
    have hf : fu f 54 (2 : Int) 54 = 2 := fu_s _ _ _
    refine ⟨(fun h => by first | exact False.elim h | exact absurd trivial h | (exfalso; omega) | exact absurd rfl h | cases h), fun _ => ?_⟩
    simp (disch := first | (simp only [dd, dr]; done) | omega) only [W_213, msK, msR, msF, ms1, msS1, k0, k1, k6, msSF, hf, I_lt, I_le, I_inj, inB_I, tc_I, Int.toNat_natCast, fkt, rf1, rf0, cq, Nat.reduceAdd, Nat.reduceEqDiff, Int.reduceToNat, eq_self, true_and, and_true, true_or, or_true, bI_0, bI_1, mm, rAm, mF_sF, mR_sR, false_and, and_false, if_false, if_true, false_or, or_false, not_true_eq_false, not_false_eq_true, and_self]
    refine ⟨fun _ => ?_, (fun h => by first | exact False.elim h | exact absurd trivial h | (exfalso; omega) | exact absurd rfl h | cases h)⟩
    simp (disch := first | (simp only [dd, dr]; done) | omega) only [W_213, I_lt, I_le, I_inj, inB_I, tc_I, Int.toNat_natCast, fkt, rf1, rf0, cq, Nat.reduceAdd, Nat.reduceEqDiff, Int.reduceToNat, eq_self, true_and, and_true, true_or, or_true, bI_0, bI_1, mm, rAm, mF_sF, mR_sR, false_and, and_false, if_false, if_true, false_or, or_false, not_true_eq_false, not_false_eq_true, and_self]
    exact hX (by omega) _ (fun g _ h _ => fu_n _ _ h) hf
  rw [if_neg (fun h => e1 h.2)] at hR1
  have hR1 := hR1 rfl e0
  clear hX hR0
  refine ⟨fun _ => ?_, (fun h => by first | exact False.elim h | exact absurd trivial h | (exfalso; omega) | exact absurd rfl h | cases h)⟩
  simp (disch := first | (simp only [dd, dr]; done) | omega) only [W_213, msK, msR, msF, ms1, msS1, k0, k1, k6, msSF, hf0, I_lt, I_le, I_inj, inB_I, tc_I, Int.toNat_natCast, fkt, rf1, rf0, cq, Nat.reduceAdd, Nat.reduceEqDiff, Int.reduceToNat, eq_self, true_and, and_true, true_or, or_true, bI_0, bI_1, mm, rAm, mF_sF, mR_sR, false_and, and_false, if_false, if_true, false_or, or_false, not_true_eq_false, not_false_eq_true, and_self]
  refine ⟨(fun h => by first | exact False.elim h | exact absurd trivial h | (exfalso; omega) | exact absurd rfl h | cases h), fun _ => ?_⟩
  simp (disch := first | (simp only [dd, dr]; done) | omega) only [W_213, I_lt, I_le, I_inj, inB_I, tc_I, Int.toNat_natCast, fkt, rf1, rf0, cq, Nat.reduceAdd, Nat.reduceEqDiff, Int.reduceToNat, eq_self, true_and, and_true, true_or, or_true, bI_0, bI_1, mm, rAm, mF_sF, mR_sR, false_and, and_false, if_false, if_true, false_or, or_false, not_true_eq_false, not_false_eq_true, and_self]
  refine ⟨fun _ => ?_, (fun h => by first | exact False.elim h | exact absurd trivial h | (exfalso; omega) | exact absurd rfl h | cases h)⟩
  have V0 : FV (fu (fu f 54 0) 56 0) j m J v := V.fe (fun g _ a2 a3 => by rw [fu_n _ _ a3, fu_n _ _ a2])
  generalize hf1 : fu (fu f 54 0) 56 0 = f1 at V0
  have g54 : f1 54 = 0 := by rw [← hf1, fu_n _ _ (by omega), fu_s]
  have g56 : f1 56 = 0 := by rw [← hf1, fu_s]
  obtain ⟨w1, w2, w3, w4, w5, w6, w7, w8⟩ := id V0
  simp (disch := first | (simp only [dd, dr]; done) | omega) only [W_213, msK, msR, msF, ms1, msS1, k0, k1, k6, msSF, hf1, w7, w2, I_lt, I_le, I_inj, inB_I, tc_I, Int.toNat_natCast, fkt, rf1, rf0, cq, Nat.reduceAdd, Nat.reduceEqDiff, Int.reduceToNat, eq_self, true_and, and_true, true_or, or_true, bI_0, bI_1, mm, rAm, mF_sF, mR_sR, false_and, and_false, if_false, if_true, false_or, or_false, not_true_eq_false, not_false_eq_true, and_self]
  -- once the journal has room
  have rest : ∀ (f2 : Nat → Int) (j2 : Nat → Bool), FV f2 j2 m J (dv1 m J v chg) → f2 54 = 0 → f2 56 = (dv1 m J v chg).1 - v.1 → (dv1 m J v chg).2.2.1 = false → DvO m J (dv1 m J v chg) → Wp d 213 97 [some (.ref o), some (.int (I (cn chg m : Nat))), some (.int (I 0))] [] (ms M o f2 s b c w j2) Q := by
    intro f2 j2 V2 a54 a56 hoff2 Do2
    unfold dvC dvB at hR1
    rw [if_neg (by rw [hoff2]; simp), hoff2] at hR1
    generalize dv1 m J v chg = u at *
    obtain ⟨wr, lf, off, cm, ju, lj⟩ := u
    obtain ⟨p1, p2, p3, p4, p5, p6, p7, p8⟩ := id V2
    simp only at p1 p2 p3 p4 p5 p6 p7 p8 a56 hoff2 hR1
    obtain ⟨E1, E2, E3, E4, E5⟩ := id Do2
    simp only at E1 E2 E3 E5
    subst hoff2
    unfold dvJ at hR1
    simp only at hR1
    suffices H : ∀ N (k : Nat) (f3 : Nat → Int), k + N = cn chg m + 2 → Gn f2 f3 k → Wp d 213 97 [some (.ref o), some (.int (I (cn chg m : Nat))), some (.int (I (k : Nat)))] [] (ms M o f3 s b c w j2) Q from H (cn chg m + 2) 0 f2 (by omega) (Gn.zero f2)
    intro N
    induction N with
    | zero =>
      intro k f3 hk g
      obtain rfl : k = cn chg m + 2 := by omega
      obtain ⟨q1, q2, q3, q4⟩ := g
      rw [p4] at q4
      rw [q4] at hR1
      simp only [Bool.not_false, Bool.and_true] at hR1
      rw [if_neg (by simp)] at hR1
      simp (disch := first | (simp only [dd, dr]; done) | omega) only [w_213_97, W_213, I_lt, I_le, I_inj, inB_I, tc_I, Int.toNat_natCast, fkt, rf1, rf0, cq, Nat.reduceAdd, Nat.reduceEqDiff, Int.reduceToNat, eq_self, true_and, and_true, true_or, or_true, bI_0, bI_1, mm, rAm, mF_sF, mR_sR, false_and, and_false, if_false, if_true, false_or, or_false, not_true_eq_false, not_false_eq_true, and_self]
      refine ⟨fun _ => ?_, (fun h => by first | exact False.elim h | exact absurd trivial h | (exfalso; omega) | exact absurd rfl h | cases h)⟩
      simp (disch := first | (simp only [dd, dr]; done) | omega) only [W_213, I_lt, I_le, I_inj, inB_I, tc_I, Int.toNat_natCast, fkt, rf1, rf0, cq, Nat.reduceAdd, Nat.reduceEqDiff, Int.reduceToNat, eq_self, true_and, and_true, true_or, or_true, bI_0, bI_1, mm, rAm, mF_sF, mR_sR, false_and, and_false, if_false, if_true, false_or, or_false, not_true_eq_false, not_false_eq_true, and_self]
      have h43 : f3 43 = m := by rw [q1 _ (by omega) (by omega) (by omega)]; exact p1
      suffices H2 : ∀ N (k : Nat) (j3 : Nat → Bool), k + N = m → (∀ x, x < 96 → j3 x = if x < k then (j2 x || chg x) else j2 x) → Wp d 213 124 [some (.ref o), some (.int (I (cn chg m : Nat))), some (.int (I (k : Nat)))] [] (ms M o f3 s b c w j3) Q from H2 m 0 j2 (by omega) (fun x hx => by rw [if_neg (by omega)])
      intro N
      induction N with
      | zero =>
        intro k j3 hk hj3
        obtain rfl : k = m := by omega
        have h50 : f3 50 = (ju : Nat) := by rw [q1 _ (by omega) (by omega) (by omega)]; exact p7
        have h44 : fu f3 50 ((ju : Int) + ((cn chg k : Int) + 2)) 44 = cm := by rw [fu_n _ _ (by omega), q1 _ (by omega) (by omega) (by omega)]; exact p6
        simp (disch := first | (simp only [dd, dr]; done) | omega) only [w_213_124, W_213, msK, msR, msF, ms1, msS1, k0, k1, k6, h43, I_lt, I_le, I_inj, inB_I, tc_I, Int.toNat_natCast, fkt, rf1, rf0, cq, Nat.reduceAdd, Nat.reduceEqDiff, Int.reduceToNat, eq_self, true_and, and_true, true_or, or_true, bI_0, bI_1, mm, rAm, mF_sF, mR_sR, false_and, and_false, if_false, if_true, false_or, or_false, not_true_eq_false, not_false_eq_true, and_self]
        refine ⟨fun _ => ?_, (fun h => by first | exact False.elim h | exact absurd trivial h | (exfalso; omega) | exact absurd rfl h | cases h)⟩
        simp (disch := first | (simp only [dd, dr]; done) | omega) only [W_213, msK, msR, msF, ms1, msS1, k0, k1, k6, h50, msSF, h44, k3, I_lt, I_le, I_inj, inB_I, tc_I, Int.toNat_natCast, fkt, rf1, rf0, cq, Nat.reduceAdd, Nat.reduceEqDiff, Int.reduceToNat, eq_self, true_and, and_true, true_or, or_true, bI_0, bI_1, mm, rAm, mF_sF, mR_sR, false_and, and_false, if_false, if_true, false_or, or_false, not_true_eq_false, not_false_eq_true, and_self]
        refine cr_154 (by omega) (m_keepSC hK' ?_)
        have h56 : fu (fu f3 50 ((ju : Int) + ((cn chg k : Int) + 2))) 44 (cm + 1) 56 = wr + ((cn chg k + 2 : Nat) : Int) - v.1 := by rw [fu_n _ _ (by omega), fu_n _ _ (by omega), q3, a56]; omega
        simp (disch := first | (simp only [dd, dr]; done) | omega) only [W_213, msK, msR, msF, ms1, msS1, k0, k1, k6, h56, I_lt, I_le, I_inj, inB_I, tc_I, Int.toNat_natCast, fkt, rf1, rf0, cq, Nat.reduceAdd, Nat.reduceEqDiff, Int.reduceToNat, eq_self, true_and, and_true, true_or, or_true, bI_0, bI_1, mm, rAm, mF_sF, mR_sR, false_and, and_false, if_false, if_true, false_or, or_false, not_true_eq_false, not_false_eq_true, and_self]
        refine hR1 _ _ j3 ⟨?_, ?_, ?_, ?_, ?_, ?_, ?_, fun x hx => ?_⟩ ?_ (fun _ x hx => ?_) (fun h => by cases h)
        · rw [fu_n _ _ (by omega), fu_n _ _ (by omega)]; exact h43
        · rw [fu_n _ _ (by omega), fu_n _ _ (by omega), q1 _ (by omega) (by omega) (by omega)]; exact p2
        · rw [fu_n _ _ (by omega), fu_n _ _ (by omega), q2, p3]
        · rw [fu_n _ _ (by omega), fu_n _ _ (by omega)]
        · rw [fu_n _ _ (by omega), fu_n _ _ (by omega), q1 _ (by omega) (by omega) (by omega)]; exact p5
        · rw [fu_s]
        · rw [fu_n _ _ (by omega), fu_s]; show (ju : Int) + ((cn chg k : Int) + 2) = ((ju + cn chg k + 2 : Nat) : Int); omega
        · rw [hj3 x hx]
          show (if x < k then (j2 x || chg x) else j2 x) = (lj x || (decide (x < k) && chg x))
          rw [← p8 x hx]
          by_cases e : x < k
          · rw [if_pos e, decide_eq_true e, Bool.true_and]
          · rw [if_neg e, decide_eq_false e, Bool.false_and, Bool.or_false]
        · rw [fu_n _ _ (by omega), fu_n _ _ (by omega), q1 _ (by omega) (by omega) (by omega)]; exact a54
        · unfold kp; rw [if_pos hx]
      | succ N ih =>
        intro k j3 hk hj3
        have hjk := hj3 k (by omega)
        rw [if_neg (by omega)] at hjk
        have next : ∀ z : Bool, z = (j2 k || chg k) → ∀ i32v : Int32, i32v = I (bI z) → Wp d 213 124 [some (.ref o), some (.int (I (cn chg m : Nat))), some (.int (I ((k : Int) + 1)))] [] (sA (ms M o f3 s b c w j3) (o + 5) k i32v) Q := by
          intro z hz iv hiv
          rw [hiv, msS5, show ((k : Int) + 1) = ((k + 1 : Nat) : Int) by omega]
          refine ih (k + 1) _ (by omega) (fun x hx => ?_)
          by_cases e : x = k
          · rw [e, fu_s, if_pos (by omega), hz]
          · rw [fu_n _ _ e, hj3 x hx]
            by_cases e2 : x < k
            · rw [if_pos e2, if_pos (by omega)]
            · rw [if_neg e2, if_neg (by omega)]
        have n1 : nrw 2 (I 1) = I 1 := by decide
        have n0 : nrw 2 (I 0) = I 0 := by decide
        simp (disch := first | (simp only [dd, dr]; done) | omega) only [w_213_124, W_213, msK, msR, msF, ms1, msS1, k0, k1, k6, h43, I_lt, I_le, I_inj, inB_I, tc_I, Int.toNat_natCast, fkt, rf1, rf0, cq, Nat.reduceAdd, Nat.reduceEqDiff, Int.reduceToNat, eq_self, true_and, and_true, true_or, or_true, bI_0, bI_1, mm, rAm, mF_sF, mR_sR, false_and, and_false, if_false, if_true, false_or, or_false, not_true_eq_false, not_false_eq_true, and_self]
        refine ⟨(fun h => by first | exact False.elim h | exact absurd trivial h | (exfalso; omega) | exact absurd rfl h | cases h), fun _ => ?_⟩
        simp (disch := first | (simp only [dd, dr]; done) | omega) only [W_213, msK, msR, msF, ms1, msS1, k0, k1, k6, k5, k10, ms5, hjk, I_lt, I_le, I_inj, inB_I, tc_I, Int.toNat_natCast, fkt, rf1, rf0, cq, Nat.reduceAdd, Nat.reduceEqDiff, Int.reduceToNat, eq_self, true_and, and_true, true_or, or_true, bI_0, bI_1, mm, rAm, mF_sF, mR_sR, false_and, and_false, if_false, if_true, false_or, or_false, not_true_eq_false, not_false_eq_true, and_self]
        refine ⟨fun h => ?_, fun h => ?_⟩
        · have h : j2 k = true := by simpa using h
          simp (disch := first | (simp only [dd, dr]; done) | omega) only [W_213, msK, msR, msF, ms1, msS1, k0, k1, k6, k5, k10, n1, I_lt, I_le, I_inj, inB_I, tc_I, Int.toNat_natCast, fkt, rf1, rf0, cq, Nat.reduceAdd, Nat.reduceEqDiff, Int.reduceToNat, eq_self, true_and, and_true, true_or, or_true, bI_0, bI_1, mm, rAm, mF_sF, mR_sR, false_and, and_false, if_false, if_true, false_or, or_false, not_true_eq_false, not_false_eq_true, and_self]
          exact next true (by rw [h]; rfl) _ rfl
        · have h : j2 k = false := by simpa using h
          simp (disch := first | (simp only [dd, dr]; done) | omega) only [W_213, msK, msR, msF, ms1, msS1, k0, k1, k6, I_lt, I_le, I_inj, inB_I, tc_I, Int.toNat_natCast, fkt, rf1, rf0, cq, Nat.reduceAdd, Nat.reduceEqDiff, Int.reduceToNat, eq_self, true_and, and_true, true_or, or_true, bI_0, bI_1, mm, rAm, mF_sF, mR_sR, false_and, and_false, if_false, if_true, false_or, or_false, not_true_eq_false, not_false_eq_true, and_self]
          refine ca_215 (by omega) (m_isChanged hK' (by omega) hm A C K (by omega) ?_)
          rw [← hchg]
          simp (disch := first | (simp only [dd, dr]; done) | omega) only [W_213, I_lt, I_le, I_inj, inB_I, tc_I, Int.toNat_natCast, fkt, rf1, rf0, cq, Nat.reduceAdd, Nat.reduceEqDiff, Int.reduceToNat, eq_self, true_and, and_true, true_or, or_true, bI_0, bI_1, mm, rAm, mF_sF, mR_sR, false_and, and_false, if_false, if_true, false_or, or_false, not_true_eq_false, not_false_eq_true, and_self]
          refine ⟨fun h' => ?_, fun h' => ?_⟩
          · have h' : chg k = false := h'
            simp (disch := first | (simp only [dd, dr]; done) | omega) only [W_213, msK, msR, msF, ms1, msS1, k0, k1, k6, k5, k10, n0, I_lt, I_le, I_inj, inB_I, tc_I, Int.toNat_natCast, fkt, rf1, rf0, cq, Nat.reduceAdd, Nat.reduceEqDiff, Int.reduceToNat, eq_self, true_and, and_true, true_or, or_true, bI_0, bI_1, mm, rAm, mF_sF, mR_sR, false_and, and_false, if_false, if_true, false_or, or_false, not_true_eq_false, not_false_eq_true, and_self]
            exact next false (by rw [h, h']; rfl) _ rfl
          · have h' : chg k = true := by simpa using h'
            simp (disch := first | (simp only [dd, dr]; done) | omega) only [W_213, msK, msR, msF, ms1, msS1, k0, k1, k6, k5, k10, n1, I_lt, I_le, I_inj, inB_I, tc_I, Int.toNat_natCast, fkt, rf1, rf0, cq, Nat.reduceAdd, Nat.reduceEqDiff, Int.reduceToNat, eq_self, true_and, and_true, true_or, or_true, bI_0, bI_1, mm, rAm, mF_sF, mR_sR, false_and, and_false, if_false, if_true, false_or, or_false, not_true_eq_false, not_false_eq_true, and_self]
            exact next true (by rw [h']; simp) _ rfl
    | succ N ih =>
      intro k f3 hk g
      simp (disch := first | (simp only [dd, dr]; done) | omega) only [w_213_97, W_213, I_lt, I_le, I_inj, inB_I, tc_I, Int.toNat_natCast, fkt, rf1, rf0, cq, Nat.reduceAdd, Nat.reduceEqDiff, Int.reduceToNat, eq_self, true_and, and_true, true_or, or_true, bI_0, bI_1, mm, rAm, mF_sF, mR_sR, false_and, and_false, if_false, if_true, false_or, or_false, not_true_eq_false, not_false_eq_true, and_self]
      refine ⟨(fun h => by first | exact False.elim h | exact absurd trivial h | (exfalso; omega) | exact absurd rfl h | cases h), fun _ => ?_⟩
      simp (disch := first | (simp only [dd, dr]; done) | omega) only [W_213, msK, msR, msF, ms1, msS1, k0, k1, k6, I_lt, I_le, I_inj, inB_I, tc_I, Int.toNat_natCast, fkt, rf1, rf0, cq, Nat.reduceAdd, Nat.reduceEqDiff, Int.reduceToNat, eq_self, true_and, and_true, true_or, or_true, bI_0, bI_1, mm, rAm, mF_sF, mR_sR, false_and, and_false, if_false, if_true, false_or, or_false, not_true_eq_false, not_false_eq_true, and_self]
      refine ca_222 (by omega) (m_goesN hK' g (by rw [p4]; exact E1) (by rw [p4]; exact E2) (fun hw => ?_) (fun f4 g4 => ?_))
      · rw [p4] at hw
        obtain ⟨e, he⟩ : ∃ e, cn chg m + 2 = (k + 1) + e := ⟨cn chg m + 2 - (k + 1), by omega⟩
        have hwn : wn lf (cn chg m + 2) = (k, -1, true) := by rw [he]; exact wn_bad hw
        rw [hwn] at hR1
        simp only [Bool.not_true, Bool.and_false, if_true] at hR1
        obtain ⟨q1, q2, q3, q4⟩ := g
        have h56 : fu (fu f3 52 1) 46 (-1) 56 = wr + (k : Nat) - v.1 := by rw [fu_n _ _ (by omega), fu_n _ _ (by omega), q3, a56]; omega
        simp (disch := first | (simp only [dd, dr]; done) | omega) only [W_213, I_lt, I_le, I_inj, inB_I, tc_I, Int.toNat_natCast, fkt, rf1, rf0, cq, Nat.reduceAdd, Nat.reduceEqDiff, Int.reduceToNat, eq_self, true_and, and_true, true_or, or_true, bI_0, bI_1, mm, rAm, mF_sF, mR_sR, false_and, and_false, if_false, if_true, false_or, or_false, not_true_eq_false, not_false_eq_true, and_self]
        refine ⟨(fun h => by first | exact False.elim h | exact absurd trivial h | (exfalso; omega) | exact absurd rfl h | cases h), fun _ => ?_⟩
        simp (disch := first | (simp only [dd, dr]; done) | omega) only [W_213, msK, msR, msF, ms1, msS1, k0, k1, k6, h56, I_lt, I_le, I_inj, inB_I, tc_I, Int.toNat_natCast, fkt, rf1, rf0, cq, Nat.reduceAdd, Nat.reduceEqDiff, Int.reduceToNat, eq_self, true_and, and_true, true_or, or_true, bI_0, bI_1, mm, rAm, mF_sF, mR_sR, false_and, and_false, if_false, if_true, false_or, or_false, not_true_eq_false, not_false_eq_true, and_self]
        refine hR1 _ c j2 ⟨?_, ?_, ?_, ?_, ?_, ?_, ?_, p8⟩ ?_ (fun h => by cases h) (fun _ => rfl)
        · rw [fu_n _ _ (by omega), fu_n _ _ (by omega), q1 _ (by omega) (by omega) (by omega)]; exact p1
        · rw [fu_n _ _ (by omega), fu_n _ _ (by omega), q1 _ (by omega) (by omega) (by omega)]; exact p2
        · rw [fu_n _ _ (by omega), fu_n _ _ (by omega), q2, p3]
        · rw [fu_s]
        · rw [fu_n _ _ (by omega), fu_s]; rfl
        · rw [fu_n _ _ (by omega), fu_n _ _ (by omega), q1 _ (by omega) (by omega) (by omega)]; exact p6
        · rw [fu_n _ _ (by omega), fu_n _ _ (by omega), q1 _ (by omega) (by omega) (by omega)]; exact p7
        · rw [fu_n _ _ (by omega), fu_n _ _ (by omega), q1 _ (by omega) (by omega) (by omega)]; exact a54
      · simp (disch := first | (simp only [dd, dr]; done) | omega) only [W_213, I_lt, I_le, I_inj, inB_I, tc_I, Int.toNat_natCast, fkt, rf1, rf0, cq, Nat.reduceAdd, Nat.reduceEqDiff, Int.reduceToNat, eq_self, true_and, and_true, true_or, or_true, bI_0, bI_1, mm, rAm, mF_sF, mR_sR, false_and, and_false, if_false, if_true, false_or, or_false, not_true_eq_false, not_false_eq_true, and_self]
        refine ⟨fun _ => ?_, (fun h => by first | exact False.elim h | exact absurd trivial h | (exfalso; omega) | exact absurd rfl h | cases h)⟩
        simp (disch := first | (simp only [dd, dr]; done) | omega) only [W_213, I_lt, I_le, I_inj, inB_I, tc_I, Int.toNat_natCast, fkt, rf1, rf0, cq, Nat.reduceAdd, Nat.reduceEqDiff, Int.reduceToNat, eq_self, true_and, and_true, true_or, or_true, bI_0, bI_1, mm, rAm, mF_sF, mR_sR, false_and, and_false, if_false, if_true, false_or, or_false, not_true_eq_false, not_false_eq_true, and_self]
        rw [show ((k : Int) + 1) = ((k + 1 : Nat) : Int) by omega]
        exact ih (k + 1) f4 (by omega) g4
  by_cases e2 : J < v.2.2.2.2.1 + cn chg m + 2
  · have ed : dv1 m J v chg = dvH m v := by unfold dv1; rw [if_pos e2]
    refine ⟨(fun h => by first | exact False.elim h | exact absurd trivial h | (exfalso; omega) | exact absurd rfl h | cases h), fun _ => ?_⟩
    simp (disch := first | (simp only [dd, dr]; done) | omega) only [W_213, msK, msR, msF, ms1, msS1, k0, k1, k6, I_lt, I_le, I_inj, inB_I, tc_I, Int.toNat_natCast, fkt, rf1, rf0, cq, Nat.reduceAdd, Nat.reduceEqDiff, Int.reduceToNat, eq_self, true_and, and_true, true_or, or_true, bI_0, bI_1, mm, rAm, mF_sF, mR_sR, false_and, and_false, if_false, if_true, false_or, or_false, not_true_eq_false, not_false_eq_true, and_self]
    refine ca_221 (by omega) (m_home hK' (by omega) V0 hm D5 ho D1 D2 (by omega) (fun f2 j2 V2 a54 _ a56 => ?_))
    rw [g54] at a54
    rw [g56, Int.zero_add] at a56
    simp (disch := first | (simp only [dd, dr]; done) | omega) only [W_213, I_lt, I_le, I_inj, inB_I, tc_I, Int.toNat_natCast, fkt, rf1, rf0, cq, Nat.reduceAdd, Nat.reduceEqDiff, Int.reduceToNat, eq_self, true_and, and_true, true_or, or_true, bI_0, bI_1, mm, rAm, mF_sF, mR_sR, false_and, and_false, if_false, if_true, false_or, or_false, not_true_eq_false, not_false_eq_true, and_self]
    cases hoff : (dvH m v).2.2.1 with
    | true =>
      unfold dvC dvB at hR1
      rw [ed, hoff] at hR1
      simp only [if_true, Bool.not_true, Bool.false_and] at hR1
      refine ⟨(fun h => by first | exact False.elim h | exact absurd trivial h | (exfalso; omega) | exact absurd rfl h | cases h), fun _ => ?_⟩
      simp (disch := first | (simp only [dd, dr]; done) | omega) only [W_213, msK, msR, msF, ms1, msS1, k0, k1, k6, a56, I_lt, I_le, I_inj, inB_I, tc_I, Int.toNat_natCast, fkt, rf1, rf0, cq, Nat.reduceAdd, Nat.reduceEqDiff, Int.reduceToNat, eq_self, true_and, and_true, true_or, or_true, bI_0, bI_1, mm, rAm, mF_sF, mR_sR, false_and, and_false, if_false, if_true, false_or, or_false, not_true_eq_false, not_false_eq_true, and_self]
      exact hR1 f2 c j2 V2 a54 (fun h => by cases h) (fun _ => rfl)
    | false =>
      refine ⟨fun _ => ?_, fun h => absurd (by simp) h⟩
      simp (disch := first | (simp only [dd, dr]; done) | omega) only [W_213, I_lt, I_le, I_inj, inB_I, tc_I, Int.toNat_natCast, fkt, rf1, rf0, cq, Nat.reduceAdd, Nat.reduceEqDiff, Int.reduceToNat, eq_self, true_and, and_true, true_or, or_true, bI_0, bI_1, mm, rAm, mF_sF, mR_sR, false_and, and_false, if_false, if_true, false_or, or_false, not_true_eq_false, not_false_eq_true, and_self]
      exact rest f2 j2 (by rw [ed]; exact V2) a54 (by rw [ed]; exact a56) (by rw [ed]; exact hoff) (by rw [ed]; exact D.H)
  · have ed : dv1 m J v chg = v := by unfold dv1; rw [if_neg e2]
    refine ⟨fun _ => ?_, (fun h => by first | exact False.elim h | exact absurd trivial h | (exfalso; omega) | exact absurd rfl h | cases h)⟩
    simp (disch := first | (simp only [dd, dr]; done) | omega) only [W_213, I_lt, I_le, I_inj, inB_I, tc_I, Int.toNat_natCast, fkt, rf1, rf0, cq, Nat.reduceAdd, Nat.reduceEqDiff, Int.reduceToNat, eq_self, true_and, and_true, true_or, or_true, bI_0, bI_1, mm, rAm, mF_sF, mR_sR, false_and, and_false, if_false, if_true, false_or, or_false, not_true_eq_false, not_false_eq_true, and_self]
    exact rest f1 j (by rw [ed]; exact V0) g54 (by rw [ed, g56]; omega) (by rw [ed]; exact ho) (by rw [ed]; exact D)
theorem m_check (hK : MK M o) (hd : 4 ≤ d) (hm : m ≤ 96) (V : FV f j m J v) (D : DvO m J v)
    (hX : v.2.2.1 = true → ∀ f', Fe f f' → f' 54 = 1 → Q (.returned (some (.int (I 0)))) (ms M o f' s b c w j))
    (hR : v.2.2.1 = false → ∀ f' j', FV f' j' m J (dvH m v) → f' 54 = 0 → Q (.returned (some (.int (I ((dvH m v).1 - v.1))))) (ms M o f' s b c w j')) :
    Wp d 223 0 [some (.ref o), none] [] (ms M o f s b c w j) Q := by
  have hK' := hK
  obtain ⟨k0, k1, k2, k3, k4, k5, k6, k7, k8, k9, k10⟩ := hK
  obtain ⟨v1, v2, v3, v4, v5, v6, v7, v8⟩ := id V
  obtain ⟨D1, D2, D3, D4, D5⟩ := id D
  simp (disch := first | (simp only [dd, dr]; done) | omega) only [W_223, msK, msR, msF, ms1, msS1, k0, k1, k6, v5, I_lt, I_le, I_inj, inB_I, tc_I, Int.toNat_natCast, fkt, rf1, rf0, cq, Nat.reduceAdd, Nat.reduceEqDiff, Int.reduceToNat, eq_self, true_and, and_true, true_or, or_true, bI_0, bI_1, mm, rAm, mF_sF, mR_sR, false_and, and_false, if_false, if_true, false_or, or_false, not_true_eq_false, not_false_eq_true, and_self]
  refine ⟨fun h1 => ?_, fun h1 => ?_⟩
  rotate_left
  · have h1 : v.2.2.1 = true := by simpa using h1
    have hf : fu f 54 (1 : Int) 54 = 1 := fu_s _ _ _
    simp (disch := first | (simp only [dd, dr]; done) | omega) only [W_223, msK, msR, msF, ms1, msS1, k0, k1, k6, msSF, hf, I_lt, I_le, I_inj, inB_I, tc_I, Int.toNat_natCast, fkt, rf1, rf0, cq, Nat.reduceAdd, Nat.reduceEqDiff, Int.reduceToNat, eq_self, true_and, and_true, true_or, or_true, bI_0, bI_1, mm, rAm, mF_sF, mR_sR, false_and, and_false, if_false, if_true, false_or, or_false, not_true_eq_false, not_false_eq_true, and_self]
    refine ⟨(fun h => by first | exact False.elim h | exact absurd trivial h | (exfalso; omega) | exact absurd rfl h | cases h), fun _ => ?_⟩
    simp (disch := first | (simp only [dd, dr]; done) | omega) only [W_223, I_lt, I_le, I_inj, inB_I, tc_I, Int.toNat_natCast, fkt, rf1, rf0, cq, Nat.reduceAdd, Nat.reduceEqDiff, Int.reduceToNat, eq_self, true_and, and_true, true_or, or_true, bI_0, bI_1, mm, rAm, mF_sF, mR_sR, false_and, and_false, if_false, if_true, false_or, or_false, not_true_eq_false, not_false_eq_true, and_self]
    exact hX h1 _ (fun g _ h _ => fu_n _ _ h) hf
  have hf0 : fu f 54 (0 : Int) 54 = 0 := fu_s _ _ _
  have V0 : FV (fu (fu f 54 0) 56 0) j m J v := V.fe (fun g _ a2 a3 => by rw [fu_n _ _ a3, fu_n _ _ a2])
  simp (disch := first | (simp only [dd, dr]; done) | omega) only [W_223, msK, msR, msF, ms1, msS1, k0, k1, k6, msSF, hf0, I_lt, I_le, I_inj, inB_I, tc_I, Int.toNat_natCast, fkt, rf1, rf0, cq, Nat.reduceAdd, Nat.reduceEqDiff, Int.reduceToNat, eq_self, true_and, and_true, true_or, or_true, bI_0, bI_1, mm, rAm, mF_sF, mR_sR, false_and, and_false, if_false, if_true, false_or, or_false, not_true_eq_false, not_false_eq_true, and_self]
  refine ⟨fun _ => ?_, (fun h => by first | exact False.elim h | exact absurd trivial h | (exfalso; omega) | exact absurd rfl h | cases h)⟩
  simp (disch := first | (simp only [dd, dr]; done) | omega) only [W_223, msK, msR, msF, ms1, msS1, k0, k1, k6, msSF, I_lt, I_le, I_inj, inB_I, tc_I, Int.toNat_natCast, fkt, rf1, rf0, cq, Nat.reduceAdd, Nat.reduceEqDiff, Int.reduceToNat, eq_self, true_and, and_true, true_or, or_true, bI_0, bI_1, mm, rAm, mF_sF, mR_sR, false_and, and_false, if_false, if_true, false_or, or_false, not_true_eq_false, not_false_eq_true, and_self]
  generalize hf1 : fu (fu f 54 0) 56 0 = f1 at *
  have g54 : f1 54 = 0 := by rw [← hf1, fu_n _ _ (by omega), fu_s]
  have g56 : f1 56 = 0 := by rw [← hf1, fu_s]
  refine ca_221 (by omega) (m_home hK' (by omega) V0 hm D5 h1 D1 D2 (by omega) (fun f2 j2 V2 a54 _ a56 => ?_))
  rw [g54] at a54
  rw [g56, Int.zero_add] at a56
  simp (disch := first | (simp only [dd, dr]; done) | omega) only [W_223, msK, msR, msF, ms1, msS1, k0, k1, k6, a56, I_lt, I_le, I_inj, inB_I, tc_I, Int.toNat_natCast, fkt, rf1, rf0, cq, Nat.reduceAdd, Nat.reduceEqDiff, Int.reduceToNat, eq_self, true_and, and_true, true_or, or_true, bI_0, bI_1, mm, rAm, mF_sF, mR_sR, false_and, and_false, if_false, if_true, false_or, or_false, not_true_eq_false, not_false_eq_true, and_self]
  exact hR h1 f2 j2 V2 a54
theorem m_back (hK : MK M o) (hd : 20 ≤ d) (hm : m ≤ 96) (A : MW s m T X dt) (C : MW c m Tc Xc dtc) (K : CMt m Tc Xc dtc la) (V : FV f j m J v)
    (hX : v.2.2.1 = true → ∀ f', Fe f f' → f' 54 = 1 → Q (.returned (some (.int (I 0)))) (ms M o f' s b c w j))
    (hR : v.2.2.1 = false → ∀ f' s', Fe f f' → f' 54 = 0 → (∀ x, x < 25366 → s' x = c x) → Q (.returned (some (.int (I (cn (chq m T X dt Tc la) m : Nat))))) (ms M o f' s' b c w j)) :
    Wp d 224 0 [some (.ref o), none] [] (ms M o f s b c w j) Q := by
  have hK' := hK
  obtain ⟨k0, k1, k2, k3, k4, k5, k6, k7, k8, k9, k10⟩ := hK
  obtain ⟨v1, v2, v3, v4, v5, v6, v7, v8⟩ := id V
  simp (disch := first | (simp only [dd, dr]; done) | omega) only [W_224, msK, msR, msF, ms1, msS1, k0, k1, k6, v5, I_lt, I_le, I_inj, inB_I, tc_I, Int.toNat_natCast, fkt, rf1, rf0, cq, Nat.reduceAdd, Nat.reduceEqDiff, Int.reduceToNat, eq_self, true_and, and_true, true_or, or_true, bI_0, bI_1, mm, rAm, mF_sF, mR_sR, false_and, and_false, if_false, if_true, false_or, or_false, not_true_eq_false, not_false_eq_true, and_self]
  refine ⟨fun h1 => ?_, fun h1 => ?_⟩
  rotate_left
  · have h1 : v.2.2.1 = true := by simpa using h1
    have hf : fu f 54 (1 : Int) 54 = 1 := fu_s _ _ _
    simp (disch := first | (simp only [dd, dr]; done) | omega) only [W_224, msK, msR, msF, ms1, msS1, k0, k1, k6, msSF, hf, I_lt, I_le, I_inj, inB_I, tc_I, Int.toNat_natCast, fkt, rf1, rf0, cq, Nat.reduceAdd, Nat.reduceEqDiff, Int.reduceToNat, eq_self, true_and, and_true, true_or, or_true, bI_0, bI_1, mm, rAm, mF_sF, mR_sR, false_and, and_false, if_false, if_true, false_or, or_false, not_true_eq_false, not_false_eq_true, and_self]
    refine ⟨(fun h => by first | exact False.elim h | exact absurd trivial h | (exfalso; omega) | exact absurd rfl h | cases h), fun _ => ?_⟩
    simp (disch := first | (simp only [dd, dr]; done) | omega) only [W_224, I_lt, I_le, I_inj, inB_I, tc_I, Int.toNat_natCast, fkt, rf1, rf0, cq, Nat.reduceAdd, Nat.reduceEqDiff, Int.reduceToNat, eq_self, true_and, and_true, true_or, or_true, bI_0, bI_1, mm, rAm, mF_sF, mR_sR, false_and, and_false, if_false, if_true, false_or, or_false, not_true_eq_false, not_false_eq_true, and_self]
    exact hX h1 _ (fun g _ h _ => fu_n _ _ h) hf
  have hf0 : fu f 54 (0 : Int) 54 = 0 := fu_s _ _ _
  simp (disch := first | (simp only [dd, dr]; done) | omega) only [W_224, msK, msR, msF, ms1, msS1, k0, k1, k6, msSF, hf0, I_lt, I_le, I_inj, inB_I, tc_I, Int.toNat_natCast, fkt, rf1, rf0, cq, Nat.reduceAdd, Nat.reduceEqDiff, Int.reduceToNat, eq_self, true_and, and_true, true_or, or_true, bI_0, bI_1, mm, rAm, mF_sF, mR_sR, false_and, and_false, if_false, if_true, false_or, or_false, not_true_eq_false, not_false_eq_true, and_self]
  refine ⟨fun _ => ?_, (fun h => by first | exact False.elim h | exact absurd trivial h | (exfalso; omega) | exact absurd rfl h | cases h)⟩
  simp (disch := first | (simp only [dd, dr]; done) | omega) only [W_224, msK, msR, msF, ms1, msS1, k0, k1, k6, I_lt, I_le, I_inj, inB_I, tc_I, Int.toNat_natCast, fkt, rf1, rf0, cq, Nat.reduceAdd, Nat.reduceEqDiff, Int.reduceToNat, eq_self, true_and, and_true, true_or, or_true, bI_0, bI_1, mm, rAm, mF_sF, mR_sR, false_and, and_false, if_false, if_true, false_or, or_false, not_true_eq_false, not_false_eq_true, and_self]
  refine ca_214 (by omega) (m_changed hK' (by omega) hm A C K (by rw [fu_n _ _ (by omega)]; exact v1) ?_)
  simp (disch := first | (simp only [dd, dr]; done) | omega) only [W_224, msK, msR, msF, ms1, msS1, k0, k1, k6, k3, I_lt, I_le, I_inj, inB_I, tc_I, Int.toNat_natCast, fkt, rf1, rf0, cq, Nat.reduceAdd, Nat.reduceEqDiff, Int.reduceToNat, eq_self, true_and, and_true, true_or, or_true, bI_0, bI_1, mm, rAm, mF_sF, mR_sR, false_and, and_false, if_false, if_true, false_or, or_false, not_true_eq_false, not_false_eq_true, and_self]
  refine cr_154 (by omega) (m_keepCS hK' ?_)
  simp (disch := first | (simp only [dd, dr]; done) | omega) only [W_224, I_lt, I_le, I_inj, inB_I, tc_I, Int.toNat_natCast, fkt, rf1, rf0, cq, Nat.reduceAdd, Nat.reduceEqDiff, Int.reduceToNat, eq_self, true_and, and_true, true_or, or_true, bI_0, bI_1, mm, rAm, mF_sF, mR_sR, false_and, and_false, if_false, if_true, false_or, or_false, not_true_eq_false, not_false_eq_true, and_self]
  exact hR h1 _ _ (fun g _ h _ => fu_n _ _ h) hf0 (fun x hx => by unfold kp; rw [if_pos hx])
theorem m_fail (hK : MK M o) (V : FV f j m J v) {n : Int} (n0 : -2147483648 ≤ n) (n1 : n < 2147483648)
    (hX : n < -1 → ∀ f', Fe f f' → f' 54 = 1 → Q (.returned none) (ms M o f' s b c w j))
    (hR : -1 ≤ n → ∀ f', FV f' j m J (v.1, n, v.2.2) → f' 54 = 0 → Q (.returned none) (ms M o f' s b c w j)) :
    Wp d 225 0 [some (.ref o), some (.int (I n))] [] (ms M o f s b c w j) Q := by
  have hK' := hK
  obtain ⟨k0, k1, k2, k3, k4, k5, k6, k7, k8, k9, k10⟩ := hK
  obtain ⟨v1, v2, v3, v4, v5, v6, v7, v8⟩ := id V
  simp (disch := first | (simp only [dd, dr]; done) | omega) only [W_225, msK, msR, msF, ms1, msS1, k0, k1, k6, I_lt, I_le, I_inj, inB_I, tc_I, Int.toNat_natCast, fkt, rf1, rf0, cq, Nat.reduceAdd, Nat.reduceEqDiff, Int.reduceToNat, eq_self, true_and, and_true, true_or, or_true, bI_0, bI_1, mm, rAm, mF_sF, mR_sR, false_and, and_false, if_false, if_true, false_or, or_false, not_true_eq_false, not_false_eq_true, and_self]
  refine ⟨fun h1 => ?_, fun h1 => ?_⟩
  · have hf0 : fu f 54 (0 : Int) 54 = 0 := fu_s _ _ _
    simp (disch := first | (simp only [dd, dr]; done) | omega) only [W_225, msK, msR, msF, ms1, msS1, k0, k1, k6, msSF, hf0, I_lt, I_le, I_inj, inB_I, tc_I, Int.toNat_natCast, fkt, rf1, rf0, cq, Nat.reduceAdd, Nat.reduceEqDiff, Int.reduceToNat, eq_self, true_and, and_true, true_or, or_true, bI_0, bI_1, mm, rAm, mF_sF, mR_sR, false_and, and_false, if_false, if_true, false_or, or_false, not_true_eq_false, not_false_eq_true, and_self]
    refine ⟨fun _ => ?_, (fun h => by first | exact False.elim h | exact absurd trivial h | (exfalso; omega) | exact absurd rfl h | cases h)⟩
    simp (disch := first | (simp only [dd, dr]; done) | omega) only [W_225, msK, msR, msF, ms1, msS1, k0, k1, k6, msSF, I_lt, I_le, I_inj, inB_I, tc_I, Int.toNat_natCast, fkt, rf1, rf0, cq, Nat.reduceAdd, Nat.reduceEqDiff, Int.reduceToNat, eq_self, true_and, and_true, true_or, or_true, bI_0, bI_1, mm, rAm, mF_sF, mR_sR, false_and, and_false, if_false, if_true, false_or, or_false, not_true_eq_false, not_false_eq_true, and_self]
    refine hR h1 _ ⟨?_, ?_, ?_, ?_, ?_, ?_, ?_, v8⟩ ?_
    · rw [fu_n _ _ (by omega), fu_n _ _ (by omega)]; exact v1
    · rw [fu_n _ _ (by omega), fu_n _ _ (by omega)]; exact v2
    · rw [fu_n _ _ (by omega), fu_n _ _ (by omega)]; exact v3
    · rw [fu_s]
    · rw [fu_n _ _ (by omega), fu_n _ _ (by omega)]; exact v5
    · rw [fu_n _ _ (by omega), fu_n _ _ (by omega)]; exact v6
    · rw [fu_n _ _ (by omega), fu_n _ _ (by omega)]; exact v7
    · rw [fu_n _ _ (by omega), fu_s]
  · have hf : fu f 54 (1 : Int) 54 = 1 := fu_s _ _ _
    simp (disch := first | (simp only [dd, dr]; done) | omega) only [W_225, msK, msR, msF, ms1, msS1, k0, k1, k6, msSF, hf, I_lt, I_le, I_inj, inB_I, tc_I, Int.toNat_natCast, fkt, rf1, rf0, cq, Nat.reduceAdd, Nat.reduceEqDiff, Int.reduceToNat, eq_self, true_and, and_true, true_or, or_true, bI_0, bI_1, mm, rAm, mF_sF, mR_sR, false_and, and_false, if_false, if_true, false_or, or_false, not_true_eq_false, not_false_eq_true, and_self]
    refine ⟨(fun h => by first | exact False.elim h | exact absurd trivial h | (exfalso; omega) | exact absurd rfl h | cases h), fun _ => ?_⟩
    simp (disch := first | (simp only [dd, dr]; done) | omega) only [W_225, msK, msR, msF, ms1, msS1, k0, k1, k6, msSF, I_lt, I_le, I_inj, inB_I, tc_I, Int.toNat_natCast, fkt, rf1, rf0, cq, Nat.reduceAdd, Nat.reduceEqDiff, Int.reduceToNat, eq_self, true_and, and_true, true_or, or_true, bI_0, bI_1, mm, rAm, mF_sF, mR_sR, false_and, and_false, if_false, if_true, false_or, or_false, not_true_eq_false, not_false_eq_true, and_self]
    refine hX (by omega) _ (fun g a1 a2 a3 => ?_) ?_
    · by_cases e : g = 46
      · rw [e, fu_s, fu_n _ _ (by omega)]
      · rw [fu_n _ _ e, fu_n _ _ a2]
    · rw [fu_n _ _ (by omega), fu_s]
theorem m_off (hK : MK M o) (V : FV f j m J v) (hR : ∀ f', Fe f f' → Q (.returned (some (.int (I (bI v.2.2.1))))) (ms M o f' s b c w j)) : Wp d 226 0 [some (.ref o)] [] (ms M o f s b c w j) Q := by
  have hK' := hK
  obtain ⟨k0, k1, k2, k3, k4, k5, k6, k7, k8, k9, k10⟩ := hK
  obtain ⟨v1, v2, v3, v4, v5, v6, v7, v8⟩ := id V
  have h52 : fu f 54 (0 : Int) 52 = bI v.2.2.1 := by rw [fu_n _ _ (by omega)]; exact v5
  simp (disch := first | (simp only [dd, dr]; done) | omega) only [W_226, msK, msR, msF, ms1, msS1, k0, k1, k6, msSF, h52, I_lt, I_le, I_inj, inB_I, tc_I, Int.toNat_natCast, fkt, rf1, rf0, cq, Nat.reduceAdd, Nat.reduceEqDiff, Int.reduceToNat, eq_self, true_and, and_true, true_or, or_true, bI_0, bI_1, mm, rAm, mF_sF, mR_sR, false_and, and_false, if_false, if_true, false_or, or_false, not_true_eq_false, not_false_eq_true, and_self]
  exact hR _ (fun g _ h _ => fu_n _ _ h)
theorem m_recover (hK : MK M o) (hd : 4 ≤ d) (hm : m ≤ 96) (V : FV f j m J v) (D : DvO m J v)
    (hX : v.2.2.1 = false → ∀ f', Fe f f' → f' 54 = 1 → Q (.returned (some (.int (I 0)))) (ms M o f' s b c w j))
    (hR : v.2.2.1 = true → ∀ f' s' j', FV f' j' m J (dvH m (v.1, v.2.1, false, v.2.2.2)) → f' 54 = 0 → (∀ x, x < 25366 → s' x = c x) → Q (.returned (some (.int (I ((dvH m (v.1, v.2.1, false, v.2.2.2)).1 - v.1))))) (ms M o f' s' b c w j')) :
    Wp d 227 0 [some (.ref o), none] [] (ms M o f s b c w j) Q := by
  have hK' := hK
  obtain ⟨k0, k1, k2, k3, k4, k5, k6, k7, k8, k9, k10⟩ := hK
  obtain ⟨v1, v2, v3, v4, v5, v6, v7, v8⟩ := id V
  obtain ⟨D1, D2, D3, D4, D5⟩ := id D
  simp (disch := first | (simp only [dd, dr]; done) | omega) only [W_227, msK, msR, msF, ms1, msS1, k0, k1, k6, v5, I_lt, I_le, I_inj, inB_I, tc_I, Int.toNat_natCast, fkt, rf1, rf0, cq, Nat.reduceAdd, Nat.reduceEqDiff, Int.reduceToNat, eq_self, true_and, and_true, true_or, or_true, bI_0, bI_1, mm, rAm, mF_sF, mR_sR, false_and, and_false, if_false, if_true, false_or, or_false, not_true_eq_false, not_false_eq_true, and_self]
  refine ⟨fun h1 => ?_, fun h1 => ?_⟩
  · have h1 : v.2.2.1 = false := h1
    have hf : fu f 54 (1 : Int) 54 = 1 := fu_s _ _ _
    simp (disch := first | (simp only [dd, dr]; done) | omega) only [W_227, msK, msR, msF, ms1, msS1, k0, k1, k6, msSF, hf, I_lt, I_le, I_inj, inB_I, tc_I, Int.toNat_natCast, fkt, rf1, rf0, cq, Nat.reduceAdd, Nat.reduceEqDiff, Int.reduceToNat, eq_self, true_and, and_true, true_or, or_true, bI_0, bI_1, mm, rAm, mF_sF, mR_sR, false_and, and_false, if_false, if_true, false_or, or_false, not_true_eq_false, not_false_eq_true, and_self]
    refine ⟨(fun h => by first | exact False.elim h | exact absurd trivial h | (exfalso; omega) | exact absurd rfl h | cases h), fun _ => ?_⟩
    simp (disch := first | (simp only [dd, dr]; done) | omega) only [W_227, I_lt, I_le, I_inj, inB_I, tc_I, Int.toNat_natCast, fkt, rf1, rf0, cq, Nat.reduceAdd, Nat.reduceEqDiff, Int.reduceToNat, eq_self, true_and, and_true, true_or, or_true, bI_0, bI_1, mm, rAm, mF_sF, mR_sR, false_and, and_false, if_false, if_true, false_or, or_false, not_true_eq_false, not_false_eq_true, and_self]
    exact hX h1 _ (fun g _ h _ => fu_n _ _ h) hf
  have h1 : v.2.2.1 = true := by simpa using h1
  have hf0 : fu f 54 (0 : Int) 54 = 0 := fu_s _ _ _
  have n0 : nrw 2 (I 0) = I 0 := by decide
  simp (disch := first | (simp only [dd, dr]; done) | omega) only [W_227, msK, msR, msF, ms1, msS1, k0, k1, k6, msSF, hf0, I_lt, I_le, I_inj, inB_I, tc_I, Int.toNat_natCast, fkt, rf1, rf0, cq, Nat.reduceAdd, Nat.reduceEqDiff, Int.reduceToNat, eq_self, true_and, and_true, true_or, or_true, bI_0, bI_1, mm, rAm, mF_sF, mR_sR, false_and, and_false, if_false, if_true, false_or, or_false, not_true_eq_false, not_false_eq_true, and_self]
  refine ⟨fun _ => ?_, (fun h => by first | exact False.elim h | exact absurd trivial h | (exfalso; omega) | exact absurd rfl h | cases h)⟩
  simp (disch := first | (simp only [dd, dr]; done) | omega) only [W_227, msK, msR, msF, ms1, msS1, k0, k1, k6, msSF, n0, k3, I_lt, I_le, I_inj, inB_I, tc_I, Int.toNat_natCast, fkt, rf1, rf0, cq, Nat.reduceAdd, Nat.reduceEqDiff, Int.reduceToNat, eq_self, true_and, and_true, true_or, or_true, bI_0, bI_1, mm, rAm, mF_sF, mR_sR, false_and, and_false, if_false, if_true, false_or, or_false, not_true_eq_false, not_false_eq_true, and_self]
  refine cr_154 (by omega) (m_keepCS hK' ?_)
  simp (disch := first | (simp only [dd, dr]; done) | omega) only [W_227, msK, msR, msF, ms1, msS1, k0, k1, k6, msSF, I_lt, I_le, I_inj, inB_I, tc_I, Int.toNat_natCast, fkt, rf1, rf0, cq, Nat.reduceAdd, Nat.reduceEqDiff, Int.reduceToNat, eq_self, true_and, and_true, true_or, or_true, bI_0, bI_1, mm, rAm, mF_sF, mR_sR, false_and, and_false, if_false, if_true, false_or, or_false, not_true_eq_false, not_false_eq_true, and_self]
  generalize hf1 : fu (fu (fu f 54 0) 52 0) 56 0 = f1
  have g54 : f1 54 = 0 := by rw [← hf1, fu_n _ _ (by omega), fu_n _ _ (by omega), fu_s]
  have g56 : f1 56 = 0 := by rw [← hf1, fu_s]
  have V0 : FV f1 j m J (v.1, v.2.1, false, v.2.2.2) := by
    refine ⟨?_, ?_, ?_, ?_, ?_, ?_, ?_, v8⟩
    · rw [← hf1, fu_n _ _ (by omega), fu_n _ _ (by omega), fu_n _ _ (by omega)]; exact v1
    · rw [← hf1, fu_n _ _ (by omega), fu_n _ _ (by omega), fu_n _ _ (by omega)]; exact v2
    · rw [← hf1, fu_n _ _ (by omega), fu_n _ _ (by omega), fu_n _ _ (by omega)]; exact v3
    · rw [← hf1, fu_n _ _ (by omega), fu_n _ _ (by omega), fu_n _ _ (by omega)]; exact v4
    · rw [← hf1, fu_n _ _ (by omega), fu_s]; rfl
    · rw [← hf1, fu_n _ _ (by omega), fu_n _ _ (by omega), fu_n _ _ (by omega)]; exact v6
    · rw [← hf1, fu_n _ _ (by omega), fu_n _ _ (by omega), fu_n _ _ (by omega)]; exact v7
  refine ca_221 (by omega) (m_home hK' (by omega) V0 hm D5 rfl D1 D2 (by show v.2.2.2.2.1 < 100000; omega) (fun f2 j2 V2 a54 _ a56 => ?_))
  rw [g54] at a54
  rw [g56, Int.zero_add] at a56
  simp (disch := first | (simp only [dd, dr]; done) | omega) only [W_227, msK, msR, msF, ms1, msS1, k0, k1, k6, a56, I_lt, I_le, I_inj, inB_I, tc_I, Int.toNat_natCast, fkt, rf1, rf0, cq, Nat.reduceAdd, Nat.reduceEqDiff, Int.reduceToNat, eq_self, true_and, and_true, true_or, or_true, bI_0, bI_1, mm, rAm, mF_sF, mR_sR, false_and, and_false, if_false, if_true, false_or, or_false, not_true_eq_false, not_false_eq_true, and_self]
  exact hR h1 f2 _ j2 V2 a54 (fun x hx => by unfold kp; rw [if_pos hx])
theorem m_inUse (hK : MK M o) (S : MS s T X dt) (hm : m ≤ 96) (f43 : f 43 = m) (hQ : Q (.returned (some (.int (I (cn (tU T) m : Nat))))) (ms M o f s b c w j)) : Wp d 229 0 [some (.ref o), none, none] [] (ms M o f s b c w j) Q := by
  have hK' := hK
  obtain ⟨k0, k1, k2, k3, k4, k5, k6, k7, k8, k9, k10⟩ := hK
  simp (disch := first | (simp only [dd, dr]; done) | omega) only [W_229, I_lt, I_le, I_inj, inB_I, tc_I, Int.toNat_natCast, fkt, rf1, rf0, cq, Nat.reduceAdd, Nat.reduceEqDiff, Int.reduceToNat, eq_self, true_and, and_true, true_or, or_true, bI_0, bI_1, mm, rAm, mF_sF, mR_sR, false_and, and_false, if_false, if_true, false_or, or_false, not_true_eq_false, not_false_eq_true, and_self]
  suffices H : ∀ N (k : Nat), k + N = m → Wp d 229 4 [some (.ref o), some (.int (I (cn (tU T) k : Nat))), some (.int (I (k : Nat)))] [] (ms M o f s b c w j) Q from H m 0 (by omega)
  intro N
  induction N with
  | zero =>
    intro k hk
    obtain rfl : k = m := by omega
    simp (disch := first | (simp only [dd, dr]; done) | omega) only [w_229_4, W_229, msK, msR, msF, ms1, msS1, k0, k1, k6, f43, I_lt, I_le, I_inj, inB_I, tc_I, Int.toNat_natCast, fkt, rf1, rf0, cq, Nat.reduceAdd, Nat.reduceEqDiff, Int.reduceToNat, eq_self, true_and, and_true, true_or, or_true, bI_0, bI_1, mm, rAm, mF_sF, mR_sR, false_and, and_false, if_false, if_true, false_or, or_false, not_true_eq_false, not_false_eq_true, and_self]
    refine ⟨fun _ => ?_, (fun h => by first | exact False.elim h | exact absurd trivial h | (exfalso; omega) | exact absurd rfl h | cases h)⟩
    simp (disch := first | (simp only [dd, dr]; done) | omega) only [W_229, I_lt, I_le, I_inj, inB_I, tc_I, Int.toNat_natCast, fkt, rf1, rf0, cq, Nat.reduceAdd, Nat.reduceEqDiff, Int.reduceToNat, eq_self, true_and, and_true, true_or, or_true, bI_0, bI_1, mm, rAm, mF_sF, mR_sR, false_and, and_false, if_false, if_true, false_or, or_false, not_true_eq_false, not_false_eq_true, and_self]
    exact hQ
  | succ N ih =>
    intro k hk
    have next := ih (k + 1) (by omega)
    rw [cn] at next
    have eu : s (0 + (k : Int)) = bI (tU T k) := by rw [Int.zero_add]; exact S.1.1 k (by omega)
    simp (disch := first | (simp only [dd, dr]; done) | omega) only [w_229_4, W_229, msK, msR, msF, ms1, msS1, k0, k1, k6, f43, I_lt, I_le, I_inj, inB_I, tc_I, Int.toNat_natCast, fkt, rf1, rf0, cq, Nat.reduceAdd, Nat.reduceEqDiff, Int.reduceToNat, eq_self, true_and, and_true, true_or, or_true, bI_0, bI_1, mm, rAm, mF_sF, mR_sR, false_and, and_false, if_false, if_true, false_or, or_false, not_true_eq_false, not_false_eq_true, and_self]
    refine ⟨(fun h => by first | exact False.elim h | exact absurd trivial h | (exfalso; omega) | exact absurd rfl h | cases h), fun _ => ?_⟩
    simp (disch := first | (simp only [dd, dr]; done) | omega) only [W_229, msK, msR, msF, ms1, msS1, k0, k1, k6, eu, I_lt, I_le, I_inj, inB_I, tc_I, Int.toNat_natCast, fkt, rf1, rf0, cq, Nat.reduceAdd, Nat.reduceEqDiff, Int.reduceToNat, eq_self, true_and, and_true, true_or, or_true, bI_0, bI_1, mm, rAm, mF_sF, mR_sR, false_and, and_false, if_false, if_true, false_or, or_false, not_true_eq_false, not_false_eq_true, and_self]
    rw [show ((k : Int) + 1) = ((k + 1 : Nat) : Int) by omega, show ((cn (tU T) k : Int) + bI (tU T k)) = ((cn (tU T) k + (if tU T k = true then 1 else 0) : Nat) : Int) by cases tU T k <;> simp [bI]]
    exact next
theorem m_usedOfAll (hK : MK M o) (hd : 3 ≤ d) (S : MS s T X dt) (W : Wf m (szO X) T) (hQ : Q (.returned (some (.int (I (usS X T (tW T 0) : Nat))))) (ms M o f s b c w j)) : Wp d 230 0 [some (.ref o), none, none] [] (ms M o f s b c w j) Q := by
  have hK' := hK
  obtain ⟨k0, k1, k2, k3, k4, k5, k6, k7, k8, k9, k10⟩ := hK
  have e13s : s 13068 = ((tW T 0).length : Nat) := (S.1.2.2.2.2.2.2.1 0 (by omega)).1
  have e13 : ∀ f' : Nat → Int, mA (ms M o f' s b c w j) (o + 1) 13068 = I ((tW T 0).length : Nat) := fun f' => ms_lit 13068 e13s
  have hrow := (S.1.2.2.2.2.2.2.1 0 (by omega)).2.2.1
  simp (disch := first | (simp only [dd, dr]; done) | omega) only [W_230, I_lt, I_le, I_inj, inB_I, tc_I, Int.toNat_natCast, fkt, rf1, rf0, cq, Nat.reduceAdd, Nat.reduceEqDiff, Int.reduceToNat, eq_self, true_and, and_true, true_or, or_true, bI_0, bI_1, mm, rAm, mF_sF, mR_sR, false_and, and_false, if_false, if_true, false_or, or_false, not_true_eq_false, not_false_eq_true, and_self]
  suffices H : ∀ N (i k : Nat), i + N = (tW T 0).length → k + usS X T ((tW T 0).drop i) = usS X T (tW T 0) → Wp d 230 4 [some (.ref o), some (.int (I (k : Nat))), some (.int (I (i : Nat)))] [] (ms M o f s b c w j) Q from H (tW T 0).length 0 0 (by omega) (by rw [List.drop_zero]; omega)
  intro N
  induction N with
  | zero =>
    intro i k hi hk
    rw [List.drop_eq_nil_of_le (by omega), usS] at hk
    have hk : k = usS X T (tW T 0) := by omega
    simp (disch := first | (simp only [dd, dr]; done) | omega) only [w_230_4, W_230, msK, msR, msF, ms1, msS1, k0, k1, k6, e13, I_lt, I_le, I_inj, inB_I, tc_I, Int.toNat_natCast, fkt, rf1, rf0, cq, Nat.reduceAdd, Nat.reduceEqDiff, Int.reduceToNat, eq_self, true_and, and_true, true_or, or_true, bI_0, bI_1, mm, rAm, mF_sF, mR_sR, false_and, and_false, if_false, if_true, false_or, or_false, not_true_eq_false, not_false_eq_true, and_self]
    refine ⟨fun _ => ?_, (fun h => by first | exact False.elim h | exact absurd trivial h | (exfalso; omega) | exact absurd rfl h | cases h)⟩
    simp (disch := first | (simp only [dd, dr]; done) | omega) only [W_230, I_lt, I_le, I_inj, inB_I, tc_I, Int.toNat_natCast, fkt, rf1, rf0, cq, Nat.reduceAdd, Nat.reduceEqDiff, Int.reduceToNat, eq_self, true_and, and_true, true_or, or_true, bI_0, bI_1, mm, rAm, mF_sF, mR_sR, false_and, and_false, if_false, if_true, false_or, or_false, not_true_eq_false, not_false_eq_true, and_self]
    rw [hk]; exact hQ
  | succ N ih =>
    intro i k hi hk
    have hxx : (tW T 0)[i]? = some (tW T 0)[i] := List.getElem?_eq_getElem (by omega)
    generalize (tW T 0)[i] = x at hxx
    obtain ⟨e1, e2, e3, e4, e5⟩ := S.1.leaf W hxx
    rw [drop_get hxx, usS] at hk
    simp (disch := first | (simp only [dd, dr]; done) | omega) only [w_230_4, W_230, msK, msR, msF, ms1, msS1, k0, k1, k6, e13, I_lt, I_le, I_inj, inB_I, tc_I, Int.toNat_natCast, fkt, rf1, rf0, cq, Nat.reduceAdd, Nat.reduceEqDiff, Int.reduceToNat, eq_self, true_and, and_true, true_or, or_true, bI_0, bI_1, mm, rAm, mF_sF, mR_sR, false_and, and_false, if_false, if_true, false_or, or_false, not_true_eq_false, not_false_eq_true, and_self]
    refine ⟨(fun h => by first | exact False.elim h | exact absurd trivial h | (exfalso; omega) | exact absurd rfl h | cases h), fun _ => ?_⟩
    simp (disch := first | (simp only [dd, dr]; done) | omega) only [W_230, msK, msR, msF, ms1, msS1, k0, k1, k6, e1, I_lt, I_le, I_inj, inB_I, tc_I, Int.toNat_natCast, fkt, rf1, rf0, cq, Nat.reduceAdd, Nat.reduceEqDiff, Int.reduceToNat, eq_self, true_and, and_true, true_or, or_true, bI_0, bI_1, mm, rAm, mF_sF, mR_sR, false_and, and_false, if_false, if_true, false_or, or_false, not_true_eq_false, not_false_eq_true, and_self]
    refine ca_173 (by omega) (t_used hK' S.1 e2 (W.1.2.2.2.2.1 x (List.mem_of_getElem? hxx)) ?_)
    have eu : uz (szO X) (tI T x) = us (pyO X) (tI T x) := (us_uz (pyO X) (tI T x)).symm
    rw [eu]
    simp (disch := first | (simp only [dd, dr]; done) | omega) only [W_230, I_lt, I_le, I_inj, inB_I, tc_I, Int.toNat_natCast, fkt, rf1, rf0, cq, Nat.reduceAdd, Nat.reduceEqDiff, Int.reduceToNat, eq_self, true_and, and_true, true_or, or_true, bI_0, bI_1, mm, rAm, mF_sF, mR_sR, false_and, and_false, if_false, if_true, false_or, or_false, not_true_eq_false, not_false_eq_true, and_self]
    rw [show ((i : Int) + 1) = ((i + 1 : Nat) : Int) by omega, show (k : Int) + (us (pyO X) (tI T x) : Int) = ((k + us (pyO X) (tI T x) : Nat) : Int) by omega]
    exact ih (i + 1) _ (by omega) (by omega)
def cnM (off : Bool) (w : Int) : Nat := if off = true then 1 else if 0 ≤ w ∧ w ≤ 9 then 0 else 2
set_option maxHeartbeats 1000000 in
theorem m_count (hK : MK M o) (hd : 20 ≤ d) (hm : m ≤ 96) (A : MW s m T X dt) (C : MW c m Tc Xc dtc) (K : CMt m Tc Xc dtc la) (V : FV f j m J v) (hst : cn (fun i => iso T ((i : Int) + 1)) 60 = stN (its T)) {n : Int} (n0 : -2147483648 ≤ n) (n1 : n < 2147483648)
    (hX : cnM v.2.2.1 n ≠ 0 → ∀ f', Fe f f' → f' 54 = cnM v.2.2.1 n → Q (.returned (some (.int (I 0)))) (ms M o f' s b c w j))
    (hR : cnM v.2.2.1 n = 0 → ∀ f', Fe f f' → f' 54 = 0 → Q (.returned (some (.int (I (cnV m T X (cn (chq m T X dt Tc la) m) (v.2.2.2.2.1 : Nat) v.1 v.2.2.2.1 n.toNat))))) (ms M o f' s b c w j)) :
    Wp d 228 0 [some (.ref o), some (.int (I n))] [] (ms M o f s b c w j) Q := by
  have hK' := hK
  obtain ⟨k0, k1, k2, k3, k4, k5, k6, k7, k8, k9, k10⟩ := hK
  obtain ⟨v1, v2, v3, v4, v5, v6, v7, v8⟩ := id V
  unfold cnM at hX hR
  have e13s : s 13068 = ((tW T 0).length : Nat) := (A.1.1.2.2.2.2.2.2.1 0 (by omega)).1
  have e13 : ∀ f' : Nat → Int, mA (ms M o f' s b c w j) (o + 1) 13068 = I ((tW T 0).length : Nat) := fun f' => ms_lit 13068 e13s
  have eNs : s 13077 = (tN T : Nat) := A.1.1.2.2.2.2.2.2.2.2
  have eN : ∀ f' : Nat → Int, mA (ms M o f' s b c w j) (o + 1) 13077 = I (tN T : Nat) := fun f' => ms_lit 13077 eNs
  simp (disch := first | (simp only [dd, dr]; done) | omega) only [W_228, msK, msR, msF, ms1, msS1, k0, k1, k6, v5, I_lt, I_le, I_inj, inB_I, tc_I, Int.toNat_natCast, fkt, rf1, rf0, cq, Nat.reduceAdd, Nat.reduceEqDiff, Int.reduceToNat, eq_self, true_and, and_true, true_or, or_true, bI_0, bI_1, mm, rAm, mF_sF, mR_sR, false_and, and_false, if_false, if_true, false_or, or_false, not_true_eq_false, not_false_eq_true, and_self]
  refine ⟨fun h1 => ?_, fun h1 => ?_⟩
  rotate_left
  · have h1 : v.2.2.1 = true := by simpa using h1
    have hf : fu f 54 (1 : Int) 54 = 1 := fu_s _ _ _
    rw [if_pos h1] at hX
    simp (disch := first | (simp only [dd, dr]; done) | omega) only [W_228, msK, msR, msF, ms1, msS1, k0, k1, k6, msSF, hf, I_lt, I_le, I_inj, inB_I, tc_I, Int.toNat_natCast, fkt, rf1, rf0, cq, Nat.reduceAdd, Nat.reduceEqDiff, Int.reduceToNat, eq_self, true_and, and_true, true_or, or_true, bI_0, bI_1, mm, rAm, mF_sF, mR_sR, false_and, and_false, if_false, if_true, false_or, or_false, not_true_eq_false, not_false_eq_true, and_self]
    refine ⟨(fun h => by first | exact False.elim h | exact absurd trivial h | (exfalso; omega) | exact absurd rfl h | cases h), fun _ => ?_⟩
    simp (disch := first | (simp only [dd, dr]; done) | omega) only [W_228, I_lt, I_le, I_inj, inB_I, tc_I, Int.toNat_natCast, fkt, rf1, rf0, cq, Nat.reduceAdd, Nat.reduceEqDiff, Int.reduceToNat, eq_self, true_and, and_true, true_or, or_true, bI_0, bI_1, mm, rAm, mF_sF, mR_sR, false_and, and_false, if_false, if_true, false_or, or_false, not_true_eq_false, not_false_eq_true, and_self]
    exact hX (by omega) _ (fun g _ h _ => fu_n _ _ h) hf
  have h1' : ¬ v.2.2.1 = true := by rw [show v.2.2.1 = false from h1]; simp
  rw [if_neg h1'] at hX hR
  simp (disch := first | (simp only [dd, dr]; done) | omega) only [W_228, I_lt, I_le, I_inj, inB_I, tc_I, Int.toNat_natCast, fkt, rf1, rf0, cq, Nat.reduceAdd, Nat.reduceEqDiff, Int.reduceToNat, eq_self, true_and, and_true, true_or, or_true, bI_0, bI_1, mm, rAm, mF_sF, mR_sR, false_and, and_false, if_false, if_true, false_or, or_false, not_true_eq_false, not_false_eq_true, and_self]
  refine ca_159 (by omega) (m_isIn (by omega) (by omega) (by omega) (by omega) (by omega) (by omega) ?_)
  simp (disch := first | (simp only [dd, dr]; done) | omega) only [W_228, I_lt, I_le, I_inj, inB_I, tc_I, Int.toNat_natCast, fkt, rf1, rf0, cq, Nat.reduceAdd, Nat.reduceEqDiff, Int.reduceToNat, eq_self, true_and, and_true, true_or, or_true, bI_0, bI_1, mm, rAm, mF_sF, mR_sR, false_and, and_false, if_false, if_true, false_or, or_false, not_true_eq_false, not_false_eq_true, and_self]
  refine ⟨fun h2 => ?_, fun h2 => ?_⟩
  rotate_left
  · have h2 : ¬ (0 ≤ n ∧ n ≤ 9) := by simpa using h2
    have hf : fu f 54 (2 : Int) 54 = 2 := fu_s _ _ _
    rw [if_neg h2] at hX
    simp (disch := first | (simp only [dd, dr]; done) | omega) only [W_228, msK, msR, msF, ms1, msS1, k0, k1, k6, msSF, hf, I_lt, I_le, I_inj, inB_I, tc_I, Int.toNat_natCast, fkt, rf1, rf0, cq, Nat.reduceAdd, Nat.reduceEqDiff, Int.reduceToNat, eq_self, true_and, and_true, true_or, or_true, bI_0, bI_1, mm, rAm, mF_sF, mR_sR, false_and, and_false, if_false, if_true, false_or, or_false, not_true_eq_false, not_false_eq_true, and_self]
    refine ⟨(fun h => by first | exact False.elim h | exact absurd trivial h | (exfalso; omega) | exact absurd rfl h | cases h), fun _ => ?_⟩
    simp (disch := first | (simp only [dd, dr]; done) | omega) only [W_228, I_lt, I_le, I_inj, inB_I, tc_I, Int.toNat_natCast, fkt, rf1, rf0, cq, Nat.reduceAdd, Nat.reduceEqDiff, Int.reduceToNat, eq_self, true_and, and_true, true_or, or_true, bI_0, bI_1, mm, rAm, mF_sF, mR_sR, false_and, and_false, if_false, if_true, false_or, or_false, not_true_eq_false, not_false_eq_true, and_self]
    exact hX (by omega) _ (fun g _ h _ => fu_n _ _ h) hf
  have h2 : 0 ≤ n ∧ n ≤ 9 := by simpa using h2
  rw [if_pos h2] at hR
  obtain ⟨nn, rfl⟩ : ∃ nn : Nat, n = nn := ⟨n.toNat, by omega⟩
  have hf : fu f 54 (0 : Int) 54 = 0 := fu_s _ _ _
  have hFe : Fe f (fu f 54 0) := fun g _ h _ => fu_n _ _ h
  have fin := hR rfl (fu f 54 0) hFe hf
  simp only [Int.toNat_natCast] at fin
  unfold cnV at fin
  obtain ⟨u1, u2, u3, u4, u5, u6, u7, u8⟩ := V.fe hFe
  simp (disch := first | (simp only [dd, dr]; done) | omega) only [W_228, msK, msR, msF, ms1, msS1, k0, k1, k6, msSF, hf, I_lt, I_le, I_inj, inB_I, tc_I, Int.toNat_natCast, fkt, rf1, rf0, cq, Nat.reduceAdd, Nat.reduceEqDiff, Int.reduceToNat, eq_self, true_and, and_true, true_or, or_true, bI_0, bI_1, mm, rAm, mF_sF, mR_sR, false_and, and_false, if_false, if_true, false_or, or_false, not_true_eq_false, not_false_eq_true, and_self]
  refine ⟨fun _ => ?_, (fun h => by first | exact False.elim h | exact absurd trivial h | (exfalso; omega) | exact absurd rfl h | cases h)⟩
  simp (disch := first | (simp only [dd, dr]; done) | omega) only [W_228, I_lt, I_le, I_inj, inB_I, tc_I, Int.toNat_natCast, fkt, rf1, rf0, cq, Nat.reduceAdd, Nat.reduceEqDiff, Int.reduceToNat, eq_self, true_and, and_true, true_or, or_true, bI_0, bI_1, mm, rAm, mF_sF, mR_sR, false_and, and_false, if_false, if_true, false_or, or_false, not_true_eq_false, not_false_eq_true, and_self]
  generalize fu f 54 0 = f1 at *
  by_cases c0 : nn = 0
  · rw [if_pos c0] at fin
    rw [show ((nn : Nat) : Int) = 0 by omega]
    simp (disch := first | (simp only [dd, dr]; done) | omega) only [W_228, msK, msR, msF, ms1, msS1, k0, k1, k6, I_lt, I_le, I_inj, inB_I, tc_I, Int.toNat_natCast, fkt, rf1, rf0, cq, Nat.reduceAdd, Nat.reduceEqDiff, Int.reduceToNat, eq_self, true_and, and_true, true_or, or_true, bI_0, bI_1, mm, rAm, mF_sF, mR_sR, false_and, and_false, if_false, if_true, false_or, or_false, not_true_eq_false, not_false_eq_true, and_self]
    refine ca_229 (by omega) (m_inUse hK' A.1 hm u1 ?_)
    simp (disch := first | (simp only [dd, dr]; done) | omega) only [W_228, I_lt, I_le, I_inj, inB_I, tc_I, Int.toNat_natCast, fkt, rf1, rf0, cq, Nat.reduceAdd, Nat.reduceEqDiff, Int.reduceToNat, eq_self, true_and, and_true, true_or, or_true, bI_0, bI_1, mm, rAm, mF_sF, mR_sR, false_and, and_false, if_false, if_true, false_or, or_false, not_true_eq_false, not_false_eq_true, and_self]
    exact fin
  rw [if_neg c0] at fin
  by_cases c1 : nn = 1
  · rw [if_pos c1] at fin
    rw [show ((nn : Nat) : Int) = 1 by omega]
    simp (disch := first | (simp only [dd, dr]; done) | omega) only [W_228, msK, msR, msF, ms1, msS1, k0, k1, k6, e13, I_lt, I_le, I_inj, inB_I, tc_I, Int.toNat_natCast, fkt, rf1, rf0, cq, Nat.reduceAdd, Nat.reduceEqDiff, Int.reduceToNat, eq_self, true_and, and_true, true_or, or_true, bI_0, bI_1, mm, rAm, mF_sF, mR_sR, false_and, and_false, if_false, if_true, false_or, or_false, not_true_eq_false, not_false_eq_true, and_self]
    exact fin
  rw [if_neg c1] at fin
  by_cases c2 : nn = 2
  · rw [if_pos c2] at fin
    rw [show ((nn : Nat) : Int) = 2 by omega]
    simp (disch := first | (simp only [dd, dr]; done) | omega) only [W_228, msK, msR, msF, ms1, msS1, k0, k1, k6, eN, I_lt, I_le, I_inj, inB_I, tc_I, Int.toNat_natCast, fkt, rf1, rf0, cq, Nat.reduceAdd, Nat.reduceEqDiff, Int.reduceToNat, eq_self, true_and, and_true, true_or, or_true, bI_0, bI_1, mm, rAm, mF_sF, mR_sR, false_and, and_false, if_false, if_true, false_or, or_false, not_true_eq_false, not_false_eq_true, and_self]
    exact fin
  rw [if_neg c2] at fin
  by_cases c3 : nn = 3
  · rw [if_pos c3] at fin
    rw [show ((nn : Nat) : Int) = 3 by omega]
    simp (disch := first | (simp only [dd, dr]; done) | omega) only [W_228, msK, msR, msF, ms1, msS1, k0, k1, k6, I_lt, I_le, I_inj, inB_I, tc_I, Int.toNat_natCast, fkt, rf1, rf0, cq, Nat.reduceAdd, Nat.reduceEqDiff, Int.reduceToNat, eq_self, true_and, and_true, true_or, or_true, bI_0, bI_1, mm, rAm, mF_sF, mR_sR, false_and, and_false, if_false, if_true, false_or, or_false, not_true_eq_false, not_false_eq_true, and_self]
    refine ca_165 (by omega) (m_objects hK' A.1 A.2.2.1.1.1 ?_)
    rw [hst]
    simp (disch := first | (simp only [dd, dr]; done) | omega) only [W_228, I_lt, I_le, I_inj, inB_I, tc_I, Int.toNat_natCast, fkt, rf1, rf0, cq, Nat.reduceAdd, Nat.reduceEqDiff, Int.reduceToNat, eq_self, true_and, and_true, true_or, or_true, bI_0, bI_1, mm, rAm, mF_sF, mR_sR, false_and, and_false, if_false, if_true, false_or, or_false, not_true_eq_false, not_false_eq_true, and_self]
    exact fin
  rw [if_neg c3] at fin
  by_cases c4 : nn = 4
  · rw [if_pos c4] at fin
    rw [show ((nn : Nat) : Int) = 4 by omega]
    simp (disch := first | (simp only [dd, dr]; done) | omega) only [W_228, msK, msR, msF, ms1, msS1, k0, k1, k6, I_lt, I_le, I_inj, inB_I, tc_I, Int.toNat_natCast, fkt, rf1, rf0, cq, Nat.reduceAdd, Nat.reduceEqDiff, Int.reduceToNat, eq_self, true_and, and_true, true_or, or_true, bI_0, bI_1, mm, rAm, mF_sF, mR_sR, false_and, and_false, if_false, if_true, false_or, or_false, not_true_eq_false, not_false_eq_true, and_self]
    refine ca_212 (by omega) (m_items hK' A.1 A.2.1.1 ?_)
    simp (disch := first | (simp only [dd, dr]; done) | omega) only [W_228, I_lt, I_le, I_inj, inB_I, tc_I, Int.toNat_natCast, fkt, rf1, rf0, cq, Nat.reduceAdd, Nat.reduceEqDiff, Int.reduceToNat, eq_self, true_and, and_true, true_or, or_true, bI_0, bI_1, mm, rAm, mF_sF, mR_sR, false_and, and_false, if_false, if_true, false_or, or_false, not_true_eq_false, not_false_eq_true, and_self]
    exact fin
  rw [if_neg c4] at fin
  by_cases c5 : nn = 5
  · rw [if_pos c5] at fin
    rw [show ((nn : Nat) : Int) = 5 by omega]
    simp (disch := first | (simp only [dd, dr]; done) | omega) only [W_228, msK, msR, msF, ms1, msS1, k0, k1, k6, I_lt, I_le, I_inj, inB_I, tc_I, Int.toNat_natCast, fkt, rf1, rf0, cq, Nat.reduceAdd, Nat.reduceEqDiff, Int.reduceToNat, eq_self, true_and, and_true, true_or, or_true, bI_0, bI_1, mm, rAm, mF_sF, mR_sR, false_and, and_false, if_false, if_true, false_or, or_false, not_true_eq_false, not_false_eq_true, and_self]
    refine ca_230 (by omega) (m_usedOfAll hK' (by omega) A.1 A.2.1.1 ?_)
    simp (disch := first | (simp only [dd, dr]; done) | omega) only [W_228, I_lt, I_le, I_inj, inB_I, tc_I, Int.toNat_natCast, fkt, rf1, rf0, cq, Nat.reduceAdd, Nat.reduceEqDiff, Int.reduceToNat, eq_self, true_and, and_true, true_or, or_true, bI_0, bI_1, mm, rAm, mF_sF, mR_sR, false_and, and_false, if_false, if_true, false_or, or_false, not_true_eq_false, not_false_eq_true, and_self]
    exact fin
  rw [if_neg c5] at fin
  by_cases c6 : nn = 6
  · rw [if_pos c6] at fin
    rw [show ((nn : Nat) : Int) = 6 by omega]
    simp (disch := first | (simp only [dd, dr]; done) | omega) only [W_228, msK, msR, msF, ms1, msS1, k0, k1, k6, I_lt, I_le, I_inj, inB_I, tc_I, Int.toNat_natCast, fkt, rf1, rf0, cq, Nat.reduceAdd, Nat.reduceEqDiff, Int.reduceToNat, eq_self, true_and, and_true, true_or, or_true, bI_0, bI_1, mm, rAm, mF_sF, mR_sR, false_and, and_false, if_false, if_true, false_or, or_false, not_true_eq_false, not_false_eq_true, and_self]
    refine ca_214 (by omega) (m_changed hK' (by omega) hm A C K u1 ?_)
    simp (disch := first | (simp only [dd, dr]; done) | omega) only [W_228, I_lt, I_le, I_inj, inB_I, tc_I, Int.toNat_natCast, fkt, rf1, rf0, cq, Nat.reduceAdd, Nat.reduceEqDiff, Int.reduceToNat, eq_self, true_and, and_true, true_or, or_true, bI_0, bI_1, mm, rAm, mF_sF, mR_sR, false_and, and_false, if_false, if_true, false_or, or_false, not_true_eq_false, not_false_eq_true, and_self]
    exact fin
  rw [if_neg c6] at fin
  by_cases c7 : nn = 7
  · rw [if_pos c7] at fin
    rw [show ((nn : Nat) : Int) = 7 by omega]
    simp (disch := first | (simp only [dd, dr]; done) | omega) only [W_228, msK, msR, msF, ms1, msS1, k0, k1, k6, u7, I_lt, I_le, I_inj, inB_I, tc_I, Int.toNat_natCast, fkt, rf1, rf0, cq, Nat.reduceAdd, Nat.reduceEqDiff, Int.reduceToNat, eq_self, true_and, and_true, true_or, or_true, bI_0, bI_1, mm, rAm, mF_sF, mR_sR, false_and, and_false, if_false, if_true, false_or, or_false, not_true_eq_false, not_false_eq_true, and_self]
    exact fin
  rw [if_neg c7] at fin
  by_cases c8 : nn = 8
  · rw [if_pos c8] at fin
    rw [show ((nn : Nat) : Int) = 8 by omega]
    simp (disch := first | (simp only [dd, dr]; done) | omega) only [W_228, msK, msR, msF, ms1, msS1, k0, k1, k6, u3, I_lt, I_le, I_inj, inB_I, tc_I, Int.toNat_natCast, fkt, rf1, rf0, cq, Nat.reduceAdd, Nat.reduceEqDiff, Int.reduceToNat, eq_self, true_and, and_true, true_or, or_true, bI_0, bI_1, mm, rAm, mF_sF, mR_sR, false_and, and_false, if_false, if_true, false_or, or_false, not_true_eq_false, not_false_eq_true, and_self]
    exact fin
  rw [if_neg c8] at fin
  simp (disch := first | (simp only [dd, dr]; done) | omega) only [W_228, msK, msR, msF, ms1, msS1, k0, k1, k6, u6, I_lt, I_le, I_inj, inB_I, tc_I, Int.toNat_natCast, fkt, rf1, rf0, cq, Nat.reduceAdd, Nat.reduceEqDiff, Int.reduceToNat, eq_self, true_and, and_true, true_or, or_true, bI_0, bI_1, mm, rAm, mF_sF, mR_sR, false_and, and_false, if_false, if_true, false_or, or_false, not_true_eq_false, not_false_eq_true, and_self]
  exact fin
end Mcm
