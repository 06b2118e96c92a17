/-! ===== THE MODEL: remove, resize, entry ===== -/
section MRm
variable {M : Mem} {Q : Outcome → Mem → Prop} {o : Nat} {b c w : Int → Int} {j : Nat → Bool} {sz tl : Nat → Nat}
theorem t_drop {d : Nat} {f : Nat → Int} {s : Int → Int} {T : Tr} (hK : MK M o) (hd : 1 ≤ d) (m : MT s T sz tl) {x k : Nat} (hx : x < 96) (hc : tC T x = []) (hk : k < (tI T x).length) (hQ : ∀ s', MT s' (uI T x ((tI T x).take k ++ (tI T x).drop (k + 1))) sz tl → Frz s s' → Q (.returned none) (ms M o f s' b c w j)) : Wp d 176 0 [some (.ref o), some (.int (I (x : Nat))), some (.int (I (k : Nat))), none] [] (ms M o f s b c w j) Q := by
  obtain ⟨a1, a2, a3⟩ := m.2.2.2.2.2.1 x hx
  have hn := m.2.2.1 x hx
  rw [hc] at hn
  refine m_drop hK hd hx a1 (by simpa using a2) (by simpa using hn) (by simpa using hk) ?_
  intro s' g1 g2 g3 g4
  have hl1 : ((tI T x).take k ++ (tI T x).drop (k + 1)).length = (tI T x).length - 1 := by rw [List.length_append, List.length_take, List.length_drop]; omega
  rw [List.length_map] at g2
  refine hQ s' (MT.itm m hx hc (by omega) (fun z hz => ?_) (by rw [List.map_append, List.map_take, List.map_drop]; exact g1) (by rw [g2, hl1]) g3 g4) (fun z hz => g3 z (by omega) (by omega))
  rcases List.mem_append.mp hz with h | h
  · exact a3 z (List.mem_of_mem_take h)
  · exact a3 z (List.mem_of_mem_drop h)
theorem t_remove {d : Nat} {f : Nat → Int} {s : Int → Int} {T T' : Tr} (hK : MK M o) {bk : Nat} (hd : 6 ≤ d) (m : MT s T sz tl) (W : Wf bk sz T) {ob so na n : Nat} (h1 : ob < 61) (h2 : so < 4) (h3 : na < 1024) (hk : ky ob so na ∈ its T) (hg : lkA sz n (delT T (ky ob so na)) (lfT T (ky ob so na)) = some T') (hQ : ∀ s', MT s' T' sz tl → Frz s s' → Q (.returned none) (ms M o f s' b c w j)) : Wp d 187 0 [some (.ref o), some (.int (I (ob : Nat))), some (.int (I (so : Nat))), some (.int (I (na : Nat))), none] [] (ms M o f s b c w j) Q := by
  have hK' := hK
  obtain ⟨k0, k1, k2, k3, k4, k5, k6, k7, k8, k9, k10⟩ := hK
  obtain ⟨hx, A, B, e1, e2, e3, e4, e5, e6, e7⟩ := lf_spec W (ky ob so na)
  have hx96 := (W.1.1 0 _ hx).1
  have hcx := W.1.2.2.2.2.1 _ hx
  have hkx := (lf_mem W _).mp hk
  have hpl := (List.getElem?_eq_some_iff.mp ((pl_has e5).mpr hkx)).1
  simp (disch := first | (simp only [dd, dr]; done) | omega) only [W_187, msK, msR, msF, ms1, msS1, k0, k1, k6, I_lt, I_le, I_inj, inB_I, tc_I, Int.toNat_natCast, fkt, rf1, rf0, cq, Nat.reduceAdd, Nat.reduceEqDiff, Int.reduceToNat, eq_self, true_and, and_true, true_or, or_true, bI_0, bI_1, mm, rAm, mF_sF, mR_sR, false_and, and_false, if_false, if_true, false_or, or_false, not_true_eq_false, not_false_eq_true, and_self]
  refine ca_163 (by omega) (t_leafOf hK' (by omega) m W (by omega) h2 h3 ?_)
  simp (disch := first | (simp only [dd, dr]; done) | omega) only [W_187, msK, msR, msF, ms1, msS1, k0, k1, k6, I_lt, I_le, I_inj, inB_I, tc_I, Int.toNat_natCast, fkt, rf1, rf0, cq, Nat.reduceAdd, Nat.reduceEqDiff, Int.reduceToNat, eq_self, true_and, and_true, true_or, or_true, bI_0, bI_1, mm, rAm, mF_sF, mR_sR, false_and, and_false, if_false, if_true, false_or, or_false, not_true_eq_false, not_false_eq_true, and_self]
  refine ca_162 (by omega) (t_find hK' (by omega) m W (by omega) h2 h3 ?_)
  rw [if_pos hk]
  simp (disch := first | (simp only [dd, dr]; done) | omega) only [W_187, msK, msR, msF, ms1, msS1, k0, k1, k6, I_lt, I_le, I_inj, inB_I, tc_I, Int.toNat_natCast, fkt, rf1, rf0, cq, Nat.reduceAdd, Nat.reduceEqDiff, Int.reduceToNat, eq_self, true_and, and_true, true_or, or_true, bI_0, bI_1, mm, rAm, mF_sF, mR_sR, false_and, and_false, if_false, if_true, false_or, or_false, not_true_eq_false, not_false_eq_true, and_self]
  refine ca_176 (by omega) (t_drop hK' (by omega) m hx96 hcx hpl ?_)
  intro s1 m1 fr1
  simp (disch := first | (simp only [dd, dr]; done) | omega) only [W_187, msK, msR, msF, ms1, msS1, k0, k1, k6, I_lt, I_le, I_inj, inB_I, tc_I, Int.toNat_natCast, fkt, rf1, rf0, cq, Nat.reduceAdd, Nat.reduceEqDiff, Int.reduceToNat, eq_self, true_and, and_true, true_or, or_true, bI_0, bI_1, mm, rAm, mF_sF, mR_sR, false_and, and_false, if_false, if_true, false_or, or_false, not_true_eq_false, not_false_eq_true, and_self]
  refine ca_188 (by omega) (t_lookAt hK' (by omega) m1 hg (fun s2 m2 fr2 => ?_))
  simp (disch := first | (simp only [dd, dr]; done) | omega) only [W_187, I_lt, I_le, I_inj, inB_I, tc_I, Int.toNat_natCast, fkt, rf1, rf0, cq, Nat.reduceAdd, Nat.reduceEqDiff, Int.reduceToNat, eq_self, true_and, and_true, true_or, or_true, bI_0, bI_1, mm, rAm, mF_sF, mR_sR, false_and, and_false, if_false, if_true, false_or, or_false, not_true_eq_false, not_false_eq_true, and_self]
  exact hQ s2 m2 (fr1.trans fr2)
theorem t_entry {d : Nat} {f : Nat → Int} {s : Int → Int} {T : Tr} (hK : MK M o) {bk : Nat} (hd : 3 ≤ d) (m : MT s T sz tl) (W : Wf bk sz T) {ob na : Nat} (h1 : ob < 61) (h3 : na < 1024) (hQ : Q (.returned (some (.int (I (if ky ob 1 na ∈ its T then (tl (ky ob 1 na) : Int) else -1))))) (ms M o f s b c w j)) : Wp d 161 0 [some (.ref o), some (.int (I (ob : Nat))), some (.int (I (na : Nat))), none] [] (ms M o f s b c w j) Q := by
  have hK' := hK
  obtain ⟨k0, k1, k2, k3, k4, k5, k6, k7, k8, k9, k10⟩ := hK
  obtain ⟨hx, A, B, e1, e2, e3, e4, e5, e6, e7⟩ := lf_spec W (ky ob 1 na)
  have hx96 := (W.1.1 0 _ hx).1
  simp (disch := first | (simp only [dd, dr]; done) | omega) only [W_161, msK, msR, msF, ms1, msS1, k0, k1, k6, I_lt, I_le, I_inj, inB_I, tc_I, Int.toNat_natCast, fkt, rf1, rf0, cq, Nat.reduceAdd, Nat.reduceEqDiff, Int.reduceToNat, eq_self, true_and, and_true, true_or, or_true, bI_0, bI_1, mm, rAm, mF_sF, mR_sR, false_and, and_false, if_false, if_true, false_or, or_false, not_true_eq_false, not_false_eq_true, and_self]
  refine ca_162 (by omega) (t_find (so := 1) hK' (by omega) m W (by omega) (by omega) h3 ?_)
  by_cases hk : ky ob 1 na ∈ its T
  · rw [if_pos hk] at hQ ⊢
    have hkx := (lf_mem W _).mp hk
    have hp := (pl_has e5).mpr hkx
    have hpl := (List.getElem?_eq_some_iff.mp hp).1
    obtain ⟨a1, a2, a3⟩ := m.2.2.2.2.2.1 _ hx96
    have hit := a1 (pl (ky ob 1 na) (tI T (lfT T (ky ob 1 na)))) (rk sz tl (ky ob 1 na)) (by rw [List.getElem?_map, hp]; rfl)
    have htl : s (10764 + (16 * (lfT T (ky ob 1 na) : Int) + (pl (ky ob 1 na) (tI T (lfT T (ky ob 1 na))) : Int))) = (tl (ky ob 1 na) : Int) := congrArg (fun r : R5 => r.2.2.2.2) hit
    simp (disch := first | (simp only [dd, dr]; done) | omega) only [W_161, msK, msR, msF, ms1, msS1, k0, k1, k6, I_lt, I_le, I_inj, inB_I, tc_I, Int.toNat_natCast, fkt, rf1, rf0, cq, Nat.reduceAdd, Nat.reduceEqDiff, Int.reduceToNat, eq_self, true_and, and_true, true_or, or_true, bI_0, bI_1, mm, rAm, mF_sF, mR_sR, false_and, and_false, if_false, if_true, false_or, or_false, not_true_eq_false, not_false_eq_true, and_self]
    refine ⟨fun _ => ?_, (fun h => by first | exact False.elim h | exact absurd trivial h | (exfalso; omega))⟩
    simp (disch := first | (simp only [dd, dr]; done) | omega) only [W_161, msK, msR, msF, ms1, msS1, k0, k1, k6, I_lt, I_le, I_inj, inB_I, tc_I, Int.toNat_natCast, fkt, rf1, rf0, cq, Nat.reduceAdd, Nat.reduceEqDiff, Int.reduceToNat, eq_self, true_and, and_true, true_or, or_true, bI_0, bI_1, mm, rAm, mF_sF, mR_sR, false_and, and_false, if_false, if_true, false_or, or_false, not_true_eq_false, not_false_eq_true, and_self]
    refine ca_163 (by omega) (t_leafOf (so := 1) hK' (by omega) m W (by omega) (by omega) h3 ?_)
    have e : (10764 + 16 * (lfT T (ky ob 1 na) : Int) + (pl (ky ob 1 na) (tI T (lfT T (ky ob 1 na))) : Int)) = 10764 + (16 * (lfT T (ky ob 1 na) : Int) + (pl (ky ob 1 na) (tI T (lfT T (ky ob 1 na))) : Int)) := by omega
    simp (disch := first | (simp only [dd, dr]; done) | omega) only [W_161, msK, msR, msF, ms1, msS1, k0, k1, k6, e, htl, I_lt, I_le, I_inj, inB_I, tc_I, Int.toNat_natCast, fkt, rf1, rf0, cq, Nat.reduceAdd, Nat.reduceEqDiff, Int.reduceToNat, eq_self, true_and, and_true, true_or, or_true, bI_0, bI_1, mm, rAm, mF_sF, mR_sR, false_and, and_false, if_false, if_true, false_or, or_false, not_true_eq_false, not_false_eq_true, and_self]
    exact hQ
  · rw [if_neg hk] at hQ ⊢
    simp (disch := first | (simp only [dd, dr]; done) | omega) only [W_161, msK, msR, msF, ms1, msS1, k0, k1, k6, I_lt, I_le, I_inj, inB_I, tc_I, Int.toNat_natCast, fkt, rf1, rf0, cq, Nat.reduceAdd, Nat.reduceEqDiff, Int.reduceToNat, eq_self, true_and, and_true, true_or, or_true, bI_0, bI_1, mm, rAm, mF_sF, mR_sR, false_and, and_false, if_false, if_true, false_or, or_false, not_true_eq_false, not_false_eq_true, and_self]
    refine ⟨(fun h => by first | exact False.elim h | exact absurd trivial h | (exfalso; omega)), fun _ => ?_⟩
    simp (disch := first | (simp only [dd, dr]; done) | omega) only [W_161, msK, msR, msF, ms1, msS1, k0, k1, k6, I_lt, I_le, I_inj, inB_I, tc_I, Int.toNat_natCast, fkt, rf1, rf0, cq, Nat.reduceAdd, Nat.reduceEqDiff, Int.reduceToNat, eq_self, true_and, and_true, true_or, or_true, bI_0, bI_1, mm, rAm, mF_sF, mR_sR, false_and, and_false, if_false, if_true, false_or, or_false, not_true_eq_false, not_false_eq_true, and_self]
    exact hQ
/-- nothing is to be resized -/
theorem t_resize0 {d : Nat} {f : Nat → Int} {s : Int → Int} (hK : MK M o) {ob so had has : Nat} (h1 : had < 1000) (h2 : has < 1000) (h : f 47 = 1 ∨ (f 47 = 0 ∧ had = has)) (hQ : Q (.returned none) (ms M o f s b c w j)) : Wp d 193 0 [some (.ref o), some (.int (I (ob : Nat))), some (.int (I (so : Nat))), some (.int (I (had : Nat))), some (.int (I (has : Nat))), none] [] (ms M o f s b c w j) Q := by
  have hK' := hK
  obtain ⟨k0, k1, k2, k3, k4, k5, k6, k7, k8, k9, k10⟩ := hK
  rcases h with h | ⟨h, h'⟩
  · simp (disch := first | (simp only [dd, dr]; done) | omega) only [W_193, msK, msR, msF, ms1, msS1, k0, k1, k6, h, I_lt, I_le, I_inj, inB_I, tc_I, Int.toNat_natCast, fkt, rf1, rf0, cq, Nat.reduceAdd, Nat.reduceEqDiff, Int.reduceToNat, eq_self, true_and, and_true, true_or, or_true, bI_0, bI_1, mm, rAm, mF_sF, mR_sR, false_and, and_false, if_false, if_true, false_or, or_false, not_true_eq_false, not_false_eq_true, and_self]
    refine ⟨fun _ => ?_, (fun h => by first | exact False.elim h | exact absurd trivial h | (exfalso; omega))⟩
    simp (disch := first | (simp only [dd, dr]; done) | omega) only [W_193, I_lt, I_le, I_inj, inB_I, tc_I, Int.toNat_natCast, fkt, rf1, rf0, cq, Nat.reduceAdd, Nat.reduceEqDiff, Int.reduceToNat, eq_self, true_and, and_true, true_or, or_true, bI_0, bI_1, mm, rAm, mF_sF, mR_sR, false_and, and_false, if_false, if_true, false_or, or_false, not_true_eq_false, not_false_eq_true, and_self]
    exact hQ
  · subst h'
    simp (disch := first | (simp only [dd, dr]; done) | omega) only [W_193, msK, msR, msF, ms1, msS1, k0, k1, k6, h, I_lt, I_le, I_inj, inB_I, tc_I, Int.toNat_natCast, fkt, rf1, rf0, cq, Nat.reduceAdd, Nat.reduceEqDiff, Int.reduceToNat, eq_self, true_and, and_true, true_or, or_true, bI_0, bI_1, mm, rAm, mF_sF, mR_sR, false_and, and_false, if_false, if_true, false_or, or_false, not_true_eq_false, not_false_eq_true, and_self]
    refine ⟨(fun h => by first | exact False.elim h | exact absurd trivial h | (exfalso; omega)), fun _ => ?_⟩
    simp (disch := first | (simp only [dd, dr]; done) | omega) only [W_193, msK, msR, msF, ms1, msS1, k0, k1, k6, I_lt, I_le, I_inj, inB_I, tc_I, Int.toNat_natCast, fkt, rf1, rf0, cq, Nat.reduceAdd, Nat.reduceEqDiff, Int.reduceToNat, eq_self, true_and, and_true, true_or, or_true, bI_0, bI_1, mm, rAm, mF_sF, mR_sR, false_and, and_false, if_false, if_true, false_or, or_false, not_true_eq_false, not_false_eq_true, and_self]
    refine ⟨(fun h => by first | exact False.elim h | exact absurd trivial h | (exfalso; omega)), fun _ => ?_⟩
    simp (disch := first | (simp only [dd, dr]; done) | omega) only [W_193, msK, msR, msF, ms1, msS1, k0, k1, k6, I_lt, I_le, I_inj, inB_I, tc_I, Int.toNat_natCast, fkt, rf1, rf0, cq, Nat.reduceAdd, Nat.reduceEqDiff, Int.reduceToNat, eq_self, true_and, and_true, true_or, or_true, bI_0, bI_1, mm, rAm, mF_sF, mR_sR, false_and, and_false, if_false, if_true, false_or, or_false, not_true_eq_false, not_false_eq_true, and_self]
    exact hQ
end MRm
