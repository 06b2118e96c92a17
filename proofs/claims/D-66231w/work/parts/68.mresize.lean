/-! ===== THE MODEL: resize ===== -/
theorem MT.body {s : Int → Int} {T : Tr} {sz tl : Nat → Nat} {bk key has p : Nat} {sz0 : Nat → Nat} (m : MT s T sz tl) (W : Wf bk sz0 T) (hp : (tI T (lfT T key))[p]? = some key) : MT (fz s (9228 + (16 * (lfT T key : Int) + (p : Int))) (has : Int)) T (fu sz key has) tl := by
  obtain ⟨hx, A, B, e1, e2, e3, e4, e5, e6, e7⟩ := lf_spec W key
  have hx96 := (W.1.1 0 _ hx).1
  have hpl := (List.getElem?_eq_some_iff.mp hp).1
  have hkx := List.mem_of_getElem? hp
  have hcx := W.1.2.2.2.2.1 _ hx
  generalize lfT T key = x at *
  obtain ⟨m1, m2, m3, m4, m5, m6, m7, m8, m9⟩ := m
  have hl16 := (m6 x hx96).2.1
  have ho : ∀ z : Int, (z < 4620 ∨ 12300 ≤ z) → fz s (9228 + (16 * (x : Int) + (p : Int))) (has : Int) z = s z := fun z hz => fz_n _ _ (by omega)
  refine ⟨fun b hb => ?_, fun b hb => ?_, fun b hb => ?_, fun b hb hh => ?_, fun b hb => ?_, fun b hb => ?_, fun h hh => ?_, ?_, ?_⟩
  · rw [ho _ (by omega)]; exact m1 b hb
  · rw [ho _ (by omega)]; exact m2 b hb
  · rw [ho _ (by omega)]; exact m3 b hb
  · rw [ho _ (by omega)]; exact m4 b hb hh
  · obtain ⟨a1, a2, a3⟩ := m5 b hb
    exact ⟨a1.congr (fun z z1 z2 => ho z (by omega)), a2, a3⟩
  · obtain ⟨a1, a2, a3⟩ := m6 b hb
    refine ⟨fun i rr hrr => ?_, a2, a3⟩
    rw [List.getElem?_map] at hrr
    cases hi : (tI T b)[i]? with
    | none => rw [hi] at hrr; cases hrr
    | some k =>
      rw [hi] at hrr
      have hrr' : rk (fu sz key has) tl k = rr := Option.some.inj hrr
      have hil := (List.getElem?_eq_some_iff.mp hi).1
      have old := a1 i (rk sz tl k) (by rw [List.getElem?_map, hi]; rfl)
      subst hrr'
      have hkm := W.mem (List.mem_of_getElem? hi)
      by_cases ek : k = key
      · subst ek
        -- the same leaf, the same place
        have hbx : b = x := by
          cases hH : tH T b with
          | zero => rw [(W.1.2.2.2.2.2.2.2.2.2 b hH).2] at hi; cases hi
          | succ h =>
            have hm := W.1.2.2.1 h b hH
            cases h with
            | succ h => rw [W.1.2.2.2.2.2.1 h b hm] at hi; cases hi
            | zero =>
              rw [e1] at hm
              rcases List.mem_append.mp hm with hm | hm
              · exact absurd (e3 k (List.mem_flatMap.mpr ⟨b, hm, List.mem_of_getElem? hi⟩)) (by omega)
              · rcases List.mem_cons.mp hm with hm | hm
                · exact hm
                · exact absurd (e4 k (List.mem_flatMap.mpr ⟨b, hm, List.mem_of_getElem? hi⟩)) (by omega)
        subst hbx
        have hip : i = p := by
          by_cases e : i < p
          · have := (List.pairwise_iff_getElem.mp e5) i p hil hpl e
            rw [(List.getElem?_eq_some_iff.mp hi).2, (List.getElem?_eq_some_iff.mp hp).2] at this; omega
          · by_cases e' : p < i
            · have := (List.pairwise_iff_getElem.mp e5) p i hpl hil e'
              rw [(List.getElem?_eq_some_iff.mp hi).2, (List.getElem?_eq_some_iff.mp hp).2] at this; omega
            · omega
        subst hip
        unfold it5 at old ⊢
        rw [fz_n _ _ (by omega), fz_n _ _ (by omega), fz_n _ _ (by omega), fz_e _ _ (by omega), fz_n _ _ (by omega)]
        unfold rk at old ⊢
        rw [fu_s]
        rw [Prod.mk.injEq, Prod.mk.injEq, Prod.mk.injEq, Prod.mk.injEq] at old
        rw [old.1, old.2.1, old.2.2.1, old.2.2.2.2]
      · have : rk (fu sz key has) tl k = rk sz tl k := by unfold rk; rw [fu_n _ _ ek]
        rw [this, ← old]
        have hne : 16 * (b : Int) + (i : Int) ≠ 16 * (x : Int) + (p : Int) := by
          intro e
          have hbx : b = x := by omega
          subst hbx
          have : i = p := by omega
          subst this
          rw [hp] at hi; exact ek (Option.some.inj hi).symm
        unfold it5
        rw [fz_n _ _ (by omega), fz_n _ _ (by omega), fz_n _ _ (by omega), fz_n _ _ (by omega), fz_n _ _ (by omega)]
  · obtain ⟨a1, a2, a3, a4⟩ := m7 h hh
    exact ⟨by rw [ho _ (by omega)]; exact a1, a2.congr (fun z z1 z2 => ho z (by omega)), a3, a4⟩
  · rw [ho _ (by omega)]; exact m8
  · rw [ho _ (by omega)]; exact m9
section MRz
variable {M : Mem} {Q : Outcome → Mem → Prop} {o : Nat} {b c w : Int → Int} {j : Nat → Bool} {sz tl : Nat → Nat} {d : Nat} {f : Nat → Int} {s : Int → Int} {T : Tr}
theorem t_resizeP (hK : MK M o) {bk : Nat} (hm1 : 1 ≤ bk) (hm2 : bk ≤ 96) (hf43 : f 43 = bk) (hf47 : f 47 = 0) {T' : Tr} {ok : Bool} {ob so has : Nat} (hd : 7 ≤ d) (m : MT s T sz tl) (W : Wf bk sz T) (h1 : ob < 61) (h2 : so < 4) (h4 : has ≤ 40) (h0 : 1 ≤ has) (hk : ky ob so 0 ∉ its T)
    (hg : sl bk (fu sz (ky ob so 0) has) (insT T (ky ob so 0)) (lfT T (ky ob so 0)) = some (ok, T')) (hQt : ok = true → ∀ s', MT s' T' (fu sz (ky ob so 0) has) (fu tl (ky ob so 0) 0) → Frz s s' → Q (.returned none) (ms M o f s' b c w j)) (hQf : ok = false → ∀ s', Frz s s' → Q (.returned none) (ms M o (fu f 47 1) s' b c w j)) :
    Wp d 193 0 [some (.ref o), some (.int (I (ob : Nat))), some (.int (I (so : Nat))), some (.int (I 0)), some (.int (I (has : Nat))), none] [] (ms M o f s b c w j) Q := by
  have hK' := hK
  obtain ⟨k0, k1, k2, k3, k4, k5, k6, k7, k8, k9, k10⟩ := hK
  simp (disch := first | (simp only [dd, dr]; done) | omega) only [W_193, msK, msR, msF, ms1, msS1, k0, k1, k6, hf47, I_lt, I_le, I_inj, inB_I, tc_I, Int.toNat_natCast, fkt, rf1, rf0, cq, Nat.reduceAdd, Nat.reduceEqDiff, Int.reduceToNat, eq_self, true_and, and_true, true_or, or_true, bI_0, bI_1, mm, rAm, mF_sF, mR_sR, false_and, and_false, if_false, if_true, false_or, or_false, not_true_eq_false, not_false_eq_true, and_self]
  refine ⟨(fun h => by first | exact False.elim h | exact absurd trivial h | (exfalso; omega)), fun _ => ?_⟩
  simp (disch := first | (simp only [dd, dr]; done) | omega) only [W_193, msK, msR, msF, ms1, msS1, k0, k1, k6, I_lt, I_le, I_inj, inB_I, tc_I, Int.toNat_natCast, fkt, rf1, rf0, cq, Nat.reduceAdd, Nat.reduceEqDiff, Int.reduceToNat, eq_self, true_and, and_true, true_or, or_true, bI_0, bI_1, mm, rAm, mF_sF, mR_sR, false_and, and_false, if_false, if_true, false_or, or_false, not_true_eq_false, not_false_eq_true, and_self]
  refine ⟨fun _ => ?_, (fun h => by first | exact False.elim h | exact absurd trivial h | (exfalso; omega))⟩
  simp (disch := first | (simp only [dd, dr]; done) | omega) only [W_193, msK, msR, msF, ms1, msS1, k0, k1, k6, I_lt, I_le, I_inj, inB_I, tc_I, Int.toNat_natCast, fkt, rf1, rf0, cq, Nat.reduceAdd, Nat.reduceEqDiff, Int.reduceToNat, eq_self, true_and, and_true, true_or, or_true, bI_0, bI_1, mm, rAm, mF_sF, mR_sR, false_and, and_false, if_false, if_true, false_or, or_false, not_true_eq_false, not_false_eq_true, and_self]
  refine ⟨(fun h => by first | exact False.elim h | exact absurd trivial h | (exfalso; omega)), fun _ => ?_⟩
  simp (disch := first | (simp only [dd, dr]; done) | omega) only [W_193, msK, msR, msF, ms1, msS1, k0, k1, k6, I_lt, I_le, I_inj, inB_I, tc_I, Int.toNat_natCast, fkt, rf1, rf0, cq, Nat.reduceAdd, Nat.reduceEqDiff, Int.reduceToNat, eq_self, true_and, and_true, true_or, or_true, bI_0, bI_1, mm, rAm, mF_sF, mR_sR, false_and, and_false, if_false, if_true, false_or, or_false, not_true_eq_false, not_false_eq_true, and_self]
  refine ca_167 (by omega) (t_put (na := 0) (told := 0) hK' hm1 hm2 hf43 hf47 (by omega) m W h1 h2 (by omega) h4 (by omega) hk hg (fun h s' m' fr' => ?_) (fun h s' fr' => ?_))
  · simp (disch := first | (simp only [dd, dr]; done) | omega) only [W_193, I_lt, I_le, I_inj, inB_I, tc_I, Int.toNat_natCast, fkt, rf1, rf0, cq, Nat.reduceAdd, Nat.reduceEqDiff, Int.reduceToNat, eq_self, true_and, and_true, true_or, or_true, bI_0, bI_1, mm, rAm, mF_sF, mR_sR, false_and, and_false, if_false, if_true, false_or, or_false, not_true_eq_false, not_false_eq_true, and_self]
    exact hQt h s' m' fr'
  · simp (disch := first | (simp only [dd, dr]; done) | omega) only [W_193, I_lt, I_le, I_inj, inB_I, tc_I, Int.toNat_natCast, fkt, rf1, rf0, cq, Nat.reduceAdd, Nat.reduceEqDiff, Int.reduceToNat, eq_self, true_and, and_true, true_or, or_true, bI_0, bI_1, mm, rAm, mF_sF, mR_sR, false_and, and_false, if_false, if_true, false_or, or_false, not_true_eq_false, not_false_eq_true, and_self]
    exact hQf h s' fr'
theorem t_resizeD (hK : MK M o) {bk n : Nat} (hf47 : f 47 = 0) {T' : Tr} {ob so had : Nat} (hd : 7 ≤ d) (m : MT s T sz tl) (W : Wf bk sz T) (h1 : ob < 61) (h2 : so < 4) (h0 : 1 ≤ had) (h4 : had < 1000) (hk : ky ob so 0 ∈ its T)
    (hg : lkA sz n (delT T (ky ob so 0)) (lfT T (ky ob so 0)) = some T') (hQ : ∀ s', MT s' T' sz tl → Frz s s' → Q (.returned none) (ms M o f s' b c w j)) :
    Wp d 193 0 [some (.ref o), some (.int (I (ob : Nat))), some (.int (I (so : Nat))), some (.int (I (had : Nat))), some (.int (I 0)), none] [] (ms M o f s b c w j) Q := by
  have hK' := hK
  obtain ⟨k0, k1, k2, k3, k4, k5, k6, k7, k8, k9, k10⟩ := hK
  simp (disch := first | (simp only [dd, dr]; done) | omega) only [W_193, msK, msR, msF, ms1, msS1, k0, k1, k6, hf47, I_lt, I_le, I_inj, inB_I, tc_I, Int.toNat_natCast, fkt, rf1, rf0, cq, Nat.reduceAdd, Nat.reduceEqDiff, Int.reduceToNat, eq_self, true_and, and_true, true_or, or_true, bI_0, bI_1, mm, rAm, mF_sF, mR_sR, false_and, and_false, if_false, if_true, false_or, or_false, not_true_eq_false, not_false_eq_true, and_self]
  refine ⟨(fun h => by first | exact False.elim h | exact absurd trivial h | (exfalso; omega)), fun _ => ?_⟩
  simp (disch := first | (simp only [dd, dr]; done) | omega) only [W_193, msK, msR, msF, ms1, msS1, k0, k1, k6, I_lt, I_le, I_inj, inB_I, tc_I, Int.toNat_natCast, fkt, rf1, rf0, cq, Nat.reduceAdd, Nat.reduceEqDiff, Int.reduceToNat, eq_self, true_and, and_true, true_or, or_true, bI_0, bI_1, mm, rAm, mF_sF, mR_sR, false_and, and_false, if_false, if_true, false_or, or_false, not_true_eq_false, not_false_eq_true, and_self]
  refine ⟨fun _ => ?_, (fun h => by first | exact False.elim h | exact absurd trivial h | (exfalso; omega))⟩
  simp (disch := first | (simp only [dd, dr]; done) | omega) only [W_193, msK, msR, msF, ms1, msS1, k0, k1, k6, I_lt, I_le, I_inj, inB_I, tc_I, Int.toNat_natCast, fkt, rf1, rf0, cq, Nat.reduceAdd, Nat.reduceEqDiff, Int.reduceToNat, eq_self, true_and, and_true, true_or, or_true, bI_0, bI_1, mm, rAm, mF_sF, mR_sR, false_and, and_false, if_false, if_true, false_or, or_false, not_true_eq_false, not_false_eq_true, and_self]
  refine ⟨fun _ => ?_, (fun h => by first | exact False.elim h | exact absurd trivial h | (exfalso; omega))⟩
  simp (disch := first | (simp only [dd, dr]; done) | omega) only [W_193, msK, msR, msF, ms1, msS1, k0, k1, k6, I_lt, I_le, I_inj, inB_I, tc_I, Int.toNat_natCast, fkt, rf1, rf0, cq, Nat.reduceAdd, Nat.reduceEqDiff, Int.reduceToNat, eq_self, true_and, and_true, true_or, or_true, bI_0, bI_1, mm, rAm, mF_sF, mR_sR, false_and, and_false, if_false, if_true, false_or, or_false, not_true_eq_false, not_false_eq_true, and_self]
  refine ⟨(fun h => by first | exact False.elim h | exact absurd trivial h | (exfalso; omega)), fun _ => ?_⟩
  simp (disch := first | (simp only [dd, dr]; done) | omega) only [W_193, msK, msR, msF, ms1, msS1, k0, k1, k6, I_lt, I_le, I_inj, inB_I, tc_I, Int.toNat_natCast, fkt, rf1, rf0, cq, Nat.reduceAdd, Nat.reduceEqDiff, Int.reduceToNat, eq_self, true_and, and_true, true_or, or_true, bI_0, bI_1, mm, rAm, mF_sF, mR_sR, false_and, and_false, if_false, if_true, false_or, or_false, not_true_eq_false, not_false_eq_true, and_self]
  refine ca_187 (by omega) (t_remove (na := 0) hK' (by omega) m W h1 h2 (by omega) hk hg (fun s' m' fr' => ?_))
  simp (disch := first | (simp only [dd, dr]; done) | omega) only [W_193, I_lt, I_le, I_inj, inB_I, tc_I, Int.toNat_natCast, fkt, rf1, rf0, cq, Nat.reduceAdd, Nat.reduceEqDiff, Int.reduceToNat, eq_self, true_and, and_true, true_or, or_true, bI_0, bI_1, mm, rAm, mF_sF, mR_sR, false_and, and_false, if_false, if_true, false_or, or_false, not_true_eq_false, not_false_eq_true, and_self]
  exact hQ s' m' fr'
theorem t_resizeC (hK : MK M o) {bk n : Nat} (hm1 : 1 ≤ bk) (hm2 : bk ≤ 96) (hf43 : f 43 = bk) (hf47 : f 47 = 0) {T' : Tr} {ok : Bool} {ob so had has : Nat} (hd : 7 ≤ d) (m : MT s T sz tl) (W : Wf bk sz T) (h1 : ob < 61) (h2 : so < 4) (h3 : 1 ≤ had) (h4 : had < 1000) (h5 : 1 ≤ has) (h6 : has < 1000) (hne : had ≠ has) (hk : ky ob so 0 ∈ its T)
    (hg : (had < has ∧ sl bk (fu sz (ky ob so 0) has) T (lfT T (ky ob so 0)) = some (ok, T')) ∨ (has < had ∧ ok = true ∧ lkA (fu sz (ky ob so 0) has) n T (lfT T (ky ob so 0)) = some T')) (hQt : ok = true → ∀ s', MT s' T' (fu sz (ky ob so 0) has) tl → Frz s s' → Q (.returned none) (ms M o f s' b c w j)) (hQf : ok = false → ∀ s', Frz s s' → Q (.returned none) (ms M o (fu f 47 1) s' b c w j)) :
    Wp d 193 0 [some (.ref o), some (.int (I (ob : Nat))), some (.int (I (so : Nat))), some (.int (I (had : Nat))), some (.int (I (has : Nat))), none] [] (ms M o f s b c w j) Q := by
  have hK' := hK
  obtain ⟨k0, k1, k2, k3, k4, k5, k6, k7, k8, k9, k10⟩ := hK
  obtain ⟨hx, A, B, e1, e2, e3, e4, e5, e6, e7⟩ := lf_spec W (ky ob so 0)
  have hx96 := (W.1.1 0 _ hx).1
  have hkx := (lf_mem W _).mp hk
  have hp := (pl_has e5).mpr hkx
  have hpl := (List.getElem?_eq_some_iff.mp hp).1
  have hl16 := (m.2.2.2.2.2.1 _ hx96).2.1
  simp (disch := first | (simp only [dd, dr]; done) | omega) only [W_193, msK, msR, msF, ms1, msS1, k0, k1, k6, hf47, I_lt, I_le, I_inj, inB_I, tc_I, Int.toNat_natCast, fkt, rf1, rf0, cq, Nat.reduceAdd, Nat.reduceEqDiff, Int.reduceToNat, eq_self, true_and, and_true, true_or, or_true, bI_0, bI_1, mm, rAm, mF_sF, mR_sR, false_and, and_false, if_false, if_true, false_or, or_false, not_true_eq_false, not_false_eq_true, and_self]
  refine ⟨(fun h => by first | exact False.elim h | exact absurd trivial h | (exfalso; omega)), fun _ => ?_⟩
  simp (disch := first | (simp only [dd, dr]; done) | omega) only [W_193, msK, msR, msF, ms1, msS1, k0, k1, k6, I_lt, I_le, I_inj, inB_I, tc_I, Int.toNat_natCast, fkt, rf1, rf0, cq, Nat.reduceAdd, Nat.reduceEqDiff, Int.reduceToNat, eq_self, true_and, and_true, true_or, or_true, bI_0, bI_1, mm, rAm, mF_sF, mR_sR, false_and, and_false, if_false, if_true, false_or, or_false, not_true_eq_false, not_false_eq_true, and_self]
  refine ⟨fun _ => ?_, (fun h => by first | exact False.elim h | exact absurd trivial h | (exfalso; omega))⟩
  simp (disch := first | (simp only [dd, dr]; done) | omega) only [W_193, msK, msR, msF, ms1, msS1, k0, k1, k6, I_lt, I_le, I_inj, inB_I, tc_I, Int.toNat_natCast, fkt, rf1, rf0, cq, Nat.reduceAdd, Nat.reduceEqDiff, Int.reduceToNat, eq_self, true_and, and_true, true_or, or_true, bI_0, bI_1, mm, rAm, mF_sF, mR_sR, false_and, and_false, if_false, if_true, false_or, or_false, not_true_eq_false, not_false_eq_true, and_self]
  refine ⟨fun _ => ?_, (fun h => by first | exact False.elim h | exact absurd trivial h | (exfalso; omega))⟩
  simp (disch := first | (simp only [dd, dr]; done) | omega) only [W_193, msK, msR, msF, ms1, msS1, k0, k1, k6, I_lt, I_le, I_inj, inB_I, tc_I, Int.toNat_natCast, fkt, rf1, rf0, cq, Nat.reduceAdd, Nat.reduceEqDiff, Int.reduceToNat, eq_self, true_and, and_true, true_or, or_true, bI_0, bI_1, mm, rAm, mF_sF, mR_sR, false_and, and_false, if_false, if_true, false_or, or_false, not_true_eq_false, not_false_eq_true, and_self]
  refine ⟨fun _ => ?_, (fun h => by first | exact False.elim h | exact absurd trivial h | (exfalso; omega))⟩
  simp (disch := first | (simp only [dd, dr]; done) | omega) only [W_193, msK, msR, msF, ms1, msS1, k0, k1, k6, I_lt, I_le, I_inj, inB_I, tc_I, Int.toNat_natCast, fkt, rf1, rf0, cq, Nat.reduceAdd, Nat.reduceEqDiff, Int.reduceToNat, eq_self, true_and, and_true, true_or, or_true, bI_0, bI_1, mm, rAm, mF_sF, mR_sR, false_and, and_false, if_false, if_true, false_or, or_false, not_true_eq_false, not_false_eq_true, and_self]
  refine ca_163 (by omega) (t_leafOf (na := 0) hK' (by omega) m W (by omega) h2 (by omega) ?_)
  simp (disch := first | (simp only [dd, dr]; done) | omega) only [W_193, msK, msR, msF, ms1, msS1, k0, k1, k6, I_lt, I_le, I_inj, inB_I, tc_I, Int.toNat_natCast, fkt, rf1, rf0, cq, Nat.reduceAdd, Nat.reduceEqDiff, Int.reduceToNat, eq_self, true_and, and_true, true_or, or_true, bI_0, bI_1, mm, rAm, mF_sF, mR_sR, false_and, and_false, if_false, if_true, false_or, or_false, not_true_eq_false, not_false_eq_true, and_self]
  refine ca_162 (by omega) (t_find (na := 0) hK' (by omega) m W (by omega) h2 (by omega) ?_)
  rw [if_pos hk]
  have mB := MT.body (has := has) m W hp
  have eB : (9228 + 16 * (lfT T (ky ob so 0) : Int) + (pl (ky ob so 0) (tI T (lfT T (ky ob so 0))) : Int)) = 9228 + (16 * (lfT T (ky ob so 0) : Int) + (pl (ky ob so 0) (tI T (lfT T (ky ob so 0))) : Int)) := by omega
  have fB : Frz s (fz s (9228 + (16 * (lfT T (ky ob so 0) : Int) + (pl (ky ob so 0) (tI T (lfT T (ky ob so 0))) : Int))) (has : Int)) := fun z hz => fz_n _ _ (by omega)
  simp (disch := first | (simp only [dd, dr]; done) | omega) only [W_193, msK, msR, msF, ms1, msS1, k0, k1, k6, eB, I_lt, I_le, I_inj, inB_I, tc_I, Int.toNat_natCast, fkt, rf1, rf0, cq, Nat.reduceAdd, Nat.reduceEqDiff, Int.reduceToNat, eq_self, true_and, and_true, true_or, or_true, bI_0, bI_1, mm, rAm, mF_sF, mR_sR, false_and, and_false, if_false, if_true, false_or, or_false, not_true_eq_false, not_false_eq_true, and_self]
  rcases hg with ⟨hlt, hg⟩ | ⟨hlt, hok, hg⟩
  · refine ⟨(fun h => by first | exact False.elim h | exact absurd trivial h | (exfalso; omega)), fun _ => ?_⟩
    simp (disch := first | (simp only [dd, dr]; done) | omega) only [W_193, msK, msR, msF, ms1, msS1, k0, k1, k6, I_lt, I_le, I_inj, inB_I, tc_I, Int.toNat_natCast, fkt, rf1, rf0, cq, Nat.reduceAdd, Nat.reduceEqDiff, Int.reduceToNat, eq_self, true_and, and_true, true_or, or_true, bI_0, bI_1, mm, rAm, mF_sF, mR_sR, false_and, and_false, if_false, if_true, false_or, or_false, not_true_eq_false, not_false_eq_true, and_self]
    refine ca_169 (by omega) (t_settle hK' hm1 hm2 hf43 hf47 (by omega) mB hg (fun h s' m' fr' => ?_) (fun h s' fr' => ?_))
    · simp (disch := first | (simp only [dd, dr]; done) | omega) only [W_193, I_lt, I_le, I_inj, inB_I, tc_I, Int.toNat_natCast, fkt, rf1, rf0, cq, Nat.reduceAdd, Nat.reduceEqDiff, Int.reduceToNat, eq_self, true_and, and_true, true_or, or_true, bI_0, bI_1, mm, rAm, mF_sF, mR_sR, false_and, and_false, if_false, if_true, false_or, or_false, not_true_eq_false, not_false_eq_true, and_self]
      exact hQt h s' m' (fB.trans fr')
    · simp (disch := first | (simp only [dd, dr]; done) | omega) only [W_193, I_lt, I_le, I_inj, inB_I, tc_I, Int.toNat_natCast, fkt, rf1, rf0, cq, Nat.reduceAdd, Nat.reduceEqDiff, Int.reduceToNat, eq_self, true_and, and_true, true_or, or_true, bI_0, bI_1, mm, rAm, mF_sF, mR_sR, false_and, and_false, if_false, if_true, false_or, or_false, not_true_eq_false, not_false_eq_true, and_self]
      exact hQf h s' (fB.trans fr')
  · refine ⟨fun _ => ?_, (fun h => by first | exact False.elim h | exact absurd trivial h | (exfalso; omega))⟩
    simp (disch := first | (simp only [dd, dr]; done) | omega) only [W_193, msK, msR, msF, ms1, msS1, k0, k1, k6, I_lt, I_le, I_inj, inB_I, tc_I, Int.toNat_natCast, fkt, rf1, rf0, cq, Nat.reduceAdd, Nat.reduceEqDiff, Int.reduceToNat, eq_self, true_and, and_true, true_or, or_true, bI_0, bI_1, mm, rAm, mF_sF, mR_sR, false_and, and_false, if_false, if_true, false_or, or_false, not_true_eq_false, not_false_eq_true, and_self]
    refine ca_188 (by omega) (t_lookAt hK' (by omega) mB hg (fun s' m' fr' => ?_))
    simp (disch := first | (simp only [dd, dr]; done) | omega) only [W_193, I_lt, I_le, I_inj, inB_I, tc_I, Int.toNat_natCast, fkt, rf1, rf0, cq, Nat.reduceAdd, Nat.reduceEqDiff, Int.reduceToNat, eq_self, true_and, and_true, true_or, or_true, bI_0, bI_1, mm, rAm, mF_sF, mR_sR, false_and, and_false, if_false, if_true, false_or, or_false, not_true_eq_false, not_false_eq_true, and_self]
    exact hQt hok s' m' (fB.trans fr')
end MRz
