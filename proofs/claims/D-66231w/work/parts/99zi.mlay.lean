/-! ===== THE MODEL: lay ===== -/
section Mly
variable {d : Nat} {M : Mem} {Q : Outcome → Mem → Prop} {o : Nat} {f : Nat → Int} {s s' b c w : Int → Int} {j : Nat → Bool} {T T' T1 T2 : Tr} {X X' : Ob} {dt : Nat → Nat → Nat} {m : Nat} {sz tl : Nat → Nat}
theorem m_datasOf {n : Nat} (hd : 1 ≤ d) (hn : n < 100000) (hQ : Q (.returned (some (.int (I (dtO n : Nat))))) M) : Wp d 203 0 [some (.int (I (n : Nat)))] [] M Q := by
  have ht := tlO_le n
  unfold dtO at hQ
  simp (disch := first | (simp only [dd, dr]; done) | omega) only [W_203, I_lt, I_le, I_inj, inB_I, tc_I, Int.toNat_natCast, fkt, rf1, rf0, cq, Nat.reduceAdd, Nat.reduceEqDiff, Int.reduceToNat, eq_self, true_and, and_true, true_or, or_true, bI_0, bI_1, mm, rAm, mF_sF, mR_sR, false_and, and_false, if_false, if_true, false_or, or_false, not_true_eq_false, not_false_eq_true, and_self]
  refine ⟨fun h => ?_, fun h => ?_⟩
  · rw [if_neg (by omega)] at hQ
    simp (disch := first | (simp only [dd, dr]; done) | omega) only [W_203, I_lt, I_le, I_inj, inB_I, tc_I, Int.toNat_natCast, fkt, rf1, rf0, cq, Nat.reduceAdd, Nat.reduceEqDiff, Int.reduceToNat, eq_self, true_and, and_true, true_or, or_true, bI_0, bI_1, mm, rAm, mF_sF, mR_sR, false_and, and_false, if_false, if_true, false_or, or_false, not_true_eq_false, not_false_eq_true, and_self]
    exact hQ
  · simp (disch := first | (simp only [dd, dr]; done) | omega) only [W_203, I_lt, I_le, I_inj, inB_I, tc_I, Int.toNat_natCast, fkt, rf1, rf0, cq, Nat.reduceAdd, Nat.reduceEqDiff, Int.reduceToNat, eq_self, true_and, and_true, true_or, or_true, bI_0, bI_1, mm, rAm, mF_sF, mR_sR, false_and, and_false, if_false, if_true, false_or, or_false, not_true_eq_false, not_false_eq_true, and_self]
    refine ca_192 (by omega) (m_tailOf hn ?_)
    simp (disch := first | (simp only [dd, dr]; done) | omega) only [W_203, I_lt, I_le, I_inj, inB_I, tc_I, Int.toNat_natCast, fkt, rf1, rf0, cq, Nat.reduceAdd, Nat.reduceEqDiff, Int.reduceToNat, eq_self, true_and, and_true, true_or, or_true, bI_0, bI_1, mm, rAm, mF_sF, mR_sR, false_and, and_false, if_false, if_true, false_or, or_false, not_true_eq_false, not_false_eq_true, and_self]
    have e : tlO n = 0 ∨ tlO n = n % 128 := by unfold tlO; split <;> omega
    refine ⟨fun h' => ?_, fun h' => ?_⟩
    · rw [if_neg (by omega)] at hQ
      simp (disch := first | (simp only [dd, dr]; done) | omega) only [W_203, I_lt, I_le, I_inj, inB_I, tc_I, Int.toNat_natCast, fkt, rf1, rf0, cq, Nat.reduceAdd, Nat.reduceEqDiff, Int.reduceToNat, eq_self, true_and, and_true, true_or, or_true, bI_0, bI_1, mm, rAm, mF_sF, mR_sR, false_and, and_false, if_false, if_true, false_or, or_false, not_true_eq_false, not_false_eq_true, and_self]
      exact hQ
    · rw [if_pos (by omega)] at hQ
      simp (disch := first | (simp only [dd, dr]; done) | omega) only [W_203, I_lt, I_le, I_inj, inB_I, tc_I, Int.toNat_natCast, fkt, rf1, rf0, cq, Nat.reduceAdd, Nat.reduceEqDiff, Int.reduceToNat, eq_self, true_and, and_true, true_or, or_true, bI_0, bI_1, mm, rAm, mF_sF, mR_sR, false_and, and_false, if_false, if_true, false_or, or_false, not_true_eq_false, not_false_eq_true, and_self]
      exact hQ
theorem szO_vD (X : Ob) (o : Nat) (l : List Nat) : szO (vD X o l) = fu (szO X) (ky o 2 0) (2 * l.length) := by
  funext k
  unfold szO
  rw [pyO_vD]
  by_cases e : k = ky o 2 0
  · rw [e, fu_s, fu_s, (flat2 l).1]
  · rw [fu_n _ _ e, fu_n _ _ e]
theorem szO_vT (X : Ob) (o : Nat) (l : List Nat) : szO (vT X o l) = fu (szO X) (ky o 3 0) l.length := by
  funext k
  unfold szO
  rw [pyO_vT]
  by_cases e : k = ky o 3 0
  · rw [e, fu_s, fu_s]
  · rw [fu_n _ _ e, fu_n _ _ e]
/-- all but one object's data blocks stays -/
def Lz (v : Nat) (s s' : Int → Int) : Prop := ∀ x : Int, ((96 ≤ x ∧ x < 3756) ∨ 13078 ≤ x) → x ≠ 279 + (v : Int) → ¬ (340 + 16 * (v : Int) ≤ x ∧ x < 340 + 16 * (v : Int) + 16) → s' x = s x
/-- the state while blocks come and go -/
def Ly (m v : Nat) (X : Ob) (s s1 : Int → Int) (T1 : Tr) (l : List Nat) (k : Nat) : Prop := MT s1 T1 (szO X) (tlX X) ∧ Wf m (szO X) T1 ∧ s1 (279 + (v : Int)) = (k : Nat) ∧ La s1 (340 + 16 * (v : Int)) l ∧ Lz v s s1
set_option maxHeartbeats 1000000 in
/-- blocks are taken -/
theorem ly_32 (hK : MK M o) (hd : 4 ≤ d) (hm1 : 1 ≤ m) (hm2 : m ≤ 96) (f43 : f 43 = m) (f47 : f 47 = 0) {v n had tail has : Nat} (hv : v < 61) (hh : has ≤ 16) : ∀ (N : Nat) (l : List Nat) (T1 : Tr) (s1 : Int → Int) (l6 : Option Value), l.length + N = has → Ly m v X s s1 T1 l l.length → BL T1 l →
    (tkn m N T1 = none → ∀ s', Q (.returned none) (ms M o (fu f 47 1) s' b c w j)) →
    (∀ (l2 : List Nat) (T2 : Tr) (s2 : Int → Int) (l6 : Option Value), tkn m N T1 = some (l2, T2) → Ly m v X s s2 T2 (l ++ l2) has → BL T2 (l ++ l2) → Wp d 202 122 [some (.ref o), some (.int (I (v : Nat))), some (.int (I (n : Nat))), some (.int (I (had : Nat))), some (.int (I (tail : Nat))), some (.int (I (has : Nat))), l6] [] (ms M o f s2 b c w j) Q) →
    Wp d 202 32 [some (.ref o), some (.int (I (v : Nat))), some (.int (I (n : Nat))), some (.int (I (had : Nat))), some (.int (I (tail : Nat))), some (.int (I (has : Nat))), l6] [] (ms M o f s1 b c w j) Q
  | 0, l, T1, s1, l6, hl, L, B, hf, hk => by
    have hK' := hK
    obtain ⟨k0, k1, k2, k3, k4, k5, k6, k7, k8, k9, k10⟩ := hK
    have e279 := L.2.2.1
    have next := hk [] T1 s1 l6 rfl (by rw [List.append_nil, ← show l.length = has by omega]; exact L) (by rw [List.append_nil]; exact B)
    simp (disch := first | (simp only [dd, dr]; done) | omega) only [w_202_32, W_202, msK, msR, msF, ms1, msS1, k0, k1, k6, e279, I_lt, I_le, I_inj, inB_I, tc_I, Int.toNat_natCast, fkt, rf1, rf0, cq, Nat.reduceAdd, Nat.reduceEqDiff, Int.reduceToNat, eq_self, true_and, and_true, true_or, or_true, bI_0, bI_1, mm, rAm, mF_sF, mR_sR, false_and, and_false, if_false, if_true, false_or, or_false, not_true_eq_false, not_false_eq_true, and_self]
    refine ⟨fun _ => ?_, (fun h => by first | exact False.elim h | exact absurd trivial h | (exfalso; omega) | exact absurd rfl h | cases h)⟩
    simp (disch := first | (simp only [dd, dr]; done) | omega) only [W_202, msK, msR, msF, ms1, msS1, k0, k1, k6, f47, I_lt, I_le, I_inj, inB_I, tc_I, Int.toNat_natCast, fkt, rf1, rf0, cq, Nat.reduceAdd, Nat.reduceEqDiff, Int.reduceToNat, eq_self, true_and, and_true, true_or, or_true, bI_0, bI_1, mm, rAm, mF_sF, mR_sR, false_and, and_false, if_false, if_true, false_or, or_false, not_true_eq_false, not_false_eq_true, and_self]
    refine ⟨fun _ => ?_, (fun h => by first | exact False.elim h | exact absurd trivial h | (exfalso; omega) | exact absurd rfl h | cases h)⟩
    exact next
  | N + 1, l, T1, s1, l6, hl, L, B, hf, hk => by
    have hK' := hK
    obtain ⟨k0, k1, k2, k3, k4, k5, k6, k7, k8, k9, k10⟩ := hK
    obtain ⟨t1, W1, e279, eD, Z⟩ := L
    have h0U : tU T1 0 = true := W1.1.2.2.2.2.2.2.2.2.1.1
    have h0H : tH T1 0 = 0 := W1.1.2.2.2.2.2.2.2.2.1.2
    simp (disch := first | (simp only [dd, dr]; done) | omega) only [w_202_32, W_202, msK, msR, msF, ms1, msS1, k0, k1, k6, e279, I_lt, I_le, I_inj, inB_I, tc_I, Int.toNat_natCast, fkt, rf1, rf0, cq, Nat.reduceAdd, Nat.reduceEqDiff, Int.reduceToNat, eq_self, true_and, and_true, true_or, or_true, bI_0, bI_1, mm, rAm, mF_sF, mR_sR, false_and, and_false, if_false, if_true, false_or, or_false, not_true_eq_false, not_false_eq_true, and_self]
    refine ⟨(fun h => by first | exact False.elim h | exact absurd trivial h | (exfalso; omega) | exact absurd rfl h | cases h), fun _ => ?_⟩
    simp (disch := first | (simp only [dd, dr]; done) | omega) only [W_202, msK, msR, msF, ms1, msS1, k0, k1, k6, f47, I_lt, I_le, I_inj, inB_I, tc_I, Int.toNat_natCast, fkt, rf1, rf0, cq, Nat.reduceAdd, Nat.reduceEqDiff, Int.reduceToNat, eq_self, true_and, and_true, true_or, or_true, bI_0, bI_1, mm, rAm, mF_sF, mR_sR, false_and, and_false, if_false, if_true, false_or, or_false, not_true_eq_false, not_false_eq_true, and_self]
    refine ⟨(fun h => by first | exact False.elim h | exact absurd trivial h | (exfalso; omega) | exact absurd rfl h | cases h), fun _ => ?_⟩
    simp (disch := first | (simp only [dd, dr]; done) | omega) only [W_202, msK, msR, msF, ms1, msS1, k0, k1, k6, I_lt, I_le, I_inj, inB_I, tc_I, Int.toNat_natCast, fkt, rf1, rf0, cq, Nat.reduceAdd, Nat.reduceEqDiff, Int.reduceToNat, eq_self, true_and, and_true, true_or, or_true, bI_0, bI_1, mm, rAm, mF_sF, mR_sR, false_and, and_false, if_false, if_true, false_or, or_false, not_true_eq_false, not_false_eq_true, and_self]
    refine ca_177 (by omega) (t_take hK' (y := 0) (v := s1 (3948 + ((0 : Nat) : Int))) (by omega) (by rw [fz_id]; exact t1) f43 hm2 hm1 h0U (fun k s2 hfr hkm t2 F2 => ?_) (fun hfr => ?_))
    · have hku : tU T1 k = false := by
        rcases fr_spec (tU T1) m 0 with h | ⟨k', h, _, _, h4, _⟩
        · rw [h.1] at hfr; cases hfr
        · rw [hfr] at h
          rw [Option.some.inj h]; exact h4
      obtain ⟨hkH, hk0⟩ := W1.free hku
      have t2' : MT s2 (uU T1 k true) (szO X) (tlX X) := by
        have e := (fe_eq W1.1 hkH).2
        rw [e] at t2
        have := t2.any (q := 0) (by omega) (by show tH T1 0 = 0; exact h0H) (s2 (3948 + ((0 : Nat) : Int)))
        have e2 : fz (fz s2 (3948 + ((0 : Nat) : Int)) (s1 (3948 + ((0 : Nat) : Int)))) (3948 + ((0 : Nat) : Int)) (s2 (3948 + ((0 : Nat) : Int))) = s2 := by
          funext x
          unfold fz
          split
          · rename_i h; rw [h]
          · rfl
        rw [e2] at this
        exact this
      have e279' : s2 (279 + (v : Int)) = ((l.length : Nat) : Int) := by rw [F2 _ (by omega)]; exact e279
      have ea : (340 + 16 * (v : Int) + ((l.length : Nat) : Int)) = 340 + 16 * (v : Int) + (l.length : Int) := rfl
      have e279'' : fz s2 (340 + 16 * (v : Int) + (l.length : Int)) (k : Int) (279 + (v : Int)) = ((l.length : Nat) : Int) := by rw [fz_n _ _ (by omega)]; exact e279'
      simp (disch := first | (simp only [dd, dr]; done) | omega) only [W_202, msK, msR, msF, ms1, msS1, k0, k1, k6, e279', e279'', f47, I_lt, I_le, I_inj, inB_I, tc_I, Int.toNat_natCast, fkt, rf1, rf0, cq, Nat.reduceAdd, Nat.reduceEqDiff, Int.reduceToNat, eq_self, true_and, and_true, true_or, or_true, bI_0, bI_1, mm, rAm, mF_sF, mR_sR, false_and, and_false, if_false, if_true, false_or, or_false, not_true_eq_false, not_false_eq_true, and_self]
      refine ⟨fun _ => ?_, (fun h => by first | exact False.elim h | exact absurd trivial h | (exfalso; omega) | exact absurd rfl h | cases h)⟩
      simp (disch := first | (simp only [dd, dr]; done) | omega) only [W_202, msK, msR, msF, ms1, msS1, k0, k1, k6, I_lt, I_le, I_inj, inB_I, tc_I, Int.toNat_natCast, fkt, rf1, rf0, cq, Nat.reduceAdd, Nat.reduceEqDiff, Int.reduceToNat, eq_self, true_and, and_true, true_or, or_true, bI_0, bI_1, mm, rAm, mF_sF, mR_sR, false_and, and_false, if_false, if_true, false_or, or_false, not_true_eq_false, not_false_eq_true, and_self]
      have W2 : Wf m (szO X) (uU T1 k true) := W1.uu hkH hk0 (fun _ => hkm)
      have ih := ly_32 (n := n) (had := had) (tail := tail) (has := has) hK' hd hm1 hm2 f43 f47 hv hh N (l ++ [k]) (uU T1 k true) (fz (fz s2 (340 + 16 * (v : Int) + (l.length : Int)) (k : Int)) (279 + (v : Int)) ((l.length : Int) + 1)) (some (.int (I (k : Nat)))) (by simp; omega) ⟨t2'.eqs (fun x hx => by rw [fz_n _ _ (by omega), fz_n _ _ (by omega)]), W2, by rw [fz_e _ _ rfl]; simp, ?_, ?_⟩ (B.add (by omega) (by omega) hku hkH) (fun hn => hf (by rw [tkn, hfr]; simp only [hn]; rfl)) (fun l2 T2 s3 l6' hn L' B' => hk (k :: l2) T2 s3 l6' (by rw [tkn, hfr]; simp only [hn]; rfl) (by rw [List.append_assoc] at L'; exact L') (by rw [List.append_assoc] at B'; exact B'))
      · exact ih
      · intro i y hy
        have hi := (List.getElem?_eq_some_iff.mp hy).1
        rw [List.length_append] at hi
        have hi : i < l.length + 1 := hi
        rw [fz_n _ _ (by omega)]
        by_cases e : i = l.length
        · rw [e, List.getElem?_append_right (Nat.le_refl _), Nat.sub_self] at hy
          rw [e, fz_e _ _ rfl, Option.some.inj hy]
        · rw [List.getElem?_append_left (by omega)] at hy
          rw [fz_n _ _ (by omega), F2 _ (by omega)]
          exact eD i y hy
      · intro x hx h1 h2
        rw [fz_n _ _ h1, fz_n _ _ (by omega), F2 _ hx]
        exact Z x hx h1 h2
    · have hf1 : fu f 47 1 47 = 1 := fu_s _ _ _
      have hn : tkn m (N + 1) T1 = none := by rw [tkn, hfr]
      have e2 : fz s1 (340 + 16 * (v : Int) + (l.length : Int)) (-1) (279 + (v : Int)) = ((l.length : Nat) : Int) := by rw [fz_n _ _ (by omega)]; exact e279
      simp (disch := first | (simp only [dd, dr]; done) | omega) only [W_202, msK, msR, msF, ms1, msS1, k0, k1, k6, e279, e2, hf1, I_lt, I_le, I_inj, inB_I, tc_I, Int.toNat_natCast, fkt, rf1, rf0, cq, Nat.reduceAdd, Nat.reduceEqDiff, Int.reduceToNat, eq_self, true_and, and_true, true_or, or_true, bI_0, bI_1, mm, rAm, mF_sF, mR_sR, false_and, and_false, if_false, if_true, false_or, or_false, not_true_eq_false, not_false_eq_true, and_self]
      refine ⟨(fun h => by first | exact False.elim h | exact absurd trivial h | (exfalso; omega) | exact absurd rfl h | cases h), fun _ => ?_⟩
      simp (disch := first | (simp only [dd, dr]; done) | omega) only [W_202, msK, msR, msF, ms1, msS1, k0, k1, k6, I_lt, I_le, I_inj, inB_I, tc_I, Int.toNat_natCast, fkt, rf1, rf0, cq, Nat.reduceAdd, Nat.reduceEqDiff, Int.reduceToNat, eq_self, true_and, and_true, true_or, or_true, bI_0, bI_1, mm, rAm, mF_sF, mR_sR, false_and, and_false, if_false, if_true, false_or, or_false, not_true_eq_false, not_false_eq_true, and_self]
      have e3 : fz (fz s1 (340 + 16 * (v : Int) + (l.length : Int)) (-1)) (279 + (v : Int)) ((l.length : Int) + 0) (279 + (v : Int)) = ((l.length : Nat) : Int) := by rw [fz_e _ _ rfl]; omega
      simp (disch := first | (simp only [dd, dr]; done) | omega) only [w_202_32, W_202, msK, msR, msF, ms1, msS1, k0, k1, k6, e3, I_lt, I_le, I_inj, inB_I, tc_I, Int.toNat_natCast, fkt, rf1, rf0, cq, Nat.reduceAdd, Nat.reduceEqDiff, Int.reduceToNat, eq_self, true_and, and_true, true_or, or_true, bI_0, bI_1, mm, rAm, mF_sF, mR_sR, false_and, and_false, if_false, if_true, false_or, or_false, not_true_eq_false, not_false_eq_true, and_self]
      refine ⟨(fun h => by first | exact False.elim h | exact absurd trivial h | (exfalso; omega) | exact absurd rfl h | cases h), fun _ => ?_⟩
      simp (disch := first | (simp only [dd, dr]; done) | omega) only [W_202, msK, msR, msF, ms1, msS1, k0, k1, k6, hf1, I_lt, I_le, I_inj, inB_I, tc_I, Int.toNat_natCast, fkt, rf1, rf0, cq, Nat.reduceAdd, Nat.reduceEqDiff, Int.reduceToNat, eq_self, true_and, and_true, true_or, or_true, bI_0, bI_1, mm, rAm, mF_sF, mR_sR, false_and, and_false, if_false, if_true, false_or, or_false, not_true_eq_false, not_false_eq_true, and_self]
      refine ⟨fun _ => ?_, (fun h => by first | exact False.elim h | exact absurd trivial h | (exfalso; omega) | exact absurd rfl h | cases h)⟩
      simp (disch := first | (simp only [dd, dr]; done) | omega) only [W_202, msK, msR, msF, ms1, msS1, k0, k1, k6, hf1, I_lt, I_le, I_inj, inB_I, tc_I, Int.toNat_natCast, fkt, rf1, rf0, cq, Nat.reduceAdd, Nat.reduceEqDiff, Int.reduceToNat, eq_self, true_and, and_true, true_or, or_true, bI_0, bI_1, mm, rAm, mF_sF, mR_sR, false_and, and_false, if_false, if_true, false_or, or_false, not_true_eq_false, not_false_eq_true, and_self]
      refine ⟨(fun h => by first | exact False.elim h | exact absurd trivial h | (exfalso; omega) | exact absurd rfl h | cases h), fun _ => ?_⟩
      simp (disch := first | (simp only [dd, dr]; done) | omega) only [W_202, I_lt, I_le, I_inj, inB_I, tc_I, Int.toNat_natCast, fkt, rf1, rf0, cq, Nat.reduceAdd, Nat.reduceEqDiff, Int.reduceToNat, eq_self, true_and, and_true, true_or, or_true, bI_0, bI_1, mm, rAm, mF_sF, mR_sR, false_and, and_false, if_false, if_true, false_or, or_false, not_true_eq_false, not_false_eq_true, and_self]
      exact hf hn _
set_option maxHeartbeats 1000000 in
/-- blocks are given back -/
theorem ly_122 (hK : MK M o) (hd : 4 ≤ d) {v n had tail has : Nat} (hv : v < 61) (hh : has ≤ 16) {l : List Nat} (hl16 : l.length ≤ 16) (hT : Wf m (szO X) T) (B : BL T l) : ∀ (N : Nat) (s1 : Int → Int) (l6 : Option Value), has + N ≤ l.length → Ly m v X s s1 (fes (l.drop (has + N)).reverse T) l (has + N) →
    (∀ (s2 : Int → Int), Ly m v X s s2 (fes (l.drop has).reverse T) l has → Wp d 202 185 [some (.ref o), some (.int (I (v : Nat))), some (.int (I (n : Nat))), some (.int (I (had : Nat))), some (.int (I (tail : Nat))), some (.int (I (has : Nat))), some (.int (I 0))] [] (ms M o f s2 b c w j) Q) →
    Wp d 202 122 [some (.ref o), some (.int (I (v : Nat))), some (.int (I (n : Nat))), some (.int (I (had : Nat))), some (.int (I (tail : Nat))), some (.int (I (has : Nat))), l6] [] (ms M o f s1 b c w j) Q
  | 0, s1, l6, hN, L, hk => by
    have hK' := hK
    obtain ⟨k0, k1, k2, k3, k4, k5, k6, k7, k8, k9, k10⟩ := hK
    have e279 := L.2.2.1
    simp (disch := first | (simp only [dd, dr]; done) | omega) only [w_202_122, W_202, msK, msR, msF, ms1, msS1, k0, k1, k6, e279, I_lt, I_le, I_inj, inB_I, tc_I, Int.toNat_natCast, fkt, rf1, rf0, cq, Nat.reduceAdd, Nat.reduceEqDiff, Int.reduceToNat, eq_self, true_and, and_true, true_or, or_true, bI_0, bI_1, mm, rAm, mF_sF, mR_sR, false_and, and_false, if_false, if_true, false_or, or_false, not_true_eq_false, not_false_eq_true, and_self]
    refine ⟨fun _ => ?_, (fun h => by first | exact False.elim h | exact absurd trivial h | (exfalso; omega) | exact absurd rfl h | cases h)⟩
    simp (disch := first | (simp only [dd, dr]; done) | omega) only [W_202, I_lt, I_le, I_inj, inB_I, tc_I, Int.toNat_natCast, fkt, rf1, rf0, cq, Nat.reduceAdd, Nat.reduceEqDiff, Int.reduceToNat, eq_self, true_and, and_true, true_or, or_true, bI_0, bI_1, mm, rAm, mF_sF, mR_sR, false_and, and_false, if_false, if_true, false_or, or_false, not_true_eq_false, not_false_eq_true, and_self]
    exact hk s1 L
  | N + 1, s1, l6, hN, L, hk => by
    have hK' := hK
    obtain ⟨k0, k1, k2, k3, k4, k5, k6, k7, k8, k9, k10⟩ := hK
    obtain ⟨t1, W1, e279, eD, Z⟩ := L
    have hx : l[has + N]? = some l[has + N] := List.getElem?_eq_getElem (by omega)
    generalize l[has + N] = x at hx
    obtain ⟨b1, b2, b3, b4⟩ := B.2 _ (List.mem_of_getElem? hx)
    have ex := eD _ _ hx
    have e2 : fz s1 (279 + (v : Int)) (((has + (N + 1) : Nat) : Int) - 1) (279 + (v : Int)) = ((has + N : Nat) : Int) := by rw [fz_e _ _ rfl]; omega
    have ex2 : fz s1 (279 + (v : Int)) (((has + (N + 1) : Nat) : Int) - 1) (340 + 16 * (v : Int) + ((has + N : Nat) : Int)) = x := by rw [fz_n _ _ (by omega)]; exact ex
    simp (disch := first | (simp only [dd, dr]; done) | omega) only [w_202_122, W_202, msK, msR, msF, ms1, msS1, k0, k1, k6, e279, I_lt, I_le, I_inj, inB_I, tc_I, Int.toNat_natCast, fkt, rf1, rf0, cq, Nat.reduceAdd, Nat.reduceEqDiff, Int.reduceToNat, eq_self, true_and, and_true, true_or, or_true, bI_0, bI_1, mm, rAm, mF_sF, mR_sR, false_and, and_false, if_false, if_true, false_or, or_false, not_true_eq_false, not_false_eq_true, and_self]
    refine ⟨(fun h => by first | exact False.elim h | exact absurd trivial h | (exfalso; omega) | exact absurd rfl h | cases h), fun _ => ?_⟩
    simp (disch := first | (simp only [dd, dr]; done) | omega) only [W_202, msK, msR, msF, ms1, msS1, k0, k1, k6, e279, e2, ex2, I_lt, I_le, I_inj, inB_I, tc_I, Int.toNat_natCast, fkt, rf1, rf0, cq, Nat.reduceAdd, Nat.reduceEqDiff, Int.reduceToNat, eq_self, true_and, and_true, true_or, or_true, bI_0, bI_1, mm, rAm, mF_sF, mR_sR, false_and, and_false, if_false, if_true, false_or, or_false, not_true_eq_false, not_false_eq_true, and_self]
    have t2 : MT (fz s1 (279 + (v : Int)) (((has + (N + 1) : Nat) : Int) - 1)) (fes (l.drop (has + (N + 1))).reverse T) (szO X) (tlX X) := t1.eqs (fun y hy => fz_n _ _ (by omega))
    refine ca_191 (by omega) (t_free hK' t2 b2 (fun s3 t3 F3 => ?_))
    have hH : tH (fes (l.drop (has + (N + 1))).reverse T) x = 0 := by rw [(fes_at _ T).1]; exact b4
    have hfe : fe (fes (l.drop (has + (N + 1))).reverse T) x = fes (l.drop (has + N)).reverse T := by
      have e1 := (fe_eq W1.1 (b := x) hH).1
      rw [e1, drop_get hx, List.reverse_cons, fes_app]
      rfl
    have W3 : Wf m (szO X) (fes (l.drop (has + N)).reverse T) := by
      have := W1.uu (b := x) (u := false) hH (by omega) (fun h => by cases h)
      rw [← (fe_eq W1.1 (b := x) hH).1, hfe] at this
      exact this
    rw [hfe] at t3
    simp (disch := first | (simp only [dd, dr]; done) | omega) only [W_202, I_lt, I_le, I_inj, inB_I, tc_I, Int.toNat_natCast, fkt, rf1, rf0, cq, Nat.reduceAdd, Nat.reduceEqDiff, Int.reduceToNat, eq_self, true_and, and_true, true_or, or_true, bI_0, bI_1, mm, rAm, mF_sF, mR_sR, false_and, and_false, if_false, if_true, false_or, or_false, not_true_eq_false, not_false_eq_true, and_self]
    refine ly_122 hK' hd hv hh hl16 hT B N s3 l6 (by omega) ⟨t3, W3, by rw [F3 _ (by omega)]; exact e2, eD.eqs (fun y y1 y2 => by rw [F3 _ (by omega), fz_n _ _ (by omega)]), fun y hy h1 h2 => by rw [F3 _ hy, fz_n _ _ h1]; exact Z y hy h1 h2⟩ hk
end Mly
