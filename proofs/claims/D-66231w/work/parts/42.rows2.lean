/-! ===== THE MODEL: neighbours, lines, blocks ===== -/
def oI : Option Nat → Int
  | none => -1
  | some x => x
section M3
variable {d : Nat} {M : Mem} {Q : Outcome → Mem → Prop} {o : Nat} {f : Nat → Int} {s b c w : Int → Int} {j : Nat → Bool}
theorem m_beside (hK : MK M o) (hd : 2 ≤ d) {x h k : Nat} {by_ : Int} {l : List Nat} (hby : by_ = 1 ∨ by_ = -1) (hx : x < 96) (hh : h < 8) (hs : s (3756 + (x : Int)) = (h : Int) + 1) (hn : s (13068 + (h : Int)) = l.length) (hl : La s (12300 + 96 * (h : Int)) l) (hl2 : l.length ≤ 96) (hl3 : ∀ y ∈ l, y < 96) (hk : l[k]? = some x) (hf : ∀ i, i < k → l[i]? ≠ some x) (hQ : Q (.returned (some (.int (I (oI (if by_ = 1 then l[k + 1]? else if k = 0 then none else l[k - 1]?)))))) (ms M o f s b c w j)) : Wp d 170 0 [some (.ref o), some (.int (I (x : Nat))), some (.int (I by_)), none, none] [] (ms M o f s b c w j) Q := by
  have hK' := hK
  obtain ⟨k0, k1, k2, k3, k4, k5, k6, k7, k8, k9, k10⟩ := hK
  have hkl := (List.getElem?_eq_some_iff.mp hk).1
  simp (disch := first | (simp only [dd, dr]; done) | omega) only [W_170, msK, msR, msF, ms1, msS1, k0, k1, k6, I_lt, I_le, I_inj, inB_I, tc_I, Int.toNat_natCast, fkt, rf1, rf0, cq, Nat.reduceAdd, Nat.reduceEqDiff, Int.reduceToNat, eq_self, true_and, and_true, true_or, or_true, bI_0, bI_1, mm, rAm, mF_sF, mR_sR, false_and, and_false, if_false, if_true, false_or, or_false, not_true_eq_false, not_false_eq_true, and_self]
  refine ca_171 (by omega) (m_height hK' (by omega) (by omega) ?_)
  rw [hs, show ((h : Int) + 1 - 1) = (h : Int) by omega]
  simp (disch := first | (simp only [dd, dr]; done) | omega) only [W_170, msK, msR, msF, ms1, msS1, k0, k1, k6, I_lt, I_le, I_inj, inB_I, tc_I, Int.toNat_natCast, fkt, rf1, rf0, cq, Nat.reduceAdd, Nat.reduceEqDiff, Int.reduceToNat, eq_self, true_and, and_true, true_or, or_true, bI_0, bI_1, mm, rAm, mF_sF, mR_sR, false_and, and_false, if_false, if_true, false_or, or_false, not_true_eq_false, not_false_eq_true, and_self]
  refine ca_172 (by omega) (m_placeOf hK' (by omega) hx hh hs hl hl2 hl3 hk hf ?_)
  simp (disch := first | (simp only [dd, dr]; done) | omega) only [W_170, msK, msR, msF, ms1, msS1, k0, k1, k6, hn, I_lt, I_le, I_inj, inB_I, tc_I, Int.toNat_natCast, fkt, rf1, rf0, cq, Nat.reduceAdd, Nat.reduceEqDiff, Int.reduceToNat, eq_self, true_and, and_true, true_or, or_true, bI_0, bI_1, mm, rAm, mF_sF, mR_sR, false_and, and_false, if_false, if_true, false_or, or_false, not_true_eq_false, not_false_eq_true, and_self]
  refine ca_159 (by omega) (m_isIn (by omega) (by omega) (by omega) (by omega) (by omega) (by omega) ?_)
  simp (disch := first | (simp only [dd, dr]; done) | omega) only [W_170, I_lt, I_le, I_inj, inB_I, tc_I, Int.toNat_natCast, fkt, rf1, rf0, cq, Nat.reduceAdd, Nat.reduceEqDiff, Int.reduceToNat, eq_self, true_and, and_true, true_or, or_true, bI_0, bI_1, mm, rAm, mF_sF, mR_sR, false_and, and_false, if_false, if_true, false_or, or_false, not_true_eq_false, not_false_eq_true, and_self]
  refine ⟨fun hc => ?_, fun hc => ?_⟩
  · have hc := of_decide_eq_false hc
    simp (disch := first | (simp only [dd, dr]; done) | omega) only [W_170, I_lt, I_le, I_inj, inB_I, tc_I, Int.toNat_natCast, fkt, rf1, rf0, cq, Nat.reduceAdd, Nat.reduceEqDiff, Int.reduceToNat, eq_self, true_and, and_true, true_or, or_true, bI_0, bI_1, mm, rAm, mF_sF, mR_sR, false_and, and_false, if_false, if_true, false_or, or_false, not_true_eq_false, not_false_eq_true, and_self]
    have e : (if by_ = 1 then l[k + 1]? else if k = 0 then none else l[k - 1]?) = none := by
      rcases hby with hb1 | hb1
      · rw [if_pos hb1]; exact List.getElem?_eq_none (by omega)
      · rw [if_neg (by omega), if_pos (by omega)]
    rw [e] at hQ
    exact hQ
  · have hc := of_decide_eq_true (Bool.of_not_eq_false hc)
    have e : ∃ y : Nat, (if by_ = 1 then l[k + 1]? else if k = 0 then none else l[k - 1]?) = some y ∧ s (12300 + 96 * (h : Int) + ((k : Int) + by_)) = y := by
      rcases hby with hb1 | hb1
      · have hy : l[k + 1]? = some l[k + 1] := List.getElem?_eq_getElem (by omega)
        refine ⟨_, by rw [if_pos hb1]; exact hy, ?_⟩
        have := hl _ _ hy
        rw [← this]; congr 1; omega
      · have hy : l[k - 1]? = some l[k - 1] := List.getElem?_eq_getElem (by omega)
        refine ⟨_, by rw [if_neg (by omega), if_neg (by omega)]; exact hy, ?_⟩
        have := hl _ _ hy
        rw [← this]; congr 1; omega
    obtain ⟨y, e1, e2⟩ := e
    simp (disch := first | (simp only [dd, dr]; done) | omega) only [W_170, msK, msR, msF, ms1, msS1, k0, k1, k6, e2, I_lt, I_le, I_inj, inB_I, tc_I, Int.toNat_natCast, fkt, rf1, rf0, cq, Nat.reduceAdd, Nat.reduceEqDiff, Int.reduceToNat, eq_self, true_and, and_true, true_or, or_true, bI_0, bI_1, mm, rAm, mF_sF, mR_sR, false_and, and_false, if_false, if_true, false_or, or_false, not_true_eq_false, not_false_eq_true, and_self]
    rw [e1] at hQ
    exact hQ
set_option maxHeartbeats 4000000 in
theorem m_lineUp (hK : MK M o) (hd : 2 ≤ d) {x y h k : Nat} {l : List Nat} (hx : x < 96) (hy : y < 96) (hh : h < 8) (hs : s (3756 + (x : Int)) = (h : Int) + 1) (hs2 : s (3756 + (y : Int)) = (h : Int) + 1) (hn : s (13068 + (h : Int)) = l.length) (hl : La s (12300 + 96 * (h : Int)) l) (hl2 : l.length ≤ 95) (hl3 : ∀ y ∈ l, y < 96) (hk : l[k]? = some y) (hf : ∀ i, i < k → l[i]? ≠ some y)
    (hQ : Q (.returned none) (ms M o f (fz (insZ s (12300 + 96 * (h : Int)) (k + 1) l.length x) (13068 + (h : Int)) (l.length + 1)) b c w j)) : Wp d 178 0 [some (.ref o), some (.int (I (x : Nat))), some (.int (I (y : Nat))), none, none, none, none] [] (ms M o f s b c w j) Q := by
  have hK' := hK
  obtain ⟨k0, k1, k2, k3, k4, k5, k6, k7, k8, k9, k10⟩ := hK
  have hkl := (List.getElem?_eq_some_iff.mp hk).1
  simp (disch := first | (simp only [dd, dr]; done) | omega) only [W_178, msK, msR, msF, ms1, msS1, k0, k1, k6, I_lt, I_le, I_inj, inB_I, tc_I, Int.toNat_natCast, fkt, rf1, rf0, cq, Nat.reduceAdd, Nat.reduceEqDiff, Int.reduceToNat, eq_self, true_and, and_true, true_or, or_true, bI_0, bI_1, mm, rAm, mF_sF, mR_sR, false_and, and_false, if_false, if_true, false_or, or_false, not_true_eq_false, not_false_eq_true, and_self]
  refine ca_171 (by omega) (m_height hK' (by omega) (by omega) ?_)
  rw [hs, show ((h : Int) + 1 - 1) = (h : Int) by omega]
  simp (disch := first | (simp only [dd, dr]; done) | omega) only [W_178, msK, msR, msF, ms1, msS1, k0, k1, k6, I_lt, I_le, I_inj, inB_I, tc_I, Int.toNat_natCast, fkt, rf1, rf0, cq, Nat.reduceAdd, Nat.reduceEqDiff, Int.reduceToNat, eq_self, true_and, and_true, true_or, or_true, bI_0, bI_1, mm, rAm, mF_sF, mR_sR, false_and, and_false, if_false, if_true, false_or, or_false, not_true_eq_false, not_false_eq_true, and_self]
  refine ca_172 (by omega) (m_placeOf hK' (by omega) hy hh hs2 hl (by omega) hl3 hk hf ?_)
  simp (disch := first | (simp only [dd, dr]; done) | omega) only [W_178, msK, msR, msF, ms1, msS1, k0, k1, k6, hn, I_lt, I_le, I_inj, inB_I, tc_I, Int.toNat_natCast, fkt, rf1, rf0, cq, Nat.reduceAdd, Nat.reduceEqDiff, Int.reduceToNat, eq_self, true_and, and_true, true_or, or_true, bI_0, bI_1, mm, rAm, mF_sF, mR_sR, false_and, and_false, if_false, if_true, false_or, or_false, not_true_eq_false, not_false_eq_true, and_self]
  generalize hn' : l.length = n at *
  generalize hB : 12300 + 96 * (h : Int) = B at *
  rw [show ((k : Int) + 1) = ((k + 1 : Nat) : Int) by omega]
  suffices H : ∀ n' (t : Nat) (G : Int → Int), t = k + 1 + n' → t ≤ n → (∀ x, G x = if B + t < x ∧ x ≤ B + n then s (x - 1) else s x) → Wp d 178 37 [some (.ref o), some (.int (I (x : Nat))), some (.int (I (y : Nat))), some (.int (I (h : Nat))), some (.int (I B)), some (.int (I ((k + 1 : Nat) : Int))), some (.int (I (t : Nat)))] [] (ms M o f G b c w j) Q from
    H (n - (k + 1)) n s (by omega) (Nat.le_refl _) (fun x => by rw [if_neg (by omega)])
  intro n'
  induction n' with
  | succ n' ih =>
    intro t G ht htn hG
    simp (disch := first | (simp only [dd, dr]; done) | omega) only [w_178_37, W_178, I_lt, I_le, I_inj, inB_I, tc_I, Int.toNat_natCast, fkt, rf1, rf0, cq, Nat.reduceAdd, Nat.reduceEqDiff, Int.reduceToNat, eq_self, true_and, and_true, true_or, or_true, bI_0, bI_1, mm, rAm, mF_sF, mR_sR, false_and, and_false, if_false, if_true, false_or, or_false, not_true_eq_false, not_false_eq_true, and_self]
    refine ⟨fun h => absurd h (by omega), fun _ => ?_⟩
    simp (disch := first | (simp only [dd, dr]; done) | omega) only [W_178, msK, msR, msF, ms1, msS1, k0, k1, k6, I_lt, I_le, I_inj, inB_I, tc_I, Int.toNat_natCast, fkt, rf1, rf0, cq, Nat.reduceAdd, Nat.reduceEqDiff, Int.reduceToNat, eq_self, true_and, and_true, true_or, or_true, bI_0, bI_1, mm, rAm, mF_sF, mR_sR, false_and, and_false, if_false, if_true, false_or, or_false, not_true_eq_false, not_false_eq_true, and_self]
    have := ih (t - 1) (fz G (B + (t : Int)) (G (B + (t : Int) - 1))) (by omega) (by omega) (fun x => by
      by_cases h1 : x = B + (t : Int)
      · rw [fz_e _ _ h1, hG, if_neg (by omega), if_pos (by omega), h1]
      · rw [fz_n _ _ h1, hG]
        by_cases h2 : B + (t : Int) < x ∧ x ≤ B + n
        · rw [if_pos h2, if_pos (by omega)]
        · rw [if_neg h2, if_neg (by omega)])
    rw [show (((t - 1 : Nat) : Int)) = ((t : Int) + -1) by omega] at this
    exact this
  | zero =>
    intro t G ht htn hG
    obtain rfl : t = k + 1 := by omega
    have e : fz G (B + ((k + 1 : Nat) : Int)) (x : Int) = insZ s B (k + 1) n x := by
      funext y
      unfold insZ
      by_cases h1 : y = B + ((k + 1 : Nat) : Int)
      · rw [fz_e _ _ h1, if_neg (by omega), if_pos h1]
      · rw [fz_n _ _ h1, hG]
        by_cases h2 : B + ((k + 1 : Nat) : Int) < y ∧ y ≤ B + n
        · rw [if_pos h2, if_pos h2]
        · rw [if_neg h2, if_neg h2, if_neg h1]
    have e2 : insZ s B (k + 1) n x (13068 + (h : Int)) = n := by rw [insZ_n (by omega) htn, hn]
    simp (disch := first | (simp only [dd, dr]; done) | omega) only [w_178_37, W_178, I_lt, I_le, I_inj, inB_I, tc_I, Int.toNat_natCast, fkt, rf1, rf0, cq, Nat.reduceAdd, Nat.reduceEqDiff, Int.reduceToNat, eq_self, true_and, and_true, true_or, or_true, bI_0, bI_1, mm, rAm, mF_sF, mR_sR, false_and, and_false, if_false, if_true, false_or, or_false, not_true_eq_false, not_false_eq_true, and_self]
    refine ⟨fun _ => ?_, fun h => absurd h (by omega)⟩
    simp (disch := first | (simp only [dd, dr]; done) | omega) only [W_178, msK, msR, msF, ms1, msS1, k0, k1, k6, e, e2, I_lt, I_le, I_inj, inB_I, tc_I, Int.toNat_natCast, fkt, rf1, rf0, cq, Nat.reduceAdd, Nat.reduceEqDiff, Int.reduceToNat, eq_self, true_and, and_true, true_or, or_true, bI_0, bI_1, mm, rAm, mF_sF, mR_sR, false_and, and_false, if_false, if_true, false_or, or_false, not_true_eq_false, not_false_eq_true, and_self]
    exact hQ
set_option maxHeartbeats 4000000 in
theorem m_lineOff (hK : MK M o) (hd : 2 ≤ d) {x h k : Nat} {l : List Nat} (hx : x < 96) (hh : h < 8) (hs : s (3756 + (x : Int)) = (h : Int) + 1) (hn : s (13068 + (h : Int)) = l.length) (hl : La s (12300 + 96 * (h : Int)) l) (hl2 : l.length ≤ 96) (hl3 : ∀ y ∈ l, y < 96) (hk : l[k]? = some x) (hf : ∀ i, i < k → l[i]? ≠ some x)
    (hQ : Q (.returned none) (ms M o f (fz (delZ s (12300 + 96 * (h : Int)) k l.length) (13068 + (h : Int)) (l.length - 1)) b c w j)) : Wp d 190 0 [some (.ref o), some (.int (I (x : Nat))), none, none, none] [] (ms M o f s b c w j) Q := by
  have hK' := hK
  obtain ⟨k0, k1, k2, k3, k4, k5, k6, k7, k8, k9, k10⟩ := hK
  have hkl := (List.getElem?_eq_some_iff.mp hk).1
  simp (disch := first | (simp only [dd, dr]; done) | omega) only [W_190, msK, msR, msF, ms1, msS1, k0, k1, k6, I_lt, I_le, I_inj, inB_I, tc_I, Int.toNat_natCast, fkt, rf1, rf0, cq, Nat.reduceAdd, Nat.reduceEqDiff, Int.reduceToNat, eq_self, true_and, and_true, true_or, or_true, bI_0, bI_1, mm, rAm, mF_sF, mR_sR, false_and, and_false, if_false, if_true, false_or, or_false, not_true_eq_false, not_false_eq_true, and_self]
  refine ca_171 (by omega) (m_height hK' (by omega) (by omega) ?_)
  rw [hs, show ((h : Int) + 1 - 1) = (h : Int) by omega]
  simp (disch := first | (simp only [dd, dr]; done) | omega) only [W_190, msK, msR, msF, ms1, msS1, k0, k1, k6, I_lt, I_le, I_inj, inB_I, tc_I, Int.toNat_natCast, fkt, rf1, rf0, cq, Nat.reduceAdd, Nat.reduceEqDiff, Int.reduceToNat, eq_self, true_and, and_true, true_or, or_true, bI_0, bI_1, mm, rAm, mF_sF, mR_sR, false_and, and_false, if_false, if_true, false_or, or_false, not_true_eq_false, not_false_eq_true, and_self]
  refine ca_172 (by omega) (m_placeOf hK' (by omega) hx hh hs hl hl2 hl3 hk hf ?_)
  simp (disch := first | (simp only [dd, dr]; done) | omega) only [W_190, msK, msR, msF, ms1, msS1, k0, k1, k6, I_lt, I_le, I_inj, inB_I, tc_I, Int.toNat_natCast, fkt, rf1, rf0, cq, Nat.reduceAdd, Nat.reduceEqDiff, Int.reduceToNat, eq_self, true_and, and_true, true_or, or_true, bI_0, bI_1, mm, rAm, mF_sF, mR_sR, false_and, and_false, if_false, if_true, false_or, or_false, not_true_eq_false, not_false_eq_true, and_self]
  generalize hn' : l.length = n at *
  generalize hB : 12300 + 96 * (h : Int) = B at *
  suffices H : ∀ n' (t : Nat) (G : Int → Int), t + n' = n - 1 → k ≤ t → (∀ x, G x = if B + k ≤ x ∧ x < B + t then s (x + 1) else s x) → Wp d 190 22 [some (.ref o), some (.int (I (x : Nat))), some (.int (I (h : Nat))), some (.int (I B)), some (.int (I (t : Nat)))] [] (ms M o f G b c w j) Q from
    H (n - 1 - k) k s (by omega) (Nat.le_refl _) (fun x => by rw [if_neg (by omega)])
  intro n'
  induction n' with
  | succ n' ih =>
    intro t G ht htn hG
    have e2 : G (13068 + (h : Int)) = n := by rw [hG, if_neg (by omega), hn]
    simp (disch := first | (simp only [dd, dr]; done) | omega) only [w_190_22, W_190, msK, msR, msF, ms1, msS1, k0, k1, k6, e2, I_lt, I_le, I_inj, inB_I, tc_I, Int.toNat_natCast, fkt, rf1, rf0, cq, Nat.reduceAdd, Nat.reduceEqDiff, Int.reduceToNat, eq_self, true_and, and_true, true_or, or_true, bI_0, bI_1, mm, rAm, mF_sF, mR_sR, false_and, and_false, if_false, if_true, false_or, or_false, not_true_eq_false, not_false_eq_true, and_self]
    refine ⟨fun h => absurd h (by omega), fun _ => ?_⟩
    simp (disch := first | (simp only [dd, dr]; done) | omega) only [W_190, msK, msR, msF, ms1, msS1, k0, k1, k6, I_lt, I_le, I_inj, inB_I, tc_I, Int.toNat_natCast, fkt, rf1, rf0, cq, Nat.reduceAdd, Nat.reduceEqDiff, Int.reduceToNat, eq_self, true_and, and_true, true_or, or_true, bI_0, bI_1, mm, rAm, mF_sF, mR_sR, false_and, and_false, if_false, if_true, false_or, or_false, not_true_eq_false, not_false_eq_true, and_self]
    exact ih (t + 1) (fz G (B + (t : Int)) (G (B + (t : Int) + 1))) (by omega) (by omega) (fun x => by
      by_cases h1 : x = B + (t : Int)
      · rw [fz_e _ _ h1, hG, if_neg (by omega), if_pos (by omega), h1]
      · rw [fz_n _ _ h1, hG]
        by_cases h2 : B + k ≤ x ∧ x < B + t
        · rw [if_pos h2, if_pos (by omega)]
        · rw [if_neg h2, if_neg (by omega)])
  | zero =>
    intro t G ht htn hG
    obtain rfl : t = n - 1 := by omega
    have e : G = delZ s B k n := by
      funext y
      rw [hG]
      unfold delZ
      by_cases h2 : B + k ≤ y ∧ y < B + ((n - 1 : Nat) : Int)
      · rw [if_pos h2, if_pos (by omega)]
      · rw [if_neg h2, if_neg (by omega)]
    have e2 : G (13068 + (h : Int)) = n := by rw [hG, if_neg (by omega), hn]
    simp (disch := first | (simp only [dd, dr]; done) | omega) only [w_190_22, W_190, msK, msR, msF, ms1, msS1, k0, k1, k6, e2, I_lt, I_le, I_inj, inB_I, tc_I, Int.toNat_natCast, fkt, rf1, rf0, cq, Nat.reduceAdd, Nat.reduceEqDiff, Int.reduceToNat, eq_self, true_and, and_true, true_or, or_true, bI_0, bI_1, mm, rAm, mF_sF, mR_sR, false_and, and_false, if_false, if_true, false_or, or_false, not_true_eq_false, not_false_eq_true, and_self]
    refine ⟨fun _ => ?_, fun h => absurd h (by omega)⟩
    simp (disch := first | (simp only [dd, dr]; done) | omega) only [W_190, msK, msR, msF, ms1, msS1, k0, k1, k6, e2, I_lt, I_le, I_inj, inB_I, tc_I, Int.toNat_natCast, fkt, rf1, rf0, cq, Nat.reduceAdd, Nat.reduceEqDiff, Int.reduceToNat, eq_self, true_and, and_true, true_or, or_true, bI_0, bI_1, mm, rAm, mF_sF, mR_sR, false_and, and_false, if_false, if_true, false_or, or_false, not_true_eq_false, not_false_eq_true, and_self]
    rw [e]
    exact hQ
theorem m_take (hK : MK M o) {n : Nat} {u : Nat → Bool} (hf : f 43 = n) (hn : n ≤ 96) (hn1 : 1 ≤ n) (hu : ∀ x : Nat, x < n → s (0 + (x : Int)) = bI (u x)) (hu0 : u 0 = true)
    (hQ1 : ∀ k : Nat, k < n → u k = false → (∀ j, j < k → u j = true) → Q (.returned (some (.int (I (k : Nat))))) (ms M o f (fz (fz (fz s (0 + (k : Int)) 1) (3756 + (k : Int)) 0) (3852 + (k : Int)) 0) b c w j))
    (hQ2 : (∀ j, j < n → u j = true) → Q (.returned (some (.int (I (-1))))) (ms M o (fu f 47 1) s b c w j)) : Wp d 177 0 [some (.ref o), none] [] (ms M o f s b c w j) Q := by
  obtain ⟨k0, k1, k2, k3, k4, k5, k6, k7, k8, k9, k10⟩ := hK
  simp (disch := first | (simp only [dd, dr]; done) | omega) only [W_177, I_lt, I_le, I_inj, inB_I, tc_I, Int.toNat_natCast, fkt, rf1, rf0, cq, Nat.reduceAdd, Nat.reduceEqDiff, Int.reduceToNat, eq_self, true_and, and_true, true_or, or_true, bI_0, bI_1, mm, rAm, mF_sF, mR_sR, false_and, and_false, if_false, if_true, false_or, or_false, not_true_eq_false, not_false_eq_true, and_self]
  suffices H : ∀ n' (i : Nat), i + n' = n → 1 ≤ i → (∀ j, j < i → u j = true) → Wp d 177 2 [some (.ref o), some (.int (I (i : Nat)))] [] (ms M o f s b c w j) Q from
    H (n - 1) 1 (by omega) (Nat.le_refl _) (fun j hj => by rw [show j = 0 by omega]; exact hu0)
  intro n'
  induction n' with
  | zero =>
    intro i hi h1 hj
    obtain rfl : i = n := by omega
    simp (disch := first | (simp only [dd, dr]; done) | omega) only [w_177_2, W_177, msK, msR, msF, ms1, msS1, k0, k1, k6, hf, I_lt, I_le, I_inj, inB_I, tc_I, Int.toNat_natCast, fkt, rf1, rf0, cq, Nat.reduceAdd, Nat.reduceEqDiff, Int.reduceToNat, eq_self, true_and, and_true, true_or, or_true, bI_0, bI_1, mm, rAm, mF_sF, mR_sR, false_and, and_false, if_false, if_true, false_or, or_false, not_true_eq_false, not_false_eq_true, and_self]
    refine ⟨fun _ => ?_, fun h => absurd h (by omega)⟩
    simp (disch := first | (simp only [dd, dr]; done) | omega) only [W_177, msK, msR, msF, ms1, msS1, k0, k1, k6, msSF, I_lt, I_le, I_inj, inB_I, tc_I, Int.toNat_natCast, fkt, rf1, rf0, cq, Nat.reduceAdd, Nat.reduceEqDiff, Int.reduceToNat, eq_self, true_and, and_true, true_or, or_true, bI_0, bI_1, mm, rAm, mF_sF, mR_sR, false_and, and_false, if_false, if_true, false_or, or_false, not_true_eq_false, not_false_eq_true, and_self]
    exact hQ2 hj
  | succ n' ih =>
    intro i hi h1 hj
    have e := hu i (by omega)
    simp (disch := first | (simp only [dd, dr]; done) | omega) only [w_177_2, W_177, msK, msR, msF, ms1, msS1, k0, k1, k6, hf, I_lt, I_le, I_inj, inB_I, tc_I, Int.toNat_natCast, fkt, rf1, rf0, cq, Nat.reduceAdd, Nat.reduceEqDiff, Int.reduceToNat, eq_self, true_and, and_true, true_or, or_true, bI_0, bI_1, mm, rAm, mF_sF, mR_sR, false_and, and_false, if_false, if_true, false_or, or_false, not_true_eq_false, not_false_eq_true, and_self]
    refine ⟨fun h => absurd h (by omega), fun _ => ?_⟩
    simp (disch := first | (simp only [dd, dr]; done) | omega) only [W_177, msK, msR, msF, ms1, msS1, k0, k1, k6, e, I_lt, I_le, I_inj, inB_I, tc_I, Int.toNat_natCast, fkt, rf1, rf0, cq, Nat.reduceAdd, Nat.reduceEqDiff, Int.reduceToNat, eq_self, true_and, and_true, true_or, or_true, bI_0, bI_1, mm, rAm, mF_sF, mR_sR, false_and, and_false, if_false, if_true, false_or, or_false, not_true_eq_false, not_false_eq_true, and_self]
    refine ⟨fun hc => ?_, fun hc => ?_⟩
    · simp (disch := first | (simp only [dd, dr]; done) | omega) only [W_177, I_lt, I_le, I_inj, inB_I, tc_I, Int.toNat_natCast, fkt, rf1, rf0, cq, Nat.reduceAdd, Nat.reduceEqDiff, Int.reduceToNat, eq_self, true_and, and_true, true_or, or_true, bI_0, bI_1, mm, rAm, mF_sF, mR_sR, false_and, and_false, if_false, if_true, false_or, or_false, not_true_eq_false, not_false_eq_true, and_self]
      refine ih (i + 1) (by omega) (by omega) (fun j h => ?_)
      by_cases e : j = i
      · rw [e]; exact Bool.of_not_eq_false hc
      · exact hj j (by omega)
    · have hc := Decidable.not_not.mp hc
      simp (disch := first | (simp only [dd, dr]; done) | omega) only [W_177, msK, msR, msF, ms1, msS1, k0, k1, k6, I_lt, I_le, I_inj, inB_I, tc_I, Int.toNat_natCast, fkt, rf1, rf0, cq, Nat.reduceAdd, Nat.reduceEqDiff, Int.reduceToNat, eq_self, true_and, and_true, true_or, or_true, bI_0, bI_1, mm, rAm, mF_sF, mR_sR, false_and, and_false, if_false, if_true, false_or, or_false, not_true_eq_false, not_false_eq_true, and_self]
      exact hQ1 i (by omega) hc hj
end M3
