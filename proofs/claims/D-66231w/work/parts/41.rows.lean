/-! ===== THE MODEL: rows and children ===== -/
/-- a value comes in at place k of n, all behind it go one up; one goes, all behind it go one down -/
def insZ (s : Int → Int) (base : Int) (k n : Nat) (v : Int) : Int → Int := fun x => if base + k < x ∧ x ≤ base + n then s (x - 1) else if x = base + k then v else s x
def delZ (s : Int → Int) (base : Int) (k n : Nat) : Int → Int := fun x => if base + k ≤ x ∧ x + 1 < base + n then s (x + 1) else s x
/-- from a place on there stands a list -/
def La (s : Int → Int) (base : Int) (l : List Nat) : Prop := ∀ (i x : Nat), l[i]? = some x → s (base + i) = x
theorem insZ_n {s : Int → Int} {base : Int} {k n : Nat} {v x : Int} (h : x < base + k ∨ base + n < x) (hk : k ≤ n) : insZ s base k n v x = s x := by
  unfold insZ; rw [if_neg (by omega), if_neg (by omega)]
theorem delZ_n {s : Int → Int} {base : Int} {k n : Nat} {x : Int} (h : x < base + k ∨ base + n ≤ x + 1) : delZ s base k n x = s x := by
  unfold delZ; rw [if_neg (by omega)]
theorem La.ins {s : Int → Int} {base : Int} {l : List Nat} (h : La s base l) {k : Nat} (hk : k ≤ l.length) (v : Nat) : La (insZ s base k l.length v) base (l.take k ++ v :: l.drop k) := by
  intro i x hx
  rw [ins_at l v hk] at hx
  unfold insZ
  by_cases c1 : k < i ∧ i ≤ l.length
  · rw [if_pos c1] at hx
    rw [if_pos (by omega), show base + (i : Int) - 1 = base + ((i - 1 : Nat) : Int) by omega]
    exact h _ _ hx
  · rw [if_neg c1] at hx
    rw [if_neg (by omega)]
    by_cases c2 : i = k
    · rw [if_pos c2] at hx
      cases hx
      rw [if_pos (by omega)]
    · rw [if_neg c2] at hx
      rw [if_neg (by omega)]
      exact h _ _ hx
theorem La.del {s : Int → Int} {base : Int} {l : List Nat} (h : La s base l) {k : Nat} (hk : k < l.length) : La (delZ s base k l.length) base (l.take k ++ l.drop (k + 1)) := by
  intro i x hx
  rw [del_at l hk] at hx
  unfold delZ
  by_cases c1 : k ≤ i ∧ i + 1 < l.length
  · rw [if_pos c1] at hx
    rw [if_pos (by omega), show base + (i : Int) + 1 = base + ((i + 1 : Nat) : Int) by omega]
    exact h _ _ hx
  · rw [if_neg c1] at hx
    rw [if_neg (by omega)]
    by_cases c2 : i < k
    · rw [if_pos c2] at hx
      exact h _ _ hx
    · rw [if_neg c2] at hx; cases hx
theorem La.congr {s s' : Int → Int} {base : Int} {l : List Nat} (h : La s base l) (he : ∀ x, base ≤ x → x < base + l.length → s' x = s x) : La s' base l := by
  intro i x hx
  have := (List.getElem?_eq_some_iff.mp hx).1
  rw [he _ (by omega) (by omega)]
  exact h i x hx
section M2
variable {d : Nat} {M : Mem} {Q : Outcome → Mem → Prop} {o : Nat} {f : Nat → Int} {s b c w : Int → Int} {j : Nat → Bool}
theorem m_height (hK : MK M o) {x : Int} (h0 : 0 ≤ x) (h1 : x < 96) (hQ : Q (.returned (some (.int (I (s (3756 + x) - 1))))) (ms M o f s b c w j)) : Wp d 171 0 [some (.ref o), some (.int (I x))] [] (ms M o f s b c w j) Q := by
  obtain ⟨k0, k1, k2, k3, k4, k5, k6, k7, k8, k9, k10⟩ := hK
  simp (disch := first | (simp only [dd, dr]; done) | omega) only [W_171, msK, msR, msF, ms1, msS1, k0, k1, k6, I_lt, I_le, I_inj, inB_I, tc_I, Int.toNat_natCast, fkt, rf1, rf0, cq, Nat.reduceAdd, Nat.reduceEqDiff, Int.reduceToNat, eq_self, true_and, and_true, true_or, or_true, bI_0, bI_1, mm, rAm, mF_sF, mR_sR, false_and, and_false, if_false, if_true, false_or, or_false, not_true_eq_false, not_false_eq_true, and_self]
  exact hQ
theorem m_placeOf (hK : MK M o) (hd : 1 ≤ d) {x h k : Nat} {l : List Nat} (hx : x < 96) (hh : h < 8) (hs : s (3756 + (x : Int)) = (h : Int) + 1) (hl : La s (12300 + 96 * (h : Int)) l) (hl2 : l.length ≤ 96) (hl3 : ∀ y ∈ l, y < 96) (hk : l[k]? = some x) (hf : ∀ i, i < k → l[i]? ≠ some x) (hQ : Q (.returned (some (.int (I (k : Nat))))) (ms M o f s b c w j)) : Wp d 172 0 [some (.ref o), some (.int (I (x : Nat))), none, none] [] (ms M o f s b c w j) Q := by
  have hK' := hK
  obtain ⟨k0, k1, k2, k3, k4, k5, k6, k7, k8, k9, k10⟩ := hK
  have hkl := (List.getElem?_eq_some_iff.mp hk).1
  simp (disch := first | (simp only [dd, dr]; done) | omega) only [W_172, msK, msR, msF, ms1, msS1, k0, k1, k6, I_lt, I_le, I_inj, inB_I, tc_I, Int.toNat_natCast, fkt, rf1, rf0, cq, Nat.reduceAdd, Nat.reduceEqDiff, Int.reduceToNat, eq_self, true_and, and_true, true_or, or_true, bI_0, bI_1, mm, rAm, mF_sF, mR_sR, false_and, and_false, if_false, if_true, false_or, or_false, not_true_eq_false, not_false_eq_true, and_self]
  refine ca_171 (by omega) (m_height hK' (by omega) (by omega) ?_)
  rw [hs]
  simp (disch := first | (simp only [dd, dr]; done) | omega) only [W_172, I_lt, I_le, I_inj, inB_I, tc_I, Int.toNat_natCast, fkt, rf1, rf0, cq, Nat.reduceAdd, Nat.reduceEqDiff, Int.reduceToNat, eq_self, true_and, and_true, true_or, or_true, bI_0, bI_1, mm, rAm, mF_sF, mR_sR, false_and, and_false, if_false, if_true, false_or, or_false, not_true_eq_false, not_false_eq_true, and_self]
  rw [show (12300 : Int) + 96 * ((h : Int) + 1 - 1) = 12300 + 96 * (h : Int) by omega]
  suffices H : ∀ n (i : Nat), i + n = k → Wp d 172 15 [some (.ref o), some (.int (I (x : Nat))), some (.int (I (12300 + 96 * (h : Int)))), some (.int (I (i : Nat)))] [] (ms M o f s b c w j) Q from H k 0 (by omega)
  intro n
  induction n with
  | zero =>
    intro i hi
    obtain rfl : i = k := by omega
    have e := hl _ _ hk
    simp (disch := first | (simp only [dd, dr]; done) | omega) only [w_172_15, W_172, msK, msR, msF, ms1, msS1, k0, k1, k6, e, I_lt, I_le, I_inj, inB_I, tc_I, Int.toNat_natCast, fkt, rf1, rf0, cq, Nat.reduceAdd, Nat.reduceEqDiff, Int.reduceToNat, eq_self, true_and, and_true, true_or, or_true, bI_0, bI_1, mm, rAm, mF_sF, mR_sR, false_and, and_false, if_false, if_true, false_or, or_false, not_true_eq_false, not_false_eq_true, and_self]
    refine ⟨fun _ => ?_, fun h => absurd trivial h⟩
    simp (disch := first | (simp only [dd, dr]; done) | omega) only [W_172, I_lt, I_le, I_inj, inB_I, tc_I, Int.toNat_natCast, fkt, rf1, rf0, cq, Nat.reduceAdd, Nat.reduceEqDiff, Int.reduceToNat, eq_self, true_and, and_true, true_or, or_true, bI_0, bI_1, mm, rAm, mF_sF, mR_sR, false_and, and_false, if_false, if_true, false_or, or_false, not_true_eq_false, not_false_eq_true, and_self]
    exact hQ
  | succ n ih =>
    intro i hi
    have hy : l[i]? = some l[i] := List.getElem?_eq_getElem (by omega)
    have e := hl _ _ hy
    have hy2 := hl3 _ (List.mem_of_getElem? hy)
    have hne : l[i] ≠ x := fun h => hf i (by omega) (by rw [hy, h])
    simp (disch := first | (simp only [dd, dr]; done) | omega) only [w_172_15, W_172, msK, msR, msF, ms1, msS1, k0, k1, k6, e, I_lt, I_le, I_inj, inB_I, tc_I, Int.toNat_natCast, fkt, rf1, rf0, cq, Nat.reduceAdd, Nat.reduceEqDiff, Int.reduceToNat, eq_self, true_and, and_true, true_or, or_true, bI_0, bI_1, mm, rAm, mF_sF, mR_sR, false_and, and_false, if_false, if_true, false_or, or_false, not_true_eq_false, not_false_eq_true, and_self]
    refine ⟨fun h => absurd h (by omega), fun _ => ?_⟩
    simp (disch := first | (simp only [dd, dr]; done) | omega) only [W_172, I_lt, I_le, I_inj, inB_I, tc_I, Int.toNat_natCast, fkt, rf1, rf0, cq, Nat.reduceAdd, Nat.reduceEqDiff, Int.reduceToNat, eq_self, true_and, and_true, true_or, or_true, bI_0, bI_1, mm, rAm, mF_sF, mR_sR, false_and, and_false, if_false, if_true, false_or, or_false, not_true_eq_false, not_false_eq_true, and_self]
    exact ih (i + 1) (by omega)
theorem m_childPlace (hK : MK M o) {p x k : Nat} {l : List Nat} (hp : p < 96) (hx : x < 96) (hl : La s (4044 + 6 * (p : Int)) l) (hl2 : l.length ≤ 6) (hl3 : ∀ y ∈ l, y < 96) (hk : l[k]? = some x) (hf : ∀ i, i < k → l[i]? ≠ some x) (hQ : Q (.returned (some (.int (I (k : Nat))))) (ms M o f s b c w j)) : Wp d 181 0 [some (.ref o), some (.int (I (p : Nat))), some (.int (I (x : Nat))), none] [] (ms M o f s b c w j) Q := by
  obtain ⟨k0, k1, k2, k3, k4, k5, k6, k7, k8, k9, k10⟩ := hK
  have hkl := (List.getElem?_eq_some_iff.mp hk).1
  simp (disch := first | (simp only [dd, dr]; done) | omega) only [W_181, I_lt, I_le, I_inj, inB_I, tc_I, Int.toNat_natCast, fkt, rf1, rf0, cq, Nat.reduceAdd, Nat.reduceEqDiff, Int.reduceToNat, eq_self, true_and, and_true, true_or, or_true, bI_0, bI_1, mm, rAm, mF_sF, mR_sR, false_and, and_false, if_false, if_true, false_or, or_false, not_true_eq_false, not_false_eq_true, and_self]
  suffices H : ∀ n (i : Nat), i + n = k → Wp d 181 2 [some (.ref o), some (.int (I (p : Nat))), some (.int (I (x : Nat))), some (.int (I (i : Nat)))] [] (ms M o f s b c w j) Q from H k 0 (by omega)
  intro n
  induction n with
  | zero =>
    intro i hi
    obtain rfl : i = k := by omega
    have e := hl _ _ hk
    simp (disch := first | (simp only [dd, dr]; done) | omega) only [w_181_2, W_181, msK, msR, msF, ms1, msS1, k0, k1, k6, e, I_lt, I_le, I_inj, inB_I, tc_I, Int.toNat_natCast, fkt, rf1, rf0, cq, Nat.reduceAdd, Nat.reduceEqDiff, Int.reduceToNat, eq_self, true_and, and_true, true_or, or_true, bI_0, bI_1, mm, rAm, mF_sF, mR_sR, false_and, and_false, if_false, if_true, false_or, or_false, not_true_eq_false, not_false_eq_true, and_self]
    refine ⟨fun _ => ?_, fun h => absurd trivial h⟩
    simp (disch := first | (simp only [dd, dr]; done) | omega) only [W_181, I_lt, I_le, I_inj, inB_I, tc_I, Int.toNat_natCast, fkt, rf1, rf0, cq, Nat.reduceAdd, Nat.reduceEqDiff, Int.reduceToNat, eq_self, true_and, and_true, true_or, or_true, bI_0, bI_1, mm, rAm, mF_sF, mR_sR, false_and, and_false, if_false, if_true, false_or, or_false, not_true_eq_false, not_false_eq_true, and_self]
    exact hQ
  | succ n ih =>
    intro i hi
    have hy : l[i]? = some l[i] := List.getElem?_eq_getElem (by omega)
    have e := hl _ _ hy
    have hy2 := hl3 _ (List.mem_of_getElem? hy)
    have hne : l[i] ≠ x := fun h => hf i (by omega) (by rw [hy, h])
    simp (disch := first | (simp only [dd, dr]; done) | omega) only [w_181_2, W_181, msK, msR, msF, ms1, msS1, k0, k1, k6, e, I_lt, I_le, I_inj, inB_I, tc_I, Int.toNat_natCast, fkt, rf1, rf0, cq, Nat.reduceAdd, Nat.reduceEqDiff, Int.reduceToNat, eq_self, true_and, and_true, true_or, or_true, bI_0, bI_1, mm, rAm, mF_sF, mR_sR, false_and, and_false, if_false, if_true, false_or, or_false, not_true_eq_false, not_false_eq_true, and_self]
    refine ⟨fun h => absurd h (by omega), fun _ => ?_⟩
    simp (disch := first | (simp only [dd, dr]; done) | omega) only [W_181, I_lt, I_le, I_inj, inB_I, tc_I, Int.toNat_natCast, fkt, rf1, rf0, cq, Nat.reduceAdd, Nat.reduceEqDiff, Int.reduceToNat, eq_self, true_and, and_true, true_or, or_true, bI_0, bI_1, mm, rAm, mF_sF, mR_sR, false_and, and_false, if_false, if_true, false_or, or_false, not_true_eq_false, not_false_eq_true, and_self]
    exact ih (i + 1) (by omega)
set_option maxHeartbeats 4000000 in
theorem m_child (hK : MK M o) {p x k n : Nat} (hp : p < 96) (hx : x < 96) (hn : s (3852 + (p : Int)) = (n : Int)) (hn5 : n ≤ 5) (hk : k ≤ n) (hQ : Q (.returned none) (ms M o f (fz (fz (insZ s (4044 + 6 * (p : Int)) k n x) (3852 + (p : Int)) (n + 1)) (3948 + (x : Int)) p) b c w j)) : Wp d 180 0 [some (.ref o), some (.int (I (p : Nat))), some (.int (I (k : Nat))), some (.int (I (x : Nat))), none] [] (ms M o f s b c w j) Q := by
  obtain ⟨k0, k1, k2, k3, k4, k5, k6, k7, k8, k9, k10⟩ := hK
  simp (disch := first | (simp only [dd, dr]; done) | omega) only [W_180, msK, msR, msF, ms1, msS1, k0, k1, k6, hn, I_lt, I_le, I_inj, inB_I, tc_I, Int.toNat_natCast, fkt, rf1, rf0, cq, Nat.reduceAdd, Nat.reduceEqDiff, Int.reduceToNat, eq_self, true_and, and_true, true_or, or_true, bI_0, bI_1, mm, rAm, mF_sF, mR_sR, false_and, and_false, if_false, if_true, false_or, or_false, not_true_eq_false, not_false_eq_true, and_self]
  suffices H : ∀ n' (t : Nat) (G : Int → Int), t = k + n' → t ≤ n → (∀ x, G x = if 4044 + 6 * (p : Int) + t < x ∧ x ≤ 4044 + 6 * (p : Int) + n then s (x - 1) else s x) → Wp d 180 12 [some (.ref o), some (.int (I (p : Nat))), some (.int (I (k : Nat))), some (.int (I (x : Nat))), some (.int (I (t : Nat)))] [] (ms M o f G b c w j) Q from
    H (n - k) n s (by omega) (Nat.le_refl _) (fun x => by rw [if_neg (by omega)])
  intro n'
  induction n' with
  | succ n' ih =>
    intro t G ht htn hG
    simp (disch := first | (simp only [dd, dr]; done) | omega) only [w_180_12, W_180, I_lt, I_le, I_inj, inB_I, tc_I, Int.toNat_natCast, fkt, rf1, rf0, cq, Nat.reduceAdd, Nat.reduceEqDiff, Int.reduceToNat, eq_self, true_and, and_true, true_or, or_true, bI_0, bI_1, mm, rAm, mF_sF, mR_sR, false_and, and_false, if_false, if_true, false_or, or_false, not_true_eq_false, not_false_eq_true, and_self]
    refine ⟨fun h => absurd h (by omega), fun _ => ?_⟩
    simp (disch := first | (simp only [dd, dr]; done) | omega) only [W_180, msK, msR, msF, ms1, msS1, k0, k1, k6, I_lt, I_le, I_inj, inB_I, tc_I, Int.toNat_natCast, fkt, rf1, rf0, cq, Nat.reduceAdd, Nat.reduceEqDiff, Int.reduceToNat, eq_self, true_and, and_true, true_or, or_true, bI_0, bI_1, mm, rAm, mF_sF, mR_sR, false_and, and_false, if_false, if_true, false_or, or_false, not_true_eq_false, not_false_eq_true, and_self]
    have := ih (t - 1) (fz G (4044 + 6 * (p : Int) + (t : Int)) (G (4044 + 6 * (p : Int) + (t : Int) - 1))) (by omega) (by omega) (fun x => by
      by_cases h1 : x = 4044 + 6 * (p : Int) + (t : Int)
      · rw [fz_e _ _ h1, hG, if_neg (by omega), if_pos (by omega), h1]
      · rw [fz_n _ _ h1, hG]
        by_cases h2 : 4044 + 6 * (p : Int) + (t : Int) < x ∧ x ≤ 4044 + 6 * (p : Int) + n
        · rw [if_pos h2, if_pos (by omega)]
        · rw [if_neg h2, if_neg (by omega)])
    rw [show (((t - 1 : Nat) : Int)) = ((t : Int) + -1) by omega] at this
    exact this
  | zero =>
    intro t G ht htn hG
    obtain rfl : t = k := by omega
    have e : fz G (4044 + 6 * (p : Int) + (t : Int)) (x : Int) = insZ s (4044 + 6 * (p : Int)) t n x := by
      funext y
      unfold insZ
      by_cases h1 : y = 4044 + 6 * (p : Int) + (t : Int)
      · rw [fz_e _ _ h1, if_neg (by omega), if_pos h1]
      · rw [fz_n _ _ h1, hG]
        by_cases h2 : 4044 + 6 * (p : Int) + (t : Int) < y ∧ y ≤ 4044 + 6 * (p : Int) + n
        · rw [if_pos h2, if_pos h2]
        · rw [if_neg h2, if_neg h2, if_neg h1]
    have e2 : insZ s (4044 + 6 * (p : Int)) t n x (3852 + (p : Int)) = n := by rw [insZ_n (by omega) hk, hn]
    simp (disch := first | (simp only [dd, dr]; done) | omega) only [w_180_12, W_180, I_lt, I_le, I_inj, inB_I, tc_I, Int.toNat_natCast, fkt, rf1, rf0, cq, Nat.reduceAdd, Nat.reduceEqDiff, Int.reduceToNat, eq_self, true_and, and_true, true_or, or_true, bI_0, bI_1, mm, rAm, mF_sF, mR_sR, false_and, and_false, if_false, if_true, false_or, or_false, not_true_eq_false, not_false_eq_true, and_self]
    refine ⟨fun _ => ?_, fun h => absurd h (by omega)⟩
    simp (disch := first | (simp only [dd, dr]; done) | omega) only [W_180, msK, msR, msF, ms1, msS1, k0, k1, k6, e, e2, I_lt, I_le, I_inj, inB_I, tc_I, Int.toNat_natCast, fkt, rf1, rf0, cq, Nat.reduceAdd, Nat.reduceEqDiff, Int.reduceToNat, eq_self, true_and, and_true, true_or, or_true, bI_0, bI_1, mm, rAm, mF_sF, mR_sR, false_and, and_false, if_false, if_true, false_or, or_false, not_true_eq_false, not_false_eq_true, and_self]
    exact hQ
set_option maxHeartbeats 4000000 in
theorem m_takeChild (hK : MK M o) {p k n : Nat} (hp : p < 96) (hn : s (3852 + (p : Int)) = (n : Int)) (hn6 : n ≤ 6) (hk : k < n) (hQ : Q (.returned (some (.int (I (s (4044 + 6 * (p : Int) + (k : Int))))))) (ms M o f (fz (delZ s (4044 + 6 * (p : Int)) k n) (3852 + (p : Int)) (n - 1)) b c w j)) : Wp d 182 0 [some (.ref o), some (.int (I (p : Nat))), some (.int (I (k : Nat))), none, none] [] (ms M o f s b c w j) Q := by
  obtain ⟨k0, k1, k2, k3, k4, k5, k6, k7, k8, k9, k10⟩ := hK
  simp (disch := first | (simp only [dd, dr]; done) | omega) only [W_182, msK, msR, msF, ms1, msS1, k0, k1, k6, I_lt, I_le, I_inj, inB_I, tc_I, Int.toNat_natCast, fkt, rf1, rf0, cq, Nat.reduceAdd, Nat.reduceEqDiff, Int.reduceToNat, eq_self, true_and, and_true, true_or, or_true, bI_0, bI_1, mm, rAm, mF_sF, mR_sR, false_and, and_false, if_false, if_true, false_or, or_false, not_true_eq_false, not_false_eq_true, and_self]
  generalize s (4044 + 6 * (p : Int) + (k : Int)) = cc at *
  suffices H : ∀ n' (t : Nat) (G : Int → Int), t + n' = n - 1 → k ≤ t → (∀ x, G x = if 4044 + 6 * (p : Int) + k ≤ x ∧ x < 4044 + 6 * (p : Int) + t then s (x + 1) else s x) → Wp d 182 19 [some (.ref o), some (.int (I (p : Nat))), some (.int (I (k : Nat))), some (.int (I cc)), some (.int (I (t : Nat)))] [] (ms M o f G b c w j) Q from
    H (n - 1 - k) k s (by omega) (Nat.le_refl _) (fun x => by rw [if_neg (by omega)])
  intro n'
  induction n' with
  | succ n' ih =>
    intro t G ht htn hG
    have e2 : G (3852 + (p : Int)) = n := by rw [hG, if_neg (by omega), hn]
    simp (disch := first | (simp only [dd, dr]; done) | omega) only [w_182_19, W_182, msK, msR, msF, ms1, msS1, k0, k1, k6, e2, I_lt, I_le, I_inj, inB_I, tc_I, Int.toNat_natCast, fkt, rf1, rf0, cq, Nat.reduceAdd, Nat.reduceEqDiff, Int.reduceToNat, eq_self, true_and, and_true, true_or, or_true, bI_0, bI_1, mm, rAm, mF_sF, mR_sR, false_and, and_false, if_false, if_true, false_or, or_false, not_true_eq_false, not_false_eq_true, and_self]
    refine ⟨fun h => absurd h (by omega), fun _ => ?_⟩
    simp (disch := first | (simp only [dd, dr]; done) | omega) only [W_182, msK, msR, msF, ms1, msS1, k0, k1, k6, I_lt, I_le, I_inj, inB_I, tc_I, Int.toNat_natCast, fkt, rf1, rf0, cq, Nat.reduceAdd, Nat.reduceEqDiff, Int.reduceToNat, eq_self, true_and, and_true, true_or, or_true, bI_0, bI_1, mm, rAm, mF_sF, mR_sR, false_and, and_false, if_false, if_true, false_or, or_false, not_true_eq_false, not_false_eq_true, and_self]
    exact ih (t + 1) (fz G (4044 + 6 * (p : Int) + (t : Int)) (G (4044 + 6 * (p : Int) + (t : Int) + 1))) (by omega) (by omega) (fun x => by
      by_cases h1 : x = 4044 + 6 * (p : Int) + (t : Int)
      · rw [fz_e _ _ h1, hG, if_neg (by omega), if_pos (by omega), h1]
      · rw [fz_n _ _ h1, hG]
        by_cases h2 : 4044 + 6 * (p : Int) + k ≤ x ∧ x < 4044 + 6 * (p : Int) + t
        · rw [if_pos h2, if_pos (by omega)]
        · rw [if_neg h2, if_neg (by omega)])
  | zero =>
    intro t G ht htn hG
    obtain rfl : t = n - 1 := by omega
    have e : G = delZ s (4044 + 6 * (p : Int)) k n := by
      funext y
      rw [hG]
      unfold delZ
      by_cases h2 : 4044 + 6 * (p : Int) + k ≤ y ∧ y < 4044 + 6 * (p : Int) + ((n - 1 : Nat) : Int)
      · rw [if_pos h2, if_pos (by omega)]
      · rw [if_neg h2, if_neg (by omega)]
    have e2 : G (3852 + (p : Int)) = n := by rw [hG, if_neg (by omega), hn]
    simp (disch := first | (simp only [dd, dr]; done) | omega) only [w_182_19, W_182, msK, msR, msF, ms1, msS1, k0, k1, k6, e2, I_lt, I_le, I_inj, inB_I, tc_I, Int.toNat_natCast, fkt, rf1, rf0, cq, Nat.reduceAdd, Nat.reduceEqDiff, Int.reduceToNat, eq_self, true_and, and_true, true_or, or_true, bI_0, bI_1, mm, rAm, mF_sF, mR_sR, false_and, and_false, if_false, if_true, false_or, or_false, not_true_eq_false, not_false_eq_true, and_self]
    refine ⟨fun _ => ?_, fun h => absurd h (by omega)⟩
    simp (disch := first | (simp only [dd, dr]; done) | omega) only [W_182, msK, msR, msF, ms1, msS1, k0, k1, k6, e2, I_lt, I_le, I_inj, inB_I, tc_I, Int.toNat_natCast, fkt, rf1, rf0, cq, Nat.reduceAdd, Nat.reduceEqDiff, Int.reduceToNat, eq_self, true_and, and_true, true_or, or_true, bI_0, bI_1, mm, rAm, mF_sF, mR_sR, false_and, and_false, if_false, if_true, false_or, or_false, not_true_eq_false, not_false_eq_true, and_self]
    rw [e]
    exact hQ
end M2
