/-! ===== THE MODEL: items ===== -/
/-- an item: object, kind, name, bytes, told -/
abbrev R5 : Type := Int × Int × Int × Int × Int
def it5 (s : Int → Int) (a : Int) : R5 := (s (4620 + a), s (6156 + a), s (7692 + a), s (9228 + a), s (10764 + a))
def st5 (s : Int → Int) (t : Int) (r : R5) : Int → Int := fz (fz (fz (fz (fz s (4620 + t) r.1) (6156 + t) r.2.1) (7692 + t) r.2.2.1) (9228 + t) r.2.2.2.1) (10764 + t) r.2.2.2.2
theorem st5_o (s : Int → Int) {t x : Int} (r : R5) (h0 : 0 ≤ t) (h1 : t < 1536) (h : x < 4620 ∨ 12300 ≤ x) : st5 s t r x = s x := by
  unfold st5
  rw [fz_n _ _ (by omega), fz_n _ _ (by omega), fz_n _ _ (by omega), fz_n _ _ (by omega), fz_n _ _ (by omega)]
theorem st5_e (s : Int → Int) {t : Int} (r : R5) (h0 : 0 ≤ t) (h1 : t < 1536) : it5 (st5 s t r) t = r := by
  unfold it5 st5
  rw [fz_n _ _ (by omega), fz_n _ _ (by omega), fz_n _ _ (by omega), fz_n _ _ (by omega), fz_e _ _ rfl]
  rw [fz_n _ _ (by omega), fz_n _ _ (by omega), fz_n _ _ (by omega), fz_e _ _ rfl]
  rw [fz_n _ _ (by omega), fz_n _ _ (by omega), fz_e _ _ rfl]
  rw [fz_n _ _ (by omega), fz_e _ _ rfl, fz_e _ _ rfl]
theorem st5_n (s : Int → Int) {t a : Int} (r : R5) (h0 : 0 ≤ t) (h1 : t < 1536) (a0 : 0 ≤ a) (a1 : a < 1536) (h : a ≠ t) : it5 (st5 s t r) a = it5 s a := by
  unfold it5 st5
  rw [fz_n _ _ (by omega), fz_n _ _ (by omega), fz_n _ _ (by omega), fz_n _ _ (by omega), fz_n _ _ (by omega)]
  rw [fz_n _ _ (by omega), fz_n _ _ (by omega), fz_n _ _ (by omega), fz_n _ _ (by omega), fz_n _ _ (by omega)]
  rw [fz_n _ _ (by omega), fz_n _ _ (by omega), fz_n _ _ (by omega), fz_n _ _ (by omega), fz_n _ _ (by omega)]
  rw [fz_n _ _ (by omega), fz_n _ _ (by omega), fz_n _ _ (by omega), fz_n _ _ (by omega), fz_n _ _ (by omega)]
  rw [fz_n _ _ (by omega), fz_n _ _ (by omega), fz_n _ _ (by omega), fz_n _ _ (by omega), fz_n _ _ (by omega)]
theorem it5_fz (s : Int → Int) {z a : Int} (v : Int) (a0 : 0 ≤ a) (a1 : a < 1536) (h : z < 4620 ∨ 12300 ≤ z) : it5 (fz s z v) a = it5 s a := by
  unfold it5
  rw [fz_n _ _ (by omega), fz_n _ _ (by omega), fz_n _ _ (by omega), fz_n _ _ (by omega), fz_n _ _ (by omega)]
section M4
variable {d : Nat} {M : Mem} {Q : Outcome → Mem → Prop} {o : Nat} {f : Nat → Int} {s b c w : Int → Int} {j : Nat → Bool}
set_option maxHeartbeats 4000000 in
theorem m_copy (hK : MK M o) {a t : Int} (a0 : 0 ≤ a) (a1 : a < 1536) (t0 : 0 ≤ t) (t1 : t < 1536) (hQ : Q (.returned none) (ms M o f (st5 s t (it5 s a)) b c w j)) : Wp d 168 0 [some (.ref o), some (.int (I a)), some (.int (I t))] [] (ms M o f s b c w j) Q := by
  obtain ⟨k0, k1, k2, k3, k4, k5, k6, k7, k8, k9, k10⟩ := hK
  simp (disch := first | (simp only [dd, dr]; done) | omega) only [W_168, msK, msR, msF, ms1, msS1, k0, k1, k6, fz_n, I_lt, I_le, I_inj, inB_I, tc_I, Int.toNat_natCast, fkt, rf1, rf0, cq, Nat.reduceAdd, Nat.reduceEqDiff, Int.reduceToNat, eq_self, true_and, and_true, true_or, or_true, bI_0, bI_1, mm, rAm, mF_sF, mR_sR, false_and, and_false, if_false, if_true, false_or, or_false, not_true_eq_false, not_false_eq_true, and_self]
  exact hQ
/-- from slot 16 x on there stand items -/
def It (s : Int → Int) (x : Nat) (l : List R5) : Prop := ∀ (i : Nat) (r : R5), l[i]? = some r → it5 s (16 * (x : Int) + i) = r
theorem m_cost (hK : MK M o) {x k : Nat} {l : List R5} {r : R5} (hx : x < 96) (hI : It s x l) (hl : l.length ≤ 16) (hr : l[k]? = some r) (hQ : Q (.returned (some (.int (I (8 + r.2.2.2.1))))) (ms M o f s b c w j)) : Wp d 174 0 [some (.ref o), some (.int (I (x : Nat))), some (.int (I (k : Nat)))] [] (ms M o f s b c w j) Q := by
  obtain ⟨k0, k1, k2, k3, k4, k5, k6, k7, k8, k9, k10⟩ := hK
  have hk := (List.getElem?_eq_some_iff.mp hr).1
  have e : s (9228 + 16 * (x : Int) + (k : Int)) = r.2.2.2.1 := by
    rw [← hI k r hr, show (9228 : Int) + 16 * (x : Int) + (k : Int) = 9228 + (16 * (x : Int) + (k : Int)) by omega]; rfl
  simp (disch := first | (simp only [dd, dr]; done) | omega) only [W_174, msK, msR, msF, ms1, msS1, k0, k1, k6, e, I_lt, I_le, I_inj, inB_I, tc_I, Int.toNat_natCast, fkt, rf1, rf0, cq, Nat.reduceAdd, Nat.reduceEqDiff, Int.reduceToNat, eq_self, true_and, and_true, true_or, or_true, bI_0, bI_1, mm, rAm, mF_sF, mR_sR, false_and, and_false, if_false, if_true, false_or, or_false, not_true_eq_false, not_false_eq_true, and_self]
  exact hQ
/-- the sum of what items take -/
def u5 : List R5 → Int
  | [] => 0
  | r :: l => 8 + r.2.2.2.1 + u5 l
theorem u5_app : ∀ (l l' : List R5), u5 (l ++ l') = u5 l + u5 l'
  | [], l' => by rw [List.nil_append, u5]; omega
  | r :: l, l' => by rw [List.cons_append, u5, u5, u5_app l l']; omega
theorem m_used (hK : MK M o) {x : Nat} {l : List R5} (hx : x < 96) (hI : It s x l) (hl : l.length ≤ 16) (hn : s (3852 + (x : Int)) = l.length) (hQ : Q (.returned (some (.int (I (u5 l))))) (ms M o f s b c w j)) : Wp d 173 0 [some (.ref o), some (.int (I (x : Nat))), none, none] [] (ms M o f s b c w j) Q := by
  obtain ⟨k0, k1, k2, k3, k4, k5, k6, k7, k8, k9, k10⟩ := hK
  simp (disch := first | (simp only [dd, dr]; done) | omega) only [W_173, I_lt, I_le, I_inj, inB_I, tc_I, Int.toNat_natCast, fkt, rf1, rf0, cq, Nat.reduceAdd, Nat.reduceEqDiff, Int.reduceToNat, eq_self, true_and, and_true, true_or, or_true, bI_0, bI_1, mm, rAm, mF_sF, mR_sR, false_and, and_false, if_false, if_true, false_or, or_false, not_true_eq_false, not_false_eq_true, and_self]
  suffices H : ∀ n (i : Nat), i + n = l.length → Wp d 173 4 [some (.ref o), some (.int (I (x : Nat))), some (.int (I (u5 (l.take i)))), some (.int (I (i : Nat)))] [] (ms M o f s b c w j) Q from H l.length 0 (by omega)
  intro n
  induction n with
  | zero =>
    intro i hi
    obtain rfl : i = l.length := by omega
    simp (disch := first | (simp only [dd, dr]; done) | omega) only [w_173_4, W_173, msK, msR, msF, ms1, msS1, k0, k1, k6, hn, I_lt, I_le, I_inj, inB_I, tc_I, Int.toNat_natCast, fkt, rf1, rf0, cq, Nat.reduceAdd, Nat.reduceEqDiff, Int.reduceToNat, eq_self, true_and, and_true, true_or, or_true, bI_0, bI_1, mm, rAm, mF_sF, mR_sR, false_and, and_false, if_false, if_true, false_or, or_false, not_true_eq_false, not_false_eq_true, and_self]
    refine ⟨fun _ => ?_, fun h => absurd h (by omega)⟩
    simp (disch := first | (simp only [dd, dr]; done) | omega) only [W_173, I_lt, I_le, I_inj, inB_I, tc_I, Int.toNat_natCast, fkt, rf1, rf0, cq, Nat.reduceAdd, Nat.reduceEqDiff, Int.reduceToNat, eq_self, true_and, and_true, true_or, or_true, bI_0, bI_1, mm, rAm, mF_sF, mR_sR, false_and, and_false, if_false, if_true, false_or, or_false, not_true_eq_false, not_false_eq_true, and_self]
    rw [List.take_length]
    exact hQ
  | succ n ih =>
    intro i hi
    have hr : l[i]? = some l[i] := List.getElem?_eq_getElem (by omega)
    have e : s (9228 + 16 * (x : Int) + (i : Int)) = l[i].2.2.2.1 := by
      rw [← hI i _ hr, show (9228 : Int) + 16 * (x : Int) + (i : Int) = 9228 + (16 * (x : Int) + (i : Int)) by omega]; rfl
    simp (disch := first | (simp only [dd, dr]; done) | omega) only [w_173_4, W_173, msK, msR, msF, ms1, msS1, k0, k1, k6, hn, I_lt, I_le, I_inj, inB_I, tc_I, Int.toNat_natCast, fkt, rf1, rf0, cq, Nat.reduceAdd, Nat.reduceEqDiff, Int.reduceToNat, eq_self, true_and, and_true, true_or, or_true, bI_0, bI_1, mm, rAm, mF_sF, mR_sR, false_and, and_false, if_false, if_true, false_or, or_false, not_true_eq_false, not_false_eq_true, and_self]
    refine ⟨fun h => absurd h (by omega), fun _ => ?_⟩
    simp (disch := first | (simp only [dd, dr]; done) | omega) only [W_173, msK, msR, msF, ms1, msS1, k0, k1, k6, e, I_lt, I_le, I_inj, inB_I, tc_I, Int.toNat_natCast, fkt, rf1, rf0, cq, Nat.reduceAdd, Nat.reduceEqDiff, Int.reduceToNat, eq_self, true_and, and_true, true_or, or_true, bI_0, bI_1, mm, rAm, mF_sF, mR_sR, false_and, and_false, if_false, if_true, false_or, or_false, not_true_eq_false, not_false_eq_true, and_self]
    have := ih (i + 1) (by omega)
    rw [List.take_succ, hr, u5_app, show u5 (some l[i]).toList = 8 + l[i].2.2.2.1 by simp [u5]] at this
    exact this
set_option maxHeartbeats 4000000 in
theorem m_drop (hK : MK M o) (hd : 1 ≤ d) {x k : Nat} {l : List R5} (hx : x < 96) (hI : It s x l) (hl : l.length ≤ 16) (hn : s (3852 + (x : Int)) = l.length) (hk : k < l.length)
    (hQ : ∀ s', It s' x (l.take k ++ l.drop (k + 1)) → s' (3852 + (x : Int)) = ((l.length - 1 : Nat) : Int) → (∀ y, (y < 4620 ∨ 12300 ≤ y) → y ≠ 3852 + (x : Int) → s' y = s y) → (∀ a, 0 ≤ a → a < 1536 → (a < 16 * (x : Int) ∨ 16 * (x : Int) + 16 ≤ a) → it5 s' a = it5 s a) → Q (.returned none) (ms M o f s' b c w j)) : Wp d 176 0 [some (.ref o), some (.int (I (x : Nat))), some (.int (I (k : Nat))), none] [] (ms M o f s b c w j) Q := by
  have hK' := hK
  obtain ⟨k0, k1, k2, k3, k4, k5, k6, k7, k8, k9, k10⟩ := hK
  simp (disch := first | (simp only [dd, dr]; done) | omega) only [W_176, I_lt, I_le, I_inj, inB_I, tc_I, Int.toNat_natCast, fkt, rf1, rf0, cq, Nat.reduceAdd, Nat.reduceEqDiff, Int.reduceToNat, eq_self, true_and, and_true, true_or, or_true, bI_0, bI_1, mm, rAm, mF_sF, mR_sR, false_and, and_false, if_false, if_true, false_or, or_false, not_true_eq_false, not_false_eq_true, and_self]
  suffices H : ∀ n' (t : Nat) (G : Int → Int), t + n' = l.length - 1 → k ≤ t → (∀ a, 0 ≤ a → a < 1536 → it5 G a = if 16 * (x : Int) + k ≤ a ∧ a < 16 * (x : Int) + t then it5 s (a + 1) else it5 s a) → (∀ y, (y < 4620 ∨ 12300 ≤ y) → G y = s y) → Wp d 176 2 [some (.ref o), some (.int (I (x : Nat))), some (.int (I (k : Nat))), some (.int (I (t : Nat)))] [] (ms M o f G b c w j) Q from
    H (l.length - 1 - k) k s (by omega) (Nat.le_refl _) (fun a _ _ => by rw [if_neg (by omega)]) (fun _ _ => rfl)
  intro n'
  induction n' with
  | succ n' ih =>
    intro t G ht htn hG hO
    have e2 : G (3852 + (x : Int)) = l.length := by rw [hO _ (by omega), hn]
    simp (disch := first | (simp only [dd, dr]; done) | omega) only [w_176_2, W_176, msK, msR, msF, ms1, msS1, k0, k1, k6, e2, I_lt, I_le, I_inj, inB_I, tc_I, Int.toNat_natCast, fkt, rf1, rf0, cq, Nat.reduceAdd, Nat.reduceEqDiff, Int.reduceToNat, eq_self, true_and, and_true, true_or, or_true, bI_0, bI_1, mm, rAm, mF_sF, mR_sR, false_and, and_false, if_false, if_true, false_or, or_false, not_true_eq_false, not_false_eq_true, and_self]
    refine ⟨fun h => absurd h (by omega), fun _ => ?_⟩
    simp (disch := first | (simp only [dd, dr]; done) | omega) only [W_176, msK, msR, msF, ms1, msS1, k0, k1, k6, I_lt, I_le, I_inj, inB_I, tc_I, Int.toNat_natCast, fkt, rf1, rf0, cq, Nat.reduceAdd, Nat.reduceEqDiff, Int.reduceToNat, eq_self, true_and, and_true, true_or, or_true, bI_0, bI_1, mm, rAm, mF_sF, mR_sR, false_and, and_false, if_false, if_true, false_or, or_false, not_true_eq_false, not_false_eq_true, and_self]
    refine ca_168 (by omega) (m_copy hK' (by omega) (by omega) (by omega) (by omega) ?_)
    simp (disch := first | (simp only [dd, dr]; done) | omega) only [W_176, I_lt, I_le, I_inj, inB_I, tc_I, Int.toNat_natCast, fkt, rf1, rf0, cq, Nat.reduceAdd, Nat.reduceEqDiff, Int.reduceToNat, eq_self, true_and, and_true, true_or, or_true, bI_0, bI_1, mm, rAm, mF_sF, mR_sR, false_and, and_false, if_false, if_true, false_or, or_false, not_true_eq_false, not_false_eq_true, and_self]
    refine ih (t + 1) _ (by omega) (by omega) (fun a a0 a1 => ?_) (fun y hy => ?_)
    · by_cases h1 : a = 16 * (x : Int) + (t : Int)
      · subst h1
        rw [st5_e _ _ (by omega) (by omega), if_pos (by omega), hG _ (by omega) (by omega), if_neg (by omega)]
      · rw [st5_n _ _ (by omega) (by omega) a0 a1 h1, hG _ a0 a1]
        by_cases h2 : 16 * (x : Int) + k ≤ a ∧ a < 16 * (x : Int) + t
        · rw [if_pos h2, if_pos (by omega)]
        · rw [if_neg h2, if_neg (by omega)]
    · rw [st5_o _ _ (by omega) (by omega) hy]; exact hO y hy
  | zero =>
    intro t G ht htn hG hO
    obtain rfl : t = l.length - 1 := by omega
    have e2 : G (3852 + (x : Int)) = l.length := by rw [hO _ (by omega), hn]
    simp (disch := first | (simp only [dd, dr]; done) | omega) only [w_176_2, W_176, msK, msR, msF, ms1, msS1, k0, k1, k6, e2, I_lt, I_le, I_inj, inB_I, tc_I, Int.toNat_natCast, fkt, rf1, rf0, cq, Nat.reduceAdd, Nat.reduceEqDiff, Int.reduceToNat, eq_self, true_and, and_true, true_or, or_true, bI_0, bI_1, mm, rAm, mF_sF, mR_sR, false_and, and_false, if_false, if_true, false_or, or_false, not_true_eq_false, not_false_eq_true, and_self]
    refine ⟨fun _ => ?_, fun h => absurd h (by omega)⟩
    simp (disch := first | (simp only [dd, dr]; done) | omega) only [W_176, msK, msR, msF, ms1, msS1, k0, k1, k6, e2, I_lt, I_le, I_inj, inB_I, tc_I, Int.toNat_natCast, fkt, rf1, rf0, cq, Nat.reduceAdd, Nat.reduceEqDiff, Int.reduceToNat, eq_self, true_and, and_true, true_or, or_true, bI_0, bI_1, mm, rAm, mF_sF, mR_sR, false_and, and_false, if_false, if_true, false_or, or_false, not_true_eq_false, not_false_eq_true, and_self]
    refine hQ _ (fun i r hr => ?_) ?_ (fun y hy hne => ?_) (fun a a0 a1 ha => ?_)
    · have hi := (List.getElem?_eq_some_iff.mp hr).1
      rw [List.length_append, List.length_take, List.length_drop] at hi
      rw [it5_fz _ _ (by omega) (by omega) (by omega), hG _ (by omega) (by omega)]
      rw [del_at l hk] at hr
      by_cases c1 : k ≤ i ∧ i + 1 < l.length
      · rw [if_pos c1] at hr
        rw [if_pos (by omega), show 16 * (x : Int) + (i : Int) + 1 = 16 * (x : Int) + ((i + 1 : Nat) : Int) by omega]
        exact hI _ _ hr
      · rw [if_neg c1] at hr
        rw [if_neg (by omega)]
        by_cases c2 : i < k
        · rw [if_pos c2] at hr; exact hI _ _ hr
        · rw [if_neg c2] at hr; cases hr
    · rw [fz_e _ _ rfl]; omega
    · rw [fz_n _ _ hne]; exact hO y hy
    · rw [it5_fz _ _ a0 a1 (by omega), hG _ a0 a1, if_neg (by omega)]
end M4
