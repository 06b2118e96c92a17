/-! ===== THE MODEL: items carried, compared, found ===== -/
def wr (z : Int) : Int := (I z).toInt
theorem I_wr (z : Int) : I (wr z) = I z := (I_of (I z)).symm
theorem wr_id {z : Int} (h1 : -2147483648 ≤ z) (h2 : z < 2147483648) : wr z = z := I_toInt h1 h2
theorem wr_lo (z : Int) : -2147483648 ≤ wr z := Int32.le_toInt (I z)
theorem wr_hi (z : Int) : wr z < 2147483648 := Int32.toInt_lt (I z)
def cmp5 (r : R5) (ob so na : Int) : Int := if r.1 = ob then (if r.2.1 = so then r.2.2.1 - na else r.2.1 - so) else r.1 - ob
section M5
variable {d : Nat} {M : Mem} {Q : Outcome → Mem → Prop} {o : Nat} {f : Nat → Int} {s b c w : Int → Int} {j : Nat → Bool}
/-- an item's numbers are such as are compared -/
def r5ok (r : R5) : Prop := 0 ≤ r.1 ∧ r.1 < 100 ∧ 0 ≤ r.2.1 ∧ r.2.1 < 4
theorem m_compare (hK : MK M o) {x k : Nat} {l : List R5} {r : R5} {ob so na : Int} (hx : x < 96) (hI : It s x l) (hl : l.length ≤ 16) (hr : l[k]? = some r) (ho : r5ok r) (ob0 : 0 ≤ ob) (ob1 : ob < 100) (so0 : 0 ≤ so) (so1 : so < 4) (hQ : Q (.returned (some (.int (I (wr (cmp5 r ob so na)))))) (ms M o f s b c w j)) : Wp d 164 0 [some (.ref o), some (.int (I (x : Nat))), some (.int (I (k : Nat))), some (.int (I ob)), some (.int (I so)), some (.int (I na)), none] [] (ms M o f s b c w j) Q := by
  obtain ⟨k0, k1, k2, k3, k4, k5, k6, k7, k8, k9, k10⟩ := hK
  have hk := (List.getElem?_eq_some_iff.mp hr).1
  have e := hI k r hr
  have e1 : s (4620 + (16 * (x : Int) + (k : Int))) = r.1 := by rw [← e]; rfl
  have e2 : s (6156 + (16 * (x : Int) + (k : Int))) = r.2.1 := by rw [← e]; rfl
  have e3 : s (7692 + (16 * (x : Int) + (k : Int))) = r.2.2.1 := by rw [← e]; rfl
  obtain ⟨o1, o2, o3, o4⟩ := ho
  rw [I_wr] at hQ
  simp (disch := first | (simp only [dd, dr]; done) | omega) only [W_164, msK, msR, msF, ms1, msS1, k0, k1, k6, e1, I_lt, I_le, I_inj, inB_I, tc_I, Int.toNat_natCast, fkt, rf1, rf0, cq, Nat.reduceAdd, Nat.reduceEqDiff, Int.reduceToNat, eq_self, true_and, and_true, true_or, or_true, bI_0, bI_1, mm, rAm, mF_sF, mR_sR, false_and, and_false, if_false, if_true, false_or, or_false, not_true_eq_false, not_false_eq_true, and_self]
  refine ⟨fun hc => ?_, fun hc => ?_⟩
  · simp (disch := first | (simp only [dd, dr]; done) | omega) only [W_164, msK, msR, msF, ms1, msS1, k0, k1, k6, e2, I_lt, I_le, I_inj, inB_I, tc_I, Int.toNat_natCast, fkt, rf1, rf0, cq, Nat.reduceAdd, Nat.reduceEqDiff, Int.reduceToNat, eq_self, true_and, and_true, true_or, or_true, bI_0, bI_1, mm, rAm, mF_sF, mR_sR, false_and, and_false, if_false, if_true, false_or, or_false, not_true_eq_false, not_false_eq_true, and_self]
    refine ⟨fun hc2 => ?_, fun hc2 => ?_⟩
    · simp (disch := first | (simp only [dd, dr]; done) | omega) only [W_164, msK, msR, msF, ms1, msS1, k0, k1, k6, e3, I_lt, I_le, I_inj, inB_I, tc_I, Int.toNat_natCast, fkt, rf1, rf0, cq, Nat.reduceAdd, Nat.reduceEqDiff, Int.reduceToNat, eq_self, true_and, and_true, true_or, or_true, bI_0, bI_1, mm, rAm, mF_sF, mR_sR, false_and, and_false, if_false, if_true, false_or, or_false, not_true_eq_false, not_false_eq_true, and_self]
      rw [cmp5, if_pos hc, if_pos hc2] at hQ
      exact hQ
    · simp (disch := first | (simp only [dd, dr]; done) | omega) only [W_164, msK, msR, msF, ms1, msS1, k0, k1, k6, e2, I_lt, I_le, I_inj, inB_I, tc_I, Int.toNat_natCast, fkt, rf1, rf0, cq, Nat.reduceAdd, Nat.reduceEqDiff, Int.reduceToNat, eq_self, true_and, and_true, true_or, or_true, bI_0, bI_1, mm, rAm, mF_sF, mR_sR, false_and, and_false, if_false, if_true, false_or, or_false, not_true_eq_false, not_false_eq_true, and_self]
      rw [cmp5, if_pos hc, if_neg hc2] at hQ
      exact hQ
  · simp (disch := first | (simp only [dd, dr]; done) | omega) only [W_164, msK, msR, msF, ms1, msS1, k0, k1, k6, e1, I_lt, I_le, I_inj, inB_I, tc_I, Int.toNat_natCast, fkt, rf1, rf0, cq, Nat.reduceAdd, Nat.reduceEqDiff, Int.reduceToNat, eq_self, true_and, and_true, true_or, or_true, bI_0, bI_1, mm, rAm, mF_sF, mR_sR, false_and, and_false, if_false, if_true, false_or, or_false, not_true_eq_false, not_false_eq_true, and_self]
    rw [cmp5, if_neg hc] at hQ
    exact hQ
set_option maxHeartbeats 4000000 in
theorem m_carry (hK : MK M o) (hd : 2 ≤ d) {x y k a : Nat} {l l2 : List R5} {r : R5} (hx : x < 96) (hy : y < 96) (hxy : x ≠ y) (hI : It s x l) (hl : l.length ≤ 16) (hn : s (3852 + (x : Int)) = l.length) (hI2 : It s y l2) (hl2 : l2.length ≤ 15) (hn2 : s (3852 + (y : Int)) = l2.length) (hr : l[k]? = some r) (ha : a ≤ l2.length)
    (hQ : ∀ s', It s' x (l.take k ++ l.drop (k + 1)) → s' (3852 + (x : Int)) = ((l.length - 1 : Nat) : Int) → It s' y (l2.take a ++ r :: l2.drop a) → s' (3852 + (y : Int)) = ((l2.length + 1 : Nat) : Int) → (∀ z, (z < 4620 ∨ 12300 ≤ z) → z ≠ 3852 + (x : Int) → z ≠ 3852 + (y : Int) → s' z = s z) → (∀ z, 0 ≤ z → z < 1536 → (z < 16 * (x : Int) ∨ 16 * (x : Int) + 16 ≤ z) → (z < 16 * (y : Int) ∨ 16 * (y : Int) + 16 ≤ z) → it5 s' z = it5 s z) → Q (.returned none) (ms M o f s' b c w j)) :
    Wp d 175 0 [some (.ref o), some (.int (I (x : Nat))), some (.int (I (k : Nat))), some (.int (I (y : Nat))), some (.int (I (a : Nat))), none] [] (ms M o f s b c w j) Q := by
  have hK' := hK
  obtain ⟨k0, k1, k2, k3, k4, k5, k6, k7, k8, k9, k10⟩ := hK
  have hk := (List.getElem?_eq_some_iff.mp hr).1
  simp (disch := first | (simp only [dd, dr]; done) | omega) only [W_175, msK, msR, msF, ms1, msS1, k0, k1, k6, hn2, I_lt, I_le, I_inj, inB_I, tc_I, Int.toNat_natCast, fkt, rf1, rf0, cq, Nat.reduceAdd, Nat.reduceEqDiff, Int.reduceToNat, eq_self, true_and, and_true, true_or, or_true, bI_0, bI_1, mm, rAm, mF_sF, mR_sR, false_and, and_false, if_false, if_true, false_or, or_false, not_true_eq_false, not_false_eq_true, and_self]
  suffices H : ∀ n' (t : Nat) (G : Int → Int), t = a + n' → t ≤ l2.length → (∀ z, 0 ≤ z → z < 1536 → it5 G z = if 16 * (y : Int) + t < z ∧ z ≤ 16 * (y : Int) + l2.length then it5 s (z - 1) else it5 s z) → (∀ z, (z < 4620 ∨ 12300 ≤ z) → G z = s z) → Wp d 175 12 [some (.ref o), some (.int (I (x : Nat))), some (.int (I (k : Nat))), some (.int (I (y : Nat))), some (.int (I (a : Nat))), some (.int (I (t : Nat)))] [] (ms M o f G b c w j) Q from
    H (l2.length - a) l2.length s (by omega) (Nat.le_refl _) (fun z _ _ => by rw [if_neg (by omega)]) (fun _ _ => rfl)
  intro n'
  induction n' with
  | succ n' ih =>
    intro t G ht htn hG hO
    simp (disch := first | (simp only [dd, dr]; done) | omega) only [w_175_12, W_175, msK, msR, msF, ms1, msS1, k0, k1, k6, I_lt, I_le, I_inj, inB_I, tc_I, Int.toNat_natCast, fkt, rf1, rf0, cq, Nat.reduceAdd, Nat.reduceEqDiff, Int.reduceToNat, eq_self, true_and, and_true, true_or, or_true, bI_0, bI_1, mm, rAm, mF_sF, mR_sR, false_and, and_false, if_false, if_true, false_or, or_false, not_true_eq_false, not_false_eq_true, and_self]
    refine ⟨fun h => absurd h (by omega), fun _ => ?_⟩
    simp (disch := first | (simp only [dd, dr]; done) | omega) only [W_175, msK, msR, msF, ms1, msS1, k0, k1, k6, I_lt, I_le, I_inj, inB_I, tc_I, Int.toNat_natCast, fkt, rf1, rf0, cq, Nat.reduceAdd, Nat.reduceEqDiff, Int.reduceToNat, eq_self, true_and, and_true, true_or, or_true, bI_0, bI_1, mm, rAm, mF_sF, mR_sR, false_and, and_false, if_false, if_true, false_or, or_false, not_true_eq_false, not_false_eq_true, and_self]
    refine ca_168 (by omega) (m_copy hK' (by omega) (by omega) (by omega) (by omega) ?_)
    simp (disch := first | (simp only [dd, dr]; done) | omega) only [W_175, I_lt, I_le, I_inj, inB_I, tc_I, Int.toNat_natCast, fkt, rf1, rf0, cq, Nat.reduceAdd, Nat.reduceEqDiff, Int.reduceToNat, eq_self, true_and, and_true, true_or, or_true, bI_0, bI_1, mm, rAm, mF_sF, mR_sR, false_and, and_false, if_false, if_true, false_or, or_false, not_true_eq_false, not_false_eq_true, and_self]
    have := ih (t - 1) (st5 G (16 * (y : Int) + (t : Int)) (it5 G (16 * (y : Int) + (t : Int) - 1))) (by omega) (by omega) (fun z z0 z1 => by
      by_cases h1 : z = 16 * (y : Int) + (t : Int)
      · subst h1
        rw [st5_e _ _ (by omega) (by omega), if_pos (by omega), hG _ (by omega) (by omega), if_neg (by omega)]
      · rw [st5_n _ _ (by omega) (by omega) z0 z1 h1, hG _ z0 z1]
        by_cases h2 : 16 * (y : Int) + t < z ∧ z ≤ 16 * (y : Int) + l2.length
        · rw [if_pos h2, if_pos (by omega)]
        · rw [if_neg h2, if_neg (by omega)]) (fun z hz => by rw [st5_o _ _ (by omega) (by omega) hz]; exact hO z hz)
    rw [show (((t - 1 : Nat) : Int)) = ((t : Int) + -1) by omega] at this
    exact this
  | zero =>
    intro t G ht htn hG hO
    obtain rfl : t = a := by omega
    simp (disch := first | (simp only [dd, dr]; done) | omega) only [w_175_12, W_175, msK, msR, msF, ms1, msS1, k0, k1, k6, I_lt, I_le, I_inj, inB_I, tc_I, Int.toNat_natCast, fkt, rf1, rf0, cq, Nat.reduceAdd, Nat.reduceEqDiff, Int.reduceToNat, eq_self, true_and, and_true, true_or, or_true, bI_0, bI_1, mm, rAm, mF_sF, mR_sR, false_and, and_false, if_false, if_true, false_or, or_false, not_true_eq_false, not_false_eq_true, and_self]
    refine ⟨fun _ => ?_, fun h => absurd h (by omega)⟩
    simp (disch := first | (simp only [dd, dr]; done) | omega) only [W_175, msK, msR, msF, ms1, msS1, k0, k1, k6, I_lt, I_le, I_inj, inB_I, tc_I, Int.toNat_natCast, fkt, rf1, rf0, cq, Nat.reduceAdd, Nat.reduceEqDiff, Int.reduceToNat, eq_self, true_and, and_true, true_or, or_true, bI_0, bI_1, mm, rAm, mF_sF, mR_sR, false_and, and_false, if_false, if_true, false_or, or_false, not_true_eq_false, not_false_eq_true, and_self]
    refine ca_168 (by omega) (m_copy hK' (by omega) (by omega) (by omega) (by omega) ?_)
    have er : it5 G (16 * (x : Int) + (k : Int)) = r := by rw [hG _ (by omega) (by omega), if_neg (by omega)]; exact hI k r hr
    rw [er]
    have e2 : st5 G (16 * (y : Int) + (t : Int)) r (3852 + (y : Int)) = l2.length := by rw [st5_o _ _ (by omega) (by omega) (by omega), hO _ (by omega), hn2]
    simp (disch := first | (simp only [dd, dr]; done) | omega) only [W_175, msK, msR, msF, ms1, msS1, k0, k1, k6, e2, I_lt, I_le, I_inj, inB_I, tc_I, Int.toNat_natCast, fkt, rf1, rf0, cq, Nat.reduceAdd, Nat.reduceEqDiff, Int.reduceToNat, eq_self, true_and, and_true, true_or, or_true, bI_0, bI_1, mm, rAm, mF_sF, mR_sR, false_and, and_false, if_false, if_true, false_or, or_false, not_true_eq_false, not_false_eq_true, and_self]
    have f1 : It (fz (st5 G (16 * (y : Int) + (t : Int)) r) (3852 + (y : Int)) ((l2.length : Int) + 1)) x l := by
      intro i r' hr'
      have hi := (List.getElem?_eq_some_iff.mp hr').1
      rw [it5_fz _ _ (by omega) (by omega) (by omega), st5_n _ _ (by omega) (by omega) (by omega) (by omega) (by omega), hG _ (by omega) (by omega), if_neg (by omega)]
      exact hI i r' hr'
    have f2 : fz (st5 G (16 * (y : Int) + (t : Int)) r) (3852 + (y : Int)) ((l2.length : Int) + 1) (3852 + (x : Int)) = l.length := by
      rw [fz_n _ _ (by omega), st5_o _ _ (by omega) (by omega) (by omega), hO _ (by omega), hn]
    refine ca_176 (by omega) (m_drop hK' (by omega) hx f1 hl f2 hk ?_)
    intro s' g1 g2 g3 g4
    simp (disch := first | (simp only [dd, dr]; done) | omega) only [W_175, I_lt, I_le, I_inj, inB_I, tc_I, Int.toNat_natCast, fkt, rf1, rf0, cq, Nat.reduceAdd, Nat.reduceEqDiff, Int.reduceToNat, eq_self, true_and, and_true, true_or, or_true, bI_0, bI_1, mm, rAm, mF_sF, mR_sR, false_and, and_false, if_false, if_true, false_or, or_false, not_true_eq_false, not_false_eq_true, and_self]
    refine hQ s' g1 g2 ?_ ?_ ?_ ?_
    · intro i r' hr'
      have hi := (List.getElem?_eq_some_iff.mp hr').1
      rw [List.length_append, List.length_cons, List.length_take, List.length_drop] at hi
      rw [g4 _ (by omega) (by omega) (by omega), it5_fz _ _ (by omega) (by omega) (by omega)]
      rw [ins_at l2 r ha] at hr'
      by_cases c1 : t < i ∧ i ≤ l2.length
      · rw [if_pos c1] at hr'
        rw [st5_n _ _ (by omega) (by omega) (by omega) (by omega) (by omega), hG _ (by omega) (by omega), if_pos (by omega), show 16 * (y : Int) + (i : Int) - 1 = 16 * (y : Int) + ((i - 1 : Nat) : Int) by omega]
        exact hI2 _ _ hr'
      · rw [if_neg c1] at hr'
        by_cases c2 : i = t
        · rw [if_pos c2] at hr'
          cases hr'
          rw [c2, st5_e _ _ (by omega) (by omega)]
        · rw [if_neg c2] at hr'
          rw [st5_n _ _ (by omega) (by omega) (by omega) (by omega) (by omega), hG _ (by omega) (by omega), if_neg (by omega)]
          exact hI2 _ _ hr'
    · rw [g3 _ (by omega) (by omega), fz_e _ _ rfl]; omega
    · intro z hz h1 h2
      rw [g3 z hz h1, fz_n _ _ h2, st5_o _ _ (by omega) (by omega) hz]
      exact hO z hz
    · intro z z0 z1 h1 h2
      rw [g4 z z0 z1 h1, it5_fz _ _ z0 z1 (by omega), st5_n _ _ (by omega) (by omega) z0 z1 (by omega), hG z z0 z1, if_neg (by omega)]
/-- the last leaf whose first item isn't behind a key -/
def lf5 (L : Nat → List R5) (ob so na : Int) : List Nat → Nat → Nat
  | [], fd => fd
  | x :: l, fd => lf5 L ob so na l (match L x with
    | [] => fd
    | r :: _ => if wr (cmp5 r ob so na) ≤ 0 then x else fd)
/-- the leaves in a row, with their items -/
def Lvs (s : Int → Int) (row : List Nat) (L : Nat → List R5) : Prop := s (13068 + 0) = row.length ∧ La s (12300 + 96 * 0) row ∧ row.length ≤ 96 ∧ ∀ x ∈ row, x < 96 ∧ It s x (L x) ∧ (L x).length ≤ 16 ∧ s (3852 + (x : Int)) = (L x).length ∧ ∀ r ∈ L x, r5ok r
set_option maxHeartbeats 4000000 in
theorem m_leafOf (hK : MK M o) (hd : 1 ≤ d) {row : List Nat} {L : Nat → List R5} {x0 : Nat} {ob so na : Int} (hL : Lvs s row L) (h0 : row[0]? = some x0) (ob0 : 0 ≤ ob) (ob1 : ob < 100) (so0 : 0 ≤ so) (so1 : so < 4) (hQ : Q (.returned (some (.int (I (lf5 L ob so na row x0 : Nat))))) (ms M o f s b c w j)) : Wp d 163 0 [some (.ref o), some (.int (I ob)), some (.int (I so)), some (.int (I na)), none, none, none] [] (ms M o f s b c w j) Q := by
  have hK' := hK
  obtain ⟨k0, k1, k2, k3, k4, k5, k6, k7, k8, k9, k10⟩ := hK
  obtain ⟨l1, l2, l3, l4⟩ := hL
  have e0' : s 12300 = (x0 : Int) := by have := l2 0 x0 h0; exact this
  have e1' : s 13068 = (row.length : Int) := l1
  have e0 : mA (ms M o f s b c w j) (o + 1) 12300 = I (x0 : Nat) := by rw [← e0']; exact ms1 M o f s b c w j (z := 12300) (by omega)
  have e1 : mA (ms M o f s b c w j) (o + 1) 13068 = I (row.length : Nat) := by rw [← e1']; exact ms1 M o f s b c w j (z := 13068) (by omega)
  simp (disch := first | (simp only [dd, dr]; done) | omega) only [W_163, msK, msR, msF, ms1, msS1, k0, k1, k6, e0, I_lt, I_le, I_inj, inB_I, tc_I, Int.toNat_natCast, fkt, rf1, rf0, cq, Nat.reduceAdd, Nat.reduceEqDiff, Int.reduceToNat, eq_self, true_and, and_true, true_or, or_true, bI_0, bI_1, mm, rAm, mF_sF, mR_sR, false_and, and_false, if_false, if_true, false_or, or_false, not_true_eq_false, not_false_eq_true, and_self]
  suffices H : ∀ (l : List Nat) (i : Nat) (fd : Nat) (v6 : Option Value), lo v6 = false → row.drop i = l → i ≤ row.length → lf5 L ob so na row x0 = lf5 L ob so na l fd → Wp d 163 13 [some (.ref o), some (.int (I ob)), some (.int (I so)), some (.int (I na)), some (.int (I (fd : Nat))), some (.int (I (i : Nat))), v6] [] (ms M o f s b c w j) Q from H row 0 x0 none rfl rfl (Nat.zero_le _) rfl
  intro l
  induction l with
  | nil =>
    intro i fd v6 hv hl hi hp
    have : i = row.length := by
      have := congrArg List.length hl
      rw [List.length_drop] at this
      simp at this
      omega
    subst this
    simp (disch := first | (simp only [dd, dr]; done) | omega) only [w_163_13, W_163, msK, msR, msF, ms1, msS1, k0, k1, k6, e1, I_lt, I_le, I_inj, inB_I, tc_I, Int.toNat_natCast, fkt, rf1, rf0, cq, Nat.reduceAdd, Nat.reduceEqDiff, Int.reduceToNat, eq_self, true_and, and_true, true_or, or_true, bI_0, bI_1, mm, rAm, mF_sF, mR_sR, false_and, and_false, if_false, if_true, false_or, or_false, not_true_eq_false, not_false_eq_true, and_self]
    refine ⟨fun _ => ?_, fun h => absurd h (by omega)⟩
    simp (disch := first | (simp only [dd, dr]; done) | omega) only [W_163, I_lt, I_le, I_inj, inB_I, tc_I, Int.toNat_natCast, fkt, rf1, rf0, cq, Nat.reduceAdd, Nat.reduceEqDiff, Int.reduceToNat, eq_self, true_and, and_true, true_or, or_true, bI_0, bI_1, mm, rAm, mF_sF, mR_sR, false_and, and_false, if_false, if_true, false_or, or_false, not_true_eq_false, not_false_eq_true, and_self]
    rw [hp] at hQ
    exact hQ
  | cons x l ih =>
    intro i fd v6 hv hl hi hp
    have hx : row[i]? = some x := by
      have := congrArg (fun l => l[0]?) hl
      simpa using this
    have hlt := (List.getElem?_eq_some_iff.mp hx).1
    obtain ⟨x9, xI, xl, xn, xr⟩ := l4 x (List.mem_of_getElem? hx)
    have ex : s (12300 + (i : Int)) = (x : Int) := by have := l2 i x hx; simpa using this
    have hl' : row.drop (i + 1) = l := by rw [← List.drop_drop, hl]; rfl
    simp (disch := first | (simp only [dd, dr]; done) | omega) only [w_163_13, W_163, msK, msR, msF, ms1, msS1, k0, k1, k6, e1, I_lt, I_le, I_inj, inB_I, tc_I, Int.toNat_natCast, fkt, rf1, rf0, cq, Nat.reduceAdd, Nat.reduceEqDiff, Int.reduceToNat, eq_self, true_and, and_true, true_or, or_true, bI_0, bI_1, mm, rAm, mF_sF, mR_sR, false_and, and_false, if_false, if_true, false_or, or_false, not_true_eq_false, not_false_eq_true, and_self]
    refine ⟨fun h => absurd h (by omega), fun _ => ?_⟩
    simp (disch := first | (simp only [dd, dr]; done) | omega) only [W_163, msK, msR, msF, ms1, msS1, k0, k1, k6, ex, xn, I_lt, I_le, I_inj, inB_I, tc_I, Int.toNat_natCast, fkt, rf1, rf0, cq, Nat.reduceAdd, Nat.reduceEqDiff, Int.reduceToNat, eq_self, true_and, and_true, true_or, or_true, bI_0, bI_1, mm, rAm, mF_sF, mR_sR, false_and, and_false, if_false, if_true, false_or, or_false, not_true_eq_false, not_false_eq_true, and_self]
    rw [lf5] at hp
    refine ⟨fun hc => ?_, fun hc => ?_⟩
    · simp (disch := first | (simp only [dd, dr]; done) | omega) only [W_163, I_lt, I_le, I_inj, inB_I, tc_I, Int.toNat_natCast, fkt, rf1, rf0, cq, Nat.reduceAdd, Nat.reduceEqDiff, Int.reduceToNat, eq_self, true_and, and_true, true_or, or_true, bI_0, bI_1, mm, rAm, mF_sF, mR_sR, false_and, and_false, if_false, if_true, false_or, or_false, not_true_eq_false, not_false_eq_true, and_self]
      have : L x = [] := List.eq_nil_of_length_eq_zero (by omega)
      rw [this] at hp
      exact ih (i + 1) fd _ rfl hl' (by omega) hp
    · cases hLx : L x with
      | nil => rw [hLx] at hc; simp at hc
      | cons r lr =>
        simp (disch := first | (simp only [dd, dr]; done) | omega) only [W_163, msK, msR, msF, ms1, msS1, k0, k1, k6, I_lt, I_le, I_inj, inB_I, tc_I, Int.toNat_natCast, fkt, rf1, rf0, cq, Nat.reduceAdd, Nat.reduceEqDiff, Int.reduceToNat, eq_self, true_and, and_true, true_or, or_true, bI_0, bI_1, mm, rAm, mF_sF, mR_sR, false_and, and_false, if_false, if_true, false_or, or_false, not_true_eq_false, not_false_eq_true, and_self]
        have hr0 : (L x)[0]? = some r := by rw [hLx]; rfl
        refine ca_164 (by omega) (m_compare (k := 0) hK' x9 xI xl hr0 (xr r (List.mem_of_getElem? hr0)) ob0 ob1 so0 so1 ?_)
        have w1 := wr_lo (cmp5 r ob so na)
        have w2 := wr_hi (cmp5 r ob so na)
        simp (disch := first | (simp only [dd, dr]; done) | omega) only [W_163, msK, msR, msF, ms1, msS1, k0, k1, k6, I_lt, I_le, I_inj, inB_I, tc_I, Int.toNat_natCast, fkt, rf1, rf0, cq, Nat.reduceAdd, Nat.reduceEqDiff, Int.reduceToNat, eq_self, true_and, and_true, true_or, or_true, bI_0, bI_1, mm, rAm, mF_sF, mR_sR, false_and, and_false, if_false, if_true, false_or, or_false, not_true_eq_false, not_false_eq_true, and_self]
        rw [hLx] at hp
        refine ⟨fun hc => ?_, fun hc => ?_⟩
        · simp (disch := first | (simp only [dd, dr]; done) | omega) only [W_163, I_lt, I_le, I_inj, inB_I, tc_I, Int.toNat_natCast, fkt, rf1, rf0, cq, Nat.reduceAdd, Nat.reduceEqDiff, Int.reduceToNat, eq_self, true_and, and_true, true_or, or_true, bI_0, bI_1, mm, rAm, mF_sF, mR_sR, false_and, and_false, if_false, if_true, false_or, or_false, not_true_eq_false, not_false_eq_true, and_self]
          exact ih (i + 1) fd _ rfl hl' (by omega) (by rw [hp]; simp only []; rw [if_neg (by omega)])
        · simp (disch := first | (simp only [dd, dr]; done) | omega) only [W_163, I_lt, I_le, I_inj, inB_I, tc_I, Int.toNat_natCast, fkt, rf1, rf0, cq, Nat.reduceAdd, Nat.reduceEqDiff, Int.reduceToNat, eq_self, true_and, and_true, true_or, or_true, bI_0, bI_1, mm, rAm, mF_sF, mR_sR, false_and, and_false, if_false, if_true, false_or, or_false, not_true_eq_false, not_false_eq_true, and_self]
          exact ih (i + 1) x _ rfl hl' (by omega) (by rw [hp]; simp only []; rw [if_pos (by omega)])
end M5
