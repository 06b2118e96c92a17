/-! ===== CONTRACTS: Leaf.put and Leaf.drop, as arrays ===== -/
/-- a value comes in at a place of the first m -/
def insF (g : Nat → Int32) (k m : Nat) (v : Int32) : Nat → Int32 := fun i => if k < i ∧ i ≤ m then g (i - 1) else if i = k then v else g i
/-- bytes come in -/
def insB (g r : Nat → Int32) (at_ b size : Nat) : Nat → Int32 := fun j => if j < at_ then g j else if j < at_ + size then r (j - at_) else if j < b + size then g (j - size) else g j
set_option maxHeartbeats 4000000 in
theorem c_put {d : Nat} {M : Mem} {Q : Outcome → Mem → Prop} {q k m b n r rowAt size : Nat} {key : Int32} {s : Nat → Nat} (hd : 1 ≤ d) (hK : LfK M q) (hm : mF M 37 q = I (m : Nat)) (hb : mF M 34 q = I (b : Nat)) (hk : k ≤ m) (hm2 : m ≤ 23) (hs : ∀ i, i < m → mA M (q + 2) i = I (s i : Nat)) (hsb : sm s m = b) (hb2 : b + size ≤ 240)
    (hr : kX M r = (1, n)) (hn : rowAt + size ≤ n) (hn2 : n < 100000) (hrq : r ≠ q + 3) (hB : ∀ i, i < b → ∃ z, mA M (q + 3) i = bB z) (hR : ∀ i, i < size → ∃ z, mA M r (rowAt + i) = bB z)
    (hQ : Q (.returned none) (lfW M q (I ((m + 1 : Nat) : Int)) (I ((b + size : Nat) : Int)) (insF (mA M (q + 1)) k m key) (insF (mA M (q + 2)) k m (I (size : Nat))) (insB (mA M (q + 3)) (fun i => mA M r (rowAt + i)) (sm s k) b size))) :
    Wp d 127 0 [some (.ref q), some (.int (I (k : Nat))), some (.int key), some (.ref r), some (.int (I (rowAt : Nat))), some (.int (I (size : Nat))), none, none] [] M Q := by
  have hK' := hK
  obtain ⟨k0, k1, k2, k3, k4, k5, k6⟩ := hK
  have r1 : r ≠ q + 1 := by intro h; rw [h, k4] at hr; cases hr
  have r2 : r ≠ q + 2 := by intro h; rw [h, k5] at hr; cases hr
  have hat : sm s k ≤ b := hsb ▸ sm_mono s hk
  simp (disch := first | (simp only [dd, dr]; done) | omega) only [W_127, k0, I_lt, I_le, I_inj, inB_I, tc_I, Int.toNat_natCast, fkt, rf1, rf0, cq, Nat.reduceAdd, Nat.reduceEqDiff, Int.reduceToNat, eq_self, true_and, and_true, true_or, or_true, bI_0, bI_1, mm, rAm]
  refine ca_126 (by omega) (c_from hK' hk (by omega) hs (by omega) ?_)
  simp (disch := first | (simp only [dd, dr]; done) | omega) only [W_127, k0, hb, I_lt, I_le, I_inj, inB_I, tc_I, Int.toNat_natCast, fkt, rf1, rf0, cq, Nat.reduceAdd, Nat.reduceEqDiff, Int.reduceToNat, eq_self, true_and, and_true, true_or, or_true, bI_0, bI_1, mm, rAm]
  rw [← lf_id M q, hm, hb]
  generalize hA : sm s k = at_ at *
  generalize hG0 : mA M (q + 3) = B0 at *
  generalize hG1 : mA M (q + 1) = K0 at *
  generalize hG2 : mA M (q + 2) = S0 at *
  suffices H : ∀ n' (t : Nat) (G : Nat → Int32), t = at_ + n' → t ≤ b → (∀ j, G j = if t + size ≤ j ∧ j < b + size then B0 (j - size) else B0 j) → Wp d 127 15 [some (.ref q), some (.int (I (k : Nat))), some (.int key), some (.ref r), some (.int (I (rowAt : Nat))), some (.int (I (size : Nat))), some (.int (I (at_ : Nat))), some (.int (I ((t : Int) - 1)))] [] (lfW M q (I (m : Nat)) (I (b : Nat)) K0 S0 G) Q by
    refine H (b - at_) b B0 (by omega) (Nat.le_refl _) (fun j => ?_)
    rw [if_neg (by omega)]
  intro n'
  induction n' with
  | succ n' ih =>
    intro t G ht htb hG
    obtain ⟨z, hz⟩ := hB (t - 1) (by omega)
    have hGt : G ((t : Int) - 1).toNat = bB z := by
      rw [hG, if_neg (by omega), ← hz]; congr 1; omega
    simp (disch := first | (simp only [dd, dr]; done) | omega) only [w_127_15, W_127, I_lt, I_le, I_inj, inB_I, tc_I, Int.toNat_natCast, fkt, rf1, rf0, cq, Nat.reduceAdd, Nat.reduceEqDiff, Int.reduceToNat, eq_self, true_and, and_true, true_or, or_true, bI_0, bI_1, mm, rAm]
    refine ⟨fun h => absurd h (by omega), fun _ => ?_⟩
    simp (disch := first | (simp only [dd, dr]; done) | omega) only [W_127, lfm, k0, k3, k6, lf_3, hGt, nrw_b, lf_s3, I_lt, I_le, I_inj, inB_I, tc_I, Int.toNat_natCast, fkt, rf1, rf0, cq, Nat.reduceAdd, Nat.reduceEqDiff, Int.reduceToNat, eq_self, true_and, and_true, true_or, or_true, bI_0, bI_1, mm, rAm]
    have := ih (t - 1) (fun j => if j = ((t : Int) - 1 + (size : Int)).toNat then bB z else G j) (by omega) (by omega) (fun j => by
      by_cases h1 : j = ((t : Int) - 1 + (size : Int)).toNat
      · rw [if_pos h1, if_pos (by omega), ← hz]; congr 1; omega
      · rw [if_neg h1, hG]
        by_cases h2 : t + size ≤ j ∧ j < b + size
        · rw [if_pos h2, if_pos (by omega)]
        · rw [if_neg h2, if_neg (by omega)])
    rw [show (((t - 1 : Nat) : Int) - 1) = ((t : Int) - 1 + -1) by omega] at this
    exact this
  | zero =>
    intro t G ht htb hG
    obtain rfl : t = at_ := by omega
    simp (disch := first | (simp only [dd, dr]; done) | omega) only [w_127_15, W_127, I_lt, I_le, I_inj, inB_I, tc_I, Int.toNat_natCast, fkt, rf1, rf0, cq, Nat.reduceAdd, Nat.reduceEqDiff, Int.reduceToNat, eq_self, true_and, and_true, true_or, or_true, bI_0, bI_1, mm, rAm]
    refine ⟨fun _ => ?_, fun h => absurd h (by omega)⟩
    simp (disch := first | (simp only [dd, dr]; done) | omega) only [W_127, I_lt, I_le, I_inj, inB_I, tc_I, Int.toNat_natCast, fkt, rf1, rf0, cq, Nat.reduceAdd, Nat.reduceEqDiff, Int.reduceToNat, eq_self, true_and, and_true, true_or, or_true, bI_0, bI_1, mm, rAm]
    suffices H : ∀ n' (i : Nat) (G' : Nat → Int32), i + n' = size → (∀ j, G' j = if t ≤ j ∧ j < t + i then mA M r (rowAt + (j - t)) else G j) → Wp d 127 48 [some (.ref q), some (.int (I (k : Nat))), some (.int key), some (.ref r), some (.int (I (rowAt : Nat))), some (.int (I (size : Nat))), some (.int (I (t : Nat))), some (.int (I (i : Nat)))] [] (lfW M q (I (m : Nat)) (I (b : Nat)) K0 S0 G') Q by
      refine H size 0 G (by omega) (fun j => ?_)
      rw [if_neg (by omega)]
    intro n'
    induction n' with
    | succ n' ih2 =>
      intro i G' hi hG'
      obtain ⟨z, hz⟩ := hR i (by omega)
      have hz' : mA M r ((rowAt : Int) + (i : Int)).toNat = bB z := by rw [← hz]; congr 1
      simp (disch := first | (simp only [dd, dr]; done) | omega) only [w_127_48, W_127, I_lt, I_le, I_inj, inB_I, tc_I, Int.toNat_natCast, fkt, rf1, rf0, cq, Nat.reduceAdd, Nat.reduceEqDiff, Int.reduceToNat, eq_self, true_and, and_true, true_or, or_true, bI_0, bI_1, mm, rAm]
      refine ⟨fun h => absurd h (by omega), fun _ => ?_⟩
      simp (disch := first | (simp only [dd, dr]; done) | omega) only [W_127, lfm, k0, k3, k6, hr, lf_A _ _ _ _ _ _ _ r1 r2 hrq, hz', nrw_b, lf_s3, I_lt, I_le, I_inj, inB_I, tc_I, Int.toNat_natCast, fkt, rf1, rf0, cq, Nat.reduceAdd, Nat.reduceEqDiff, Int.reduceToNat, eq_self, true_and, and_true, true_or, or_true, bI_0, bI_1, mm, rAm]
      have := ih2 (i + 1) (fun j => if j = ((t : Int) + (i : Int)).toNat then bB z else G' j) (by omega) (fun j => by
        by_cases h1 : j = ((t : Int) + (i : Int)).toNat
        · rw [if_pos h1, if_pos (by omega), ← hz]; congr 1; omega
        · rw [if_neg h1, hG']
          by_cases h2 : t ≤ j ∧ j < t + i
          · rw [if_pos h2, if_pos (by omega)]
          · rw [if_neg h2, if_neg (by omega)])
      exact this
    | zero =>
      intro i G' hi hG'
      obtain rfl : i = size := by omega
      simp (disch := first | (simp only [dd, dr]; done) | omega) only [w_127_48, W_127, I_lt, I_le, I_inj, inB_I, tc_I, Int.toNat_natCast, fkt, rf1, rf0, cq, Nat.reduceAdd, Nat.reduceEqDiff, Int.reduceToNat, eq_self, true_and, and_true, true_or, or_true, bI_0, bI_1, mm, rAm]
      refine ⟨fun _ => ?_, fun h => absurd h (by omega)⟩
      simp (disch := first | (simp only [dd, dr]; done) | omega) only [W_127, lfm, k0, lf_37, I_lt, I_le, I_inj, inB_I, tc_I, Int.toNat_natCast, fkt, rf1, rf0, cq, Nat.reduceAdd, Nat.reduceEqDiff, Int.reduceToNat, eq_self, true_and, and_true, true_or, or_true, bI_0, bI_1, mm, rAm]
      have eB : G' = insB B0 (fun j => mA M r (rowAt + j)) t b i := by
        funext j
        rw [hG', insB]
        by_cases h1 : t ≤ j ∧ j < t + i
        · rw [if_pos h1, if_neg (by omega), if_pos (by omega)]
        · rw [if_neg h1, hG]
          by_cases h2 : j < t
          · rw [if_neg (show ¬ (t + i ≤ j ∧ j < b + i) by omega), if_pos h2]
          · by_cases h3 : j < b + i
            · rw [if_pos (show t + i ≤ j ∧ j < b + i by omega), if_neg h2, if_neg (show ¬ j < t + i by omega), if_pos h3]
            · rw [if_neg (show ¬ (t + i ≤ j ∧ j < b + i) by omega), if_neg h2, if_neg (show ¬ j < t + i by omega), if_neg h3]
      rw [← eB] at hQ
      suffices H : ∀ n' (i' : Nat) (K S : Nat → Int32), i' = k + n' → i' ≤ m → (∀ j, K j = if i' < j ∧ j ≤ m then K0 (j - 1) else K0 j) → (∀ j, S j = if i' < j ∧ j ≤ m then S0 (j - 1) else S0 j) → Wp d 127 84 [some (.ref q), some (.int (I (k : Nat))), some (.int key), some (.ref r), some (.int (I (rowAt : Nat))), some (.int (I (i : Nat))), some (.int (I (t : Nat))), some (.int (I (i' : Nat)))] [] (lfW M q (I (m : Nat)) (I (b : Nat)) K S G') Q by
        refine H (m - k) m K0 S0 (by omega) (Nat.le_refl _) (fun j => ?_) (fun j => ?_)
        · rw [if_neg (by omega)]
        · rw [if_neg (by omega)]
      intro n'
      induction n' with
      | succ n' ih3 =>
        intro i' K S hi' hi2 hKK hSS
        have e1 : K ((i' : Int) - 1).toNat = K0 (i' - 1) := by rw [hKK, if_neg (by omega)]; congr 1; omega
        have e2 : S ((i' : Int) - 1).toNat = S0 (i' - 1) := by rw [hSS, if_neg (by omega)]; congr 1; omega
        simp (disch := first | (simp only [dd, dr]; done) | omega) only [w_127_84, W_127, I_lt, I_le, I_inj, inB_I, tc_I, Int.toNat_natCast, fkt, rf1, rf0, cq, Nat.reduceAdd, Nat.reduceEqDiff, Int.reduceToNat, eq_self, true_and, and_true, true_or, or_true, bI_0, bI_1, mm, rAm]
        refine ⟨fun h => absurd h (by omega), fun _ => ?_⟩
        simp (disch := first | (simp only [dd, dr]; done) | omega) only [W_127, lfm, k0, k1, k2, k4, k5, lf_1, lf_2, e1, e2, lf_s1, lf_s2, I_lt, I_le, I_inj, inB_I, tc_I, Int.toNat_natCast, fkt, rf1, rf0, cq, Nat.reduceAdd, Nat.reduceEqDiff, Int.reduceToNat, eq_self, true_and, and_true, true_or, or_true, bI_0, bI_1, mm, rAm]
        have := ih3 (i' - 1) (fun j => if j = i' then K0 (i' - 1) else K j) (fun j => if j = i' then S0 (i' - 1) else S j) (by omega) (by omega) (fun j => by
          by_cases h1 : j = i'
          · rw [if_pos h1, if_pos (by omega), h1]
          · rw [if_neg h1, hKK]
            by_cases h2 : i' < j ∧ j ≤ m
            · rw [if_pos h2, if_pos (by omega)]
            · rw [if_neg h2, if_neg (by omega)]) (fun j => by
          by_cases h1 : j = i'
          · rw [if_pos h1, if_pos (by omega), h1]
          · rw [if_neg h1, hSS]
            by_cases h2 : i' < j ∧ j ≤ m
            · rw [if_pos h2, if_pos (by omega)]
            · rw [if_neg h2, if_neg (by omega)])
        rw [show (((i' - 1 : Nat) : Int)) = ((i' : Int) + -1) by omega] at this
        exact this
      | zero =>
        intro i' K S hi' hi2 hKK hSS
        obtain rfl : i' = k := by omega
        simp (disch := first | (simp only [dd, dr]; done) | omega) only [w_127_84, W_127, I_lt, I_le, I_inj, inB_I, tc_I, Int.toNat_natCast, fkt, rf1, rf0, cq, Nat.reduceAdd, Nat.reduceEqDiff, Int.reduceToNat, eq_self, true_and, and_true, true_or, or_true, bI_0, bI_1, mm, rAm]
        refine ⟨fun _ => ?_, fun h => absurd h (by omega)⟩
        simp (disch := first | (simp only [dd, dr]; done) | omega) only [W_127, lfm, k0, k1, k2, k4, k5, lf_s1, lf_s2, lf_37, lf_34, lf_s37, lf_s34, I_lt, I_le, I_inj, inB_I, tc_I, Int.toNat_natCast, fkt, rf1, rf0, cq, Nat.reduceAdd, Nat.reduceEqDiff, Int.reduceToNat, eq_self, true_and, and_true, true_or, or_true, bI_0, bI_1, mm, rAm]
        have e1 : (fun j => if j = i' then key else K j) = insF K0 i' m key := by
          funext j
          rw [insF]
          by_cases h1 : j = i'
          · rw [if_pos h1, if_neg (by omega), if_pos h1]
          · rw [if_neg h1, hKK]
            by_cases h2 : i' < j ∧ j ≤ m
            · rw [if_pos h2, if_pos h2]
            · rw [if_neg h2, if_neg h2, if_neg h1]
        have e2 : (fun j => if j = i' then I (i : Nat) else S j) = insF S0 i' m (I (i : Nat)) := by
          funext j
          rw [insF]
          by_cases h1 : j = i'
          · rw [if_pos h1, if_neg (by omega), if_pos h1]
          · rw [if_neg h1, hSS]
            by_cases h2 : i' < j ∧ j ≤ m
            · rw [if_pos h2, if_pos h2]
            · rw [if_neg h2, if_neg h2, if_neg h1]
        rw [e1, e2]
        exact hQ
def delF (g : Nat → Int32) (k m : Nat) : Nat → Int32 := fun i => if k ≤ i ∧ i + 1 < m then g (i + 1) else g i
def delB (g : Nat → Int32) (at_ b size : Nat) : Nat → Int32 := fun j => if at_ ≤ j ∧ j + size < b then g (j + size) else g j
theorem sm_succ (g : Nat → Nat) (k : Nat) : sm g (k + 1) = sm g k + g k := rfl
set_option maxHeartbeats 4000000 in
theorem c_drop {d : Nat} {M : Mem} {Q : Outcome → Mem → Prop} {q k m b : Nat} {s : Nat → Nat} (hd : 1 ≤ d) (hK : LfK M q) (hm : mF M 37 q = I (m : Nat)) (hb : mF M 34 q = I (b : Nat)) (hk : k < m) (hm2 : m ≤ 24) (hs : ∀ i, i < m → mA M (q + 2) i = I (s i : Nat)) (hsb : sm s m = b) (hb2 : b ≤ 240) (hB : ∀ i, i < b → ∃ z, mA M (q + 3) i = bB z)
    (hQ : Q (.returned none) (lfW M q (I ((m - 1 : Nat) : Int)) (I ((b - s k : Nat) : Int)) (delF (mA M (q + 1)) k m) (delF (mA M (q + 2)) k m) (delB (mA M (q + 3)) (sm s k) b (s k)))) :
    Wp d 125 0 [some (.ref q), some (.int (I (k : Nat))), none, none, none] [] M Q := by
  have hK' := hK
  obtain ⟨k0, k1, k2, k3, k4, k5, k6⟩ := hK
  have hat : sm s (k + 1) ≤ b := hsb ▸ sm_mono s hk
  rw [sm_succ] at hat
  have hsk := hs k hk
  simp (disch := first | (simp only [dd, dr]; done) | omega) only [W_125, k0, I_lt, I_le, I_inj, inB_I, tc_I, Int.toNat_natCast, fkt, rf1, rf0, cq, Nat.reduceAdd, Nat.reduceEqDiff, Int.reduceToNat, eq_self, true_and, and_true, true_or, or_true, bI_0, bI_1, mm, rAm]
  refine ca_126 (by omega) (c_from hK' (Nat.le_of_lt hk) hm2 hs (by omega) ?_)
  simp (disch := first | (simp only [dd, dr]; done) | omega) only [W_125, k0, k2, k5, hsk, I_lt, I_le, I_inj, inB_I, tc_I, Int.toNat_natCast, fkt, rf1, rf0, cq, Nat.reduceAdd, Nat.reduceEqDiff, Int.reduceToNat, eq_self, true_and, and_true, true_or, or_true, bI_0, bI_1, mm, rAm]
  rw [← lf_id M q, hm, hb]
  generalize hA : sm s k = at_ at *
  generalize hS : s k = size at *
  generalize hG0 : mA M (q + 3) = B0 at *
  generalize hG1 : mA M (q + 1) = K0 at *
  generalize hG2 : mA M (q + 2) = S0 at *
  suffices H : ∀ n' (i : Nat) (G : Nat → Int32), i + n' = b → at_ + size ≤ i → (∀ j, G j = if at_ ≤ j ∧ j + size < i then B0 (j + size) else B0 j) → Wp d 125 18 [some (.ref q), some (.int (I (k : Nat))), some (.int (I (at_ : Nat))), some (.int (I (size : Nat))), some (.int (I (i : Nat)))] [] (lfW M q (I (m : Nat)) (I (b : Nat)) K0 S0 G) Q by
    refine H (b - (at_ + size)) (at_ + size) B0 (by omega) (Nat.le_refl _) (fun j => ?_)
    rw [if_neg (by omega)]
  intro n'
  induction n' with
  | succ n' ih =>
    intro i G hi hi2 hG
    obtain ⟨z, hz⟩ := hB i (by omega)
    have hGt : G i = bB z := by rw [hG, if_neg (by omega), ← hz]
    simp (disch := first | (simp only [dd, dr]; done) | omega) only [w_125_18, W_125, lfm, k0, lf_34, I_lt, I_le, I_inj, inB_I, tc_I, Int.toNat_natCast, fkt, rf1, rf0, cq, Nat.reduceAdd, Nat.reduceEqDiff, Int.reduceToNat, eq_self, true_and, and_true, true_or, or_true, bI_0, bI_1, mm, rAm]
    refine ⟨fun h => absurd h (by omega), fun _ => ?_⟩
    simp (disch := first | (simp only [dd, dr]; done) | omega) only [W_125, lfm, k0, k3, k6, lf_3, hGt, nrw_b, lf_s3, I_lt, I_le, I_inj, inB_I, tc_I, Int.toNat_natCast, fkt, rf1, rf0, cq, Nat.reduceAdd, Nat.reduceEqDiff, Int.reduceToNat, eq_self, true_and, and_true, true_or, or_true, bI_0, bI_1, mm, rAm]
    exact ih (i + 1) (fun j => if j = ((i : Int) - (size : Int)).toNat then bB z else G j) (by omega) (by omega) (fun j => by
      by_cases h1 : j = ((i : Int) - (size : Int)).toNat
      · rw [if_pos h1, if_pos (by omega), ← hz]; congr 1; omega
      · rw [if_neg h1, hG]
        by_cases h2 : at_ ≤ j ∧ j + size < i
        · rw [if_pos h2, if_pos (by omega)]
        · rw [if_neg h2, if_neg (by omega)])
  | zero =>
    intro i G hi hi2 hG
    obtain rfl : i = b := by omega
    simp (disch := first | (simp only [dd, dr]; done) | omega) only [w_125_18, W_125, lfm, k0, lf_34, I_lt, I_le, I_inj, inB_I, tc_I, Int.toNat_natCast, fkt, rf1, rf0, cq, Nat.reduceAdd, Nat.reduceEqDiff, Int.reduceToNat, eq_self, true_and, and_true, true_or, or_true, bI_0, bI_1, mm, rAm]
    refine ⟨fun _ => ?_, fun h => absurd h (by omega)⟩
    simp (disch := first | (simp only [dd, dr]; done) | omega) only [W_125, lfm, k0, lf_37, lf_34, lf_s37, lf_s34, I_lt, I_le, I_inj, inB_I, tc_I, Int.toNat_natCast, fkt, rf1, rf0, cq, Nat.reduceAdd, Nat.reduceEqDiff, Int.reduceToNat, eq_self, true_and, and_true, true_or, or_true, bI_0, bI_1, mm, rAm]
    have eB : G = delB B0 at_ i size := by
      funext j
      rw [hG, delB]
    rw [← eB] at hQ
    rw [show ((i : Int) - (size : Int)) = ((i - size : Nat) : Int) by omega, show ((m : Int) - 1) = ((m - 1 : Nat) : Int) by omega]
    suffices H : ∀ n' (i' : Nat) (K S : Nat → Int32), i' + n' = m - 1 → k ≤ i' → (∀ j, K j = if k ≤ j ∧ j < i' then K0 (j + 1) else K0 j) → (∀ j, S j = if k ≤ j ∧ j < i' then S0 (j + 1) else S0 j) → Wp d 125 72 [some (.ref q), some (.int (I (k : Nat))), some (.int (I (at_ : Nat))), some (.int (I (size : Nat))), some (.int (I (i' : Nat)))] [] (lfW M q (I ((m - 1 : Nat) : Int)) (I ((i - size : Nat) : Int)) K S G) Q by
      refine H (m - 1 - k) k K0 S0 (by omega) (Nat.le_refl _) (fun j => ?_) (fun j => ?_)
      · rw [if_neg (by omega)]
      · rw [if_neg (by omega)]
    intro n'
    induction n' with
    | succ n' ih3 =>
      intro i' K S hi' hi2 hKK hSS
      have e1 : K ((i' : Int) + 1).toNat = K0 (i' + 1) := by rw [hKK, if_neg (by omega)]; congr 1
      have e2 : S ((i' : Int) + 1).toNat = S0 (i' + 1) := by rw [hSS, if_neg (by omega)]; congr 1
      simp (disch := first | (simp only [dd, dr]; done) | omega) only [w_125_72, W_125, lfm, k0, lf_37, I_lt, I_le, I_inj, inB_I, tc_I, Int.toNat_natCast, fkt, rf1, rf0, cq, Nat.reduceAdd, Nat.reduceEqDiff, Int.reduceToNat, eq_self, true_and, and_true, true_or, or_true, bI_0, bI_1, mm, rAm]
      refine ⟨fun h => absurd h (by omega), fun _ => ?_⟩
      simp (disch := first | (simp only [dd, dr]; done) | omega) only [W_125, lfm, k0, k1, k2, k4, k5, lf_1, lf_2, e1, e2, lf_s1, lf_s2, I_lt, I_le, I_inj, inB_I, tc_I, Int.toNat_natCast, fkt, rf1, rf0, cq, Nat.reduceAdd, Nat.reduceEqDiff, Int.reduceToNat, eq_self, true_and, and_true, true_or, or_true, bI_0, bI_1, mm, rAm]
      exact ih3 (i' + 1) (fun j => if j = i' then K0 (i' + 1) else K j) (fun j => if j = i' then S0 (i' + 1) else S j) (by omega) (by omega) (fun j => by
        by_cases h1 : j = i'
        · rw [if_pos h1, if_pos (by omega), h1]
        · rw [if_neg h1, hKK]
          by_cases h2 : k ≤ j ∧ j < i'
          · rw [if_pos h2, if_pos (by omega)]
          · rw [if_neg h2, if_neg (by omega)]) (fun j => by
        by_cases h1 : j = i'
        · rw [if_pos h1, if_pos (by omega), h1]
        · rw [if_neg h1, hSS]
          by_cases h2 : k ≤ j ∧ j < i'
          · rw [if_pos h2, if_pos (by omega)]
          · rw [if_neg h2, if_neg (by omega)])
    | zero =>
      intro i' K S hi' hi2 hKK hSS
      obtain rfl : i' = m - 1 := by omega
      simp (disch := first | (simp only [dd, dr]; done) | omega) only [w_125_72, W_125, lfm, k0, lf_37, I_lt, I_le, I_inj, inB_I, tc_I, Int.toNat_natCast, fkt, rf1, rf0, cq, Nat.reduceAdd, Nat.reduceEqDiff, Int.reduceToNat, eq_self, true_and, and_true, true_or, or_true, bI_0, bI_1, mm, rAm]
      refine ⟨fun _ => ?_, fun h => absurd h (by omega)⟩
      simp (disch := first | (simp only [dd, dr]; done) | omega) only [W_125, I_lt, I_le, I_inj, inB_I, tc_I, Int.toNat_natCast, fkt, rf1, rf0, cq, Nat.reduceAdd, Nat.reduceEqDiff, Int.reduceToNat, eq_self, true_and, and_true, true_or, or_true, bI_0, bI_1, mm, rAm]
      have e1 : K = delF K0 k m := by
        funext j
        rw [hKK, delF]
        by_cases h2 : k ≤ j ∧ j < m - 1
        · rw [if_pos h2, if_pos (by omega)]
        · rw [if_neg h2, if_neg (by omega)]
      have e2 : S = delF S0 k m := by
        funext j
        rw [hSS, delF]
        by_cases h2 : k ≤ j ∧ j < m - 1
        · rw [if_pos h2, if_pos (by omega)]
        · rw [if_neg h2, if_neg (by omega)]
      rw [e1, e2]
      exact hQ
