/-! ===== THE MODEL: find, keep ===== -/
theorem lf5_mem {L : Nat → List R5} {ob so na : Int} {row : List Nat} : ∀ (l : List Nat) (fd : Nat), fd ∈ row → (∀ x ∈ l, x ∈ row) → lf5 L ob so na l fd ∈ row
  | [], fd, h, _ => h
  | x :: l, fd, h, hl => by
    rw [lf5]
    refine lf5_mem l _ ?_ (fun y hy => hl y (List.mem_cons_of_mem _ hy))
    split
    · exact h
    · split
      · exact hl x (List.mem_cons_self ..)
      · exact h
/-- the place of the first item that is a key's; -1 -/
def fi5 (ob so na : Int) : List R5 → Nat → Int
  | [], _ => -1
  | r :: l, i => if wr (cmp5 r ob so na) = 0 then i else fi5 ob so na l (i + 1)
section M6
variable {d : Nat} {M : Mem} {Q : Outcome → Mem → Prop} {o : Nat} {f : Nat → Int} {s b c w : Int → Int} {j : Nat → Bool}
set_option maxHeartbeats 4000000 in
theorem m_find (hK : MK M o) (hd : 2 ≤ d) {row : List Nat} {L : Nat → List R5} {x0 : Nat} {ob so na : Int} (hL : Lvs s row L) (h0 : row[0]? = some x0) (ob0 : 0 ≤ ob) (ob1 : ob < 100) (so0 : 0 ≤ so) (so1 : so < 4) (hQ : Q (.returned (some (.int (I (fi5 ob so na (L (lf5 L ob so na row x0)) 0))))) (ms M o f s b c w j)) : Wp d 162 0 [some (.ref o), some (.int (I ob)), some (.int (I so)), some (.int (I na)), none, none] [] (ms M o f s b c w j) Q := by
  have hK' := hK
  obtain ⟨k0, k1, k2, k3, k4, k5, k6, k7, k8, k9, k10⟩ := hK
  simp (disch := first | (simp only [dd, dr]; done) | omega) only [W_162, msK, msR, msF, ms1, msS1, k0, k1, k6, I_lt, I_le, I_inj, inB_I, tc_I, Int.toNat_natCast, fkt, rf1, rf0, cq, Nat.reduceAdd, Nat.reduceEqDiff, Int.reduceToNat, eq_self, true_and, and_true, true_or, or_true, bI_0, bI_1, mm, rAm, mF_sF, mR_sR, false_and, and_false, if_false, if_true, false_or, or_false, not_true_eq_false, not_false_eq_true, and_self]
  refine ca_163 (by omega) (m_leafOf hK' (by omega) hL h0 ob0 ob1 so0 so1 ?_)
  have hm : lf5 L ob so na row x0 ∈ row := lf5_mem row x0 (List.mem_of_getElem? h0) (fun _ h => h)
  generalize lf5 L ob so na row x0 = x at *
  obtain ⟨x9, xI, xl, xn, xr⟩ := hL.2.2.2 x hm
  simp (disch := first | (simp only [dd, dr]; done) | omega) only [W_162, msK, msR, msF, ms1, msS1, k0, k1, k6, I_lt, I_le, I_inj, inB_I, tc_I, Int.toNat_natCast, fkt, rf1, rf0, cq, Nat.reduceAdd, Nat.reduceEqDiff, Int.reduceToNat, eq_self, true_and, and_true, true_or, or_true, bI_0, bI_1, mm, rAm, mF_sF, mR_sR, false_and, and_false, if_false, if_true, false_or, or_false, not_true_eq_false, not_false_eq_true, and_self]
  suffices H : ∀ (l : List R5) (i : Nat), (L x).drop i = l → i ≤ (L x).length → fi5 ob so na (L x) 0 = fi5 ob so na l i → Wp d 162 12 [some (.ref o), some (.int (I ob)), some (.int (I so)), some (.int (I na)), some (.int (I (x : Nat))), some (.int (I (i : Nat)))] [] (ms M o f s b c w j) Q from H (L x) 0 rfl (Nat.zero_le _) rfl
  intro l
  induction l with
  | nil =>
    intro i hl hi hp
    have : i = (L x).length := by
      have := congrArg List.length hl
      rw [List.length_drop] at this
      simp at this
      omega
    subst this
    simp (disch := first | (simp only [dd, dr]; done) | omega) only [w_162_12, W_162, msK, msR, msF, ms1, msS1, k0, k1, k6, xn, I_lt, I_le, I_inj, inB_I, tc_I, Int.toNat_natCast, fkt, rf1, rf0, cq, Nat.reduceAdd, Nat.reduceEqDiff, Int.reduceToNat, eq_self, true_and, and_true, true_or, or_true, bI_0, bI_1, mm, rAm, mF_sF, mR_sR, false_and, and_false, if_false, if_true, false_or, or_false, not_true_eq_false, not_false_eq_true, and_self]
    refine ⟨fun _ => ?_, fun h => absurd h (by omega)⟩
    simp (disch := first | (simp only [dd, dr]; done) | omega) only [W_162, I_lt, I_le, I_inj, inB_I, tc_I, Int.toNat_natCast, fkt, rf1, rf0, cq, Nat.reduceAdd, Nat.reduceEqDiff, Int.reduceToNat, eq_self, true_and, and_true, true_or, or_true, bI_0, bI_1, mm, rAm, mF_sF, mR_sR, false_and, and_false, if_false, if_true, false_or, or_false, not_true_eq_false, not_false_eq_true, and_self]
    rw [hp, fi5] at hQ
    exact hQ
  | cons r l ih =>
    intro i hl hi hp
    have hr : (L x)[i]? = some r := by
      have := congrArg (fun l => l[0]?) hl
      simpa using this
    have hlt := (List.getElem?_eq_some_iff.mp hr).1
    have hl' : (L x).drop (i + 1) = l := by rw [← List.drop_drop, hl]; rfl
    simp (disch := first | (simp only [dd, dr]; done) | omega) only [w_162_12, W_162, msK, msR, msF, ms1, msS1, k0, k1, k6, xn, I_lt, I_le, I_inj, inB_I, tc_I, Int.toNat_natCast, fkt, rf1, rf0, cq, Nat.reduceAdd, Nat.reduceEqDiff, Int.reduceToNat, eq_self, true_and, and_true, true_or, or_true, bI_0, bI_1, mm, rAm, mF_sF, mR_sR, false_and, and_false, if_false, if_true, false_or, or_false, not_true_eq_false, not_false_eq_true, and_self]
    refine ⟨fun h => absurd h (by omega), fun _ => ?_⟩
    simp (disch := first | (simp only [dd, dr]; done) | omega) only [W_162, msK, msR, msF, ms1, msS1, k0, k1, k6, I_lt, I_le, I_inj, inB_I, tc_I, Int.toNat_natCast, fkt, rf1, rf0, cq, Nat.reduceAdd, Nat.reduceEqDiff, Int.reduceToNat, eq_self, true_and, and_true, true_or, or_true, bI_0, bI_1, mm, rAm, mF_sF, mR_sR, false_and, and_false, if_false, if_true, false_or, or_false, not_true_eq_false, not_false_eq_true, and_self]
    refine ca_164 (by omega) (m_compare hK' x9 xI xl hr (xr r (List.mem_of_getElem? hr)) ob0 ob1 so0 so1 ?_)
    have w1 := wr_lo (cmp5 r ob so na)
    have w2 := wr_hi (cmp5 r ob so na)
    simp (disch := first | (simp only [dd, dr]; done) | omega) only [W_162, msK, msR, msF, ms1, msS1, k0, k1, k6, I_lt, I_le, I_inj, inB_I, tc_I, Int.toNat_natCast, fkt, rf1, rf0, cq, Nat.reduceAdd, Nat.reduceEqDiff, Int.reduceToNat, eq_self, true_and, and_true, true_or, or_true, bI_0, bI_1, mm, rAm, mF_sF, mR_sR, false_and, and_false, if_false, if_true, false_or, or_false, not_true_eq_false, not_false_eq_true, and_self]
    rw [fi5] at hp
    refine ⟨fun hc => ?_, fun hc => ?_⟩
    · simp (disch := first | (simp only [dd, dr]; done) | omega) only [W_162, I_lt, I_le, I_inj, inB_I, tc_I, Int.toNat_natCast, fkt, rf1, rf0, cq, Nat.reduceAdd, Nat.reduceEqDiff, Int.reduceToNat, eq_self, true_and, and_true, true_or, or_true, bI_0, bI_1, mm, rAm, mF_sF, mR_sR, false_and, and_false, if_false, if_true, false_or, or_false, not_true_eq_false, not_false_eq_true, and_self]
      rw [if_neg hc] at hp
      exact ih (i + 1) hl' (by omega) hp
    · simp (disch := first | (simp only [dd, dr]; done) | omega) only [W_162, I_lt, I_le, I_inj, inB_I, tc_I, Int.toNat_natCast, fkt, rf1, rf0, cq, Nat.reduceAdd, Nat.reduceEqDiff, Int.reduceToNat, eq_self, true_and, and_true, true_or, or_true, bI_0, bI_1, mm, rAm, mF_sF, mR_sR, false_and, and_false, if_false, if_true, false_or, or_false, not_true_eq_false, not_false_eq_true, and_self]
      rw [if_pos (Decidable.not_not.mp hc)] at hp
      rw [hp] at hQ
      exact hQ
theorem c_keep {a a' : Nat} {M : Mem} (ha : kX M a = (0, 25366)) (hb : kX M a' = (0, 25366)) (hab : a ≠ a') (hQ : Q (.returned none) (rA M a' (fun i => if i < 25366 then mA M a i else mA M a' i))) : Wp d 154 0 [some (.ref a), some (.ref a'), none] [] M Q := by
  simp (disch := first | (simp only [dd, dr]; done) | omega) only [W_154, I_lt, I_le, I_inj, inB_I, tc_I, Int.toNat_natCast, fkt, rf1, rf0, cq, Nat.reduceAdd, Nat.reduceEqDiff, Int.reduceToNat, eq_self, true_and, and_true, true_or, or_true, bI_0, bI_1, mm, rAm, mF_sF, mR_sR, false_and, and_false, if_false, if_true, false_or, or_false, not_true_eq_false, not_false_eq_true, and_self]
  suffices H : ∀ n (i : Nat), i + n = 25366 → Wp d 154 2 [some (.ref a), some (.ref a'), some (.int (I i))] [] (rA M a' (fun q => if q < i then mA M a q else mA M a' q)) Q by
    have := H 25366 0 rfl
    simp only [Nat.not_lt_zero, if_false, rA_id] at this
    exact this
  intro n
  induction n with
  | zero =>
    intro i hi
    obtain rfl : i = 25366 := by omega
    simp (disch := first | (simp only [dd, dr]; done) | omega) only [w_154_2, W_154, I_lt, I_le, I_inj, inB_I, tc_I, Int.toNat_natCast, fkt, rf1, rf0, cq, Nat.reduceAdd, Nat.reduceEqDiff, Int.reduceToNat, eq_self, true_and, and_true, true_or, or_true, bI_0, bI_1, mm, rAm, mF_sF, mR_sR, false_and, and_false, if_false, if_true, false_or, or_false, not_true_eq_false, not_false_eq_true, and_self]
    refine ⟨fun _ => ?_, fun h => absurd h (by omega)⟩
    simp (disch := first | (simp only [dd, dr]; done) | omega) only [W_154, I_lt, I_le, I_inj, inB_I, tc_I, Int.toNat_natCast, fkt, rf1, rf0, cq, Nat.reduceAdd, Nat.reduceEqDiff, Int.reduceToNat, eq_self, true_and, and_true, true_or, or_true, bI_0, bI_1, mm, rAm, mF_sF, mR_sR, false_and, and_false, if_false, if_true, false_or, or_false, not_true_eq_false, not_false_eq_true, and_self]
    exact hQ
  | succ n ih =>
    intro i hi
    simp (disch := first | (simp only [dd, dr]; done) | omega) only [w_154_2, W_154, I_lt, I_le, I_inj, inB_I, tc_I, Int.toNat_natCast, fkt, rf1, rf0, cq, Nat.reduceAdd, Nat.reduceEqDiff, Int.reduceToNat, eq_self, true_and, and_true, true_or, or_true, bI_0, bI_1, mm, rAm, mF_sF, mR_sR, false_and, and_false, if_false, if_true, false_or, or_false, not_true_eq_false, not_false_eq_true, and_self]
    refine ⟨fun h => absurd h (by omega), fun _ => ?_⟩
    simp (disch := first | (simp only [dd, dr]; done) | omega) only [W_154, ha, hb, mA_rA, if_neg hab, sA_rA, I_lt, I_le, I_inj, inB_I, tc_I, Int.toNat_natCast, fkt, rf1, rf0, cq, Nat.reduceAdd, Nat.reduceEqDiff, Int.reduceToNat, eq_self, true_and, and_true, true_or, or_true, bI_0, bI_1, mm, rAm, mF_sF, mR_sR, false_and, and_false, if_false, if_true, false_or, or_false, not_true_eq_false, not_false_eq_true, and_self]
    have := ih (i + 1) (by omega)
    rw [rA_congr (g' := fun q => if q < i + 1 then mA M a q else mA M a' q)]
    · exact this
    · intro q
      by_cases h1 : q = i
      · subst h1; rw [if_pos rfl, if_pos (by omega)]
      · rw [if_neg h1]
        by_cases h2 : q < i
        · rw [if_pos h2, if_pos (by omega)]
        · rw [if_neg h2, if_neg (by omega)]
/-- a row over another one -/
def kp (x y : Int → Int) : Int → Int := fun z => if z < 25366 then x z else y z
theorem ms_kp (p q : Nat) (x y : Int → Int) (g : Nat → Int32) (hx : ∀ i : Nat, mA (ms M o f s b c w j) p i = I (x i)) (hy : ∀ i : Nat, mA (ms M o f s b c w j) q i = I (y i)) (hg : ∀ i : Nat, g i = if i < 25366 then mA (ms M o f s b c w j) p i else mA (ms M o f s b c w j) q i) : ∀ i : Nat, g i = I (kp x y i) := by
  intro i
  rw [hg, kp, hx, hy]
  by_cases h : i < 25366
  · rw [if_pos h, if_pos (by omega)]
  · rw [if_neg h, if_neg (by omega)]
theorem msA1 (i : Nat) : mA (ms M o f s b c w j) (o + 1) i = I (s i) := by simp [mA, ms]
theorem msA2 (i : Nat) : mA (ms M o f s b c w j) (o + 2) i = I (b i) := by simp [mA, ms]
theorem msA3 (i : Nat) : mA (ms M o f s b c w j) (o + 3) i = I (c i) := by simp [mA, ms]
theorem msr1 (g : Nat → Int32) (x : Int → Int) (h : ∀ i : Nat, g i = I (x i)) : rA (ms M o f s b c w j) (o + 1) g = ms M o f x b c w j := by
  unfold rA ms
  congr 4
  funext p i
  by_cases h1 : p = o + 1 <;> simp [h1, h]
theorem msr2 (g : Nat → Int32) (x : Int → Int) (h : ∀ i : Nat, g i = I (x i)) : rA (ms M o f s b c w j) (o + 2) g = ms M o f s x c w j := by
  unfold rA ms
  congr 4
  funext p i
  by_cases h1 : p = o + 2 <;> simp [h1, h]
theorem msr3 (g : Nat → Int32) (x : Int → Int) (h : ∀ i : Nat, g i = I (x i)) : rA (ms M o f s b c w j) (o + 3) g = ms M o f s b x w j := by
  unfold rA ms
  congr 4
  funext p i
  by_cases h1 : p = o + 3 <;> simp [h1, h]
theorem m_keepSB (hK : MK M o) (hQ : Q (.returned none) (ms M o f s (kp s b) c w j)) : Wp d 154 0 [some (.ref (o + 1)), some (.ref (o + 2)), none] [] (ms M o f s b c w j) Q := by
  refine c_keep hK.2.2.2.2.2.2.1 hK.2.2.2.2.2.2.2.1 (by omega) ?_
  rw [msr2 _ (kp s b) (ms_kp (o + 1) (o + 2) s b _ msA1 msA2 (fun _ => rfl))]
  exact hQ
theorem m_keepBS (hK : MK M o) (hQ : Q (.returned none) (ms M o f (kp b s) b c w j)) : Wp d 154 0 [some (.ref (o + 2)), some (.ref (o + 1)), none] [] (ms M o f s b c w j) Q := by
  refine c_keep hK.2.2.2.2.2.2.2.1 hK.2.2.2.2.2.2.1 (by omega) ?_
  rw [msr1 _ (kp b s) (ms_kp (o + 2) (o + 1) b s _ msA2 msA1 (fun _ => rfl))]
  exact hQ
theorem m_keepSC (hK : MK M o) (hQ : Q (.returned none) (ms M o f s b (kp s c) w j)) : Wp d 154 0 [some (.ref (o + 1)), some (.ref (o + 3)), none] [] (ms M o f s b c w j) Q := by
  refine c_keep hK.2.2.2.2.2.2.1 hK.2.2.2.2.2.2.2.2.1 (by omega) ?_
  rw [msr3 _ (kp s c) (ms_kp (o + 1) (o + 3) s c _ msA1 msA3 (fun _ => rfl))]
  exact hQ
theorem m_keepCS (hK : MK M o) (hQ : Q (.returned none) (ms M o f (kp c s) b c w j)) : Wp d 154 0 [some (.ref (o + 3)), some (.ref (o + 1)), none] [] (ms M o f s b c w j) Q := by
  refine c_keep hK.2.2.2.2.2.2.2.2.1 hK.2.2.2.2.2.2.1 (by omega) ?_
  rw [msr1 _ (kp c s) (ms_kp (o + 3) (o + 1) c s _ msA3 msA1 (fun _ => rfl))]
  exact hQ
end M6
