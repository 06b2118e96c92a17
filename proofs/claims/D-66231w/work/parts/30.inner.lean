/-! ===== CONTRACTS: the inner node ===== -/
def InK (M : Mem) (q : Nat) : Prop := kO M q = 6 ∧ mR M 39 q = some (q + 1) ∧ kX M (q + 1) = (7, 6)
/-- a node's children become others -/
def inW (M : Mem) (q : Nat) (m : Int32) (g : Nat → Option Nat) : Mem :=
  (M.1, fun f a => if f = 41 ∧ a = q then m else M.2.1 f a, M.2.2.1, M.2.2.2.1, fun p i => if p = q + 1 then g i else M.2.2.2.2.1 p i, M.2.2.2.2.2)
theorem inm : (∀ (M : Mem) (q : Nat) (m : Int32) (g : Nat → Option Nat) (x y : Nat), mR (inW M q m g) x y = mR M x y) ∧ (∀ (M : Mem) (q : Nat) (m : Int32) (g : Nat → Option Nat) (x y : Nat), mA (inW M q m g) x y = mA M x y) ∧ (∀ (M : Mem) (q : Nat) (m : Int32) (g : Nat → Option Nat) (x y : Nat), mL (inW M q m g) x y = mL M x y) ∧ (∀ (M : Mem) (q : Nat) (m : Int32) (g : Nat → Option Nat) (x : Nat), mK (inW M q m g) x = mK M x) ∧ (∀ (M : Mem) (q : Nat) (m : Int32) (g : Nat → Option Nat) (x : Nat), kO (inW M q m g) x = kO M x) ∧ (∀ (M : Mem) (q : Nat) (m : Int32) (g : Nat → Option Nat) (x : Nat), kX (inW M q m g) x = kX M x) ∧ (∀ (M : Mem) (q : Nat) (m : Int32) (g : Nat → Option Nat), mN (inW M q m g) = mN M) ∧ (∀ (M : Mem) (q : Nat) (m : Int32) (g : Nat → Option Nat), mS (inW M q m g) = mS M) :=
  ⟨fun _ _ _ _ _ _ => rfl, fun _ _ _ _ _ _ => rfl, fun _ _ _ _ _ _ => rfl, fun _ _ _ _ _ => rfl, fun _ _ _ _ _ => rfl, fun _ _ _ _ _ => rfl, fun _ _ _ _ => rfl, fun _ _ _ _ => rfl⟩
section InW
variable (M : Mem) (q : Nat) (m : Int32) (g : Nat → Option Nat)
theorem in_41 : mF (inW M q m g) 41 q = m := by simp [mF, inW]
theorem in_Q (i : Nat) : mQ (inW M q m g) (q + 1) i = g i := by simp [mQ, inW]
theorem in_Qn {p : Nat} (h : p ≠ q + 1) (i : Nat) : mQ (inW M q m g) p i = mQ M p i := by simp [mQ, inW, h]
theorem in_F {f a : Nat} (h : ¬ (f = 41 ∧ a = q)) : mF (inW M q m g) f a = mF M f a := by simp [mF, inW, h]
theorem in_s41 (v : Int32) : sF (inW M q m g) 41 q v = inW M q v g := by
  unfold sF inW up2
  congr 2
  funext f a
  by_cases h : f = 41 ∧ a = q <;> simp [h]
theorem in_sQ (i : Nat) (v : Option Nat) : sQ (inW M q m g) (q + 1) i v = inW M q m (fun j => if j = i then v else g j) := by
  unfold sQ inW up2
  congr 5
  funext p j
  by_cases h : p = q + 1 <;> by_cases h' : j = i <;> simp [h, h']
theorem in_id : inW M q (mF M 41 q) (mQ M (q + 1)) = M := by
  unfold inW
  have e1 : (fun f a => if f = 41 ∧ a = q then mF M 41 q else M.2.1 f a) = M.2.1 := by
    funext f a
    by_cases h : f = 41 ∧ a = q
    · rw [if_pos h, h.1, h.2]; rfl
    · rw [if_neg h]
  have e2 : (fun p i => if p = q + 1 then mQ M (q + 1) i else M.2.2.2.2.1 p i) = M.2.2.2.2.1 := by
    funext p i
    by_cases h : p = q + 1
    · rw [if_pos h, h]; rfl
    · rw [if_neg h]
  rw [e1, e2]
theorem in_sR (f a : Nat) (v : Option Nat) : sR (inW M q m g) f a v = inW (sR M f a v) q m g := rfl
theorem in_in (m' : Int32) (g' : Nat → Option Nat) : inW (inW M q m g) q m' g' = inW M q m' g' := by
  unfold inW
  congr 2
  · funext f a
    by_cases h : f = 41 ∧ a = q <;> simp [h]
  · congr 3
    funext p i
    by_cases h : p = q + 1 <;> simp [h]
end InW
/-- at q there is an inner node that has these children -/
def InIs (M : Mem) (q : Nat) (cs : List Nat) : Prop := InK M q ∧ mF M 41 q = I (cs.length : Nat) ∧ cs.length ≤ 6 ∧ (∀ i c, cs[i]? = some c → mQ M (q + 1) i = some c) ∧ (∀ c ∈ cs, kO M c = 5 ∨ kO M c = 6)
theorem fit7 {M : Mem} {c : Nat} (h : kO M c = 5 ∨ kO M c = 6) : fitQ 7 (kO M c) = true := by rcases h with h | h <;> rw [h] <;> rfl
theorem fk33 {M : Mem} {c : Nat} (h : kO M c = 5 ∨ kO M c = 6) : fk 33 (kO M c) = true := by rcases h with h | h <;> rw [h] <;> decide
section InC
variable {d : Nat} {M : Mem} {Q : Outcome → Mem → Prop} {q : Nat} {cs : List Nat}
theorem i_at (h : InIs M q cs) {k c : Nat} (hc : cs[k]? = some c) (hf : ∀ i, i < k → cs[i]? ≠ some c) (hQ : Q (.returned (some (.int (I (k : Nat))))) M) : Wp d 143 0 [some (.ref q), some (.ref c), none] [] M Q := by
  obtain ⟨⟨k0, k1, k2⟩, h2, h3, h4, h5⟩ := h
  have hk := (List.getElem?_eq_some_iff.mp hc).1
  simp (disch := first | (simp only [dd, dr]; done) | omega) only [W_143, I_lt, I_le, I_inj, inB_I, tc_I, Int.toNat_natCast, fkt, rf1, rf0, cq, Nat.reduceAdd, Nat.reduceEqDiff, Int.reduceToNat, eq_self, true_and, and_true, true_or, or_true, bI_0, bI_1, mm, rAm, mF_sF, mR_sR, false_and, and_false, if_false, if_true, false_or, or_false, not_true_eq_false, not_false_eq_true, and_self]
  suffices H : ∀ n (i : Nat), i + n = k → Wp d 143 2 [some (.ref q), some (.ref c), some (.int (I (i : Nat)))] [] M Q from H k 0 (by omega)
  intro n
  induction n with
  | zero =>
    intro i hi
    obtain rfl : i = k := by omega
    have e := h4 _ _ hc
    simp (disch := first | (simp only [dd, dr]; done) | omega) only [w_143_2, W_143, k0, k1, k2, e, I_lt, I_le, I_inj, inB_I, tc_I, Int.toNat_natCast, fkt, rf1, rf0, cq, Nat.reduceAdd, Nat.reduceEqDiff, Int.reduceToNat, eq_self, true_and, and_true, true_or, or_true, bI_0, bI_1, mm, rAm, mF_sF, mR_sR, false_and, and_false, if_false, if_true, false_or, or_false, not_true_eq_false, not_false_eq_true, and_self]
    refine ⟨fun _ => ?_, fun h => absurd trivial h⟩
    simp (disch := first | (simp only [dd, dr]; done) | omega) only [W_143, I_lt, I_le, I_inj, inB_I, tc_I, Int.toNat_natCast, fkt, rf1, rf0, cq, Nat.reduceAdd, Nat.reduceEqDiff, Int.reduceToNat, eq_self, true_and, and_true, true_or, or_true, bI_0, bI_1, mm, rAm, mF_sF, mR_sR, false_and, and_false, if_false, if_true, false_or, or_false, not_true_eq_false, not_false_eq_true, and_self]
    exact hQ
  | succ n ih =>
    intro i hi
    have hx : cs[i]? = some cs[i] := List.getElem?_eq_getElem (by omega)
    have e := h4 _ _ hx
    have hne : cs[i] ≠ c := fun h => hf i (by omega) (by rw [hx, h])
    simp (disch := first | (simp only [dd, dr]; done) | omega) only [w_143_2, W_143, k0, k1, k2, e, I_lt, I_le, I_inj, inB_I, tc_I, Int.toNat_natCast, fkt, rf1, rf0, cq, Nat.reduceAdd, Nat.reduceEqDiff, Int.reduceToNat, eq_self, true_and, and_true, true_or, or_true, bI_0, bI_1, mm, rAm, mF_sF, mR_sR, false_and, and_false, if_false, if_true, false_or, or_false, not_true_eq_false, not_false_eq_true, and_self]
    refine ⟨fun h => absurd h hne, fun _ => ?_⟩
    simp (disch := first | (simp only [dd, dr]; done) | omega) only [W_143, I_lt, I_le, I_inj, inB_I, tc_I, Int.toNat_natCast, fkt, rf1, rf0, cq, Nat.reduceAdd, Nat.reduceEqDiff, Int.reduceToNat, eq_self, true_and, and_true, true_or, or_true, bI_0, bI_1, mm, rAm, mF_sF, mR_sR, false_and, and_false, if_false, if_true, false_or, or_false, not_true_eq_false, not_false_eq_true, and_self]
    exact ih (i + 1) (by omega)
def insQ (g : Nat → Option Nat) (k m : Nat) (v : Option Nat) : Nat → Option Nat := fun i => if k < i ∧ i ≤ m then g (i - 1) else if i = k then v else g i
set_option maxHeartbeats 4000000 in
theorem i_put (h : InIs M q cs) {k c : Nat} (hk : k ≤ cs.length) (hm : cs.length ≤ 5) (hc : kO M c = 5 ∨ kO M c = 6)
    (hQ : ∀ M', (∃ m g, M' = inW (sR M 33 c (some q)) q m g) → InIs M' q (cs.take k ++ c :: cs.drop k) → Q (.returned none) M') : Wp d 142 0 [some (.ref q), some (.int (I (k : Nat))), some (.ref c), none] [] M Q := by
  obtain ⟨⟨k0, k1, k2⟩, h2, h3, h4, h5⟩ := h
  have f33 := fk33 hc
  have f7 := fit7 hc
  simp (disch := first | (simp only [dd, dr]; done) | omega) only [W_142, k0, h2, I_lt, I_le, I_inj, inB_I, tc_I, Int.toNat_natCast, fkt, rf1, rf0, cq, Nat.reduceAdd, Nat.reduceEqDiff, Int.reduceToNat, eq_self, true_and, and_true, true_or, or_true, bI_0, bI_1, mm, rAm, mF_sF, mR_sR, false_and, and_false, if_false, if_true, false_or, or_false, not_true_eq_false, not_false_eq_true, and_self]
  rw [← in_id M q, h2]
  generalize hG0 : mQ M (q + 1) = C0 at *
  suffices H : ∀ n' (t : Nat) (G : Nat → Option Nat), t = k + n' → t ≤ cs.length → (∀ j, G j = if t < j ∧ j ≤ cs.length then C0 (j - 1) else C0 j) → Wp d 142 5 [some (.ref q), some (.int (I (k : Nat))), some (.ref c), some (.int (I (t : Nat)))] [] (inW M q (I (cs.length : Nat)) G) Q by
    refine H (cs.length - k) cs.length C0 (by omega) (Nat.le_refl _) (fun j => ?_)
    rw [if_neg (by omega)]
  intro n'
  induction n' with
  | succ n' ih =>
    intro t G ht htb hG
    have hx : cs[t - 1]? = some cs[t - 1] := List.getElem?_eq_getElem (by omega)
    have e := h4 _ _ hx
    have f5 := fit7 (h5 _ (List.mem_of_getElem? hx))
    have hGt : G ((t : Int) - 1).toNat = some cs[t - 1] := by
      rw [hG, if_neg (by omega), ← e]; congr 1; omega
    simp (disch := first | (simp only [dd, dr]; done) | omega) only [w_142_5, W_142, I_lt, I_le, I_inj, inB_I, tc_I, Int.toNat_natCast, fkt, rf1, rf0, cq, Nat.reduceAdd, Nat.reduceEqDiff, Int.reduceToNat, eq_self, true_and, and_true, true_or, or_true, bI_0, bI_1, mm, rAm, mF_sF, mR_sR, false_and, and_false, if_false, if_true, false_or, or_false, not_true_eq_false, not_false_eq_true, and_self]
    refine ⟨fun h => absurd h (by omega), fun _ => ?_⟩
    simp (disch := first | (simp only [dd, dr]; done) | omega) only [W_142, inm, k0, k1, k2, in_Q, hGt, f5, in_sQ, I_lt, I_le, I_inj, inB_I, tc_I, Int.toNat_natCast, fkt, rf1, rf0, cq, Nat.reduceAdd, Nat.reduceEqDiff, Int.reduceToNat, eq_self, true_and, and_true, true_or, or_true, bI_0, bI_1, mm, rAm, mF_sF, mR_sR, false_and, and_false, if_false, if_true, false_or, or_false, not_true_eq_false, not_false_eq_true, and_self]
    have := ih (t - 1) (fun j => if j = t then some cs[t - 1] else G j) (by omega) (by omega) (fun j => by
      by_cases h1 : j = t
      · rw [if_pos h1, if_pos (by omega), ← e]; congr 1; omega
      · rw [if_neg h1, hG]
        by_cases h2 : t < j ∧ j ≤ cs.length
        · rw [if_pos h2, if_pos (by omega)]
        · rw [if_neg h2, if_neg (by omega)])
    rw [show (((t - 1 : Nat) : Int)) = ((t : Int) + -1) by omega] at this
    exact this
  | zero =>
    intro t G ht htb hG
    obtain rfl : t = k := by omega
    simp (disch := first | (simp only [dd, dr]; done) | omega) only [w_142_5, W_142, I_lt, I_le, I_inj, inB_I, tc_I, Int.toNat_natCast, fkt, rf1, rf0, cq, Nat.reduceAdd, Nat.reduceEqDiff, Int.reduceToNat, eq_self, true_and, and_true, true_or, or_true, bI_0, bI_1, mm, rAm, mF_sF, mR_sR, false_and, and_false, if_false, if_true, false_or, or_false, not_true_eq_false, not_false_eq_true, and_self]
    refine ⟨fun _ => ?_, fun h => absurd h (by omega)⟩
    simp (disch := first | (simp only [dd, dr]; done) | omega) only [W_142, inm, k0, k1, k2, f7, f33, in_sQ, in_sR, in_41, in_s41, I_lt, I_le, I_inj, inB_I, tc_I, Int.toNat_natCast, fkt, rf1, rf0, cq, Nat.reduceAdd, Nat.reduceEqDiff, Int.reduceToNat, eq_self, true_and, and_true, true_or, or_true, bI_0, bI_1, mm, rAm, mF_sF, mR_sR, false_and, and_false, if_false, if_true, false_or, or_false, not_true_eq_false, not_false_eq_true, and_self]
    refine hQ _ ⟨_, _, rfl⟩ ⟨⟨k0, k1, k2⟩, ?_, ?_, ?_, ?_⟩
    · rw [in_41, List.length_append, List.length_cons, List.length_take, List.length_drop]
      congr 1
      omega
    · rw [List.length_append, List.length_cons, List.length_take, List.length_drop]; omega
    · intro i x hx
      rw [in_Q]
      rw [ins_at cs c hk] at hx
      by_cases c1 : t < i ∧ i ≤ cs.length
      · rw [if_pos c1] at hx
        rw [if_neg (by omega), hG, if_pos c1]
        exact h4 _ _ hx
      · rw [if_neg c1] at hx
        by_cases c2 : i = t
        · rw [if_pos c2] at hx
          rw [if_pos c2]; exact hx
        · rw [if_neg c2] at hx
          rw [if_neg c2, hG, if_neg c1]
          exact h4 _ _ hx
    · intro x hx
      rcases List.mem_append.mp hx with h | h
      · exact h5 x (List.mem_of_mem_take h)
      · rcases List.mem_cons.mp h with h | h
        · rw [h]; exact hc
        · exact h5 x (List.mem_of_mem_drop h)
set_option maxHeartbeats 4000000 in
theorem i_drop (h : InIs M q cs) {k c : Nat} (hc : cs[k]? = some c)
    (hQ : ∀ M', (∃ m g, M' = inW M q m g) → InIs M' q (cs.take k ++ cs.drop (k + 1)) → Q (.returned (some (.ref c))) M') : Wp d 144 0 [some (.ref q), some (.int (I (k : Nat))), none, none] [] M Q := by
  obtain ⟨⟨k0, k1, k2⟩, h2, h3, h4, h5⟩ := h
  have hk := (List.getElem?_eq_some_iff.mp hc).1
  have e0 := h4 _ _ hc
  rw [← in_id M q, h2]
  generalize hG0 : mQ M (q + 1) = C0 at *
  simp (disch := first | (simp only [dd, dr]; done) | omega) only [W_144, inm, k0, k1, k2, in_Q, e0, in_41, in_s41, I_lt, I_le, I_inj, inB_I, tc_I, Int.toNat_natCast, fkt, rf1, rf0, cq, Nat.reduceAdd, Nat.reduceEqDiff, Int.reduceToNat, eq_self, true_and, and_true, true_or, or_true, bI_0, bI_1, mm, rAm, mF_sF, mR_sR, false_and, and_false, if_false, if_true, false_or, or_false, not_true_eq_false, not_false_eq_true, and_self]
  rw [show ((cs.length : Int) - 1) = ((cs.length - 1 : Nat) : Int) by omega]
  suffices H : ∀ n' (t : Nat) (G : Nat → Option Nat), t + n' = cs.length - 1 → k ≤ t → (∀ j, G j = if k ≤ j ∧ j < t then C0 (j + 1) else C0 j) → Wp d 144 19 [some (.ref q), some (.int (I (k : Nat))), some (.ref c), some (.int (I (t : Nat)))] [] (inW M q (I ((cs.length - 1 : Nat) : Int)) G) Q by
    refine H (cs.length - 1 - k) k C0 (by omega) (Nat.le_refl _) (fun j => ?_)
    rw [if_neg (by omega)]
  intro n'
  induction n' with
  | succ n' ih =>
    intro t G ht htb hG
    have hx : cs[t + 1]? = some cs[t + 1] := List.getElem?_eq_getElem (by omega)
    have e := h4 _ _ hx
    have f5 := fit7 (h5 _ (List.mem_of_getElem? hx))
    have hGt : G ((t : Int) + 1).toNat = some cs[t + 1] := by
      rw [hG, if_neg (by omega), ← e]; congr 1
    simp (disch := first | (simp only [dd, dr]; done) | omega) only [w_144_19, W_144, inm, k0, in_41, I_lt, I_le, I_inj, inB_I, tc_I, Int.toNat_natCast, fkt, rf1, rf0, cq, Nat.reduceAdd, Nat.reduceEqDiff, Int.reduceToNat, eq_self, true_and, and_true, true_or, or_true, bI_0, bI_1, mm, rAm, mF_sF, mR_sR, false_and, and_false, if_false, if_true, false_or, or_false, not_true_eq_false, not_false_eq_true, and_self]
    refine ⟨fun h => absurd h (by omega), fun _ => ?_⟩
    simp (disch := first | (simp only [dd, dr]; done) | omega) only [W_144, inm, k0, k1, k2, in_Q, hGt, f5, in_sQ, I_lt, I_le, I_inj, inB_I, tc_I, Int.toNat_natCast, fkt, rf1, rf0, cq, Nat.reduceAdd, Nat.reduceEqDiff, Int.reduceToNat, eq_self, true_and, and_true, true_or, or_true, bI_0, bI_1, mm, rAm, mF_sF, mR_sR, false_and, and_false, if_false, if_true, false_or, or_false, not_true_eq_false, not_false_eq_true, and_self]
    exact ih (t + 1) (fun j => if j = t then some cs[t + 1] else G j) (by omega) (by omega) (fun j => by
      by_cases h1 : j = t
      · rw [if_pos h1, if_pos (by omega), ← e, h1]
      · rw [if_neg h1, hG]
        by_cases h2 : k ≤ j ∧ j < t
        · rw [if_pos h2, if_pos (by omega)]
        · rw [if_neg h2, if_neg (by omega)])
  | zero =>
    intro t G ht htb hG
    obtain rfl : t = cs.length - 1 := by omega
    simp (disch := first | (simp only [dd, dr]; done) | omega) only [w_144_19, W_144, inm, k0, in_41, I_lt, I_le, I_inj, inB_I, tc_I, Int.toNat_natCast, fkt, rf1, rf0, cq, Nat.reduceAdd, Nat.reduceEqDiff, Int.reduceToNat, eq_self, true_and, and_true, true_or, or_true, bI_0, bI_1, mm, rAm, mF_sF, mR_sR, false_and, and_false, if_false, if_true, false_or, or_false, not_true_eq_false, not_false_eq_true, and_self]
    refine ⟨fun _ => ?_, fun h => absurd h (by omega)⟩
    simp (disch := first | (simp only [dd, dr]; done) | omega) only [W_144, inm, k0, k1, k2, in_41, in_sQ, I_lt, I_le, I_inj, inB_I, tc_I, Int.toNat_natCast, fkt, rf1, rf0, cq, Nat.reduceAdd, Nat.reduceEqDiff, Int.reduceToNat, eq_self, true_and, and_true, true_or, or_true, bI_0, bI_1, mm, rAm, mF_sF, mR_sR, false_and, and_false, if_false, if_true, false_or, or_false, not_true_eq_false, not_false_eq_true, and_self]
    refine hQ _ ⟨_, _, rfl⟩ ⟨⟨k0, k1, k2⟩, ?_, ?_, ?_, ?_⟩
    · rw [in_41, List.length_append, List.length_take, List.length_drop]
      congr 1
      omega
    · rw [List.length_append, List.length_take, List.length_drop]; omega
    · intro i x hx
      rw [in_Q]
      rw [del_at cs hk] at hx
      by_cases c1 : k ≤ i ∧ i + 1 < cs.length
      · rw [if_pos c1] at hx
        rw [if_neg (by omega), hG, if_pos (by omega)]
        exact h4 _ _ hx
      · rw [if_neg c1] at hx
        by_cases c2 : i < k
        · rw [if_pos c2] at hx
          rw [if_neg (by omega), hG, if_neg (by omega)]
          exact h4 _ _ hx
        · rw [if_neg c2] at hx; cases hx
    · intro x hx
      rcases List.mem_append.mp hx with h | h
      · exact h5 x (List.mem_of_mem_take h)
      · exact h5 x (List.mem_of_mem_drop h)
theorem i_hasRoom (h : InIs M q cs) (hQ : Q (.returned (some (.int (I (bI (decide (cs.length < 5))))))) M) : Wp d 145 0 [some (.ref q)] [] M Q := by
  obtain ⟨⟨k0, k1, k2⟩, h2, h3, h4, h5⟩ := h
  simp (disch := first | (simp only [dd, dr]; done) | omega) only [W_145, k0, h2, I_lt, I_le, I_inj, inB_I, tc_I, Int.toNat_natCast, fkt, rf1, rf0, cq, Nat.reduceAdd, Nat.reduceEqDiff, Int.reduceToNat, eq_self, true_and, and_true, true_or, or_true, bI_0, bI_1, mm, rAm, mF_sF, mR_sR, false_and, and_false, if_false, if_true, false_or, or_false, not_true_eq_false, not_false_eq_true, and_self]
  refine ⟨fun hc => ?_, fun hc => ?_⟩
  · simp (disch := first | (simp only [dd, dr]; done) | omega) only [W_145, I_lt, I_le, I_inj, inB_I, tc_I, Int.toNat_natCast, fkt, rf1, rf0, cq, Nat.reduceAdd, Nat.reduceEqDiff, Int.reduceToNat, eq_self, true_and, and_true, true_or, or_true, bI_0, bI_1, mm, rAm, mF_sF, mR_sR, false_and, and_false, if_false, if_true, false_or, or_false, not_true_eq_false, not_false_eq_true, and_self]
    rwa [decide_eq_false (by omega)] at hQ
  · simp (disch := first | (simp only [dd, dr]; done) | omega) only [W_145, I_lt, I_le, I_inj, inB_I, tc_I, Int.toNat_natCast, fkt, rf1, rf0, cq, Nat.reduceAdd, Nat.reduceEqDiff, Int.reduceToNat, eq_self, true_and, and_true, true_or, or_true, bI_0, bI_1, mm, rAm, mF_sF, mR_sR, false_and, and_false, if_false, if_true, false_or, or_false, not_true_eq_false, not_false_eq_true, and_self]
    rwa [decide_eq_true (by omega)] at hQ
end InC
