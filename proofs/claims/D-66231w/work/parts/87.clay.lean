/-! ===== THE COMPONENT: what rows of bytes have ===== -/
/-- a leaf's row, an inner node's, the first one -/
def lrw (ks : List Nat) (py : Nat → List Nat) (i : Nat) : Nat :=
  if i = 128 then 1 else if i = 0 then 0 else if i = 1 then ks.length else if i < 2 + 4 * ks.length then
    (if (i - 2) % 4 = 0 then ks.getD ((i - 2) / 4) 0 / 65536 % 256 else if (i - 2) % 4 = 1 then ks.getD ((i - 2) / 4) 0 / 256 % 256 else if (i - 2) % 4 = 2 then ks.getD ((i - 2) / 4) 0 % 256 else (py (ks.getD ((i - 2) / 4) 0)).length)
  else (ks.flatMap py).getD (i - (2 + 4 * ks.length)) 0
def irw (h : Nat) (cs : List Nat) (fk : Nat → Nat) (i : Nat) : Nat :=
  if i = 128 then 2 else if i = 0 then h + 1 else if i = 1 then cs.length else if i < 2 + 4 * cs.length then
    (if (i - 2) % 4 = 0 then cs.getD ((i - 2) / 4) 0 else if (i - 2) % 4 = 1 then fk (cs.getD ((i - 2) / 4) 0) / 65536 % 256 else if (i - 2) % 4 = 2 then fk (cs.getD ((i - 2) / 4) 0) / 256 % 256 else fk (cs.getD ((i - 2) / 4) 0) % 256)
  else 0
def frw (m : Nat) (u : Nat → Bool) (rt : Nat) (i : Nat) : Nat := if i = 128 then 3 else if i = 0 then rt else if i ≤ m then (if u (i - 1) = true then 1 else 0) else 0
/-- a row of bytes has what is told -/
def Rw (M : Mem) (w : Nat) (g : Nat → Nat) : Prop := kX M w = (1, 129) ∧ ∀ i, i < 129 → mA M w i = bB (g i : Nat)
theorem bB_n (n : Nat) : bB ((n % 256 : Nat) : Int) = bB (n : Nat) := by
  have := bB_mod (n : Int)
  rw [← this]; congr 1
theorem rA_rA (M : Mem) (a : Nat) (g g' : Nat → Int32) : rA (rA M a g) a g' = rA M a g' := by
  unfold rA
  congr 4
  funext p q
  by_cases e : p = a <;> simp [e]
section CLy
variable {d : Nat} {M : Mem} {Q : Outcome → Mem → Prop} {q w : Nat} {ks : List Nat} {py : Nat → List Nat}
set_option maxHeartbeats 8000000 in
theorem c_layL (hd : 2 ≤ d) (h : LfIs M q ks py) (hu : us py ks ≤ 120) (hks : ∀ x ∈ ks, x < 1000000) (hp : ∀ k ∈ ks, (py k).length ≤ 40) (hw : kX M w = (1, 129)) (hQ : ∀ g, (∀ i, i < 129 → g i = bB (lrw ks py i : Nat)) → Q (.returned none) (rA M w g)) : Wp d 134 0 [some (.ref q), some (.ref w), none] [] M Q := by
  obtain ⟨k0, k1, k2, k3, k4, k5, k6⟩ := h.1
  have hm := h.2.1
  have hb := h.2.2.1
  unfold us at hu
  have n1 : q + 1 ≠ w := by intro e; rw [e, hw] at k4; cases k4
  have n2 : q + 2 ≠ w := by intro e; rw [e, hw] at k5; cases k5
  have n3 : q + 3 ≠ w := by intro e; rw [e, hw] at k6; cases k6
  have hl1 : ∀ i k, ks[i]? = some k → ks.getD i 0 = k := fun i k hk => by rw [List.getD_eq_getElem?_getD, hk]; rfl
  simp (disch := first | (simp only [dd, dr]; done) | omega) only [W_134, I_lt, I_le, I_inj, inB_I, tc_I, Int.toNat_natCast, fkt, rf1, rf0, cq, Nat.reduceAdd, Nat.reduceEqDiff, Int.reduceToNat, eq_self, true_and, and_true, true_or, or_true, bI_0, bI_1, mm, rAm, mF_sF, mR_sR, false_and, and_false, if_false, if_true, false_or, or_false, not_true_eq_false, not_false_eq_true, and_self]
  refine cr_26 (by omega) (c_clear hw ?_)
  simp (disch := first | (simp only [dd, dr]; done) | omega) only [W_134, k0, hm, hw, bB_def, nrw_b, sA_rA, I_lt, I_le, I_inj, inB_I, tc_I, Int.toNat_natCast, fkt, rf1, rf0, cq, Nat.reduceAdd, Nat.reduceEqDiff, Int.reduceToNat, eq_self, true_and, and_true, true_or, or_true, bI_0, bI_1, mm, rAm, mF_sF, mR_sR, false_and, and_false, if_false, if_true, false_or, or_false, not_true_eq_false, not_false_eq_true, and_self]
  suffices H1 : ∀ n' (k : Nat) (G : Nat → Int32), k + n' = ks.length → (∀ i, G i = if i < 2 + 4 * k ∨ i = 128 then bB (lrw ks py i : Nat) else if i < 128 then bB 0 else mA M w i) → Wp d 134 15 [some (.ref q), some (.ref w), some (.int (I (k : Nat)))] [] (rA M w G) Q by
    refine H1 ks.length 0 _ (by omega) (fun i => ?_)
    show (if i = 1 then bB ((ks.length : Nat) : Int) else if i < 128 then I 0 else if i = 128 then bB 1 else mA M w i) = _
    unfold lrw
    by_cases e1 : i = 1
    · subst e1; simp
    · by_cases e0 : i = 0
      · subst e0; simp [bB_0]
      · by_cases e2 : i = 128
        · subst e2; simp
        · by_cases e3 : i < 128
          · rw [if_neg e1, if_pos e3, if_neg (by omega), if_pos e3, bB_0]
          · rw [if_neg e1, if_neg e3, if_neg e2, if_neg (by omega), if_neg e3]
  -- bodies
  have H2 : ∀ n' (t : Nat) (G : Nat → Int32), t + n' = (ks.flatMap py).length → (∀ i, G i = if i < 2 + 4 * ks.length + t ∨ i = 128 then bB (lrw ks py i : Nat) else if i < 128 then bB 0 else mA M w i) → Wp d 134 61 [some (.ref q), some (.ref w), some (.int (I (t : Nat)))] [] (rA M w G) Q := by
    intro n'
    induction n' with
    | zero =>
      intro t G ht hG
      simp (disch := first | (simp only [dd, dr]; done) | omega) only [w_134_61, W_134, k0, hb, I_lt, I_le, I_inj, inB_I, tc_I, Int.toNat_natCast, fkt, rf1, rf0, cq, Nat.reduceAdd, Nat.reduceEqDiff, Int.reduceToNat, eq_self, true_and, and_true, true_or, or_true, bI_0, bI_1, mm, rAm, mF_sF, mR_sR, false_and, and_false, if_false, if_true, false_or, or_false, not_true_eq_false, not_false_eq_true, and_self]
      refine ⟨fun _ => ?_, (fun h => by first | exact False.elim h | exact absurd trivial h | (exfalso; omega) | exact absurd rfl h | cases h)⟩
      simp (disch := first | (simp only [dd, dr]; done) | omega) only [W_134, I_lt, I_le, I_inj, inB_I, tc_I, Int.toNat_natCast, fkt, rf1, rf0, cq, Nat.reduceAdd, Nat.reduceEqDiff, Int.reduceToNat, eq_self, true_and, and_true, true_or, or_true, bI_0, bI_1, mm, rAm, mF_sF, mR_sR, false_and, and_false, if_false, if_true, false_or, or_false, not_true_eq_false, not_false_eq_true, and_self]
      refine hQ G (fun i hi => ?_)
      rw [hG]
      by_cases e1 : i < 2 + 4 * ks.length + t ∨ i = 128
      · rw [if_pos e1]
      · rw [if_neg e1, if_pos (by omega)]
        unfold lrw
        rw [if_neg (by omega), if_neg (by omega), if_neg (by omega), if_neg (by omega), List.getD_eq_getElem?_getD, List.getElem?_eq_none (by omega)]
        rfl
    | succ n' ih =>
      intro t G ht hG
      have hv : (ks.flatMap py)[t]? = some (ks.flatMap py)[t] := List.getElem?_eq_getElem (by omega)
      have eb := h.2.2.2.2.2.2 t _ hv
      have eb' : mA (rA M w G) (q + 3) t = bB (((ks.flatMap py)[t] : Nat) : Int) := by rw [mA_rA, if_neg n3]; exact eb
      simp (disch := first | (simp only [dd, dr]; done) | omega) only [w_134_61, W_134, k0, hb, I_lt, I_le, I_inj, inB_I, tc_I, Int.toNat_natCast, fkt, rf1, rf0, cq, Nat.reduceAdd, Nat.reduceEqDiff, Int.reduceToNat, eq_self, true_and, and_true, true_or, or_true, bI_0, bI_1, mm, rAm, mF_sF, mR_sR, false_and, and_false, if_false, if_true, false_or, or_false, not_true_eq_false, not_false_eq_true, and_self]
      refine ⟨(fun h => by first | exact False.elim h | exact absurd trivial h | (exfalso; omega) | exact absurd rfl h | cases h), fun _ => ?_⟩
      simp (disch := first | (simp only [dd, dr]; done) | omega) only [W_134, k0, hm, k3, k6, hw, eb', bB_def, nrw_b, sA_rA, I_lt, I_le, I_inj, inB_I, tc_I, Int.toNat_natCast, fkt, rf1, rf0, cq, Nat.reduceAdd, Nat.reduceEqDiff, Int.reduceToNat, eq_self, true_and, and_true, true_or, or_true, bI_0, bI_1, mm, rAm, mF_sF, mR_sR, false_and, and_false, if_false, if_true, false_or, or_false, not_true_eq_false, not_false_eq_true, and_self]
      rw [show ((t : Int) + 1) = ((t + 1 : Nat) : Int) by omega]
      refine ih (t + 1) _ (by omega) (fun i => ?_)
      by_cases e1 : i = (2 + 4 * (ks.length : Int) + (t : Int)).toNat
      · have e1' : i = 2 + 4 * ks.length + t := by omega
        rw [if_pos e1, if_pos (by omega)]
        unfold lrw
        rw [if_neg (by omega), if_neg (by omega), if_neg (by omega), if_neg (by omega), e1', show 2 + 4 * ks.length + t - (2 + 4 * ks.length) = t by omega, List.getD_eq_getElem?_getD, hv]
        rfl
      · have e1' : i ≠ 2 + 4 * ks.length + t := fun h => e1 (by omega)
        rw [if_neg e1, hG]
        by_cases e2 : i < 2 + 4 * ks.length + t ∨ i = 128
        · rw [if_pos e2, if_pos (by omega)]
        · rw [if_neg e2, if_neg (show ¬ (i < 2 + 4 * ks.length + (t + 1) ∨ i = 128) by omega)]
  intro n'
  induction n' with
  | zero =>
    intro k G hk hG
    simp (disch := first | (simp only [dd, dr]; done) | omega) only [w_134_15, W_134, k0, hm, I_lt, I_le, I_inj, inB_I, tc_I, Int.toNat_natCast, fkt, rf1, rf0, cq, Nat.reduceAdd, Nat.reduceEqDiff, Int.reduceToNat, eq_self, true_and, and_true, true_or, or_true, bI_0, bI_1, mm, rAm, mF_sF, mR_sR, false_and, and_false, if_false, if_true, false_or, or_false, not_true_eq_false, not_false_eq_true, and_self]
    refine ⟨fun _ => ?_, (fun h => by first | exact False.elim h | exact absurd trivial h | (exfalso; omega) | exact absurd rfl h | cases h)⟩
    simp (disch := first | (simp only [dd, dr]; done) | omega) only [W_134, I_lt, I_le, I_inj, inB_I, tc_I, Int.toNat_natCast, fkt, rf1, rf0, cq, Nat.reduceAdd, Nat.reduceEqDiff, Int.reduceToNat, eq_self, true_and, and_true, true_or, or_true, bI_0, bI_1, mm, rAm, mF_sF, mR_sR, false_and, and_false, if_false, if_true, false_or, or_false, not_true_eq_false, not_false_eq_true, and_self]
    refine H2 (ks.flatMap py).length 0 G (by omega) (fun i => ?_)
    rw [hG, show 2 + 4 * k = 2 + 4 * ks.length + 0 by omega]
  | succ n' ih =>
    intro k G hk hG
    have hkk : ks[k]? = some ks[k] := List.getElem?_eq_getElem (by omega)
    obtain ⟨ek, es⟩ := h.2.2.2.2.2.1 k _ hkk
    have hkm : ks[k] ∈ ks := List.getElem_mem _
    have hkb := hks _ hkm
    have ek' : mA (rA M w G) (q + 1) k = I ((ks[k] : Nat) : Int) := by rw [mA_rA, if_neg n1]; exact ek
    simp (disch := first | (simp only [dd, dr]; done) | omega) only [w_134_15, W_134, k0, hm, I_lt, I_le, I_inj, inB_I, tc_I, Int.toNat_natCast, fkt, rf1, rf0, cq, Nat.reduceAdd, Nat.reduceEqDiff, Int.reduceToNat, eq_self, true_and, and_true, true_or, or_true, bI_0, bI_1, mm, rAm, mF_sF, mR_sR, false_and, and_false, if_false, if_true, false_or, or_false, not_true_eq_false, not_false_eq_true, and_self]
    refine ⟨(fun h => by first | exact False.elim h | exact absurd trivial h | (exfalso; omega) | exact absurd rfl h | cases h), fun _ => ?_⟩
    simp (disch := first | (simp only [dd, dr]; done) | omega) only [W_134, k0, k1, k4, ek', I_lt, I_le, I_inj, inB_I, tc_I, Int.toNat_natCast, fkt, rf1, rf0, cq, Nat.reduceAdd, Nat.reduceEqDiff, Int.reduceToNat, eq_self, true_and, and_true, true_or, or_true, bI_0, bI_1, mm, rAm, mF_sF, mR_sR, false_and, and_false, if_false, if_true, false_or, or_false, not_true_eq_false, not_false_eq_true, and_self]
    rw [show (2 + 4 * (k : Int)) = ((2 + 4 * k : Nat) : Int) by omega]
    refine cr_23 (by omega) (c_putNumber (m := 3) (n := 129) (by rw [rAm.2.2.2.2.2.2.1]; exact hw) (by omega) (by omega) (by omega) (by omega) ?_)
    rw [rA_rA]
    generalize hG2 : (fun j => if 2 + 4 * k ≤ j ∧ j < 2 + 4 * k + 3 then bB ((ks[k] / 256 ^ (3 - 1 - (j - (2 + 4 * k))) : Nat) : Int) else mA (rA M w G) w j) = G2
    have es' : mA (rA M w G2) (q + 2) k = I ((py ks[k]).length : Nat) := by rw [mA_rA, if_neg n2]; exact es
    simp (disch := first | (simp only [dd, dr]; done) | omega) only [W_134, k0, k2, k5, es', hw, bB_def, nrw_b, sA_rA, I_lt, I_le, I_inj, inB_I, tc_I, Int.toNat_natCast, fkt, rf1, rf0, cq, Nat.reduceAdd, Nat.reduceEqDiff, Int.reduceToNat, eq_self, true_and, and_true, true_or, or_true, bI_0, bI_1, mm, rAm, mF_sF, mR_sR, false_and, and_false, if_false, if_true, false_or, or_false, not_true_eq_false, not_false_eq_true, and_self]
    rw [show ((k : Int) + 1) = ((k + 1 : Nat) : Int) by omega]
    refine ih (k + 1) _ (by omega) (fun i => ?_)
    have hg := hl1 k _ hkk
    by_cases e1 : i = (5 + 4 * (k : Int)).toNat
    · have e1' : i = 5 + 4 * k := by omega
      rw [if_pos e1, if_pos (by omega)]
      unfold lrw
      rw [if_neg (by omega), if_neg (by omega), if_neg (by omega), if_pos (by omega), if_neg (by omega), if_neg (by omega), if_neg (by omega), show (i - 2) / 4 = k by omega, hg]
    · have e1' : i ≠ 5 + 4 * k := fun h => e1 (by omega)
      rw [if_neg e1, ← hG2]
      show (if 2 + 4 * k ≤ i ∧ i < 2 + 4 * k + 3 then bB ((ks[k] / 256 ^ (3 - 1 - (i - (2 + 4 * k))) : Nat) : Int) else mA (rA M w G) w i) = _
      by_cases e2 : 2 + 4 * k ≤ i ∧ i < 2 + 4 * k + 3
      · rw [if_pos e2, if_pos (by omega)]
        unfold lrw
        rw [if_neg (by omega), if_neg (by omega), if_neg (by omega), if_pos (by omega), show (i - 2) / 4 = k by omega, hg]
        by_cases c0 : (i - 2) % 4 = 0
        · rw [if_pos c0, show 3 - 1 - (i - (2 + 4 * k)) = 2 by omega, bB_n]
        · rw [if_neg c0]
          by_cases c1 : (i - 2) % 4 = 1
          · rw [if_pos c1, show 3 - 1 - (i - (2 + 4 * k)) = 1 by omega, bB_n, Nat.pow_one]
          · rw [if_neg c1, if_pos (by omega), show 3 - 1 - (i - (2 + 4 * k)) = 0 by omega, bB_n, Nat.pow_zero, Nat.div_one]
      · rw [if_neg e2, mA_rA, if_pos rfl, hG]
        by_cases e3 : i < 2 + 4 * k ∨ i = 128
        · rw [if_pos e3, if_pos (by omega)]
        · rw [if_neg e3, if_neg (show ¬ (i < 2 + 4 * (k + 1) ∨ i = 128) by omega)]
end CLy
