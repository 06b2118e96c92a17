/-! ===== THE COMPONENT: rows of bytes are no part of the tree ===== -/
/-- only bytes of rows change -/
def Ro (M M' : Mem) : Prop := M'.1 = M.1 ∧ M'.2.1 = M.2.1 ∧ M'.2.2.1 = M.2.2.1 ∧ M'.2.2.2.2 = M.2.2.2.2 ∧ ∀ a i, kX M a ≠ (1, 129) → mA M' a i = mA M a i
theorem Ro.refl (M : Mem) : Ro M M := ⟨rfl, rfl, rfl, rfl, fun _ _ _ => rfl⟩
theorem Ro.f1 {M M' : Mem} (h : Ro M M') : (∀ a, kO M' a = kO M a) ∧ (∀ a, kX M' a = kX M a) ∧ (∀ f a, mF M' f a = mF M f a) ∧ (∀ f a, mR M' f a = mR M f a) ∧ (∀ a i, mQ M' a i = mQ M a i) ∧ (∀ a i, mL M' a i = mL M a i) ∧ mN M' = mN M ∧ mS M' = mS M ∧ ∀ a, mK M' a = mK M a := by
  obtain ⟨h1, h2, h3, h4, _⟩ := h
  have hk : ∀ a, mK M' a = mK M a := fun a => by unfold mK; rw [h1]
  exact ⟨fun a => by unfold kO; rw [hk], fun a => by unfold kX; rw [hk], fun f a => by unfold mF; rw [h2], fun f a => by unfold mR; rw [h3], fun a i => by unfold mQ; rw [h4], fun a i => by unfold mL; rw [h4], by unfold mN; rw [h4], by unfold mS; rw [h4], hk⟩
theorem Ro.trans {M M' M'' : Mem} (h : Ro M M') (h' : Ro M' M'') : Ro M M'' := by
  have f := h.f1
  obtain ⟨a1, a2, a3, a4, a5⟩ := h
  obtain ⟨b1, b2, b3, b4, b5⟩ := h'
  exact ⟨b1.trans a1, b2.trans a2, b3.trans a3, b4.trans a4, fun a i hx => (b5 a i (by rw [f.2.1]; exact hx)).trans (a5 a i hx)⟩
theorem Ro.rA {M : Mem} {w : Nat} (hw : kX M w = (1, 129)) (g : Nat → Int32) : Ro M (rA M w g) := ⟨rfl, rfl, rfl, rfl, fun a i h => by rw [mA_rA, if_neg (by intro e; rw [e] at h; exact h hw)]⟩
theorem LfIs.ro {M M' : Mem} {q : Nat} {ks : List Nat} {py : Nat → List Nat} (h : LfIs M q ks py) (F : Ro M M') : LfIs M' q ks py := by
  have f := F.f1
  obtain ⟨⟨k0, k1, k2, k3, k4, k5, k6⟩, h2, h3, h4, h5, h6, h7⟩ := h
  have o := F.2.2.2.2
  refine ⟨⟨by rw [f.1]; exact k0, by rw [f.2.2.2.1]; exact k1, by rw [f.2.2.2.1]; exact k2, by rw [f.2.2.2.1]; exact k3, by rw [f.2.1]; exact k4, by rw [f.2.1]; exact k5, by rw [f.2.1]; exact k6⟩, by rw [f.2.2.1]; exact h2, by rw [f.2.2.1]; exact h3, h4, h5, fun i k hk => ?_, fun j v hv => ?_⟩
  · rw [o _ _ (by rw [k4]; decide), o _ _ (by rw [k5]; decide)]; exact h6 i k hk
  · rw [o _ _ (by rw [k6]; decide)]; exact h7 j v hv
theorem InIs.ro {M M' : Mem} {q : Nat} {cs : List Nat} (h : InIs M q cs) (F : Ro M M') : InIs M' q cs := by
  have f := F.f1
  obtain ⟨⟨k0, k1, k2⟩, h2, h3, h4, h5⟩ := h
  exact ⟨⟨by rw [f.1]; exact k0, by rw [f.2.2.2.1]; exact k1, by rw [f.2.1]; exact k2⟩, by rw [f.2.2.1]; exact h2, h3, fun i c hc => by rw [f.2.2.2.2.1]; exact h4 i c hc, fun c hc => by rw [f.1]; exact h5 c hc⟩
theorem RmIs.ro {M M' : Mem} {r n : Nat} {u : Nat → Bool} (h : RmIs M r (r + 1) n u) (F : Ro M M') : RmIs M' r (r + 1) n u := by
  have f := F.f1
  obtain ⟨h1, h2, h3, h4, h5, h6⟩ := h
  exact ⟨by rw [f.1]; exact h1, by rw [f.2.2.1]; exact h2, by rw [f.2.2.2.1]; exact h3, by rw [f.2.1]; exact h4, h5, fun b hb => by rw [F.2.2.2.2 _ _ (by rw [h4]; decide)]; exact h6 b hb⟩
theorem TK.ro {M M' : Mem} {t r : Nat} {A : Ad} (h : TK M t r A) (F : Ro M M') : TK M' t r A := by
  have f := F.f1
  obtain ⟨⟨h1, h2, h3, h4, h5, h6, h7, h8⟩, k2, k3, k4, k5⟩ := h
  refine ⟨⟨by rw [f.1]; exact h1, by rw [f.2.2.2.1]; exact h2, by rw [f.2.1]; exact h3, by rw [f.2.2.2.1]; exact h4, by rw [f.2.1]; exact h5, by rw [f.2.2.2.1]; exact h6, by rw [f.2.1]; exact h7, by rw [f.2.2.2.1]; exact h8⟩, fun b hb => by rw [f.2.2.2.2.1, f.2.2.2.2.1]; exact k2 b hb, fun b q hq => ?_, fun b q hq => ?_, fun a ha => by rw [f.2.2.2.2.2.2.2.2]; rw [f.2.2.2.2.2.2.1] at ha; exact k5 a ha⟩
  · obtain ⟨a1, ⟨c0, c1, c2, c3, c4, c5, c6⟩, a3⟩ := k3 b q hq
    exact ⟨a1, ⟨by rw [f.1]; exact c0, by rw [f.2.2.2.1]; exact c1, by rw [f.2.2.2.1]; exact c2, by rw [f.2.2.2.1]; exact c3, by rw [f.2.1]; exact c4, by rw [f.2.1]; exact c5, by rw [f.2.1]; exact c6⟩, by rw [f.2.2.1]; exact a3⟩
  · obtain ⟨a1, ⟨c0, c1, c2⟩, a3⟩ := k4 b q hq
    exact ⟨a1, ⟨by rw [f.1]; exact c0, by rw [f.2.2.2.1]; exact c1, by rw [f.2.1]; exact c2⟩, by rw [f.2.2.1]; exact a3⟩
theorem RM.ro {M M' : Mem} {t r m : Nat} {A : Ad} {T : Tr} {py : Nat → List Nat} {e : Option Nat} (R : RM M t r m A T py e) (F : Ro M M') : RM M' t r m A T py e := by
  have f := F.f1
  obtain ⟨r1, r2, r3, r4, r5, r6, r7⟩ := R
  refine ⟨r1.ro F, r2.ro F, fun b hb => ?_, fun h b hb => ?_, fun h b q h1 h2 h3 => by rw [f.2.2.2.1]; exact r5 h b q h1 h2 h3, fun h b q h1 h2 => by rw [f.2.2.2.1, f.2.2.2.1]; exact r6 h b q h1 h2, by rw [f.2.2.2.1]; exact r7⟩
  · obtain ⟨q, g1, g2, g3⟩ := r3 b hb
    exact ⟨q, g1, g2.ro F, g3⟩
  · obtain ⟨q, g1, g2, g3⟩ := r4 h b hb
    exact ⟨q, g1, g2.ro F, by rw [f.2.2.1]; exact g3⟩
section CLz
variable {d t r m : Nat} {M : Mem} {A : Ad} {T : Tr} {py : Nat → List Nat} {e : Option Nat} {Q : Outcome → Mem → Prop}
set_option maxHeartbeats 8000000 in
theorem n_layI (R : RM M t r m A T py e) (S : SW T) (F : Ful T) {h x q w : Nat} (hd : h + 4 ≤ d) (hh : h < 100) (hx : tH T x = h + 2) (hq : A.2 x = some q) (hw : kX M w = (1, 129)) (hc96 : ∀ c ∈ tC T x, c < 96) (hQ : ∀ g, (∀ i, i < 129 → g i = bB (irw h (tC T x) (fkey T h) i : Nat)) → Q (.returned none) (rA M w g)) : Wp d 146 0 [some (.ref q), some (.ref w), none] [] M Q := by
  obtain ⟨q', g1, Ix, Hx⟩ := R.2.2.2.1 h x hx
  rw [hq] at g1; cases g1
  have k6 := Ix.1.1
  have k39 := Ix.1.2.1
  have kX1 := Ix.1.2.2
  have hm : mF M 41 q = I ((tC T x).length : Nat) := by have := Ix.2.1; rwa [List.length_map] at this
  have h6 : (tC T x).length ≤ 6 := by have := Ix.2.2.1; rwa [List.length_map] at this
  have chd : ∀ k (hk : k < (tC T x).length), ∃ qc, na A h (tC T x)[k] = some qc ∧ mQ M (q + 1) k = some qc ∧ tH T (tC T x)[k] = h + 1 ∧ mF M 32 qc = I (((tC T x)[k] : Nat) : Int) ∧ (kO M qc = 5 ∨ kO M qc = 6) := by
    intro k hk
    have hcH := (S.2.2.1 h x _ hx (List.getElem_mem hk)).1
    obtain ⟨qc, hqc⟩ := R.node hcH
    refine ⟨qc, hqc, Ix.2.2.2.1 k qc ?_, hcH, (R.1.kind hqc).2.2.1, (R.1.kind hqc).2.1⟩
    rw [List.getElem?_map, List.getElem?_eq_getElem hk]; show some (nd A h _) = some qc; rw [nd_of hqc]
  simp (disch := first | (simp only [dd, dr]; done) | omega) only [W_146, I_lt, I_le, I_inj, inB_I, tc_I, Int.toNat_natCast, fkt, rf1, rf0, cq, Nat.reduceAdd, Nat.reduceEqDiff, Int.reduceToNat, eq_self, true_and, and_true, true_or, or_true, bI_0, bI_1, mm, rAm, mF_sF, mR_sR, false_and, and_false, if_false, if_true, false_or, or_false, not_true_eq_false, not_false_eq_true, and_self]
  refine cr_26 (by omega) (c_clear hw ?_)
  simp (disch := first | (simp only [dd, dr]; done) | omega) only [W_146, k6, Hx, hm, hw, bB_def, nrw_b, sA_rA, I_lt, I_le, I_inj, inB_I, tc_I, Int.toNat_natCast, fkt, rf1, rf0, cq, Nat.reduceAdd, Nat.reduceEqDiff, Int.reduceToNat, eq_self, true_and, and_true, true_or, or_true, bI_0, bI_1, mm, rAm, mF_sF, mR_sR, false_and, and_false, if_false, if_true, false_or, or_false, not_true_eq_false, not_false_eq_true, and_self]
  suffices H1 : ∀ n' (k : Nat) (G : Nat → Int32), k + n' = (tC T x).length → (∀ i, G i = if i < 2 + 4 * k ∨ i = 128 then bB (irw h (tC T x) (fkey T h) i : Nat) else if i < 128 then bB 0 else mA M w i) → Wp d 146 23 [some (.ref q), some (.ref w), some (.int (I (k : Nat)))] [] (rA M w G) Q by
    refine H1 (tC T x).length 0 _ (by omega) (fun i => ?_)
    show (if i = 1 then bB (((tC T x).length : Nat) : Int) else if i = 0 then bB ((h + 1 : Nat) : Int) else if i < 128 then I 0 else if i = 128 then bB 2 else mA M w i) = _
    unfold irw
    by_cases e1 : i = 1
    · subst e1; simp
    · by_cases e0 : i = 0
      · subst e0; simp
      · by_cases e2 : i = 128
        · subst e2; simp
        · by_cases e3 : i < 128
          · rw [if_neg e1, if_neg e0, if_pos e3, if_neg (by omega), if_pos e3, bB_0]
          · rw [if_neg e1, if_neg e0, if_neg e3, if_neg e2, if_neg (by omega), if_neg e3]
  intro n'
  induction n' with
  | zero =>
    intro k G hk hG
    simp (disch := first | (simp only [dd, dr]; done) | omega) only [w_146_23, W_146, k6, hm, I_lt, I_le, I_inj, inB_I, tc_I, Int.toNat_natCast, fkt, rf1, rf0, cq, Nat.reduceAdd, Nat.reduceEqDiff, Int.reduceToNat, eq_self, true_and, and_true, true_or, or_true, bI_0, bI_1, mm, rAm, mF_sF, mR_sR, false_and, and_false, if_false, if_true, false_or, or_false, not_true_eq_false, not_false_eq_true, and_self]
    refine ⟨fun _ => ?_, (fun h => by first | exact False.elim h | exact absurd trivial h | (exfalso; omega) | exact absurd rfl h | cases h)⟩
    simp (disch := first | (simp only [dd, dr]; done) | omega) only [W_146, I_lt, I_le, I_inj, inB_I, tc_I, Int.toNat_natCast, fkt, rf1, rf0, cq, Nat.reduceAdd, Nat.reduceEqDiff, Int.reduceToNat, eq_self, true_and, and_true, true_or, or_true, bI_0, bI_1, mm, rAm, mF_sF, mR_sR, false_and, and_false, if_false, if_true, false_or, or_false, not_true_eq_false, not_false_eq_true, and_self]
    refine hQ G (fun i hi => ?_)
    rw [hG]
    by_cases e1 : i < 2 + 4 * k ∨ i = 128
    · rw [if_pos e1]
    · rw [if_neg e1, if_pos (by omega)]
      unfold irw
      rw [if_neg (by omega), if_neg (by omega), if_neg (by omega), if_neg (by omega)]
      rfl
  | succ n' ih =>
    intro k G hk hG
    obtain ⟨qc, hqc, eQ, hcH, e32, kc⟩ := chd k (by omega)
    have hkk : (tC T x)[k]? = some (tC T x)[k] := List.getElem?_eq_getElem (by omega)
    have hg : (tC T x).getD k 0 = (tC T x)[k] := by rw [List.getD_eq_getElem?_getD, hkk]; rfl
    have f32 := (fkN kc).2.2.1
    have hfk := F.2.2 h _ hcH
    simp (disch := first | (simp only [dd, dr]; done) | omega) only [w_146_23, W_146, k6, hm, I_lt, I_le, I_inj, inB_I, tc_I, Int.toNat_natCast, fkt, rf1, rf0, cq, Nat.reduceAdd, Nat.reduceEqDiff, Int.reduceToNat, eq_self, true_and, and_true, true_or, or_true, bI_0, bI_1, mm, rAm, mF_sF, mR_sR, false_and, and_false, if_false, if_true, false_or, or_false, not_true_eq_false, not_false_eq_true, and_self]
    refine ⟨(fun h => by first | exact False.elim h | exact absurd trivial h | (exfalso; omega) | exact absurd rfl h | cases h), fun _ => ?_⟩
    simp (disch := first | (simp only [dd, dr]; done) | omega) only [W_146, k6, k39, kX1, eQ, e32, f32, hw, bB_def, nrw_b, sA_rA, I_lt, I_le, I_inj, inB_I, tc_I, Int.toNat_natCast, fkt, rf1, rf0, cq, Nat.reduceAdd, Nat.reduceEqDiff, Int.reduceToNat, eq_self, true_and, and_true, true_or, or_true, bI_0, bI_1, mm, rAm, mF_sF, mR_sR, false_and, and_false, if_false, if_true, false_or, or_false, not_true_eq_false, not_false_eq_true, and_self]
    generalize hG1 : (fun q_1 => if q_1 = (2 + 4 * (k : Int)).toNat then bB (((tC T x)[k] : Nat) : Int) else G q_1) = G1
    have F1 : Ro M (rA M w G1) := Ro.rA hw G1
    refine n_first (R.ro F1) S F h d _ qc 146 61 _ _ _ (by omega) hcH hqc ?_
    simp (disch := first | (simp only [dd, dr]; done) | omega) only [W_146, I_lt, I_le, I_inj, inB_I, tc_I, Int.toNat_natCast, fkt, rf1, rf0, cq, Nat.reduceAdd, Nat.reduceEqDiff, Int.reduceToNat, eq_self, true_and, and_true, true_or, or_true, bI_0, bI_1, mm, rAm, mF_sF, mR_sR, false_and, and_false, if_false, if_true, false_or, or_false, not_true_eq_false, not_false_eq_true, and_self]
    rw [show (3 + 4 * (k : Int)) = ((3 + 4 * k : Nat) : Int) by omega]
    refine cr_23 (by omega) (c_putNumber (m := 3) (n := 129) (by rw [rAm.2.2.2.2.2.2.1]; exact hw) (by omega) (by omega) (by omega) (by omega) ?_)
    rw [rA_rA]
    simp (disch := first | (simp only [dd, dr]; done) | omega) only [W_146, I_lt, I_le, I_inj, inB_I, tc_I, Int.toNat_natCast, fkt, rf1, rf0, cq, Nat.reduceAdd, Nat.reduceEqDiff, Int.reduceToNat, eq_self, true_and, and_true, true_or, or_true, bI_0, bI_1, mm, rAm, mF_sF, mR_sR, false_and, and_false, if_false, if_true, false_or, or_false, not_true_eq_false, not_false_eq_true, and_self]
    rw [show ((k : Int) + 1) = ((k + 1 : Nat) : Int) by omega]
    refine ih (k + 1) _ (by omega) (fun i => ?_)
    by_cases e2 : 3 + 4 * k ≤ i ∧ i < 3 + 4 * k + 3
    · rw [if_pos e2, if_pos (by omega)]
      unfold irw
      rw [if_neg (by omega), if_neg (by omega), if_neg (by omega), if_pos (by omega), show (i - 2) / 4 = k by omega, hg, if_neg (by omega)]
      by_cases c0 : (i - 2) % 4 = 1
      · rw [if_pos c0, show 3 - 1 - (i - (3 + 4 * k)) = 2 by omega, bB_n]
      · rw [if_neg c0]
        by_cases c1 : (i - 2) % 4 = 2
        · rw [if_pos c1, show 3 - 1 - (i - (3 + 4 * k)) = 1 by omega, bB_n, Nat.pow_one]
        · rw [if_neg c1, show 3 - 1 - (i - (3 + 4 * k)) = 0 by omega, bB_n, Nat.pow_zero, Nat.div_one]
    · rw [if_neg e2, mA_rA, if_pos rfl, ← hG1]
      show (if i = (2 + 4 * (k : Int)).toNat then bB (((tC T x)[k] : Nat) : Int) else G i) = _
      by_cases e1 : i = (2 + 4 * (k : Int)).toNat
      · have e1' : i = 2 + 4 * k := by omega
        rw [if_pos e1, if_pos (by omega)]
        unfold irw
        rw [if_neg (by omega), if_neg (by omega), if_neg (by omega), if_pos (by omega), show (i - 2) / 4 = k by omega, hg, if_pos (by omega)]
      · have e1' : i ≠ 2 + 4 * k := fun h => e1 (by omega)
        rw [if_neg e1, hG]
        by_cases e3 : i < 2 + 4 * k ∨ i = 128
        · rw [if_pos e3, if_pos (by omega)]
        · rw [if_neg e3, if_neg (show ¬ (i < 2 + 4 * (k + 1) ∨ i = 128) by omega)]
theorem c_layR {u : Nat → Bool} {rt w : Nat} (h : RmIs M r (r + 1) m u) (hd : 2 ≤ d) (hw : kX M w = (1, 129)) (hQ : ∀ g, (∀ i, i < 129 → g i = bB (frw m u rt i : Nat)) → Q (.returned none) (rA M w g)) : Wp d 90 0 [some (.ref r), some (.ref w), some (.int (I (rt : Nat))), none] [] M Q := by
  obtain ⟨h1, h2, h3, h4, h5, h6⟩ := h
  have n1 : r + 1 ≠ w := by intro e; rw [e, hw] at h4; cases h4
  simp (disch := first | (simp only [dd, dr]; done) | omega) only [W_90, I_lt, I_le, I_inj, inB_I, tc_I, Int.toNat_natCast, fkt, rf1, rf0, cq, Nat.reduceAdd, Nat.reduceEqDiff, Int.reduceToNat, eq_self, true_and, and_true, true_or, or_true, bI_0, bI_1, mm, rAm, mF_sF, mR_sR, false_and, and_false, if_false, if_true, false_or, or_false, not_true_eq_false, not_false_eq_true, and_self]
  refine cr_26 (by omega) (c_clear hw ?_)
  simp (disch := first | (simp only [dd, dr]; done) | omega) only [W_90, hw, bB_def, nrw_b, sA_rA, I_lt, I_le, I_inj, inB_I, tc_I, Int.toNat_natCast, fkt, rf1, rf0, cq, Nat.reduceAdd, Nat.reduceEqDiff, Int.reduceToNat, eq_self, true_and, and_true, true_or, or_true, bI_0, bI_1, mm, rAm, mF_sF, mR_sR, false_and, and_false, if_false, if_true, false_or, or_false, not_true_eq_false, not_false_eq_true, and_self]
  suffices H1 : ∀ n' (k : Nat) (G : Nat → Int32), k + n' = m → (∀ i, G i = if i < 1 + k ∨ i = 128 then bB (frw m u rt i : Nat) else if i < 128 then bB 0 else mA M w i) → Wp d 90 12 [some (.ref r), some (.ref w), some (.int (I (rt : Nat))), some (.int (I (k : Nat)))] [] (rA M w G) Q by
    refine H1 m 0 _ (by omega) (fun i => ?_)
    show (if i = 0 then bB ((rt : Nat) : Int) else if i < 128 then I 0 else if i = 128 then bB 3 else mA M w i) = _
    unfold frw
    by_cases e0 : i = 0
    · subst e0; simp
    · by_cases e2 : i = 128
      · subst e2; simp
      · by_cases e3 : i < 128
        · rw [if_neg e0, if_pos e3, if_neg (by omega), if_pos e3, bB_0]
        · rw [if_neg e0, if_neg e3, if_neg e2, if_neg (by omega), if_neg e3]
  intro n'
  induction n' with
  | zero =>
    intro k G hk hG
    simp (disch := first | (simp only [dd, dr]; done) | omega) only [w_90_12, W_90, h1, h2, I_lt, I_le, I_inj, inB_I, tc_I, Int.toNat_natCast, fkt, rf1, rf0, cq, Nat.reduceAdd, Nat.reduceEqDiff, Int.reduceToNat, eq_self, true_and, and_true, true_or, or_true, bI_0, bI_1, mm, rAm, mF_sF, mR_sR, false_and, and_false, if_false, if_true, false_or, or_false, not_true_eq_false, not_false_eq_true, and_self]
    refine ⟨fun _ => ?_, (fun h => by first | exact False.elim h | exact absurd trivial h | (exfalso; omega) | exact absurd rfl h | cases h)⟩
    simp (disch := first | (simp only [dd, dr]; done) | omega) only [W_90, I_lt, I_le, I_inj, inB_I, tc_I, Int.toNat_natCast, fkt, rf1, rf0, cq, Nat.reduceAdd, Nat.reduceEqDiff, Int.reduceToNat, eq_self, true_and, and_true, true_or, or_true, bI_0, bI_1, mm, rAm, mF_sF, mR_sR, false_and, and_false, if_false, if_true, false_or, or_false, not_true_eq_false, not_false_eq_true, and_self]
    refine hQ G (fun i hi => ?_)
    rw [hG]
    by_cases e1 : i < 1 + k ∨ i = 128
    · rw [if_pos e1]
    · rw [if_neg e1, if_pos (by omega)]
      unfold frw
      rw [if_neg (by omega), if_neg (by omega), if_neg (by omega)]
      rfl
  | succ n' ih =>
    intro k G hk hG
    have eu : mA (rA M w G) (r + 1) k = I (bI (u k)) := by rw [mA_rA, if_neg n1]; exact h6 k (by omega)
    have stepG : ∀ v : Nat, (v = if u k = true then 1 else 0) → ∀ i, (if i = (1 + (k : Int)).toNat then bB ((v : Nat) : Int) else G i) = if i < 1 + (k + 1) ∨ i = 128 then bB (frw m u rt i : Nat) else if i < 128 then bB 0 else mA M w i := by
      intro v hv i
      by_cases e1 : i = (1 + (k : Int)).toNat
      · have e1' : i = 1 + k := by omega
        rw [if_pos e1, if_pos (by omega)]
        unfold frw
        rw [if_neg (by omega), if_neg (by omega), if_pos (by omega), show i - 1 = k by omega, hv]
      · have e1' : i ≠ 1 + k := fun h => e1 (by omega)
        rw [if_neg e1, hG]
        by_cases e3 : i < 1 + k ∨ i = 128
        · rw [if_pos e3, if_pos (by omega)]
        · rw [if_neg e3, if_neg (show ¬ (i < 1 + (k + 1) ∨ i = 128) by omega)]
    simp (disch := first | (simp only [dd, dr]; done) | omega) only [w_90_12, W_90, h1, h2, I_lt, I_le, I_inj, inB_I, tc_I, Int.toNat_natCast, fkt, rf1, rf0, cq, Nat.reduceAdd, Nat.reduceEqDiff, Int.reduceToNat, eq_self, true_and, and_true, true_or, or_true, bI_0, bI_1, mm, rAm, mF_sF, mR_sR, false_and, and_false, if_false, if_true, false_or, or_false, not_true_eq_false, not_false_eq_true, and_self]
    refine ⟨(fun h => by first | exact False.elim h | exact absurd trivial h | (exfalso; omega) | exact absurd rfl h | cases h), fun _ => ?_⟩
    simp (disch := first | (simp only [dd, dr]; done) | omega) only [W_90, h1, h3, h4, eu, I_lt, I_le, I_inj, inB_I, tc_I, Int.toNat_natCast, fkt, rf1, rf0, cq, Nat.reduceAdd, Nat.reduceEqDiff, Int.reduceToNat, eq_self, true_and, and_true, true_or, or_true, bI_0, bI_1, mm, rAm, mF_sF, mR_sR, false_and, and_false, if_false, if_true, false_or, or_false, not_true_eq_false, not_false_eq_true, and_self]
    refine ⟨fun hu => ?_, fun hu => ?_⟩
    · simp (disch := first | (simp only [dd, dr]; done) | omega) only [W_90, hw, bB_def, nrw_b, sA_rA, I_lt, I_le, I_inj, inB_I, tc_I, Int.toNat_natCast, fkt, rf1, rf0, cq, Nat.reduceAdd, Nat.reduceEqDiff, Int.reduceToNat, eq_self, true_and, and_true, true_or, or_true, bI_0, bI_1, mm, rAm, mF_sF, mR_sR, false_and, and_false, if_false, if_true, false_or, or_false, not_true_eq_false, not_false_eq_true, and_self]
      rw [show ((k : Int) + 1) = ((k + 1 : Nat) : Int) by omega]
      exact ih (k + 1) _ (by omega) (stepG 0 (by rw [hu]; rfl))
    · have hu' : u k = true := by cases h : u k with | true => rfl | false => exact absurd h hu
      simp (disch := first | (simp only [dd, dr]; done) | omega) only [W_90, hw, bB_def, nrw_b, sA_rA, I_lt, I_le, I_inj, inB_I, tc_I, Int.toNat_natCast, fkt, rf1, rf0, cq, Nat.reduceAdd, Nat.reduceEqDiff, Int.reduceToNat, eq_self, true_and, and_true, true_or, or_true, bI_0, bI_1, mm, rAm, mF_sF, mR_sR, false_and, and_false, if_false, if_true, false_or, or_false, not_true_eq_false, not_false_eq_true, and_self]
      rw [show ((k : Int) + 1) = ((k + 1 : Nat) : Int) by omega]
      exact ih (k + 1) _ (by omega) (stepG 1 (by rw [hu']; rfl))
end CLz
