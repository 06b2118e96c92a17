/-! ===== THE COMPONENT: node, item ===== -/
section Cnd
variable {d p m J : Nat} {M M' : Mem} {A A' : Ad} {T T' : Tr} {X X' : Ob} {Q : Outcome → Mem → Prop} {ok : Bool} {dt : Nat → Nat → Nat}
def noC (off : Bool) (T : Tr) (z n w : Int) : Nat := if off = true then 1 else if (0 ≤ z ∧ z < tN T) ∧ 0 ≤ n ∧ n < (tW T z.toNat).length then (if 0 ≤ w ∧ w ≤ 3 then 0 else 3) else 2
def noV (T : Tr) (X : Ob) (h n w : Nat) : Int := if w = 0 then (((tW T h).getD n 0 : Nat) : Int) else if w = 1 then ((if h = 0 then (tI T ((tW T h).getD n 0)).length else (tC T ((tW T h).getD n 0)).length : Nat) : Int) else if w = 2 then ((if h = 0 then us (pyO X) (tI T ((tW T h).getD n 0)) else 0 : Nat) : Int) else match tP T ((tW T h).getD n 0) with
  | none => -1
  | some y => ((y : Nat) : Int)
theorem fk_31 {c : Nat} (h : kO M c = 5 ∨ kO M c = 6) : fk 31 (kO M c) = true := by rcases h with h | h <;> rw [h] <;> decide
theorem fk_32 {c : Nat} (h : kO M c = 5 ∨ kO M c = 6) : fk 32 (kO M c) = true := by rcases h with h | h <;> rw [h] <;> decide
set_option maxHeartbeats 2000000 in
theorem c_node (hd : 40 ≤ d) (C : CX M p m J A T X) (D : DR M p T dt) {off : Bool} (hoff : mF M 25 (p + 205) = I (bI off)) {z n w : Int} (z0 : -2147483648 ≤ z) (z1 : z < 2147483648) (n0 : -2147483648 ≤ n) (n1 : n < 2147483648) (w0 : -2147483648 ≤ w) (w1 : w < 2147483648)
    (hX : Thr p m J A T X dt M Q (fun k => noC off T z n w ≠ 0 ∧ k = 10 + noC off T z n w))
    (hR : noC off T z n w = 0 → Q (.returned (some (.int (I (noV T X z.toNat n.toNat w.toNat))))) M) :
    Wp d 76 0 [some (.ref p), some (.int (I z)), some (.int (I n)), some (.int (I w)), none, none] [] M Q := by
  have k0 := C.1.1.1
  have k9 := C.1.1.2.2.2.2.2.2.2.2.1
  have kt := C.2.1.1.1.1
  have R := C.2.1
  have W := C.2.2.1.1
  unfold noC at hX hR
  simp (disch := first | (simp only [dd, dr]; done) | omega) only [W_76, k0, I_lt, I_le, I_inj, inB_I, tc_I, Int.toNat_natCast, fkt, rf1, rf0, cq, Nat.reduceAdd, Nat.reduceEqDiff, Int.reduceToNat, eq_self, true_and, and_true, true_or, or_true, bI_0, bI_1, mm, rAm, mF_sF, mR_sR, false_and, and_false, if_false, if_true, false_or, or_false, not_true_eq_false, not_false_eq_true, and_self]
  refine ca_30 (by omega) (c_on C.1 hoff (fun h1 => ?_) (fun h1 => ?_))
  rotate_left
  · simp (disch := first | (simp only [dd, dr]; done) | omega) only [W_76, I_lt, I_le, I_inj, inB_I, tc_I, Int.toNat_natCast, fkt, rf1, rf0, cq, Nat.reduceAdd, Nat.reduceEqDiff, Int.reduceToNat, eq_self, true_and, and_true, true_or, or_true, bI_0, bI_1, mm, rAm, mF_sF, mR_sR, false_and, and_false, if_false, if_true, false_or, or_false, not_true_eq_false, not_false_eq_true, and_self]
    rw [Th_out (nw_kO M 11 6) (by decide) (by decide +kernel)]
    rw [if_pos h1] at hX
    exact hX.sc D C (Sc.refl _ _) ⟨by omega, rfl⟩
  have h1' : ¬ off = true := by rw [h1]; simp
  rw [if_neg h1'] at hX hR
  -- not there
  have bad : ¬ ((0 ≤ z ∧ z < tN T) ∧ 0 ≤ n ∧ n < (tW T z.toNat).length) → ∀ l4 l5, Ca d 76 63 [some (.ref p), some (.int (I z)), some (.int (I n)), some (.int (I w)), l4, l5] 37 [.int (I (bI false))] [] M Q := by
    intro hc l4 l5
    refine ca_37 (by omega) (c_there (fun h2 => by cases h2) (fun h2 => ?_))
    simp (disch := first | (simp only [dd, dr]; done) | omega) only [W_76, I_lt, I_le, I_inj, inB_I, tc_I, Int.toNat_natCast, fkt, rf1, rf0, cq, Nat.reduceAdd, Nat.reduceEqDiff, Int.reduceToNat, eq_self, true_and, and_true, true_or, or_true, bI_0, bI_1, mm, rAm, mF_sF, mR_sR, false_and, and_false, if_false, if_true, false_or, or_false, not_true_eq_false, not_false_eq_true, and_self]
    rw [Th_out (nw_kO M 12 6) (by decide) (by decide +kernel)]
    rw [if_neg hc] at hX
    exact hX.sc D C (Sc.refl _ _) ⟨by omega, rfl⟩
  have goN : ¬ ((0 ≤ z ∧ z < tN T) ∧ 0 ≤ n ∧ n < (tW T z.toNat).length) → ∀ i : Nat, i < 100000 → Wp d 76 25 [some (.ref p), some (.int (I z)), some (.int (I n)), some (.int (I w)), some .null, some (.int (I (i : Nat)))] [] M Q := by
    intro hc i hi
    simp (disch := first | (simp only [dd, dr]; done) | omega) only [w_76_25, W_76, I_lt, I_le, I_inj, inB_I, tc_I, Int.toNat_natCast, fkt, rf1, rf0, cq, Nat.reduceAdd, Nat.reduceEqDiff, Int.reduceToNat, eq_self, true_and, and_true, true_or, or_true, bI_0, bI_1, mm, rAm, mF_sF, mR_sR, false_and, and_false, if_false, if_true, false_or, or_false, not_true_eq_false, not_false_eq_true, and_self]
    refine ⟨fun _ => ?_, fun _ => ?_⟩
    · simp (disch := first | (simp only [dd, dr]; done) | omega) only [W_76, I_lt, I_le, I_inj, inB_I, tc_I, Int.toNat_natCast, fkt, rf1, rf0, cq, Nat.reduceAdd, Nat.reduceEqDiff, Int.reduceToNat, eq_self, true_and, and_true, true_or, or_true, bI_0, bI_1, mm, rAm, mF_sF, mR_sR, false_and, and_false, if_false, if_true, false_or, or_false, not_true_eq_false, not_false_eq_true, and_self]
      exact bad hc _ _
    · simp (disch := first | (simp only [dd, dr]; done) | omega) only [W_76, I_lt, I_le, I_inj, inB_I, tc_I, Int.toNat_natCast, fkt, rf1, rf0, cq, Nat.reduceAdd, Nat.reduceEqDiff, Int.reduceToNat, eq_self, true_and, and_true, true_or, or_true, bI_0, bI_1, mm, rAm, mF_sF, mR_sR, false_and, and_false, if_false, if_true, false_or, or_false, not_true_eq_false, not_false_eq_true, and_self]
      exact bad hc _ _
  simp (disch := first | (simp only [dd, dr]; done) | omega) only [W_76, I_lt, I_le, I_inj, inB_I, tc_I, Int.toNat_natCast, fkt, rf1, rf0, cq, Nat.reduceAdd, Nat.reduceEqDiff, Int.reduceToNat, eq_self, true_and, and_true, true_or, or_true, bI_0, bI_1, mm, rAm, mF_sF, mR_sR, false_and, and_false, if_false, if_true, false_or, or_false, not_true_eq_false, not_false_eq_true, and_self]
  refine ⟨fun hz => ?_, fun hz => ?_⟩
  rotate_left
  · simp (disch := first | (simp only [dd, dr]; done) | omega) only [W_76, I_lt, I_le, I_inj, inB_I, tc_I, Int.toNat_natCast, fkt, rf1, rf0, cq, Nat.reduceAdd, Nat.reduceEqDiff, Int.reduceToNat, eq_self, true_and, and_true, true_or, or_true, bI_0, bI_1, mm, rAm, mF_sF, mR_sR, false_and, and_false, if_false, if_true, false_or, or_false, not_true_eq_false, not_false_eq_true, and_self]
    exact goN (by omega) 0 (by omega)
  simp (disch := first | (simp only [dd, dr]; done) | omega) only [W_76, k0, k9, kt, I_lt, I_le, I_inj, inB_I, tc_I, Int.toNat_natCast, fkt, rf1, rf0, cq, Nat.reduceAdd, Nat.reduceEqDiff, Int.reduceToNat, eq_self, true_and, and_true, true_or, or_true, bI_0, bI_1, mm, rAm, mF_sF, mR_sR, false_and, and_false, if_false, if_true, false_or, or_false, not_true_eq_false, not_false_eq_true, and_self]
  refine ca_111 (by omega) (n_firstOf (z := z) (by omega) R W (by omega) (by omega) (fun h a q l hzh hl hq => ?_) (fun hh => ?_))
  rotate_left
  · simp (disch := first | (simp only [dd, dr]; done) | omega) only [W_76, I_lt, I_le, I_inj, inB_I, tc_I, Int.toNat_natCast, fkt, rf1, rf0, cq, Nat.reduceAdd, Nat.reduceEqDiff, Int.reduceToNat, eq_self, true_and, and_true, true_or, or_true, bI_0, bI_1, mm, rAm, mF_sF, mR_sR, false_and, and_false, if_false, if_true, false_or, or_false, not_true_eq_false, not_false_eq_true, and_self]
    exact goN (by omega) 0 (by omega)
  subst hzh
  simp only [Int.toNat_natCast] at *
  have hhN : h < tN T := by
    apply Classical.byContradiction
    intro hn
    have := W.1.2.2.2.2.2.2.2.1.2.2.2 h (by omega)
    rw [hl] at this; cases this
  have hrow := W.1.row_le h
  simp (disch := first | (simp only [dd, dr]; done) | omega) only [W_76, I_lt, I_le, I_inj, inB_I, tc_I, Int.toNat_natCast, fkt, rf1, rf0, cq, Nat.reduceAdd, Nat.reduceEqDiff, Int.reduceToNat, eq_self, true_and, and_true, true_or, or_true, bI_0, bI_1, mm, rAm, mF_sF, mR_sR, false_and, and_false, if_false, if_true, false_or, or_false, not_true_eq_false, not_false_eq_true, and_self]
  suffices H : ∀ N (i q x : Nat), (tW T h).length - i ≤ N → (tW T h)[i]? = some x → na A h x = some q → ((i : Int) ≤ n ∨ i = 0) → Wp d 76 25 [some (.ref p), some (.int (I (h : Nat))), some (.int (I n)), some (.int (I w)), some (.ref q), some (.int (I (i : Nat)))] [] M Q from H _ 0 q a (Nat.le_refl _) (by rw [hl]; rfl) hq (.inr rfl)
  intro N
  induction N with
  | zero =>
    intro i q x hN hx
    have := (List.getElem?_eq_some_iff.mp hx).1
    omega
  | succ N ih =>
    intro i q x hN hx hq hin
    have hil := (List.getElem?_eq_some_iff.mp hx).1
    have hm := List.mem_of_getElem? hx
    have hH := (W.1.1 h x hm).2.1
    obtain ⟨kx, kk, e32, kk5, kk6⟩ := R.1.kind hq
    have f31 := fk_31 kk
    have f32 := fk_32 kk
    have f33 := fk33 kk
    simp (disch := first | (simp only [dd, dr]; done) | omega) only [w_76_25, W_76, I_lt, I_le, I_inj, inB_I, tc_I, Int.toNat_natCast, fkt, rf1, rf0, cq, Nat.reduceAdd, Nat.reduceEqDiff, Int.reduceToNat, eq_self, true_and, and_true, true_or, or_true, bI_0, bI_1, mm, rAm, mF_sF, mR_sR, false_and, and_false, if_false, if_true, false_or, or_false, not_true_eq_false, not_false_eq_true, and_self]
    refine ⟨fun h3 => ?_, fun h3 => ?_⟩
    rotate_left
    · have a31 := (R.2.2.2.2.2.1 h x q hm hq).2
      rw [(nx_ix (W.1.2.1 h) hx).1] at a31
      cases hy : (tW T h)[i + 1]? with
      | none =>
        rw [hy, Option.bind_none] at a31
        simp (disch := first | (simp only [dd, dr]; done) | omega) only [W_76, f31, a31, I_lt, I_le, I_inj, inB_I, tc_I, Int.toNat_natCast, fkt, rf1, rf0, cq, Nat.reduceAdd, Nat.reduceEqDiff, Int.reduceToNat, eq_self, true_and, and_true, true_or, or_true, bI_0, bI_1, mm, rAm, mF_sF, mR_sR, false_and, and_false, if_false, if_true, false_or, or_false, not_true_eq_false, not_false_eq_true, and_self]
        rw [show ((i : Int) + 1) = ((i + 1 : Nat) : Int) by omega]
        have := List.getElem?_eq_none_iff.mp hy
        exact goN (by omega) (i + 1) (by omega)
      | some y =>
        obtain ⟨qy, hqy⟩ := R.row W.1.sw (List.mem_of_getElem? hy)
        rw [hy, Option.bind_some, hqy] at a31
        simp (disch := first | (simp only [dd, dr]; done) | omega) only [W_76, f31, a31, I_lt, I_le, I_inj, inB_I, tc_I, Int.toNat_natCast, fkt, rf1, rf0, cq, Nat.reduceAdd, Nat.reduceEqDiff, Int.reduceToNat, eq_self, true_and, and_true, true_or, or_true, bI_0, bI_1, mm, rAm, mF_sF, mR_sR, false_and, and_false, if_false, if_true, false_or, or_false, not_true_eq_false, not_false_eq_true, and_self]
        rw [show ((i : Int) + 1) = ((i + 1 : Nat) : Int) by omega]
        exact ih (i + 1) qy y (by omega) hy hqy (.inl (by omega))
    simp (disch := first | (simp only [dd, dr]; done) | omega) only [W_76, I_lt, I_le, I_inj, inB_I, tc_I, Int.toNat_natCast, fkt, rf1, rf0, cq, Nat.reduceAdd, Nat.reduceEqDiff, Int.reduceToNat, eq_self, true_and, and_true, true_or, or_true, bI_0, bI_1, mm, rAm, mF_sF, mR_sR, false_and, and_false, if_false, if_true, false_or, or_false, not_true_eq_false, not_false_eq_true, and_self]
    refine ⟨fun h4 => ?_, fun h4 => ?_⟩
    · simp (disch := first | (simp only [dd, dr]; done) | omega) only [W_76, I_lt, I_le, I_inj, inB_I, tc_I, Int.toNat_natCast, fkt, rf1, rf0, cq, Nat.reduceAdd, Nat.reduceEqDiff, Int.reduceToNat, eq_self, true_and, and_true, true_or, or_true, bI_0, bI_1, mm, rAm, mF_sF, mR_sR, false_and, and_false, if_false, if_true, false_or, or_false, not_true_eq_false, not_false_eq_true, and_self]
      exact bad (by omega) _ _
    obtain ⟨n, rfl⟩ : ∃ n' : Nat, n = n' := ⟨n.toNat, by omega⟩
    obtain rfl : i = n := by omega
    have hg : (tW T h).getD i 0 = x := by rw [List.getD_eq_getElem?_getD, hx]; rfl
    rw [if_pos (by omega)] at hX hR
    simp only [Int.toNat_natCast] at hR
    simp (disch := first | (simp only [dd, dr]; done) | omega) only [W_76, I_lt, I_le, I_inj, inB_I, tc_I, Int.toNat_natCast, fkt, rf1, rf0, cq, Nat.reduceAdd, Nat.reduceEqDiff, Int.reduceToNat, eq_self, true_and, and_true, true_or, or_true, bI_0, bI_1, mm, rAm, mF_sF, mR_sR, false_and, and_false, if_false, if_true, false_or, or_false, not_true_eq_false, not_false_eq_true, and_self]
    refine ca_37 (by omega) (c_there (b := true) (fun _ => ?_) (fun h2 => by cases h2))
    have go2 : ∀ (b : Bool), (b = true ↔ 0 ≤ w ∧ w ≤ 3) → Ca d 76 80 [some (.ref p), some (.int (I (h : Nat))), some (.int (I (i : Nat))), some (.int (I w)), some (.ref q), some (.int (I (i : Nat)))] 39 [.int (I (bI b))] [] M Q := by
      intro b hb
      refine ca_39 (by omega) (c_proper (fun h5 => ?_) (fun h5 => ?_))
      rotate_left
      · simp (disch := first | (simp only [dd, dr]; done) | omega) only [W_76, I_lt, I_le, I_inj, inB_I, tc_I, Int.toNat_natCast, fkt, rf1, rf0, cq, Nat.reduceAdd, Nat.reduceEqDiff, Int.reduceToNat, eq_self, true_and, and_true, true_or, or_true, bI_0, bI_1, mm, rAm, mF_sF, mR_sR, false_and, and_false, if_false, if_true, false_or, or_false, not_true_eq_false, not_false_eq_true, and_self]
        rw [Th_out (nw_kO M 13 6) (by decide) (by decide +kernel)]
        rw [if_neg (fun h => by rw [hb.mpr h] at h5; cases h5)] at hX
        exact hX.sc D C (Sc.refl _ _) ⟨by omega, rfl⟩
      have h5 := hb.mp h5
      rw [if_pos h5] at hR
      obtain ⟨w, rfl⟩ : ∃ w' : Nat, w = w' := ⟨w.toNat, by omega⟩
      have fin := hR rfl
      simp only [Int.toNat_natCast] at fin
      unfold noV at fin
      rw [hg] at fin
      by_cases c0 : w = 0
      · rw [if_pos c0] at fin
        rw [show ((w : Nat) : Int) = 0 by omega]
        simp (disch := first | (simp only [dd, dr]; done) | omega) only [W_76, I_lt, I_le, I_inj, inB_I, tc_I, Int.toNat_natCast, fkt, rf1, rf0, cq, Nat.reduceAdd, Nat.reduceEqDiff, Int.reduceToNat, eq_self, true_and, and_true, true_or, or_true, bI_0, bI_1, mm, rAm, mF_sF, mR_sR, false_and, and_false, if_false, if_true, false_or, or_false, not_true_eq_false, not_false_eq_true, and_self]
        refine ⟨(fun h => by first | exact False.elim h | exact absurd trivial h | (exfalso; omega) | exact absurd rfl h | cases h), fun _ => ?_⟩
        simp (disch := first | (simp only [dd, dr]; done) | omega) only [W_76, f32, e32, I_lt, I_le, I_inj, inB_I, tc_I, Int.toNat_natCast, fkt, rf1, rf0, cq, Nat.reduceAdd, Nat.reduceEqDiff, Int.reduceToNat, eq_self, true_and, and_true, true_or, or_true, bI_0, bI_1, mm, rAm, mF_sF, mR_sR, false_and, and_false, if_false, if_true, false_or, or_false, not_true_eq_false, not_false_eq_true, and_self]
        exact fin
      rw [if_neg c0] at fin
      by_cases c1 : w = 1
      · rw [if_pos c1] at fin
        rw [show ((w : Nat) : Int) = 1 by omega]
        simp (disch := first | (simp only [dd, dr]; done) | omega) only [W_76, I_lt, I_le, I_inj, inB_I, tc_I, Int.toNat_natCast, fkt, rf1, rf0, cq, Nat.reduceAdd, Nat.reduceEqDiff, Int.reduceToNat, eq_self, true_and, and_true, true_or, or_true, bI_0, bI_1, mm, rAm, mF_sF, mR_sR, false_and, and_false, if_false, if_true, false_or, or_false, not_true_eq_false, not_false_eq_true, and_self]
        refine ⟨fun _ => ?_, (fun h => by first | exact False.elim h | exact absurd trivial h | (exfalso; omega) | exact absurd rfl h | cases h)⟩
        simp (disch := first | (simp only [dd, dr]; done) | omega) only [W_76, I_lt, I_le, I_inj, inB_I, tc_I, Int.toNat_natCast, fkt, rf1, rf0, cq, Nat.reduceAdd, Nat.reduceEqDiff, Int.reduceToNat, eq_self, true_and, and_true, true_or, or_true, bI_0, bI_1, mm, rAm, mF_sF, mR_sR, false_and, and_false, if_false, if_true, false_or, or_false, not_true_eq_false, not_false_eq_true, and_self]
        refine ⟨(fun h => by first | exact False.elim h | exact absurd trivial h | (exfalso; omega) | exact absurd rfl h | cases h), fun _ => ?_⟩
        simp (disch := first | (simp only [dd, dr]; done) | omega) only [W_76, I_lt, I_le, I_inj, inB_I, tc_I, Int.toNat_natCast, fkt, rf1, rf0, cq, Nat.reduceAdd, Nat.reduceEqDiff, Int.reduceToNat, eq_self, true_and, and_true, true_or, or_true, bI_0, bI_1, mm, rAm, mF_sF, mR_sR, false_and, and_false, if_false, if_true, false_or, or_false, not_true_eq_false, not_false_eq_true, and_self]
        by_cases c : h = 0
        · rw [if_pos c] at fin
          have k5 := kk5 c
          obtain ⟨q', b1, b2, _⟩ := R.2.2.1 x (by rw [hH, c])
          rw [c] at hq
          have : q' = q := by
            have hq : A.1 x = some q := hq
            rw [b1] at hq; exact Option.some.inj hq
          subst this
          have e37 := b2.2.1
          left
          refine ⟨k5, ca_136 (by omega) ?_⟩
          simp (disch := first | (simp only [dd, dr]; done) | omega) only [W_136, k5, e37, I_lt, I_le, I_inj, inB_I, tc_I, Int.toNat_natCast, fkt, rf1, rf0, cq, Nat.reduceAdd, Nat.reduceEqDiff, Int.reduceToNat, eq_self, true_and, and_true, true_or, or_true, bI_0, bI_1, mm, rAm, mF_sF, mR_sR, false_and, and_false, if_false, if_true, false_or, or_false, not_true_eq_false, not_false_eq_true, and_self]
          simp (disch := first | (simp only [dd, dr]; done) | omega) only [W_76, I_lt, I_le, I_inj, inB_I, tc_I, Int.toNat_natCast, fkt, rf1, rf0, cq, Nat.reduceAdd, Nat.reduceEqDiff, Int.reduceToNat, eq_self, true_and, and_true, true_or, or_true, bI_0, bI_1, mm, rAm, mF_sF, mR_sR, false_and, and_false, if_false, if_true, false_or, or_false, not_true_eq_false, not_false_eq_true, and_self]
          exact fin
        · rw [if_neg c] at fin
          have k6 := kk6 c
          obtain ⟨h', rfl⟩ : ∃ h', h = h' + 1 := ⟨h - 1, by omega⟩
          obtain ⟨q', b1, b2, _⟩ := R.2.2.2.1 h' x hH
          have : q' = q := by
            have hq : A.2 x = some q := hq
            rw [b1] at hq; exact Option.some.inj hq
          subst this
          have e41 := b2.2.1
          rw [List.length_map] at e41
          right
          refine ⟨k6, ca_147 (by omega) ?_⟩
          simp (disch := first | (simp only [dd, dr]; done) | omega) only [W_147, k6, e41, I_lt, I_le, I_inj, inB_I, tc_I, Int.toNat_natCast, fkt, rf1, rf0, cq, Nat.reduceAdd, Nat.reduceEqDiff, Int.reduceToNat, eq_self, true_and, and_true, true_or, or_true, bI_0, bI_1, mm, rAm, mF_sF, mR_sR, false_and, and_false, if_false, if_true, false_or, or_false, not_true_eq_false, not_false_eq_true, and_self]
          simp (disch := first | (simp only [dd, dr]; done) | omega) only [W_76, I_lt, I_le, I_inj, inB_I, tc_I, Int.toNat_natCast, fkt, rf1, rf0, cq, Nat.reduceAdd, Nat.reduceEqDiff, Int.reduceToNat, eq_self, true_and, and_true, true_or, or_true, bI_0, bI_1, mm, rAm, mF_sF, mR_sR, false_and, and_false, if_false, if_true, false_or, or_false, not_true_eq_false, not_false_eq_true, and_self]
          exact fin
      rw [if_neg c1] at fin
      by_cases c2 : w = 2
      · rw [if_pos c2] at fin
        rw [show ((w : Nat) : Int) = 2 by omega]
        simp (disch := first | (simp only [dd, dr]; done) | omega) only [W_76, I_lt, I_le, I_inj, inB_I, tc_I, Int.toNat_natCast, fkt, rf1, rf0, cq, Nat.reduceAdd, Nat.reduceEqDiff, Int.reduceToNat, eq_self, true_and, and_true, true_or, or_true, bI_0, bI_1, mm, rAm, mF_sF, mR_sR, false_and, and_false, if_false, if_true, false_or, or_false, not_true_eq_false, not_false_eq_true, and_self]
        refine ⟨fun _ => ?_, (fun h => by first | exact False.elim h | exact absurd trivial h | (exfalso; omega) | exact absurd rfl h | cases h)⟩
        simp (disch := first | (simp only [dd, dr]; done) | omega) only [W_76, I_lt, I_le, I_inj, inB_I, tc_I, Int.toNat_natCast, fkt, rf1, rf0, cq, Nat.reduceAdd, Nat.reduceEqDiff, Int.reduceToNat, eq_self, true_and, and_true, true_or, or_true, bI_0, bI_1, mm, rAm, mF_sF, mR_sR, false_and, and_false, if_false, if_true, false_or, or_false, not_true_eq_false, not_false_eq_true, and_self]
        refine ⟨fun _ => ?_, (fun h => by first | exact False.elim h | exact absurd trivial h | (exfalso; omega) | exact absurd rfl h | cases h)⟩
        simp (disch := first | (simp only [dd, dr]; done) | omega) only [W_76, I_lt, I_le, I_inj, inB_I, tc_I, Int.toNat_natCast, fkt, rf1, rf0, cq, Nat.reduceAdd, Nat.reduceEqDiff, Int.reduceToNat, eq_self, true_and, and_true, true_or, or_true, bI_0, bI_1, mm, rAm, mF_sF, mR_sR, false_and, and_false, if_false, if_true, false_or, or_false, not_true_eq_false, not_false_eq_true, and_self]
        refine ⟨(fun h => by first | exact False.elim h | exact absurd trivial h | (exfalso; omega) | exact absurd rfl h | cases h), fun _ => ?_⟩
        simp (disch := first | (simp only [dd, dr]; done) | omega) only [W_76, I_lt, I_le, I_inj, inB_I, tc_I, Int.toNat_natCast, fkt, rf1, rf0, cq, Nat.reduceAdd, Nat.reduceEqDiff, Int.reduceToNat, eq_self, true_and, and_true, true_or, or_true, bI_0, bI_1, mm, rAm, mF_sF, mR_sR, false_and, and_false, if_false, if_true, false_or, or_false, not_true_eq_false, not_false_eq_true, and_self]
        by_cases c : h = 0
        · rw [if_pos c] at fin
          have k5 := kk5 c
          obtain ⟨q', b1, b2, _⟩ := R.2.2.1 x (by rw [hH, c])
          rw [c] at hq
          have : q' = q := by
            have hq : A.1 x = some q := hq
            rw [b1] at hq; exact Option.some.inj hq
          subst this
          left
          refine ⟨k5, ca_129 (by omega) (l_used b2 ?_)⟩
          simp (disch := first | (simp only [dd, dr]; done) | omega) only [W_76, I_lt, I_le, I_inj, inB_I, tc_I, Int.toNat_natCast, fkt, rf1, rf0, cq, Nat.reduceAdd, Nat.reduceEqDiff, Int.reduceToNat, eq_self, true_and, and_true, true_or, or_true, bI_0, bI_1, mm, rAm, mF_sF, mR_sR, false_and, and_false, if_false, if_true, false_or, or_false, not_true_eq_false, not_false_eq_true, and_self]
          exact fin
        · rw [if_neg c] at fin
          have k6 := kk6 c
          right
          refine ⟨k6, ca_148 (by omega) ?_⟩
          simp (disch := first | (simp only [dd, dr]; done) | omega) only [W_148, I_lt, I_le, I_inj, inB_I, tc_I, Int.toNat_natCast, fkt, rf1, rf0, cq, Nat.reduceAdd, Nat.reduceEqDiff, Int.reduceToNat, eq_self, true_and, and_true, true_or, or_true, bI_0, bI_1, mm, rAm, mF_sF, mR_sR, false_and, and_false, if_false, if_true, false_or, or_false, not_true_eq_false, not_false_eq_true, and_self]
          simp (disch := first | (simp only [dd, dr]; done) | omega) only [W_76, I_lt, I_le, I_inj, inB_I, tc_I, Int.toNat_natCast, fkt, rf1, rf0, cq, Nat.reduceAdd, Nat.reduceEqDiff, Int.reduceToNat, eq_self, true_and, and_true, true_or, or_true, bI_0, bI_1, mm, rAm, mF_sF, mR_sR, false_and, and_false, if_false, if_true, false_or, or_false, not_true_eq_false, not_false_eq_true, and_self]
          exact fin
      rw [if_neg c2] at fin
      obtain ⟨v1, v2⟩ := R.2.2.2.2.1 h x q hH (by simp) hq
      simp (disch := first | (simp only [dd, dr]; done) | omega) only [W_76, I_lt, I_le, I_inj, inB_I, tc_I, Int.toNat_natCast, fkt, rf1, rf0, cq, Nat.reduceAdd, Nat.reduceEqDiff, Int.reduceToNat, eq_self, true_and, and_true, true_or, or_true, bI_0, bI_1, mm, rAm, mF_sF, mR_sR, false_and, and_false, if_false, if_true, false_or, or_false, not_true_eq_false, not_false_eq_true, and_self]
      refine ⟨fun _ => ?_, (fun h => by first | exact False.elim h | exact absurd trivial h | (exfalso; omega) | exact absurd rfl h | cases h)⟩
      simp (disch := first | (simp only [dd, dr]; done) | omega) only [W_76, I_lt, I_le, I_inj, inB_I, tc_I, Int.toNat_natCast, fkt, rf1, rf0, cq, Nat.reduceAdd, Nat.reduceEqDiff, Int.reduceToNat, eq_self, true_and, and_true, true_or, or_true, bI_0, bI_1, mm, rAm, mF_sF, mR_sR, false_and, and_false, if_false, if_true, false_or, or_false, not_true_eq_false, not_false_eq_true, and_self]
      refine ⟨fun _ => ?_, (fun h => by first | exact False.elim h | exact absurd trivial h | (exfalso; omega) | exact absurd rfl h | cases h)⟩
      simp (disch := first | (simp only [dd, dr]; done) | omega) only [W_76, I_lt, I_le, I_inj, inB_I, tc_I, Int.toNat_natCast, fkt, rf1, rf0, cq, Nat.reduceAdd, Nat.reduceEqDiff, Int.reduceToNat, eq_self, true_and, and_true, true_or, or_true, bI_0, bI_1, mm, rAm, mF_sF, mR_sR, false_and, and_false, if_false, if_true, false_or, or_false, not_true_eq_false, not_false_eq_true, and_self]
      refine ⟨fun _ => ?_, (fun h => by first | exact False.elim h | exact absurd trivial h | (exfalso; omega) | exact absurd rfl h | cases h)⟩
      cases hp : tP T x with
      | none =>
        rw [hp, Option.bind_none] at v1
        rw [hp] at fin
        simp (disch := first | (simp only [dd, dr]; done) | omega) only [W_76, f33, v1, I_lt, I_le, I_inj, inB_I, tc_I, Int.toNat_natCast, fkt, rf1, rf0, cq, Nat.reduceAdd, Nat.reduceEqDiff, Int.reduceToNat, eq_self, true_and, and_true, true_or, or_true, bI_0, bI_1, mm, rAm, mF_sF, mR_sR, false_and, and_false, if_false, if_true, false_or, or_false, not_true_eq_false, not_false_eq_true, and_self]
        exact fin
      | some y =>
        have v3 := v2 y hp
        cases hA : A.2 y with
        | none => rw [hA] at v3; cases v3
        | some qy =>
          obtain ⟨_, ⟨ky6, _⟩, ey⟩ := R.1.2.2.2.1 y qy hA
          rw [hp, Option.bind_some, hA] at v1
          rw [hp] at fin
          simp (disch := first | (simp only [dd, dr]; done) | omega) only [W_76, f33, v1, ky6, ey, I_lt, I_le, I_inj, inB_I, tc_I, Int.toNat_natCast, fkt, rf1, rf0, cq, Nat.reduceAdd, Nat.reduceEqDiff, Int.reduceToNat, eq_self, true_and, and_true, true_or, or_true, bI_0, bI_1, mm, rAm, mF_sF, mR_sR, false_and, and_false, if_false, if_true, false_or, or_false, not_true_eq_false, not_false_eq_true, and_self]
          exact fin
    simp (disch := first | (simp only [dd, dr]; done) | omega) only [W_76, I_lt, I_le, I_inj, inB_I, tc_I, Int.toNat_natCast, fkt, rf1, rf0, cq, Nat.reduceAdd, Nat.reduceEqDiff, Int.reduceToNat, eq_self, true_and, and_true, true_or, or_true, bI_0, bI_1, mm, rAm, mF_sF, mR_sR, false_and, and_false, if_false, if_true, false_or, or_false, not_true_eq_false, not_false_eq_true, and_self]
    refine ⟨fun h => ?_, fun h => ?_⟩
    · simp (disch := first | (simp only [dd, dr]; done) | omega) only [W_76, I_lt, I_le, I_inj, inB_I, tc_I, Int.toNat_natCast, fkt, rf1, rf0, cq, Nat.reduceAdd, Nat.reduceEqDiff, Int.reduceToNat, eq_self, true_and, and_true, true_or, or_true, bI_0, bI_1, mm, rAm, mF_sF, mR_sR, false_and, and_false, if_false, if_true, false_or, or_false, not_true_eq_false, not_false_eq_true, and_self]
      exact go2 false (by simp; omega)
    · simp (disch := first | (simp only [dd, dr]; done) | omega) only [W_76, I_lt, I_le, I_inj, inB_I, tc_I, Int.toNat_natCast, fkt, rf1, rf0, cq, Nat.reduceAdd, Nat.reduceEqDiff, Int.reduceToNat, eq_self, true_and, and_true, true_or, or_true, bI_0, bI_1, mm, rAm, mF_sF, mR_sR, false_and, and_false, if_false, if_true, false_or, or_false, not_true_eq_false, not_false_eq_true, and_self]
      refine ⟨fun h => ?_, fun h => ?_⟩
      · simp (disch := first | (simp only [dd, dr]; done) | omega) only [W_76, I_lt, I_le, I_inj, inB_I, tc_I, Int.toNat_natCast, fkt, rf1, rf0, cq, Nat.reduceAdd, Nat.reduceEqDiff, Int.reduceToNat, eq_self, true_and, and_true, true_or, or_true, bI_0, bI_1, mm, rAm, mF_sF, mR_sR, false_and, and_false, if_false, if_true, false_or, or_false, not_true_eq_false, not_false_eq_true, and_self]
        exact go2 false (by simp; omega)
      · simp (disch := first | (simp only [dd, dr]; done) | omega) only [W_76, I_lt, I_le, I_inj, inB_I, tc_I, Int.toNat_natCast, fkt, rf1, rf0, cq, Nat.reduceAdd, Nat.reduceEqDiff, Int.reduceToNat, eq_self, true_and, and_true, true_or, or_true, bI_0, bI_1, mm, rAm, mF_sF, mR_sR, false_and, and_false, if_false, if_true, false_or, or_false, not_true_eq_false, not_false_eq_true, and_self]
        exact go2 true (by simp; omega)
/-- the leaf and the place of an item -/
def itp (T : Tr) : List Nat → Nat → Option (Nat × Nat)
  | [], _ => none
  | x :: l, n => if n < (tI T x).length then some (x, n) else itp T l (n - (tI T x).length)
theorem itp_none {T : Tr} : ∀ {l : List Nat} {n : Nat}, itp T l n = none ↔ (l.flatMap (tI T)).length ≤ n
  | [], n => by simp [itp]
  | x :: l, n => by
    rw [itp, List.flatMap_cons, List.length_append]
    split
    · constructor
      · intro h; cases h
      · intro h; omega
    · rw [itp_none]; omega
def itC (off : Bool) (T : Tr) (n w : Int) : Nat := if off = true then 1 else if 0 ≤ n ∧ n < (its T).length then (if 0 ≤ w ∧ w ≤ 4 then 0 else 3) else 2
def itV (T : Tr) (X : Ob) (n w : Nat) : Nat := match itp T (tW T 0) n with
  | none => 0
  | some (x, i) => if w = 0 then (tI T x).getD i 0 / 1024 / 4 else if w = 1 then (tI T x).getD i 0 / 1024 % 4 else if w = 2 then (tI T x).getD i 0 % 1024 else if w = 3 then (pyO X ((tI T x).getD i 0)).length else x
set_option maxHeartbeats 2000000 in
theorem c_item (hd : 40 ≤ d) (C : CX M p m J A T X) (D : DR M p T dt) {off : Bool} (hoff : mF M 25 (p + 205) = I (bI off)) {n w : Int} (n0 : -2147483648 ≤ n) (n1 : n < 2147483648) (w0 : -2147483648 ≤ w) (w1 : w < 2147483648)
    (hX : Thr p m J A T X dt M Q (fun k => itC off T n w ≠ 0 ∧ k = 10 + itC off T n w))
    (hR : itC off T n w = 0 → Q (.returned (some (.int (I (itV T X n.toNat w.toNat : Nat))))) M) :
    Wp d 77 0 [some (.ref p), some (.int (I n)), some (.int (I w)), none, none, none] [] M Q := by
  have k0 := C.1.1.1
  have k9 := C.1.1.2.2.2.2.2.2.2.2.1
  have kt := C.2.1.1.1.1
  have R := C.2.1
  have W := C.2.2.1.1
  unfold itC at hX hR
  simp (disch := first | (simp only [dd, dr]; done) | omega) only [W_77, k0, I_lt, I_le, I_inj, inB_I, tc_I, Int.toNat_natCast, fkt, rf1, rf0, cq, Nat.reduceAdd, Nat.reduceEqDiff, Int.reduceToNat, eq_self, true_and, and_true, true_or, or_true, bI_0, bI_1, mm, rAm, mF_sF, mR_sR, false_and, and_false, if_false, if_true, false_or, or_false, not_true_eq_false, not_false_eq_true, and_self]
  refine ca_30 (by omega) (c_on C.1 hoff (fun h1 => ?_) (fun h1 => ?_))
  rotate_left
  · simp (disch := first | (simp only [dd, dr]; done) | omega) only [W_77, I_lt, I_le, I_inj, inB_I, tc_I, Int.toNat_natCast, fkt, rf1, rf0, cq, Nat.reduceAdd, Nat.reduceEqDiff, Int.reduceToNat, eq_self, true_and, and_true, true_or, or_true, bI_0, bI_1, mm, rAm, mF_sF, mR_sR, false_and, and_false, if_false, if_true, false_or, or_false, not_true_eq_false, not_false_eq_true, and_self]
    rw [Th_out (nw_kO M 11 6) (by decide) (by decide +kernel)]
    rw [if_pos h1] at hX
    exact hX.sc D C (Sc.refl _ _) ⟨by omega, rfl⟩
  have h1' : ¬ off = true := by rw [h1]; simp
  rw [if_neg h1'] at hX hR
  have bad : ¬ (0 ≤ n ∧ n < (its T).length) → ∀ l3 l4, Ca d 77 62 [some (.ref p), some (.int (I n)), some (.int (I w)), l3, l4, none] 37 [.int (I (bI false))] [] M Q := by
    intro hc l3 l4
    refine ca_37 (by omega) (c_there (fun h2 => by cases h2) (fun h2 => ?_))
    simp (disch := first | (simp only [dd, dr]; done) | omega) only [W_77, I_lt, I_le, I_inj, inB_I, tc_I, Int.toNat_natCast, fkt, rf1, rf0, cq, Nat.reduceAdd, Nat.reduceEqDiff, Int.reduceToNat, eq_self, true_and, and_true, true_or, or_true, bI_0, bI_1, mm, rAm, mF_sF, mR_sR, false_and, and_false, if_false, if_true, false_or, or_false, not_true_eq_false, not_false_eq_true, and_self]
    rw [Th_out (nw_kO M 12 6) (by decide) (by decide +kernel)]
    rw [if_neg hc] at hX
    exact hX.sc D C (Sc.refl _ _) ⟨by omega, rfl⟩
  simp (disch := first | (simp only [dd, dr]; done) | omega) only [W_77, k0, k9, kt, I_lt, I_le, I_inj, inB_I, tc_I, Int.toNat_natCast, fkt, rf1, rf0, cq, Nat.reduceAdd, Nat.reduceEqDiff, Int.reduceToNat, eq_self, true_and, and_true, true_or, or_true, bI_0, bI_1, mm, rAm, mF_sF, mR_sR, false_and, and_false, if_false, if_true, false_or, or_false, not_true_eq_false, not_false_eq_true, and_self]
  refine ca_110 (by omega) (n_firstLeaf (by omega) R W (fun a q l hl hq => ?_))
  simp (disch := first | (simp only [dd, dr]; done) | omega) only [W_77, I_lt, I_le, I_inj, inB_I, tc_I, Int.toNat_natCast, fkt, rf1, rf0, cq, Nat.reduceAdd, Nat.reduceEqDiff, Int.reduceToNat, eq_self, true_and, and_true, true_or, or_true, bI_0, bI_1, mm, rAm, mF_sF, mR_sR, false_and, and_false, if_false, if_true, false_or, or_false, not_true_eq_false, not_false_eq_true, and_self]
  by_cases hn : 0 ≤ n
  rotate_left
  · obtain ⟨q', a1, hL, a3, a4, a5, a6⟩ := R.lf W (i := 0) (x := a) (by rw [hl]; rfl)
    rw [hq] at a1
    obtain rfl := Option.some.inj a1
    have h5 := hL.1.1
    have e37 := hL.2.1
    have h24 := hL.2.2.2.1
    simp (disch := first | (simp only [dd, dr]; done) | omega) only [w_77_15, W_77, h5, e37, I_lt, I_le, I_inj, inB_I, tc_I, Int.toNat_natCast, fkt, rf1, rf0, cq, Nat.reduceAdd, Nat.reduceEqDiff, Int.reduceToNat, eq_self, true_and, and_true, true_or, or_true, bI_0, bI_1, mm, rAm, mF_sF, mR_sR, false_and, and_false, if_false, if_true, false_or, or_false, not_true_eq_false, not_false_eq_true, and_self]
    refine ⟨fun _ => ?_, (fun h => by first | exact False.elim h | exact absurd trivial h | (exfalso; omega) | exact absurd rfl h | cases h)⟩
    simp (disch := first | (simp only [dd, dr]; done) | omega) only [W_77, I_lt, I_le, I_inj, inB_I, tc_I, Int.toNat_natCast, fkt, rf1, rf0, cq, Nat.reduceAdd, Nat.reduceEqDiff, Int.reduceToNat, eq_self, true_and, and_true, true_or, or_true, bI_0, bI_1, mm, rAm, mF_sF, mR_sR, false_and, and_false, if_false, if_true, false_or, or_false, not_true_eq_false, not_false_eq_true, and_self]
    refine ⟨fun _ => ?_, (fun h => by first | exact False.elim h | exact absurd trivial h | (exfalso; omega) | exact absurd rfl h | cases h)⟩
    simp (disch := first | (simp only [dd, dr]; done) | omega) only [W_77, I_lt, I_le, I_inj, inB_I, tc_I, Int.toNat_natCast, fkt, rf1, rf0, cq, Nat.reduceAdd, Nat.reduceEqDiff, Int.reduceToNat, eq_self, true_and, and_true, true_or, or_true, bI_0, bI_1, mm, rAm, mF_sF, mR_sR, false_and, and_false, if_false, if_true, false_or, or_false, not_true_eq_false, not_false_eq_true, and_self]
    exact bad (by omega) _ _
  obtain ⟨n, rfl⟩ : ∃ n' : Nat, n = n' := ⟨n.toNat, by omega⟩
  simp only [Int.toNat_natCast] at *
  have hni : itp T (tW T 0) n = none ↔ (its T).length ≤ n := itp_none
  suffices H : ∀ N (i k q x : Nat), (tW T 0).length - i ≤ N → (tW T 0)[i]? = some x → A.1 x = some q → k ≤ n → itp T (tW T 0) n = itp T ((tW T 0).drop i) k → Wp d 77 15 [some (.ref p), some (.int (I (n : Nat))), some (.int (I w)), some (.ref q), some (.int (I (k : Nat))), none] [] M Q from H _ 0 n q a (Nat.le_refl _) (by rw [hl]; rfl) hq (Nat.le_refl _) rfl
  intro N
  induction N with
  | zero =>
    intro i k q x hN hx
    have := (List.getElem?_eq_some_iff.mp hx).1
    omega
  | succ N ih =>
    intro i k q x hN hx hq hkn hit
    have hil := (List.getElem?_eq_some_iff.mp hx).1
    obtain ⟨q', a1, hL, a3, a4, a5, a6⟩ := R.lf W hx
    rw [hq] at a1
    obtain rfl := Option.some.inj a1
    have h5 := hL.1.1
    have h36 := hL.1.2.1
    have h38 := hL.1.2.2.1
    have hx1 := hL.1.2.2.2.2.1
    have hx2 := hL.1.2.2.2.2.2.1
    have e37 := hL.2.1
    have h24 := hL.2.2.2.1
    rw [drop_get hx, itp] at hit
    simp (disch := first | (simp only [dd, dr]; done) | omega) only [w_77_15, W_77, h5, e37, I_lt, I_le, I_inj, inB_I, tc_I, Int.toNat_natCast, fkt, rf1, rf0, cq, Nat.reduceAdd, Nat.reduceEqDiff, Int.reduceToNat, eq_self, true_and, and_true, true_or, or_true, bI_0, bI_1, mm, rAm, mF_sF, mR_sR, false_and, and_false, if_false, if_true, false_or, or_false, not_true_eq_false, not_false_eq_true, and_self]
    refine ⟨fun h3 => ?_, fun h3 => ?_⟩
    rotate_left
    · rw [if_neg (by omega)] at hit
      cases hy : (tW T 0)[i + 1]? with
      | none =>
        rw [hy, Option.bind_none] at a5
        rw [List.drop_eq_nil_of_le (List.getElem?_eq_none_iff.mp hy)] at hit
        have hlen := hni.mp hit
        simp (disch := first | (simp only [dd, dr]; done) | omega) only [W_77, h5, e37, a5, I_lt, I_le, I_inj, inB_I, tc_I, Int.toNat_natCast, fkt, rf1, rf0, cq, Nat.reduceAdd, Nat.reduceEqDiff, Int.reduceToNat, eq_self, true_and, and_true, true_or, or_true, bI_0, bI_1, mm, rAm, mF_sF, mR_sR, false_and, and_false, if_false, if_true, false_or, or_false, not_true_eq_false, not_false_eq_true, and_self]
        simp (disch := first | (simp only [dd, dr]; done) | omega) only [w_77_15, W_77, I_lt, I_le, I_inj, inB_I, tc_I, Int.toNat_natCast, fkt, rf1, rf0, cq, Nat.reduceAdd, Nat.reduceEqDiff, Int.reduceToNat, eq_self, true_and, and_true, true_or, or_true, bI_0, bI_1, mm, rAm, mF_sF, mR_sR, false_and, and_false, if_false, if_true, false_or, or_false, not_true_eq_false, not_false_eq_true, and_self]
        exact bad (by omega) _ _
      | some y =>
        obtain ⟨qy, hqy⟩ := a6 y hy
        have k5y := (R.1.2.2.1 y qy hqy).2.1.1
        rw [hy, Option.bind_some, hqy] at a5
        simp (disch := first | (simp only [dd, dr]; done) | omega) only [W_77, h5, e37, a5, k5y, I_lt, I_le, I_inj, inB_I, tc_I, Int.toNat_natCast, fkt, rf1, rf0, cq, Nat.reduceAdd, Nat.reduceEqDiff, Int.reduceToNat, eq_self, true_and, and_true, true_or, or_true, bI_0, bI_1, mm, rAm, mF_sF, mR_sR, false_and, and_false, if_false, if_true, false_or, or_false, not_true_eq_false, not_false_eq_true, and_self]
        rw [show (k : Int) - ((tI T x).length : Int) = ((k - (tI T x).length : Nat) : Int) by omega]
        exact ih (i + 1) _ qy y (by omega) hy hqy (by omega) hit
    rw [if_pos (by omega)] at hit
    have hlen : n < (its T).length := by
      apply Classical.byContradiction
      intro h
      rw [hni.mpr (by omega)] at hit
      cases hit
    rw [if_pos (by omega)] at hX hR
    have hkx : (tI T x)[k]? = some (tI T x)[k] := List.getElem?_eq_getElem (by omega)
    have hk1 := a3 _ (List.mem_of_getElem? hkx)
    have hg : (tI T x).getD k 0 = (tI T x)[k] := by rw [List.getD_eq_getElem?_getD, hkx]; rfl
    obtain ⟨eK, eS⟩ := hL.2.2.2.2.2.1 k _ hkx
    generalize (tI T x)[k] = key at *
    unfold itV at hR
    rw [hit] at hR
    simp only [hg] at hR
    simp (disch := first | (simp only [dd, dr]; done) | omega) only [W_77, I_lt, I_le, I_inj, inB_I, tc_I, Int.toNat_natCast, fkt, rf1, rf0, cq, Nat.reduceAdd, Nat.reduceEqDiff, Int.reduceToNat, eq_self, true_and, and_true, true_or, or_true, bI_0, bI_1, mm, rAm, mF_sF, mR_sR, false_and, and_false, if_false, if_true, false_or, or_false, not_true_eq_false, not_false_eq_true, and_self]
    refine ⟨(fun h => by first | exact False.elim h | exact absurd trivial h | (exfalso; omega) | exact absurd rfl h | cases h), fun _ => ?_⟩
    simp (disch := first | (simp only [dd, dr]; done) | omega) only [W_77, I_lt, I_le, I_inj, inB_I, tc_I, Int.toNat_natCast, fkt, rf1, rf0, cq, Nat.reduceAdd, Nat.reduceEqDiff, Int.reduceToNat, eq_self, true_and, and_true, true_or, or_true, bI_0, bI_1, mm, rAm, mF_sF, mR_sR, false_and, and_false, if_false, if_true, false_or, or_false, not_true_eq_false, not_false_eq_true, and_self]
    refine ca_37 (by omega) (c_there (b := true) (fun _ => ?_) (fun h2 => by cases h2))
    have go2 : ∀ (b : Bool), (b = true ↔ 0 ≤ w ∧ w ≤ 4) → Ca d 77 79 [some (.ref p), some (.int (I (n : Nat))), some (.int (I w)), some (.ref q), some (.int (I (k : Nat))), none] 39 [.int (I (bI b))] [] M Q := by
      intro b hb
      refine ca_39 (by omega) (c_proper (fun h6 => ?_) (fun h6 => ?_))
      rotate_left
      · simp (disch := first | (simp only [dd, dr]; done) | omega) only [W_77, I_lt, I_le, I_inj, inB_I, tc_I, Int.toNat_natCast, fkt, rf1, rf0, cq, Nat.reduceAdd, Nat.reduceEqDiff, Int.reduceToNat, eq_self, true_and, and_true, true_or, or_true, bI_0, bI_1, mm, rAm, mF_sF, mR_sR, false_and, and_false, if_false, if_true, false_or, or_false, not_true_eq_false, not_false_eq_true, and_self]
        rw [Th_out (nw_kO M 13 6) (by decide) (by decide +kernel)]
        rw [if_neg (fun h => by rw [hb.mpr h] at h6; cases h6)] at hX
        exact hX.sc D C (Sc.refl _ _) ⟨by omega, rfl⟩
      have h6 := hb.mp h6
      rw [if_pos h6] at hR
      obtain ⟨w, rfl⟩ : ∃ w' : Nat, w = w' := ⟨w.toNat, by omega⟩
      have fin := hR rfl
      simp only [Int.toNat_natCast] at fin
      simp (disch := first | (simp only [dd, dr]; done) | omega) only [W_77, h5, h36, hx1, eK, I_lt, I_le, I_inj, inB_I, tc_I, Int.toNat_natCast, fkt, rf1, rf0, cq, Nat.reduceAdd, Nat.reduceEqDiff, Int.reduceToNat, eq_self, true_and, and_true, true_or, or_true, bI_0, bI_1, mm, rAm, mF_sF, mR_sR, false_and, and_false, if_false, if_true, false_or, or_false, not_true_eq_false, not_false_eq_true, and_self]
      by_cases c0 : w = 0
      · rw [show ((w : Nat) : Int) = 0 by omega]
        rw [if_pos (by assumption)] at fin
        simp (disch := first | (simp only [dd, dr]; done) | omega) only [W_77, I_lt, I_le, I_inj, inB_I, tc_I, Int.toNat_natCast, fkt, rf1, rf0, cq, Nat.reduceAdd, Nat.reduceEqDiff, Int.reduceToNat, eq_self, true_and, and_true, true_or, or_true, bI_0, bI_1, mm, rAm, mF_sF, mR_sR, false_and, and_false, if_false, if_true, false_or, or_false, not_true_eq_false, not_false_eq_true, and_self]
        refine ca_62 (by omega) (c_objectOf (by omega) (by omega) ?_)
        simp (disch := first | (simp only [dd, dr]; done) | omega) only [W_77, I_lt, I_le, I_inj, inB_I, tc_I, Int.toNat_natCast, fkt, rf1, rf0, cq, Nat.reduceAdd, Nat.reduceEqDiff, Int.reduceToNat, eq_self, true_and, and_true, true_or, or_true, bI_0, bI_1, mm, rAm, mF_sF, mR_sR, false_and, and_false, if_false, if_true, false_or, or_false, not_true_eq_false, not_false_eq_true, and_self]
        exact fin
      rw [if_neg c0] at fin
      by_cases c1 : w = 1
      · rw [show ((w : Nat) : Int) = 1 by omega]
        rw [if_pos (by assumption)] at fin
        simp (disch := first | (simp only [dd, dr]; done) | omega) only [W_77, I_lt, I_le, I_inj, inB_I, tc_I, Int.toNat_natCast, fkt, rf1, rf0, cq, Nat.reduceAdd, Nat.reduceEqDiff, Int.reduceToNat, eq_self, true_and, and_true, true_or, or_true, bI_0, bI_1, mm, rAm, mF_sF, mR_sR, false_and, and_false, if_false, if_true, false_or, or_false, not_true_eq_false, not_false_eq_true, and_self]
        refine ca_61 (by omega) (c_kindOf (by omega) (by omega) ?_)
        simp (disch := first | (simp only [dd, dr]; done) | omega) only [W_77, I_lt, I_le, I_inj, inB_I, tc_I, Int.toNat_natCast, fkt, rf1, rf0, cq, Nat.reduceAdd, Nat.reduceEqDiff, Int.reduceToNat, eq_self, true_and, and_true, true_or, or_true, bI_0, bI_1, mm, rAm, mF_sF, mR_sR, false_and, and_false, if_false, if_true, false_or, or_false, not_true_eq_false, not_false_eq_true, and_self]
        exact fin
      rw [if_neg c1] at fin
      by_cases c2 : w = 2
      · rw [show ((w : Nat) : Int) = 2 by omega]
        rw [if_pos (by assumption)] at fin
        simp (disch := first | (simp only [dd, dr]; done) | omega) only [W_77, I_lt, I_le, I_inj, inB_I, tc_I, Int.toNat_natCast, fkt, rf1, rf0, cq, Nat.reduceAdd, Nat.reduceEqDiff, Int.reduceToNat, eq_self, true_and, and_true, true_or, or_true, bI_0, bI_1, mm, rAm, mF_sF, mR_sR, false_and, and_false, if_false, if_true, false_or, or_false, not_true_eq_false, not_false_eq_true, and_self]
        exact fin
      rw [if_neg c2] at fin
      by_cases c3 : w = 3
      · rw [show ((w : Nat) : Int) = 3 by omega]
        rw [if_pos (by assumption)] at fin
        simp (disch := first | (simp only [dd, dr]; done) | omega) only [W_77, h5, h38, hx2, eS, I_lt, I_le, I_inj, inB_I, tc_I, Int.toNat_natCast, fkt, rf1, rf0, cq, Nat.reduceAdd, Nat.reduceEqDiff, Int.reduceToNat, eq_self, true_and, and_true, true_or, or_true, bI_0, bI_1, mm, rAm, mF_sF, mR_sR, false_and, and_false, if_false, if_true, false_or, or_false, not_true_eq_false, not_false_eq_true, and_self]
        exact fin
      rw [if_neg c3] at fin
      simp (disch := first | (simp only [dd, dr]; done) | omega) only [W_77, h5, a4, I_lt, I_le, I_inj, inB_I, tc_I, Int.toNat_natCast, fkt, rf1, rf0, cq, Nat.reduceAdd, Nat.reduceEqDiff, Int.reduceToNat, eq_self, true_and, and_true, true_or, or_true, bI_0, bI_1, mm, rAm, mF_sF, mR_sR, false_and, and_false, if_false, if_true, false_or, or_false, not_true_eq_false, not_false_eq_true, and_self]
      exact fin
    simp (disch := first | (simp only [dd, dr]; done) | omega) only [W_77, I_lt, I_le, I_inj, inB_I, tc_I, Int.toNat_natCast, fkt, rf1, rf0, cq, Nat.reduceAdd, Nat.reduceEqDiff, Int.reduceToNat, eq_self, true_and, and_true, true_or, or_true, bI_0, bI_1, mm, rAm, mF_sF, mR_sR, false_and, and_false, if_false, if_true, false_or, or_false, not_true_eq_false, not_false_eq_true, and_self]
    refine ⟨fun h => ?_, fun h => ?_⟩
    · simp (disch := first | (simp only [dd, dr]; done) | omega) only [W_77, I_lt, I_le, I_inj, inB_I, tc_I, Int.toNat_natCast, fkt, rf1, rf0, cq, Nat.reduceAdd, Nat.reduceEqDiff, Int.reduceToNat, eq_self, true_and, and_true, true_or, or_true, bI_0, bI_1, mm, rAm, mF_sF, mR_sR, false_and, and_false, if_false, if_true, false_or, or_false, not_true_eq_false, not_false_eq_true, and_self]
      exact go2 false (by simp; omega)
    · simp (disch := first | (simp only [dd, dr]; done) | omega) only [W_77, I_lt, I_le, I_inj, inB_I, tc_I, Int.toNat_natCast, fkt, rf1, rf0, cq, Nat.reduceAdd, Nat.reduceEqDiff, Int.reduceToNat, eq_self, true_and, and_true, true_or, or_true, bI_0, bI_1, mm, rAm, mF_sF, mR_sR, false_and, and_false, if_false, if_true, false_or, or_false, not_true_eq_false, not_false_eq_true, and_self]
      refine ⟨fun h => ?_, fun h => ?_⟩
      · simp (disch := first | (simp only [dd, dr]; done) | omega) only [W_77, I_lt, I_le, I_inj, inB_I, tc_I, Int.toNat_natCast, fkt, rf1, rf0, cq, Nat.reduceAdd, Nat.reduceEqDiff, Int.reduceToNat, eq_self, true_and, and_true, true_or, or_true, bI_0, bI_1, mm, rAm, mF_sF, mR_sR, false_and, and_false, if_false, if_true, false_or, or_false, not_true_eq_false, not_false_eq_true, and_self]
        exact go2 false (by simp; omega)
      · simp (disch := first | (simp only [dd, dr]; done) | omega) only [W_77, I_lt, I_le, I_inj, inB_I, tc_I, Int.toNat_natCast, fkt, rf1, rf0, cq, Nat.reduceAdd, Nat.reduceEqDiff, Int.reduceToNat, eq_self, true_and, and_true, true_or, or_true, bI_0, bI_1, mm, rAm, mF_sF, mR_sR, false_and, and_false, if_false, if_true, false_or, or_false, not_true_eq_false, not_false_eq_true, and_self]
        exact go2 true (by simp; omega)
end Cnd
