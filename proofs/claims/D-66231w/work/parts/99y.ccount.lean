/-! ===== THE COMPONENT: count ===== -/
section Cct
variable {d p m J : Nat} {M M' : Mem} {A A' : Ad} {T T' : Tr} {X X' : Ob} {Q : Outcome → Mem → Prop} {ok : Bool} {dt : Nat → Nat → Nat}
theorem r_many {r ta n : Nat} {u : Nat → Bool} (h : RmIs M r ta n u) (hQ : Q (.returned (some (.int (I (cn u n : Nat))))) M) : Wp d 93 0 [some (.ref r), none, none] [] M Q := by
  obtain ⟨r0, r1, r2, r3, r4, r5⟩ := h
  simp (disch := first | (simp only [dd, dr]; done) | omega) only [W_93, I_lt, I_le, I_inj, inB_I, tc_I, Int.toNat_natCast, fkt, rf1, rf0, cq, Nat.reduceAdd, Nat.reduceEqDiff, Int.reduceToNat, eq_self, true_and, and_true, true_or, or_true, bI_0, bI_1, mm, rAm, mF_sF, mR_sR, false_and, and_false, if_false, if_true, false_or, or_false, not_true_eq_false, not_false_eq_true, and_self]
  suffices H : ∀ n' k, k + n' = n → Wp d 93 4 [some (.ref r), some (.int (I (cn u k : Nat))), some (.int (I (k : Nat)))] [] M Q from H n 0 (by omega)
  intro n'
  induction n' with
  | zero =>
    intro k hk
    obtain rfl : k = n := by omega
    simp (disch := first | (simp only [dd, dr]; done) | omega) only [w_93_4, W_93, r0, r1, I_lt, I_le, I_inj, inB_I, tc_I, Int.toNat_natCast, fkt, rf1, rf0, cq, Nat.reduceAdd, Nat.reduceEqDiff, Int.reduceToNat, eq_self, true_and, and_true, true_or, or_true, bI_0, bI_1, mm, rAm, mF_sF, mR_sR, false_and, and_false, if_false, if_true, false_or, or_false, not_true_eq_false, not_false_eq_true, and_self]
    refine ⟨fun _ => ?_, (fun h => by first | exact False.elim h | exact absurd trivial h | (exfalso; omega) | exact absurd rfl h | cases h)⟩
    simp (disch := first | (simp only [dd, dr]; done) | omega) only [W_93, I_lt, I_le, I_inj, inB_I, tc_I, Int.toNat_natCast, fkt, rf1, rf0, cq, Nat.reduceAdd, Nat.reduceEqDiff, Int.reduceToNat, eq_self, true_and, and_true, true_or, or_true, bI_0, bI_1, mm, rAm, mF_sF, mR_sR, false_and, and_false, if_false, if_true, false_or, or_false, not_true_eq_false, not_false_eq_true, and_self]
    exact hQ
  | succ n' ih =>
    intro k hk
    have hu := r5 k (by omega)
    have next := ih (k + 1) (by omega)
    rw [cn] at next
    simp (disch := first | (simp only [dd, dr]; done) | omega) only [w_93_4, W_93, r0, r1, I_lt, I_le, I_inj, inB_I, tc_I, Int.toNat_natCast, fkt, rf1, rf0, cq, Nat.reduceAdd, Nat.reduceEqDiff, Int.reduceToNat, eq_self, true_and, and_true, true_or, or_true, bI_0, bI_1, mm, rAm, mF_sF, mR_sR, false_and, and_false, if_false, if_true, false_or, or_false, not_true_eq_false, not_false_eq_true, and_self]
    refine ⟨(fun h => by first | exact False.elim h | exact absurd trivial h | (exfalso; omega) | exact absurd rfl h | cases h), fun _ => ?_⟩
    simp (disch := first | (simp only [dd, dr]; done) | omega) only [W_93, r0, r2, r3, hu, I_lt, I_le, I_inj, inB_I, tc_I, Int.toNat_natCast, fkt, rf1, rf0, cq, Nat.reduceAdd, Nat.reduceEqDiff, Int.reduceToNat, eq_self, true_and, and_true, true_or, or_true, bI_0, bI_1, mm, rAm, mF_sF, mR_sR, false_and, and_false, if_false, if_true, false_or, or_false, not_true_eq_false, not_false_eq_true, and_self]
    refine ⟨fun h => ?_, fun h => ?_⟩
    · simp (disch := first | (simp only [dd, dr]; done) | omega) only [W_93, I_lt, I_le, I_inj, inB_I, tc_I, Int.toNat_natCast, fkt, rf1, rf0, cq, Nat.reduceAdd, Nat.reduceEqDiff, Int.reduceToNat, eq_self, true_and, and_true, true_or, or_true, bI_0, bI_1, mm, rAm, mF_sF, mR_sR, false_and, and_false, if_false, if_true, false_or, or_false, not_true_eq_false, not_false_eq_true, and_self]
      rw [h] at next
      rw [show ((k : Int) + 1) = ((k + 1 : Nat) : Int) by omega, show ((cn u k : Int) + 0) = ((cn u k + 0 : Nat) : Int) by omega]
      exact next
    · have h : u k = true := by simpa using h
      simp (disch := first | (simp only [dd, dr]; done) | omega) only [W_93, I_lt, I_le, I_inj, inB_I, tc_I, Int.toNat_natCast, fkt, rf1, rf0, cq, Nat.reduceAdd, Nat.reduceEqDiff, Int.reduceToNat, eq_self, true_and, and_true, true_or, or_true, bI_0, bI_1, mm, rAm, mF_sF, mR_sR, false_and, and_false, if_false, if_true, false_or, or_false, not_true_eq_false, not_false_eq_true, and_self]
      rw [h] at next
      rw [show ((k : Int) + 1) = ((k + 1 : Nat) : Int) by omega, show ((cn u k : Int) + 1) = ((cn u k + 1 : Nat) : Int) by omega]
      exact next
/-- bytes in use in leaves; items of a kind -/
def usS (X : Ob) (T : Tr) : List Nat → Nat
  | [] => 0
  | x :: l => us (pyO X) (tI T x) + usS X T l
def stN (l : List Nat) : Nat := l.countP (fun k => decide (k / 1024 % 4 = 0))
theorem stN_app (l l' : List Nat) : stN (l ++ l') = stN l + stN l' := List.countP_append
theorem stN_cons (k : Nat) (l : List Nat) : stN (k :: l) = stN l + (if k / 1024 % 4 = 0 then 1 else 0) := by
  unfold stN
  rw [List.countP_cons]
  simp only [decide_eq_true_eq]
def cnC (off : Bool) (w : Int) : Nat := if off = true then 1 else if 0 ≤ w ∧ w ≤ 9 then 0 else 3
/-- what count tells: changed blocks, the journal's use, writes, commits are given -/
def cnV (m : Nat) (T : Tr) (X : Ob) (ch : Nat) (fu wr cm : Int) (w : Nat) : Int := if w = 0 then (cn (tU T) m : Nat) else if w = 1 then ((tW T 0).length : Nat) else if w = 2 then (tN T : Nat) else if w = 3 then (stN (its T) : Nat) else if w = 4 then ((its T).length : Nat) else if w = 5 then (usS X T (tW T 0) : Nat) else if w = 6 then (ch : Nat) else if w = 7 then fu else if w = 8 then wr else cm
set_option maxHeartbeats 4000000 in
theorem c_count (hd : 60 ≤ d) (C : CX M p m J A T X) (D : DR M p T dt) {off : Bool} (hoff : mF M 25 (p + 205) = I (bI off)) {w : Int} (w0 : -2147483648 ≤ w) (w1 : w < 2147483648) {L : Nat → Nat → Nat} {uc : Nat → Bool} {rt : Nat} (hla : ∀ b, b < m → Rw M (p + 304 + b) (L b)) (hL0 : ∀ i, L 0 i = frw m uc rt i) {fu wr cm : Int} (hfu : mF M 20 (p + 205) = I fu) (hwr : mF M 29 (p + 205) = I wr) (hcm : mF M 19 (p + 205) = I cm)
    (hX : Thr p m J A T X dt M Q (fun k => cnC off w ≠ 0 ∧ k = 10 + cnC off w))
    (hR : cnC off w = 0 → ∀ M', CX M' p m J A T X → DR M' p T dt → CF p A A 0 M M' → Q (.returned (some (.int (I (cnV m T X (cn (chb (tU T) uc (img m T (pyO X) dt) L) m) fu wr cm w.toNat))))) M') :
    Wp d 86 0 [some (.ref p), some (.int (I w)), none, none, none, none, none, none] [] M Q := by
  have k0 := C.1.1.1
  have k9 := C.1.1.2.2.2.2.2.2.2.2.1
  have k6 := C.1.1.2.2.2.2.2.2.2.1
  have k2 := C.1.1.2.2.2.2.2.2.2.2.2.1
  have kd := C.1.2.2.2.2.1.1
  have kt := C.2.1.1.1.1
  have kr := C.2.1.2.1.1
  have R := C.2.1
  have W := C.2.2.1.1
  unfold cnC at hX hR
  simp (disch := first | (simp only [dd, dr]; done) | omega) only [W_86, k0, I_lt, I_le, I_inj, inB_I, tc_I, Int.toNat_natCast, fkt, rf1, rf0, cq, Nat.reduceAdd, Nat.reduceEqDiff, Int.reduceToNat, eq_self, true_and, and_true, true_or, or_true, bI_0, bI_1, mm, rAm, mF_sF, mR_sR, false_and, and_false, if_false, if_true, false_or, or_false, not_true_eq_false, not_false_eq_true, and_self]
  refine ca_30 (by omega) (c_on C.1 hoff (fun h1 => ?_) (fun h1 => ?_))
  rotate_left
  · simp (disch := first | (simp only [dd, dr]; done) | omega) only [W_86, I_lt, I_le, I_inj, inB_I, tc_I, Int.toNat_natCast, fkt, rf1, rf0, cq, Nat.reduceAdd, Nat.reduceEqDiff, Int.reduceToNat, eq_self, true_and, and_true, true_or, or_true, bI_0, bI_1, mm, rAm, mF_sF, mR_sR, false_and, and_false, if_false, if_true, false_or, or_false, not_true_eq_false, not_false_eq_true, and_self]
    rw [Th_out (nw_kO M 11 6) (by decide) (by decide +kernel)]
    rw [if_pos h1] at hX
    exact hX.sc D C (Sc.refl _ _) ⟨by omega, rfl⟩
  have h1' : ¬ off = true := by rw [h1]; simp
  rw [if_neg h1'] at hX hR
  have go2 : ∀ (b : Bool), (b = true ↔ 0 ≤ w ∧ w ≤ 9) → Ca d 86 19 [some (.ref p), some (.int (I w)), none, none, none, none, none, none] 39 [.int (I (bI b))] [] M Q := by
    intro b hb
    refine ca_39 (by omega) (c_proper (fun h6 => ?_) (fun h6 => ?_))
    rotate_left
    · simp (disch := first | (simp only [dd, dr]; done) | omega) only [W_86, I_lt, I_le, I_inj, inB_I, tc_I, Int.toNat_natCast, fkt, rf1, rf0, cq, Nat.reduceAdd, Nat.reduceEqDiff, Int.reduceToNat, eq_self, true_and, and_true, true_or, or_true, bI_0, bI_1, mm, rAm, mF_sF, mR_sR, false_and, and_false, if_false, if_true, false_or, or_false, not_true_eq_false, not_false_eq_true, and_self]
      rw [Th_out (nw_kO M 13 6) (by decide) (by decide +kernel)]
      rw [if_neg (fun h => by rw [hb.mpr h] at h6; cases h6)] at hX
      exact hX.sc D C (Sc.refl _ _) ⟨by omega, rfl⟩
    have h6 := hb.mp h6
    rw [if_pos h6] at hR
    obtain ⟨w, rfl⟩ : ∃ w' : Nat, w = w' := ⟨w.toNat, by omega⟩
    have hR := hR rfl
    simp only [Int.toNat_natCast] at hR
    unfold cnV at hR
    simp (disch := first | (simp only [dd, dr]; done) | omega) only [W_86, k0, k9, kt, I_lt, I_le, I_inj, inB_I, tc_I, Int.toNat_natCast, fkt, rf1, rf0, cq, Nat.reduceAdd, Nat.reduceEqDiff, Int.reduceToNat, eq_self, true_and, and_true, true_or, or_true, bI_0, bI_1, mm, rAm, mF_sF, mR_sR, false_and, and_false, if_false, if_true, false_or, or_false, not_true_eq_false, not_false_eq_true, and_self]
    refine ca_110 (by omega) (n_firstLeaf (by omega) R W (fun a q l hl hq => ?_))
    simp (disch := first | (simp only [dd, dr]; done) | omega) only [W_86, I_lt, I_le, I_inj, inB_I, tc_I, Int.toNat_natCast, fkt, rf1, rf0, cq, Nat.reduceAdd, Nat.reduceEqDiff, Int.reduceToNat, eq_self, true_and, and_true, true_or, or_true, bI_0, bI_1, mm, rAm, mF_sF, mR_sR, false_and, and_false, if_false, if_true, false_or, or_false, not_true_eq_false, not_false_eq_true, and_self]
    -- the end, once all leaves were seen
    have last : ∀ (l6 l7 : Option Value), Wp d 86 124 [some (.ref p), some (.int (I (w : Nat))), some (.int (I ((tW T 0).length : Nat))), some (.int (I ((its T).length : Nat))), some (.int (I (usS X T (tW T 0) : Nat))), some (.int (I (stN (its T) : Nat))), l6, l7] [.int (I (w : Nat))] M Q := by
      intro l6 l7
      have fin := hR M C D (CF.refl p A M)
      by_cases c0 : w = 0
      · rw [show ((w : Nat) : Int) = 0 by omega]
        rw [if_pos (by assumption)] at fin
        simp (disch := first | (simp only [dd, dr]; done) | omega) only [W_86, k0, k6, kr, I_lt, I_le, I_inj, inB_I, tc_I, Int.toNat_natCast, fkt, rf1, rf0, cq, Nat.reduceAdd, Nat.reduceEqDiff, Int.reduceToNat, eq_self, true_and, and_true, true_or, or_true, bI_0, bI_1, mm, rAm, mF_sF, mR_sR, false_and, and_false, if_false, if_true, false_or, or_false, not_true_eq_false, not_false_eq_true, and_self]
        refine ca_93 (by omega) (r_many R.2.1 ?_)
        simp (disch := first | (simp only [dd, dr]; done) | omega) only [W_86, I_lt, I_le, I_inj, inB_I, tc_I, Int.toNat_natCast, fkt, rf1, rf0, cq, Nat.reduceAdd, Nat.reduceEqDiff, Int.reduceToNat, eq_self, true_and, and_true, true_or, or_true, bI_0, bI_1, mm, rAm, mF_sF, mR_sR, false_and, and_false, if_false, if_true, false_or, or_false, not_true_eq_false, not_false_eq_true, and_self]
        exact fin
      rw [if_neg c0] at fin
      by_cases c1 : w = 1
      · rw [show ((w : Nat) : Int) = 1 by omega]
        rw [if_pos (by assumption)] at fin
        simp (disch := first | (simp only [dd, dr]; done) | omega) only [W_86, I_lt, I_le, I_inj, inB_I, tc_I, Int.toNat_natCast, fkt, rf1, rf0, cq, Nat.reduceAdd, Nat.reduceEqDiff, Int.reduceToNat, eq_self, true_and, and_true, true_or, or_true, bI_0, bI_1, mm, rAm, mF_sF, mR_sR, false_and, and_false, if_false, if_true, false_or, or_false, not_true_eq_false, not_false_eq_true, and_self]
        exact fin
      rw [if_neg c1] at fin
      by_cases c2 : w = 2
      · rw [show ((w : Nat) : Int) = 2 by omega]
        rw [if_pos (by assumption)] at fin
        have hr := W.1.2.2.2.2.2.2.2.1
        have hroot : tR T ∈ tW T (tN T - 1) := by rw [hr.1]; exact List.mem_cons_self ..
        obtain ⟨qr, hqr⟩ := R.row W.1.sw hroot
        have e18 : mR M 18 (p + 201) = some qr := R.2.2.2.2.2.2.trans hqr
        have hN1 := hr.2.2.1
        simp (disch := first | (simp only [dd, dr]; done) | omega) only [W_86, k0, k9, kt, e18, I_lt, I_le, I_inj, inB_I, tc_I, Int.toNat_natCast, fkt, rf1, rf0, cq, Nat.reduceAdd, Nat.reduceEqDiff, Int.reduceToNat, eq_self, true_and, and_true, true_or, or_true, bI_0, bI_1, mm, rAm, mF_sF, mR_sR, false_and, and_false, if_false, if_true, false_or, or_false, not_true_eq_false, not_false_eq_true, and_self]
        refine n_height R (by omega) (W.1.1 _ _ hroot).2.1 hqr ?_
        simp (disch := first | (simp only [dd, dr]; done) | omega) only [W_86, I_lt, I_le, I_inj, inB_I, tc_I, Int.toNat_natCast, fkt, rf1, rf0, cq, Nat.reduceAdd, Nat.reduceEqDiff, Int.reduceToNat, eq_self, true_and, and_true, true_or, or_true, bI_0, bI_1, mm, rAm, mF_sF, mR_sR, false_and, and_false, if_false, if_true, false_or, or_false, not_true_eq_false, not_false_eq_true, and_self]
        rw [show (((tN T - 1 : Nat) : Int) + 1) = (tN T : Nat) by omega]
        exact fin
      rw [if_neg c2] at fin
      by_cases c3 : w = 3
      · rw [show ((w : Nat) : Int) = 3 by omega]
        rw [if_pos (by assumption)] at fin
        simp (disch := first | (simp only [dd, dr]; done) | omega) only [W_86, I_lt, I_le, I_inj, inB_I, tc_I, Int.toNat_natCast, fkt, rf1, rf0, cq, Nat.reduceAdd, Nat.reduceEqDiff, Int.reduceToNat, eq_self, true_and, and_true, true_or, or_true, bI_0, bI_1, mm, rAm, mF_sF, mR_sR, false_and, and_false, if_false, if_true, false_or, or_false, not_true_eq_false, not_false_eq_true, and_self]
        exact fin
      rw [if_neg c3] at fin
      by_cases c4 : w = 4
      · rw [show ((w : Nat) : Int) = 4 by omega]
        rw [if_pos (by assumption)] at fin
        simp (disch := first | (simp only [dd, dr]; done) | omega) only [W_86, I_lt, I_le, I_inj, inB_I, tc_I, Int.toNat_natCast, fkt, rf1, rf0, cq, Nat.reduceAdd, Nat.reduceEqDiff, Int.reduceToNat, eq_self, true_and, and_true, true_or, or_true, bI_0, bI_1, mm, rAm, mF_sF, mR_sR, false_and, and_false, if_false, if_true, false_or, or_false, not_true_eq_false, not_false_eq_true, and_self]
        exact fin
      rw [if_neg c4] at fin
      by_cases c5 : w = 5
      · rw [show ((w : Nat) : Int) = 5 by omega]
        rw [if_pos (by assumption)] at fin
        simp (disch := first | (simp only [dd, dr]; done) | omega) only [W_86, I_lt, I_le, I_inj, inB_I, tc_I, Int.toNat_natCast, fkt, rf1, rf0, cq, Nat.reduceAdd, Nat.reduceEqDiff, Int.reduceToNat, eq_self, true_and, and_true, true_or, or_true, bI_0, bI_1, mm, rAm, mF_sF, mR_sR, false_and, and_false, if_false, if_true, false_or, or_false, not_true_eq_false, not_false_eq_true, and_self]
        exact fin
      rw [if_neg c5] at fin
      by_cases c6 : w = 6
      · rw [show ((w : Nat) : Int) = 6 by omega]
        simp (disch := first | (simp only [dd, dr]; done) | omega) only [W_86, k0, I_lt, I_le, I_inj, inB_I, tc_I, Int.toNat_natCast, fkt, rf1, rf0, cq, Nat.reduceAdd, Nat.reduceEqDiff, Int.reduceToNat, eq_self, true_and, and_true, true_or, or_true, bI_0, bI_1, mm, rAm, mF_sF, mR_sR, false_and, and_false, if_false, if_true, false_or, or_false, not_true_eq_false, not_false_eq_true, and_self]
        refine ca_79 (by omega) (n_lookOver (by omega) C.1 R C.2.2.1 D hla hL0 (fun M1 gg F1 hA hB hG => ?_))
        simp (disch := first | (simp only [dd, dr]; done) | omega) only [W_86, I_lt, I_le, I_inj, inB_I, tc_I, Int.toNat_natCast, fkt, rf1, rf0, cq, Nat.reduceAdd, Nat.reduceEqDiff, Int.reduceToNat, eq_self, true_and, and_true, true_or, or_true, bI_0, bI_1, mm, rAm, mF_sF, mR_sR, false_and, and_false, if_false, if_true, false_or, or_false, not_true_eq_false, not_false_eq_true, and_self]
        have F2 := Sc.rA p M1 (w := p + 195) ⟨by omega, by omega⟩ gg
        have C1 := C.ro F1
        have D1 : DR M1 p T dt := by
          intro b b1 b2 b3
          have := hA b b1
          unfold img at this
          rw [if_neg b3, if_neg (by omega)] at this
          exact this
        have f2 := hR _ (C1.sc F2) (D1.sc C1.us F2) ((F1.cf A (fun z i hz => hB z i (fun b hb => (hz b hb).1))).trans (F2.cf A))
        rw [if_neg (by omega), if_neg (by omega), if_neg (by omega), if_neg (by omega), if_neg (by omega), if_neg (by omega), if_pos c6] at f2
        exact f2
      rw [if_neg c6] at fin
      by_cases c7 : w = 7
      · rw [show ((w : Nat) : Int) = 7 by omega]
        rw [if_pos (by assumption)] at fin
        simp (disch := first | (simp only [dd, dr]; done) | omega) only [W_86, k0, k2, kd, hfu, I_lt, I_le, I_inj, inB_I, tc_I, Int.toNat_natCast, fkt, rf1, rf0, cq, Nat.reduceAdd, Nat.reduceEqDiff, Int.reduceToNat, eq_self, true_and, and_true, true_or, or_true, bI_0, bI_1, mm, rAm, mF_sF, mR_sR, false_and, and_false, if_false, if_true, false_or, or_false, not_true_eq_false, not_false_eq_true, and_self]
        exact fin
      rw [if_neg c7] at fin
      by_cases c8 : w = 8
      · rw [show ((w : Nat) : Int) = 8 by omega]
        rw [if_pos (by assumption)] at fin
        simp (disch := first | (simp only [dd, dr]; done) | omega) only [W_86, k0, k2, kd, hwr, I_lt, I_le, I_inj, inB_I, tc_I, Int.toNat_natCast, fkt, rf1, rf0, cq, Nat.reduceAdd, Nat.reduceEqDiff, Int.reduceToNat, eq_self, true_and, and_true, true_or, or_true, bI_0, bI_1, mm, rAm, mF_sF, mR_sR, false_and, and_false, if_false, if_true, false_or, or_false, not_true_eq_false, not_false_eq_true, and_self]
        exact fin
      rw [if_neg c8] at fin
      simp (disch := first | (simp only [dd, dr]; done) | omega) only [W_86, k0, k2, kd, hcm, I_lt, I_le, I_inj, inB_I, tc_I, Int.toNat_natCast, fkt, rf1, rf0, cq, Nat.reduceAdd, Nat.reduceEqDiff, Int.reduceToNat, eq_self, true_and, and_true, true_or, or_true, bI_0, bI_1, mm, rAm, mF_sF, mR_sR, false_and, and_false, if_false, if_true, false_or, or_false, not_true_eq_false, not_false_eq_true, and_self]
      exact fin
    suffices H : ∀ N (i q x a b c e : Nat) (l7 : Option Value), (tW T 0).length - i ≤ N → (tW T 0)[i]? = some x → A.1 x = some q → a + ((tW T 0).drop i).length = (tW T 0).length → b + (((tW T 0).drop i).flatMap (tI T)).length = (its T).length → c + usS X T ((tW T 0).drop i) = usS X T (tW T 0) → e + stN (((tW T 0).drop i).flatMap (tI T)) = stN (its T) → Wp d 86 41 [some (.ref p), some (.int (I (w : Nat))), some (.int (I (a : Nat))), some (.int (I (b : Nat))), some (.int (I (c : Nat))), some (.int (I (e : Nat))), some (.ref q), l7] [] M Q from H _ 0 q a 0 0 0 0 none (Nat.le_refl _) (by rw [hl]; rfl) hq (by rw [List.drop_zero]; omega) (by rw [List.drop_zero]; unfold its; omega) (by rw [List.drop_zero]; omega) (by rw [List.drop_zero]; unfold its; omega)
    intro N
    induction N with
    | zero =>
      intro i q x a b c e l7 hN hx
      have := (List.getElem?_eq_some_iff.mp hx).1
      omega
    | succ N ih =>
      intro i q x a b c e l7 hN hx hq ha hb hc he
      have hil := (List.getElem?_eq_some_iff.mp hx).1
      obtain ⟨q', a1, hL, a3, a4, a5, a6⟩ := R.lf W hx
      rw [hq] at a1
      obtain rfl := Option.some.inj a1
      have h5 := hL.1.1
      have h36 := hL.1.2.1
      have hx1 := hL.1.2.2.2.2.1
      have e37 := hL.2.1
      have h24 := hL.2.2.2.1
      rw [drop_get hx, List.length_cons] at ha
      rw [drop_get hx, List.flatMap_cons, List.length_append] at hb
      rw [drop_get hx, usS] at hc
      rw [drop_get hx, List.flatMap_cons, stN_app] at he
      simp (disch := first | (simp only [dd, dr]; done) | omega) only [w_86_41, W_86, h5, e37, I_lt, I_le, I_inj, inB_I, tc_I, Int.toNat_natCast, fkt, rf1, rf0, cq, Nat.reduceAdd, Nat.reduceEqDiff, Int.reduceToNat, eq_self, true_and, and_true, true_or, or_true, bI_0, bI_1, mm, rAm, mF_sF, mR_sR, false_and, and_false, if_false, if_true, false_or, or_false, not_true_eq_false, not_false_eq_true, and_self]
      refine ca_129 (by omega) (l_used hL ?_)
      simp (disch := first | (simp only [dd, dr]; done) | omega) only [W_86, I_lt, I_le, I_inj, inB_I, tc_I, Int.toNat_natCast, fkt, rf1, rf0, cq, Nat.reduceAdd, Nat.reduceEqDiff, Int.reduceToNat, eq_self, true_and, and_true, true_or, or_true, bI_0, bI_1, mm, rAm, mF_sF, mR_sR, false_and, and_false, if_false, if_true, false_or, or_false, not_true_eq_false, not_false_eq_true, and_self]
      rw [show ((a : Int) + 1) = ((a + 1 : Nat) : Int) by omega, show (b : Int) + ((tI T x).length : Int) = ((b + (tI T x).length : Nat) : Int) by omega, show (c : Int) + (us (pyO X) (tI T x) : Int) = ((c + us (pyO X) (tI T x) : Nat) : Int) by omega]
      suffices H2 : ∀ n2 (k e : Nat), k + n2 = (tI T x).length → e + stN ((tI T x).drop k) + stN (((tW T 0).drop (i + 1)).flatMap (tI T)) = stN (its T) → Wp d 86 70 [some (.ref p), some (.int (I (w : Nat))), some (.int (I ((a + 1 : Nat) : Int))), some (.int (I ((b + (tI T x).length : Nat) : Int))), some (.int (I ((c + us (pyO X) (tI T x) : Nat) : Int))), some (.int (I (e : Nat))), some (.ref q), some (.int (I (k : Nat)))] [] M Q from H2 (tI T x).length 0 e (by omega) (by rw [List.drop_zero]; omega)
      intro n2
      induction n2 with
      | zero =>
        intro k e hk he2
        rw [List.drop_eq_nil_of_le (by omega)] at he2
        have he2 : e + stN (((tW T 0).drop (i + 1)).flatMap (tI T)) = stN (its T) := he2
        simp (disch := first | (simp only [dd, dr]; done) | omega) only [w_86_70, W_86, h5, e37, I_lt, I_le, I_inj, inB_I, tc_I, Int.toNat_natCast, fkt, rf1, rf0, cq, Nat.reduceAdd, Nat.reduceEqDiff, Int.reduceToNat, eq_self, true_and, and_true, true_or, or_true, bI_0, bI_1, mm, rAm, mF_sF, mR_sR, false_and, and_false, if_false, if_true, false_or, or_false, not_true_eq_false, not_false_eq_true, and_self]
        refine ⟨fun _ => ?_, (fun h => by first | exact False.elim h | exact absurd trivial h | (exfalso; omega) | exact absurd rfl h | cases h)⟩
        cases hy : (tW T 0)[i + 1]? with
        | none =>
          rw [hy, Option.bind_none] at a5
          rw [List.drop_eq_nil_of_le (List.getElem?_eq_none_iff.mp hy)] at he2 ha hb hc
          simp (disch := first | (simp only [dd, dr]; done) | omega) only [W_86, h5, a5, I_lt, I_le, I_inj, inB_I, tc_I, Int.toNat_natCast, fkt, rf1, rf0, cq, Nat.reduceAdd, Nat.reduceEqDiff, Int.reduceToNat, eq_self, true_and, and_true, true_or, or_true, bI_0, bI_1, mm, rAm, mF_sF, mR_sR, false_and, and_false, if_false, if_true, false_or, or_false, not_true_eq_false, not_false_eq_true, and_self]
          have f := last (some .null) (some (.int (I (k : Nat))))
          rw [show (tW T 0).length = a + 1 by simp at ha; omega, show (its T).length = b + (tI T x).length by simp at hb; omega, show usS X T (tW T 0) = c + us (pyO X) (tI T x) by rw [usS] at hc; omega, show stN (its T) = e by rw [← he2]; rfl] at f
          simp (disch := first | (simp only [dd, dr]; done) | omega) only [w_86_41, W_86, I_lt, I_le, I_inj, inB_I, tc_I, Int.toNat_natCast, fkt, rf1, rf0, cq, Nat.reduceAdd, Nat.reduceEqDiff, Int.reduceToNat, eq_self, true_and, and_true, true_or, or_true, bI_0, bI_1, mm, rAm, mF_sF, mR_sR, false_and, and_false, if_false, if_true, false_or, or_false, not_true_eq_false, not_false_eq_true, and_self]
          exact f
        | some y =>
          obtain ⟨qy, hqy⟩ := a6 y hy
          have k5y := (R.1.2.2.1 y qy hqy).2.1.1
          rw [hy, Option.bind_some, hqy] at a5
          simp (disch := first | (simp only [dd, dr]; done) | omega) only [W_86, h5, a5, k5y, I_lt, I_le, I_inj, inB_I, tc_I, Int.toNat_natCast, fkt, rf1, rf0, cq, Nat.reduceAdd, Nat.reduceEqDiff, Int.reduceToNat, eq_self, true_and, and_true, true_or, or_true, bI_0, bI_1, mm, rAm, mF_sF, mR_sR, false_and, and_false, if_false, if_true, false_or, or_false, not_true_eq_false, not_false_eq_true, and_self]
          exact ih (i + 1) qy y _ _ _ _ _ (by omega) hy hqy (by omega) (by omega) (by omega) he2
      | succ n2 ih2 =>
        intro k e hk he2
        have hkx : (tI T x)[k]? = some (tI T x)[k] := List.getElem?_eq_getElem (by omega)
        have hk1 := a3 _ (List.mem_of_getElem? hkx)
        obtain ⟨eK, eS⟩ := hL.2.2.2.2.2.1 k _ hkx
        rw [drop_get hkx, stN_cons] at he2
        generalize (tI T x)[k] = key at *
        simp (disch := first | (simp only [dd, dr]; done) | omega) only [w_86_70, W_86, h5, e37, I_lt, I_le, I_inj, inB_I, tc_I, Int.toNat_natCast, fkt, rf1, rf0, cq, Nat.reduceAdd, Nat.reduceEqDiff, Int.reduceToNat, eq_self, true_and, and_true, true_or, or_true, bI_0, bI_1, mm, rAm, mF_sF, mR_sR, false_and, and_false, if_false, if_true, false_or, or_false, not_true_eq_false, not_false_eq_true, and_self]
        refine ⟨(fun h => by first | exact False.elim h | exact absurd trivial h | (exfalso; omega) | exact absurd rfl h | cases h), fun _ => ?_⟩
        simp (disch := first | (simp only [dd, dr]; done) | omega) only [W_86, h5, h36, hx1, eK, I_lt, I_le, I_inj, inB_I, tc_I, Int.toNat_natCast, fkt, rf1, rf0, cq, Nat.reduceAdd, Nat.reduceEqDiff, Int.reduceToNat, eq_self, true_and, and_true, true_or, or_true, bI_0, bI_1, mm, rAm, mF_sF, mR_sR, false_and, and_false, if_false, if_true, false_or, or_false, not_true_eq_false, not_false_eq_true, and_self]
        refine ca_61 (by omega) (c_kindOf (by omega) (by omega) ?_)
        simp (disch := first | (simp only [dd, dr]; done) | omega) only [W_86, I_lt, I_le, I_inj, inB_I, tc_I, Int.toNat_natCast, fkt, rf1, rf0, cq, Nat.reduceAdd, Nat.reduceEqDiff, Int.reduceToNat, eq_self, true_and, and_true, true_or, or_true, bI_0, bI_1, mm, rAm, mF_sF, mR_sR, false_and, and_false, if_false, if_true, false_or, or_false, not_true_eq_false, not_false_eq_true, and_self]
        refine ⟨fun h => ?_, fun h => ?_⟩
        · rw [if_neg (by omega)] at he2
          simp (disch := first | (simp only [dd, dr]; done) | omega) only [W_86, I_lt, I_le, I_inj, inB_I, tc_I, Int.toNat_natCast, fkt, rf1, rf0, cq, Nat.reduceAdd, Nat.reduceEqDiff, Int.reduceToNat, eq_self, true_and, and_true, true_or, or_true, bI_0, bI_1, mm, rAm, mF_sF, mR_sR, false_and, and_false, if_false, if_true, false_or, or_false, not_true_eq_false, not_false_eq_true, and_self]
          rw [show ((k : Int) + 1) = ((k + 1 : Nat) : Int) by omega, show ((e : Int) + 0) = ((e : Nat) : Int) by omega]
          exact ih2 (k + 1) e (by omega) (by omega)
        · rw [if_pos (by omega)] at he2
          simp (disch := first | (simp only [dd, dr]; done) | omega) only [W_86, I_lt, I_le, I_inj, inB_I, tc_I, Int.toNat_natCast, fkt, rf1, rf0, cq, Nat.reduceAdd, Nat.reduceEqDiff, Int.reduceToNat, eq_self, true_and, and_true, true_or, or_true, bI_0, bI_1, mm, rAm, mF_sF, mR_sR, false_and, and_false, if_false, if_true, false_or, or_false, not_true_eq_false, not_false_eq_true, and_self]
          rw [show ((k : Int) + 1) = ((k + 1 : Nat) : Int) by omega, show ((e : Int) + 1) = ((e + 1 : Nat) : Int) by omega]
          exact ih2 (k + 1) (e + 1) (by omega) (by omega)
  simp (disch := first | (simp only [dd, dr]; done) | omega) only [W_86, I_lt, I_le, I_inj, inB_I, tc_I, Int.toNat_natCast, fkt, rf1, rf0, cq, Nat.reduceAdd, Nat.reduceEqDiff, Int.reduceToNat, eq_self, true_and, and_true, true_or, or_true, bI_0, bI_1, mm, rAm, mF_sF, mR_sR, false_and, and_false, if_false, if_true, false_or, or_false, not_true_eq_false, not_false_eq_true, and_self]
  refine ⟨fun h => ?_, fun h => ?_⟩
  · simp (disch := first | (simp only [dd, dr]; done) | omega) only [W_86, I_lt, I_le, I_inj, inB_I, tc_I, Int.toNat_natCast, fkt, rf1, rf0, cq, Nat.reduceAdd, Nat.reduceEqDiff, Int.reduceToNat, eq_self, true_and, and_true, true_or, or_true, bI_0, bI_1, mm, rAm, mF_sF, mR_sR, false_and, and_false, if_false, if_true, false_or, or_false, not_true_eq_false, not_false_eq_true, and_self]
    exact go2 false (by simp; omega)
  · simp (disch := first | (simp only [dd, dr]; done) | omega) only [W_86, I_lt, I_le, I_inj, inB_I, tc_I, Int.toNat_natCast, fkt, rf1, rf0, cq, Nat.reduceAdd, Nat.reduceEqDiff, Int.reduceToNat, eq_self, true_and, and_true, true_or, or_true, bI_0, bI_1, mm, rAm, mF_sF, mR_sR, false_and, and_false, if_false, if_true, false_or, or_false, not_true_eq_false, not_false_eq_true, and_self]
    refine ⟨fun h => ?_, fun h => ?_⟩
    · simp (disch := first | (simp only [dd, dr]; done) | omega) only [W_86, I_lt, I_le, I_inj, inB_I, tc_I, Int.toNat_natCast, fkt, rf1, rf0, cq, Nat.reduceAdd, Nat.reduceEqDiff, Int.reduceToNat, eq_self, true_and, and_true, true_or, or_true, bI_0, bI_1, mm, rAm, mF_sF, mR_sR, false_and, and_false, if_false, if_true, false_or, or_false, not_true_eq_false, not_false_eq_true, and_self]
      exact go2 false (by simp; omega)
    · simp (disch := first | (simp only [dd, dr]; done) | omega) only [W_86, I_lt, I_le, I_inj, inB_I, tc_I, Int.toNat_natCast, fkt, rf1, rf0, cq, Nat.reduceAdd, Nat.reduceEqDiff, Int.reduceToNat, eq_self, true_and, and_true, true_or, or_true, bI_0, bI_1, mm, rAm, mF_sF, mR_sR, false_and, and_false, if_false, if_true, false_or, or_false, not_true_eq_false, not_false_eq_true, and_self]
      exact go2 true (by simp; omega)
end Cct
