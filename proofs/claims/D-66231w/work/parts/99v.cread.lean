/-! ===== THE COMPONENT: cut, read ===== -/
section Crd
variable {d p m J : Nat} {M M' : Mem} {A A' : Ad} {T T' : Tr} {X X' : Ob} {Q : Outcome → Mem → Prop} {ok : Bool} {dt : Nat → Nat → Nat}
/-- cut: the code of the exception -/
def cuC (m : Nat) (off : Bool) (T : Tr) (X : Ob) (z n : Int) : Nat := if off = true then 1 else if isk T X z 1 = true then (if 0 ≤ n ∧ n ≤ oS X z.toNat then (if rfA m X T z.toNat n.toNat = none then 4 else 0) else 3) else 2
set_option maxHeartbeats 1000000 in
theorem c_cut (hd : 70 ≤ d) (C : CX M p m J A T X) (D : DR M p T dt) (O : OK2 T X) (hO : ∀ o, o ≤ 60 → ky o 0 0 ∈ its T → oK X o = 2 → FO T X o) {off : Bool} (hoff : mF M 25 (p + 205) = I (bI off)) {z n : Int} (z0 : -2147483648 ≤ z) (z1 : z < 2147483648) (n0 : -2147483648 ≤ n) (n1 : n < 2147483648)
    (hX : Thr p m J A T X dt M Q (fun k => cuC m off T X z n ≠ 0 ∧ k = 10 + cuC m off T X z n))
    (hR : cuC m off T X z n = 0 → RfR p m J A T X dt M z.toNat n.toNat (fc X dt z.toNat) (fun M' => Q (.returned (some (.int (I (dtO n.toNat : Nat))))) M')) :
    Wp d 71 0 [some (.ref p), some (.int (I z)), some (.int (I n))] [] M Q := by
  have k0 := C.1.1.1
  unfold cuC at hX hR
  simp (disch := first | (simp only [dd, dr]; done) | omega) only [W_71, k0, I_lt, I_le, I_inj, inB_I, tc_I, Int.toNat_natCast, fkt, rf1, rf0, cq, Nat.reduceAdd, Nat.reduceEqDiff, Int.reduceToNat, eq_self, true_and, and_true, true_or, or_true, bI_0, bI_1, mm, rAm, mF_sF, mR_sR, false_and, and_false, if_false, if_true, false_or, or_false, not_true_eq_false, not_false_eq_true, and_self]
  refine ca_30 (by omega) (c_on C.1 hoff (fun h1 => ?_) (fun h1 => ?_))
  rotate_left
  · simp (disch := first | (simp only [dd, dr]; done) | omega) only [W_71, I_lt, I_le, I_inj, inB_I, tc_I, Int.toNat_natCast, fkt, rf1, rf0, cq, Nat.reduceAdd, Nat.reduceEqDiff, Int.reduceToNat, eq_self, true_and, and_true, true_or, or_true, bI_0, bI_1, mm, rAm, mF_sF, mR_sR, false_and, and_false, if_false, if_true, false_or, or_false, not_true_eq_false, not_false_eq_true, and_self]
    rw [Th_out (nw_kO M 11 6) (by decide) (by decide +kernel)]
    rw [if_pos h1] at hX
    exact hX.sc D C (Sc.refl _ _) ⟨by omega, rfl⟩
  have h1' : ¬ off = true := by rw [h1]; simp
  rw [if_neg h1'] at hX hR
  simp (disch := first | (simp only [dd, dr]; done) | omega) only [W_71, k0, I_lt, I_le, I_inj, inB_I, tc_I, Int.toNat_natCast, fkt, rf1, rf0, cq, Nat.reduceAdd, Nat.reduceEqDiff, Int.reduceToNat, eq_self, true_and, and_true, true_or, or_true, bI_0, bI_1, mm, rAm, mF_sF, mR_sR, false_and, and_false, if_false, if_true, false_or, or_false, not_true_eq_false, not_false_eq_true, and_self]
  refine ca_52 (by omega) (n_isFile (by omega) C O.1 z0 z1 (fun M1 T1 C1 => ?_))
  have k01 := C1.1.1.1
  simp (disch := first | (simp only [dd, dr]; done) | omega) only [W_71, I_lt, I_le, I_inj, inB_I, tc_I, Int.toNat_natCast, fkt, rf1, rf0, cq, Nat.reduceAdd, Nat.reduceEqDiff, Int.reduceToNat, eq_self, true_and, and_true, true_or, or_true, bI_0, bI_1, mm, rAm, mF_sF, mR_sR, false_and, and_false, if_false, if_true, false_or, or_false, not_true_eq_false, not_false_eq_true, and_self]
  refine ca_37 (by omega) (c_there (fun h2 => ?_) (fun h2 => ?_))
  rotate_left
  · simp (disch := first | (simp only [dd, dr]; done) | omega) only [W_71, I_lt, I_le, I_inj, inB_I, tc_I, Int.toNat_natCast, fkt, rf1, rf0, cq, Nat.reduceAdd, Nat.reduceEqDiff, Int.reduceToNat, eq_self, true_and, and_true, true_or, or_true, bI_0, bI_1, mm, rAm, mF_sF, mR_sR, false_and, and_false, if_false, if_true, false_or, or_false, not_true_eq_false, not_false_eq_true, and_self]
    rw [Th_out (nw_kO M1 12 6) (by decide) (by decide +kernel)]
    rw [if_neg (by rw [h2]; simp)] at hX
    exact hX.sc D C1 T1.sc ⟨by omega, rfl⟩
  rw [if_pos h2] at hX hR
  obtain ⟨o, rfl, o1, o2, o3, o4⟩ := isk_of h2
  simp only [Int.toNat_natCast] at *
  have hS := (O.1 o o2 o3).2.2.2
  have hf := hO o o2 o3 o4
  obtain ⟨hl1, hl2⟩ := hf.len
  have hs2 := hf.1
  have go : ∀ (b : Bool) (M2 : Mem), CX M2 p m J A T X → Sc p M M2 → (b = true ↔ (0 ≤ n ∧ n ≤ oS X o)) → Ca d 71 30 [some (.ref p), some (.int (I (o : Nat))), some (.int (I n))] 39 [.int (I (bI b))] [] M2 Q := by
    intro b M2 C2 F2 hb
    have k02 := C2.1.1.1
    refine ca_39 (by omega) (c_proper (fun h3 => ?_) (fun h3 => ?_))
    rotate_left
    · simp (disch := first | (simp only [dd, dr]; done) | omega) only [W_71, I_lt, I_le, I_inj, inB_I, tc_I, Int.toNat_natCast, fkt, rf1, rf0, cq, Nat.reduceAdd, Nat.reduceEqDiff, Int.reduceToNat, eq_self, true_and, and_true, true_or, or_true, bI_0, bI_1, mm, rAm, mF_sF, mR_sR, false_and, and_false, if_false, if_true, false_or, or_false, not_true_eq_false, not_false_eq_true, and_self]
      rw [Th_out (nw_kO M2 13 6) (by decide) (by decide +kernel)]
      rw [if_neg (fun h => by rw [hb.mpr h] at h3; cases h3)] at hX
      exact hX.sc D C2 F2 ⟨by omega, rfl⟩
    have h3 := hb.mp h3
    rw [if_pos h3] at hX hR
    obtain ⟨n, rfl⟩ : ∃ n' : Nat, n = n' := ⟨n.toNat, by omega⟩
    simp only [Int.toNat_natCast] at hX hR
    have D2 := D.sc C.us F2
    simp (disch := first | (simp only [dd, dr]; done) | omega) only [W_71, k02, I_lt, I_le, I_inj, inB_I, tc_I, Int.toNat_natCast, fkt, rf1, rf0, cq, Nat.reduceAdd, Nat.reduceEqDiff, Int.reduceToNat, eq_self, true_and, and_true, true_or, or_true, bI_0, bI_1, mm, rAm, mF_sF, mR_sR, false_and, and_false, if_false, if_true, false_or, or_false, not_true_eq_false, not_false_eq_true, and_self]
    refine ca_65 (by omega) (n_readFile (by omega) C2 D2 o2 hf.2.2.2.1 hf.2.2.2.2.1 hf.2.2.2.2.2.2 hl1 (fun M3 C3 F3 f3 => ?_))
    have k03 := C3.1.1.1
    have hX := hX.cf ((F2.trans F3).cf A)
    have hR := fun h => (hR h).sc ((F2.trans F3).cf A)
    simp (disch := first | (simp only [dd, dr]; done) | omega) only [W_71, k03, I_lt, I_le, I_inj, inB_I, tc_I, Int.toNat_natCast, fkt, rf1, rf0, cq, Nat.reduceAdd, Nat.reduceEqDiff, Int.reduceToNat, eq_self, true_and, and_true, true_or, or_true, bI_0, bI_1, mm, rAm, mF_sF, mR_sR, false_and, and_false, if_false, if_true, false_or, or_false, not_true_eq_false, not_false_eq_true, and_self]
    refine ca_66 (by omega) (n_reformed (Fb := fc X dt o) (by omega) C3 (D2.sc C2.us F3) O.1 o2 o3 hf (by omega) (fun k hk => f3 k (by omega)) (fun hn => ?_) ?_)
    · intro k M' A' a a1 a2 a3 a4 a5
      subst a2
      simp (disch := first | (simp only [dd, dr]; done) | omega) only [W_71, I_lt, I_le, I_inj, inB_I, tc_I, Int.toNat_natCast, fkt, rf1, rf0, cq, Nat.reduceAdd, Nat.reduceEqDiff, Int.reduceToNat, eq_self, true_and, and_true, true_or, or_true, bI_0, bI_1, mm, rAm, mF_sF, mR_sR, false_and, and_false, if_false, if_true, false_or, or_false, not_true_eq_false, not_false_eq_true, and_self]
      rw [Th_out a1 (by decide) (by decide +kernel)]
      rw [if_pos hn] at hX
      exact hX 14 M' A' a a1 ⟨by omega, rfl⟩ a3 a4 a5
    · intro l T1 T2 T3 a1 a2 a3 a4 a5 M' A' a6 a7 a8
      rw [if_neg (by rw [a2]; simp)] at hR
      simp (disch := first | (simp only [dd, dr]; done) | omega) only [W_71, I_lt, I_le, I_inj, inB_I, tc_I, Int.toNat_natCast, fkt, rf1, rf0, cq, Nat.reduceAdd, Nat.reduceEqDiff, Int.reduceToNat, eq_self, true_and, and_true, true_or, or_true, bI_0, bI_1, mm, rAm, mF_sF, mR_sR, false_and, and_false, if_false, if_true, false_or, or_false, not_true_eq_false, not_false_eq_true, and_self]
      refine ca_68 (by omega) (c_blocksOf (by omega) (by omega) ?_)
      simp (disch := first | (simp only [dd, dr]; done) | omega) only [W_71, I_lt, I_le, I_inj, inB_I, tc_I, Int.toNat_natCast, fkt, rf1, rf0, cq, Nat.reduceAdd, Nat.reduceEqDiff, Int.reduceToNat, eq_self, true_and, and_true, true_or, or_true, bI_0, bI_1, mm, rAm, mF_sF, mR_sR, false_and, and_false, if_false, if_true, false_or, or_false, not_true_eq_false, not_false_eq_true, and_self]
      exact hR rfl l T1 T2 T3 a1 a2 a3 a4 a5 M' A' a6 a7 a8
  simp (disch := first | (simp only [dd, dr]; done) | omega) only [W_71, I_lt, I_le, I_inj, inB_I, tc_I, Int.toNat_natCast, fkt, rf1, rf0, cq, Nat.reduceAdd, Nat.reduceEqDiff, Int.reduceToNat, eq_self, true_and, and_true, true_or, or_true, bI_0, bI_1, mm, rAm, mF_sF, mR_sR, false_and, and_false, if_false, if_true, false_or, or_false, not_true_eq_false, not_false_eq_true, and_self]
  refine ⟨fun h => ?_, fun h => ?_⟩
  · simp (disch := first | (simp only [dd, dr]; done) | omega) only [W_71, I_lt, I_le, I_inj, inB_I, tc_I, Int.toNat_natCast, fkt, rf1, rf0, cq, Nat.reduceAdd, Nat.reduceEqDiff, Int.reduceToNat, eq_self, true_and, and_true, true_or, or_true, bI_0, bI_1, mm, rAm, mF_sF, mR_sR, false_and, and_false, if_false, if_true, false_or, or_false, not_true_eq_false, not_false_eq_true, and_self]
    exact go false M1 C1 T1.sc (by simp; omega)
  · simp (disch := first | (simp only [dd, dr]; done) | omega) only [W_71, k01, I_lt, I_le, I_inj, inB_I, tc_I, Int.toNat_natCast, fkt, rf1, rf0, cq, Nat.reduceAdd, Nat.reduceEqDiff, Int.reduceToNat, eq_self, true_and, and_true, true_or, or_true, bI_0, bI_1, mm, rAm, mF_sF, mR_sR, false_and, and_false, if_false, if_true, false_or, or_false, not_true_eq_false, not_false_eq_true, and_self]
    refine ca_47 (by omega) (n_sizeOf (by omega) C1 O.1 o2 o3 (fun M2 T2 C2 => ?_))
    simp (disch := first | (simp only [dd, dr]; done) | omega) only [W_71, I_lt, I_le, I_inj, inB_I, tc_I, Int.toNat_natCast, fkt, rf1, rf0, cq, Nat.reduceAdd, Nat.reduceEqDiff, Int.reduceToNat, eq_self, true_and, and_true, true_or, or_true, bI_0, bI_1, mm, rAm, mF_sF, mR_sR, false_and, and_false, if_false, if_true, false_or, or_false, not_true_eq_false, not_false_eq_true, and_self]
    refine ⟨fun h' => ?_, fun h' => ?_⟩
    · simp (disch := first | (simp only [dd, dr]; done) | omega) only [W_71, I_lt, I_le, I_inj, inB_I, tc_I, Int.toNat_natCast, fkt, rf1, rf0, cq, Nat.reduceAdd, Nat.reduceEqDiff, Int.reduceToNat, eq_self, true_and, and_true, true_or, or_true, bI_0, bI_1, mm, rAm, mF_sF, mR_sR, false_and, and_false, if_false, if_true, false_or, or_false, not_true_eq_false, not_false_eq_true, and_self]
      exact go false M2 C2 (T1.trans T2).sc (by simp; omega)
    · simp (disch := first | (simp only [dd, dr]; done) | omega) only [W_71, I_lt, I_le, I_inj, inB_I, tc_I, Int.toNat_natCast, fkt, rf1, rf0, cq, Nat.reduceAdd, Nat.reduceEqDiff, Int.reduceToNat, eq_self, true_and, and_true, true_or, or_true, bI_0, bI_1, mm, rAm, mF_sF, mR_sR, false_and, and_false, if_false, if_true, false_or, or_false, not_true_eq_false, not_false_eq_true, and_self]
      exact go true M2 C2 (T1.trans T2).sc (by simp; omega)
/-- read: the code of the exception -/
def rdC (off : Bool) (T : Tr) (X : Ob) (z n : Int) : Nat := if off = true then 1 else if isk T X z 1 = true ∧ 0 ≤ n ∧ n < oS X z.toNat then 0 else 2
set_option maxHeartbeats 1000000 in
theorem c_read (hd : 40 ≤ d) (C : CX M p m J A T X) (D : DR M p T dt) (O : OK2 T X) (hO : ∀ o, o ≤ 60 → ky o 0 0 ∈ its T → oK X o = 2 → FO T X o) {off : Bool} (hoff : mF M 25 (p + 205) = I (bI off)) {z n : Int} (z0 : -2147483648 ≤ z) (z1 : z < 2147483648) (n0 : -2147483648 ≤ n) (n1 : n < 2147483648)
    (hX : Thr p m J A T X dt M Q (fun k => rdC off T X z n ≠ 0 ∧ k = 10 + rdC off T X z n))
    (hR : rdC off T X z n = 0 → ∀ M', CX M' p m J A T X → DR M' p T dt → CF p A A 0 M M' → Q (.returned (some (.int (I ((fc X dt z.toNat n.toNat % 256 : Nat) : Int))))) M') :
    Wp d 72 0 [some (.ref p), some (.int (I z)), some (.int (I n)), none, none] [] M Q := by
  have k0 := C.1.1.1
  unfold rdC at hX hR
  simp (disch := first | (simp only [dd, dr]; done) | omega) only [W_72, k0, I_lt, I_le, I_inj, inB_I, tc_I, Int.toNat_natCast, fkt, rf1, rf0, cq, Nat.reduceAdd, Nat.reduceEqDiff, Int.reduceToNat, eq_self, true_and, and_true, true_or, or_true, bI_0, bI_1, mm, rAm, mF_sF, mR_sR, false_and, and_false, if_false, if_true, false_or, or_false, not_true_eq_false, not_false_eq_true, and_self]
  refine ca_30 (by omega) (c_on C.1 hoff (fun h1 => ?_) (fun h1 => ?_))
  rotate_left
  · simp (disch := first | (simp only [dd, dr]; done) | omega) only [W_72, I_lt, I_le, I_inj, inB_I, tc_I, Int.toNat_natCast, fkt, rf1, rf0, cq, Nat.reduceAdd, Nat.reduceEqDiff, Int.reduceToNat, eq_self, true_and, and_true, true_or, or_true, bI_0, bI_1, mm, rAm, mF_sF, mR_sR, false_and, and_false, if_false, if_true, false_or, or_false, not_true_eq_false, not_false_eq_true, and_self]
    rw [Th_out (nw_kO M 11 6) (by decide) (by decide +kernel)]
    rw [if_pos h1] at hX
    exact hX.sc D C (Sc.refl _ _) ⟨by omega, rfl⟩
  have h1' : ¬ off = true := by rw [h1]; simp
  rw [if_neg h1'] at hX hR
  simp (disch := first | (simp only [dd, dr]; done) | omega) only [W_72, k0, I_lt, I_le, I_inj, inB_I, tc_I, Int.toNat_natCast, fkt, rf1, rf0, cq, Nat.reduceAdd, Nat.reduceEqDiff, Int.reduceToNat, eq_self, true_and, and_true, true_or, or_true, bI_0, bI_1, mm, rAm, mF_sF, mR_sR, false_and, and_false, if_false, if_true, false_or, or_false, not_true_eq_false, not_false_eq_true, and_self]
  refine ca_52 (by omega) (n_isFile (by omega) C O.1 z0 z1 (fun M1 T1 C1 => ?_))
  have k01 := C1.1.1.1
  have go : ∀ (b : Bool) (M2 : Mem), CX M2 p m J A T X → Sc p M M2 → (b = true ↔ (isk T X z 1 = true ∧ 0 ≤ n ∧ n < oS X z.toNat)) → Ca d 72 30 [some (.ref p), some (.int (I z)), some (.int (I n)), none, none] 37 [.int (I (bI b))] [] M2 Q := by
    intro b M2 C2 F2 hb
    have k02 := C2.1.1.1
    refine ca_37 (by omega) (c_there (fun h2 => ?_) (fun h2 => ?_))
    rotate_left
    · simp (disch := first | (simp only [dd, dr]; done) | omega) only [W_72, I_lt, I_le, I_inj, inB_I, tc_I, Int.toNat_natCast, fkt, rf1, rf0, cq, Nat.reduceAdd, Nat.reduceEqDiff, Int.reduceToNat, eq_self, true_and, and_true, true_or, or_true, bI_0, bI_1, mm, rAm, mF_sF, mR_sR, false_and, and_false, if_false, if_true, false_or, or_false, not_true_eq_false, not_false_eq_true, and_self]
      rw [Th_out (nw_kO M2 12 6) (by decide) (by decide +kernel)]
      rw [if_neg (fun h => by rw [hb.mpr h] at h2; cases h2)] at hX
      exact hX.sc D C2 F2 ⟨by omega, rfl⟩
    have h2 := hb.mp h2
    rw [if_pos h2] at hR
    obtain ⟨h2a, h2b, h2c⟩ := h2
    obtain ⟨o, rfl, o1, o2, o3, o4⟩ := isk_of h2a
    obtain ⟨n, rfl⟩ : ∃ n' : Nat, n = n' := ⟨n.toNat, by omega⟩
    simp only [Int.toNat_natCast] at hR h2c
    have hf := hO o o2 o3 o4
    obtain ⟨hl1, hl2⟩ := hf.len
    have hs2 := hf.1
    have D2 := D.sc C.us F2
    simp (disch := first | (simp only [dd, dr]; done) | omega) only [W_72, k02, I_lt, I_le, I_inj, inB_I, tc_I, Int.toNat_natCast, fkt, rf1, rf0, cq, Nat.reduceAdd, Nat.reduceEqDiff, Int.reduceToNat, eq_self, true_and, and_true, true_or, or_true, bI_0, bI_1, mm, rAm, mF_sF, mR_sR, false_and, and_false, if_false, if_true, false_or, or_false, not_true_eq_false, not_false_eq_true, and_self]
    refine ca_56 (by omega) (n_readPointers (by omega) C2 o2 hf.2.2.2.1 (fun b h => by have := (hf.2.2.2.2.2.2 b h).2.1; omega) (by rw [hf.2.1]; exact dtO_le hf.1) (fun M3 g T3 C4 hg => ?_))
    have F4 : Sc p M2 (rA M3 (p + 198) g) := T3.sc.trans (Sc.rA p M3 (w := p + 198) ⟨by omega, by omega⟩ g)
    have hg' : ∀ k v, (oD X o)[k]? = some v → mA (rA M3 (p + 198) g) (p + 198) k = I (v : Nat) := fun k v hv => by rw [mA_rA, if_pos rfl]; exact hg k v hv
    generalize rA M3 (p + 198) g = M4 at *
    clear hg T3 M3
    have D4 := D2.sc C2.us F4
    have F04 := F2.trans F4
    simp (disch := first | (simp only [dd, dr]; done) | omega) only [W_72, I_lt, I_le, I_inj, inB_I, tc_I, Int.toNat_natCast, fkt, rf1, rf0, cq, Nat.reduceAdd, Nat.reduceEqDiff, Int.reduceToNat, eq_self, true_and, and_true, true_or, or_true, bI_0, bI_1, mm, rAm, mF_sF, mR_sR, false_and, and_false, if_false, if_true, false_or, or_false, not_true_eq_false, not_false_eq_true, and_self]
    refine ⟨fun h3 => ?_, fun h3 => ?_⟩
    · have k04 := C4.1.1.1
      simp (disch := first | (simp only [dd, dr]; done) | omega) only [W_72, k04, I_lt, I_le, I_inj, inB_I, tc_I, Int.toNat_natCast, fkt, rf1, rf0, cq, Nat.reduceAdd, Nat.reduceEqDiff, Int.reduceToNat, eq_self, true_and, and_true, true_or, or_true, bI_0, bI_1, mm, rAm, mF_sF, mR_sR, false_and, and_false, if_false, if_true, false_or, or_false, not_true_eq_false, not_false_eq_true, and_self]
      refine ca_57 (by omega) (n_bytesOf (k := 3) (by omega) C4 o2 (by omega) (fun M5 q T5 C5 e14 kq e16 hpl hL hin => ?_))
      have k05 := C5.1.1.1
      have k95 := C5.1.1.2.2.2.2.2.2.2.2.1
      have kt5 := C5.2.1.1.1.1
      have hq3 := hL.1.2.2.2.2.2.2
      have hr35 := hL.1.2.2.2.1
      have hx : (oT X o)[n - 128 * (oD X o).length]? = some (oT X o)[n - 128 * (oD X o).length] := List.getElem?_eq_getElem (by omega)
      have hne : oT X o ≠ [] := fun h => by
        have : (oT X o).length = 0 := by rw [h]; rfl
        omega
      have hin' := hin (hf.2.2.2.2.1.mpr hne)
      obtain ⟨b1, b2⟩ := hL.body hin'
      have b3 := b2 _ _ (by rw [pyO_3]; exact hx)
      rw [pyO_3] at b1
      generalize hfr : ((List.take (pl (ky o 3 0) (tI T (lfT T (ky o 3 0)))) (tI T (lfT T (ky o 3 0)))).flatMap (pyO X)).length = fr at *
      simp (disch := first | (simp only [dd, dr]; done) | omega) only [W_72, k05, k95, kt5, e14, kq, e16, hr35, I_lt, I_le, I_inj, inB_I, tc_I, Int.toNat_natCast, fkt, rf1, rf0, cq, Nat.reduceAdd, Nat.reduceEqDiff, Int.reduceToNat, eq_self, true_and, and_true, true_or, or_true, bI_0, bI_1, mm, rAm, mF_sF, mR_sR, false_and, and_false, if_false, if_true, false_or, or_false, not_true_eq_false, not_false_eq_true, and_self]
      refine ca_126 (by omega) (l_from hL hpl ?_)
      rw [hfr]
      simp (disch := first | (simp only [dd, dr]; done) | omega) only [W_72, I_lt, I_le, I_inj, inB_I, tc_I, Int.toNat_natCast, fkt, rf1, rf0, cq, Nat.reduceAdd, Nat.reduceEqDiff, Int.reduceToNat, eq_self, true_and, and_true, true_or, or_true, bI_0, bI_1, mm, rAm, mF_sF, mR_sR, false_and, and_false, if_false, if_true, false_or, or_false, not_true_eq_false, not_false_eq_true, and_self]
      rw [show (fr : Int) + (n : Int) - ((oD X o).length : Int) * 128 = ((fr + (n - 128 * (oD X o).length) : Nat) : Int) by omega]
      refine cr_36 (by omega) (c_byteOf (n := 240) (z := ((oT X o)[n - 128 * (oD X o).length] : Nat)) hq3 (by omega) (by omega) (by omega) (by rw [Int.toNat_natCast]; exact b3) ?_)
      simp (disch := first | (simp only [dd, dr]; done) | omega) only [W_72, I_lt, I_le, I_inj, inB_I, tc_I, Int.toNat_natCast, fkt, rf1, rf0, cq, Nat.reduceAdd, Nat.reduceEqDiff, Int.reduceToNat, eq_self, true_and, and_true, true_or, or_true, bI_0, bI_1, mm, rAm, mF_sF, mR_sR, false_and, and_false, if_false, if_true, false_or, or_false, not_true_eq_false, not_false_eq_true, and_self]
      have e : fc X dt o n = (oT X o)[n - 128 * (oD X o).length] := by
        unfold fc
        rw [if_neg (by omega), List.getD_eq_getElem?_getD, hx]
        rfl
      have fin := hR trivial M5 C5 (D4.sc C4.us T5.sc) ((F04.trans T5.sc).cf A)
      rw [e, Int.natCast_emod] at fin
      exact fin
    · have hi1 : n / 128 < (oD X o).length := by omega
      have hx : (oD X o)[n / 128]? = some (oD X o)[n / 128] := List.getElem?_eq_getElem hi1
      obtain ⟨b1, b2, b3, b4⟩ := hf.2.2.2.2.2.2 _ (List.getElem_mem hi1)
      have hp := hg' _ _ hx
      have hrow := D4 _ b3 b4 (by omega)
      have k04 := C4.1.1.1
      have k44 := C4.1.1.2.1
      have k54 := C4.1.1.2.2.2.2.2.2.1
      have k198 := C4.1.2.2.2.1.2.2.2
      have e1 := C4.1.2.1
      have e1X := e1.1
      obtain ⟨eQ1, kX1⟩ := e1.2.1 _ b2
      have hby := hrow.2 (n % 128) (by omega)
      unfold drw at hby
      rw [if_neg (by omega)] at hby
      have hdv : (n : Int) / 128 = ((n / 128 : Nat) : Int) := by omega
      have hmd : (n : Int) % 128 = ((n % 128 : Nat) : Int) := by omega
      simp (disch := first | (simp only [dd, dr]; done) | omega) only [W_72, hdv, hmd, k04, k44, k54, k198, hp, e1X, eQ1, I_lt, I_le, I_inj, inB_I, tc_I, Int.toNat_natCast, fkt, rf1, rf0, cq, Nat.reduceAdd, Nat.reduceEqDiff, Int.reduceToNat, eq_self, true_and, and_true, true_or, or_true, bI_0, bI_1, mm, rAm, mF_sF, mR_sR, false_and, and_false, if_false, if_true, false_or, or_false, not_true_eq_false, not_false_eq_true, and_self]
      refine cr_36 (by omega) (c_byteOf (n := 129) (z := (dt (oD X o)[n / 128] (n % 128) : Nat)) kX1 (by omega) (by omega) (by omega) (by rw [Int.toNat_natCast]; exact hby) ?_)
      simp (disch := first | (simp only [dd, dr]; done) | omega) only [W_72, I_lt, I_le, I_inj, inB_I, tc_I, Int.toNat_natCast, fkt, rf1, rf0, cq, Nat.reduceAdd, Nat.reduceEqDiff, Int.reduceToNat, eq_self, true_and, and_true, true_or, or_true, bI_0, bI_1, mm, rAm, mF_sF, mR_sR, false_and, and_false, if_false, if_true, false_or, or_false, not_true_eq_false, not_false_eq_true, and_self]
      have e : fc X dt o n = dt (oD X o)[n / 128] (n % 128) := by
        unfold fc
        rw [if_pos (by omega), List.getD_eq_getElem?_getD, hx]
        rfl
      have fin := hR trivial M4 C4 D4 (F04.cf A)
      rw [e, Int.natCast_emod] at fin
      exact fin
  simp (disch := first | (simp only [dd, dr]; done) | omega) only [W_72, I_lt, I_le, I_inj, inB_I, tc_I, Int.toNat_natCast, fkt, rf1, rf0, cq, Nat.reduceAdd, Nat.reduceEqDiff, Int.reduceToNat, eq_self, true_and, and_true, true_or, or_true, bI_0, bI_1, mm, rAm, mF_sF, mR_sR, false_and, and_false, if_false, if_true, false_or, or_false, not_true_eq_false, not_false_eq_true, and_self]
  refine ⟨fun h => ?_, fun h => ?_⟩
  · simp (disch := first | (simp only [dd, dr]; done) | omega) only [W_72, I_lt, I_le, I_inj, inB_I, tc_I, Int.toNat_natCast, fkt, rf1, rf0, cq, Nat.reduceAdd, Nat.reduceEqDiff, Int.reduceToNat, eq_self, true_and, and_true, true_or, or_true, bI_0, bI_1, mm, rAm, mF_sF, mR_sR, false_and, and_false, if_false, if_true, false_or, or_false, not_true_eq_false, not_false_eq_true, and_self]
    exact go false M1 C1 T1.sc (by simp [h])
  · have h : isk T X z 1 = true := by simpa using h
    simp (disch := first | (simp only [dd, dr]; done) | omega) only [W_72, I_lt, I_le, I_inj, inB_I, tc_I, Int.toNat_natCast, fkt, rf1, rf0, cq, Nat.reduceAdd, Nat.reduceEqDiff, Int.reduceToNat, eq_self, true_and, and_true, true_or, or_true, bI_0, bI_1, mm, rAm, mF_sF, mR_sR, false_and, and_false, if_false, if_true, false_or, or_false, not_true_eq_false, not_false_eq_true, and_self]
    refine ⟨fun h' => ?_, fun h' => ?_⟩
    · simp (disch := first | (simp only [dd, dr]; done) | omega) only [W_72, I_lt, I_le, I_inj, inB_I, tc_I, Int.toNat_natCast, fkt, rf1, rf0, cq, Nat.reduceAdd, Nat.reduceEqDiff, Int.reduceToNat, eq_self, true_and, and_true, true_or, or_true, bI_0, bI_1, mm, rAm, mF_sF, mR_sR, false_and, and_false, if_false, if_true, false_or, or_false, not_true_eq_false, not_false_eq_true, and_self]
      exact go false M1 C1 T1.sc (by simp; omega)
    · obtain ⟨o, rfl, o1, o2, o3, o4⟩ := isk_of h
      simp (disch := first | (simp only [dd, dr]; done) | omega) only [W_72, k01, I_lt, I_le, I_inj, inB_I, tc_I, Int.toNat_natCast, fkt, rf1, rf0, cq, Nat.reduceAdd, Nat.reduceEqDiff, Int.reduceToNat, eq_self, true_and, and_true, true_or, or_true, bI_0, bI_1, mm, rAm, mF_sF, mR_sR, false_and, and_false, if_false, if_true, false_or, or_false, not_true_eq_false, not_false_eq_true, and_self]
      refine ca_47 (by omega) (n_sizeOf (by omega) C1 O.1 o2 o3 (fun M2 T2 C2 => ?_))
      have hS := (O.1 o o2 o3).2.2.2
      simp only [Int.toNat_natCast] at *
      simp (disch := first | (simp only [dd, dr]; done) | omega) only [W_72, I_lt, I_le, I_inj, inB_I, tc_I, Int.toNat_natCast, fkt, rf1, rf0, cq, Nat.reduceAdd, Nat.reduceEqDiff, Int.reduceToNat, eq_self, true_and, and_true, true_or, or_true, bI_0, bI_1, mm, rAm, mF_sF, mR_sR, false_and, and_false, if_false, if_true, false_or, or_false, not_true_eq_false, not_false_eq_true, and_self]
      refine ⟨fun h'' => ?_, fun h'' => ?_⟩
      · simp (disch := first | (simp only [dd, dr]; done) | omega) only [W_72, I_lt, I_le, I_inj, inB_I, tc_I, Int.toNat_natCast, fkt, rf1, rf0, cq, Nat.reduceAdd, Nat.reduceEqDiff, Int.reduceToNat, eq_self, true_and, and_true, true_or, or_true, bI_0, bI_1, mm, rAm, mF_sF, mR_sR, false_and, and_false, if_false, if_true, false_or, or_false, not_true_eq_false, not_false_eq_true, and_self]
        exact go false M2 C2 (T1.trans T2).sc (by simp; omega)
      · simp (disch := first | (simp only [dd, dr]; done) | omega) only [W_72, I_lt, I_le, I_inj, inB_I, tc_I, Int.toNat_natCast, fkt, rf1, rf0, cq, Nat.reduceAdd, Nat.reduceEqDiff, Int.reduceToNat, eq_self, true_and, and_true, true_or, or_true, bI_0, bI_1, mm, rAm, mF_sF, mR_sR, false_and, and_false, if_false, if_true, false_or, or_false, not_true_eq_false, not_false_eq_true, and_self]
        exact go true M2 C2 (T1.trans T2).sc (by simp [h]; omega)
end Crd
