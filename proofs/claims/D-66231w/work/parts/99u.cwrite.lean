/-! ===== THE COMPONENT: reformed, mayWrite, write, fill, cut ===== -/
section Wrt
variable {d p m J : Nat} {M M' : Mem} {A A' : Ad} {T T' : Tr} {X X' : Ob} {Q : Outcome → Mem → Prop} {ok : Bool} {dt : Nat → Nat → Nat}
/-- what a file that was laid leaves -/
def RfR (p m J : Nat) (A : Ad) (T : Tr) (X : Ob) (dt : Nat → Nat → Nat) (M : Mem) (o nb : Nat) (Fb : Nat → Nat) (P : Mem → Prop) : Prop :=
  ∀ l T1 T2 T3, rfT m X T o nb = some (l, T1) → rfA m X T o nb = some (l, T3) → BL T1 l → StF T1 T2 (ky o 2 0) (2 * dtO nb) → StF T2 T3 (ky o 3 0) (tlO nb) → ∀ M' A', CX M' p m J A' T3 (rfX X o l (tlL Fb nb) nb) → DR M' p T3 (rfd dt l Fb nb) → CF p A A' 0 M M' → P M'
theorem RfR.sc {o nb : Nat} {Fb : Nat → Nat} {P : Mem → Prop} {M1 : Mem} (h : RfR p m J A T X dt M o nb Fb P) (F : CF p A A 0 M M1) : RfR p m J A T X dt M1 o nb Fb P := fun l T1 T2 T3 a1 a2 a3 a4 a5 M' A' a6 a7 a8 => h l T1 T2 T3 a1 a2 a3 a4 a5 M' A' a6 a7 (by have := F.trans a8; rw [Nat.zero_add] at this; exact this)
theorem Thr.cf {P : Nat → Prop} {M1 : Mem} (h : Thr p m J A T X dt M Q P) (F : CF p A A 0 M M1) : Thr p m J A T X dt M1 Q P := fun k M' A' a a1 a2 a3 a4 a5 => h k M' A' a a1 a2 a3 a4 (by have := F.trans a5; rw [Nat.zero_add] at this; exact this)
/-- a file and its items -/
def FO (T : Tr) (X : Ob) (o : Nat) : Prop := oS X o ≤ 2048 ∧ (oD X o).length = dtO (oS X o) ∧ (oT X o).length = tlO (oS X o) ∧ (ky o 2 0 ∈ its T ↔ oD X o ≠ []) ∧ (ky o 3 0 ∈ its T ↔ oT X o ≠ []) ∧ BL T (oD X o)
set_option maxHeartbeats 1000000 in
theorem n_reformed (hd : 60 ≤ d) (C : CX M p m J A T X) (D : DR M p T dt) (O : OK1 T X) {o nb : Nat} {Fb : Nat → Nat} (ho : o ≤ 60) (hi : ky o 0 0 ∈ its T) (hO : FO T X o) (hnb : nb ≤ 2048) (hF : ∀ i, i < nb → mA M (p + 197) i = bB (Fb i : Nat))
    (hX : rfA m X T o nb = none → Thr p m J A T X dt M Q (fun k => k = 14)) (hR : RfR p m J A T X dt M o nb Fb (fun M' => Q (.returned (some (.int (I (nb : Nat))))) M')) :
    Wp d 66 0 [some (.ref p), some (.int (I (o : Nat))), some (.int (I (nb : Nat))), none] [] M Q := by
  have k0 := C.1.1.1
  simp (disch := first | (simp only [dd, dr]; done) | omega) only [W_66, k0, I_lt, I_le, I_inj, inB_I, tc_I, Int.toNat_natCast, fkt, rf1, rf0, cq, Nat.reduceAdd, Nat.reduceEqDiff, Int.reduceToNat, eq_self, true_and, and_true, true_or, or_true, bI_0, bI_1, mm, rAm, mF_sF, mR_sR, false_and, and_false, if_false, if_true, false_or, or_false, not_true_eq_false, not_false_eq_true, and_self]
  refine ca_43 (by omega) (n_keep1 (by omega) C D (fun M1 C1 D1 S1 F1 o1 => ?_))
  have k01 := C1.1.1.1
  simp (disch := first | (simp only [dd, dr]; done) | omega) only [W_66, k01, I_lt, I_le, I_inj, inB_I, tc_I, Int.toNat_natCast, fkt, rf1, rf0, cq, Nat.reduceAdd, Nat.reduceEqDiff, Int.reduceToNat, eq_self, true_and, and_true, true_or, or_true, bI_0, bI_1, mm, rAm, mF_sF, mR_sR, false_and, and_false, if_false, if_true, false_or, or_false, not_true_eq_false, not_false_eq_true, and_self]
  refine ca_67 (by omega) (n_reform (by omega) C1 D1 O ho hi hO.2.2.2.1 hO.2.2.2.2.2 (by rw [hO.2.1]; exact dtO_le hO.1) hnb (fun i hi' => by rw [o1 _ _ (by omega) (by omega)]; exact hF i hi') (fun hn M2 A2 a ka F2 => ?_) (fun l T1 T2 T3 a1 a2 a3 a4 a5 M2 A2 C2 D2 F2 => ?_))
  · simp (disch := first | (simp only [dd, dr]; done) | omega) only [W_66, I_lt, I_le, I_inj, inB_I, tc_I, Int.toNat_natCast, fkt, rf1, rf0, cq, Nat.reduceAdd, Nat.reduceEqDiff, Int.reduceToNat, eq_self, true_and, and_true, true_or, or_true, bI_0, bI_1, mm, rAm, mF_sF, mR_sR, false_and, and_false, if_false, if_true, false_or, or_false, not_true_eq_false, not_false_eq_true, and_self]
    rw [Th_in (t := 13) ka (by decide) (by decide +kernel)]
    have k02 := F2.1.1.1
    simp (disch := first | (simp only [dd, dr]; done) | omega) only [W_66, k02, I_lt, I_le, I_inj, inB_I, tc_I, Int.toNat_natCast, fkt, rf1, rf0, cq, Nat.reduceAdd, Nat.reduceEqDiff, Int.reduceToNat, eq_self, true_and, and_true, true_or, or_true, bI_0, bI_1, mm, rAm, mF_sF, mR_sR, false_and, and_false, if_false, if_true, false_or, or_false, not_true_eq_false, not_false_eq_true, and_self]
    refine ca_49 (by omega) (n_undo2 (by omega) C1 S1 F2.1 F2.2.1 F2.2.2.1 F2.2.2.2.1 (fun a i h1 h2 => F2.2.2.2.2 a i (.inl ⟨h1, by omega⟩)) (fun M3 A3 C3 D3 F3 K3 => ?_))
    simp (disch := first | (simp only [dd, dr]; done) | omega) only [W_66, I_lt, I_le, I_inj, inB_I, tc_I, Int.toNat_natCast, fkt, rf1, rf0, cq, Nat.reduceAdd, Nat.reduceEqDiff, Int.reduceToNat, eq_self, true_and, and_true, true_or, or_true, bI_0, bI_1, mm, rAm, mF_sF, mR_sR, false_and, and_false, if_false, if_true, false_or, or_false, not_true_eq_false, not_false_eq_true, and_self]
    have ka3 : kO M3 a = 14 := by
      have := K3 a (kO_lt F2.2.2.1.1 ka (by omega))
      unfold kO at ka ⊢
      rw [this]; exact ka
    rw [Th_out ka3 (by decide) (by decide +kernel)]
    exact hX hn 14 M3 A3 a ka3 rfl C3 D3 (by have := F1.trans F3; rw [Nat.zero_add] at this; exact this)
  · simp (disch := first | (simp only [dd, dr]; done) | omega) only [W_66, I_lt, I_le, I_inj, inB_I, tc_I, Int.toNat_natCast, fkt, rf1, rf0, cq, Nat.reduceAdd, Nat.reduceEqDiff, Int.reduceToNat, eq_self, true_and, and_true, true_or, or_true, bI_0, bI_1, mm, rAm, mF_sF, mR_sR, false_and, and_false, if_false, if_true, false_or, or_false, not_true_eq_false, not_false_eq_true, and_self]
    exact hR l T1 T2 T3 a1 a2 a3 a4 a5 M2 A2 C2 D2 (by have := F1.trans F2.1; rw [Nat.zero_add] at this; exact this)
theorem mxI (a t i : Nat) [Decidable ((a : Int) < (t : Int) + (i : Int))] : (if (a : Int) < (t : Int) + (i : Int) then I ((t : Int) + (i : Int)) else I (a : Int)) = I ((max a (t + i) : Nat) : Int) := by
  by_cases h : (a : Int) < (t : Int) + (i : Int)
  · rw [if_pos h, show max a (t + i) = t + i by omega]; rfl
  · rw [if_neg h, show max a (t + i) = a by omega]
/-- may bytes be written: the code of the exception, 0 if so -/
def mwC (off : Bool) (T : Tr) (X : Ob) (z t n w : Int) : Nat := if off = true then 1 else if isk T X z 1 = true ∧ 0 ≤ t ∧ t ≤ oS X z.toNat then (if 1 ≤ n ∧ n ≤ w ∧ t + n ≤ 2048 then 0 else 3) else 2
set_option maxHeartbeats 1000000 in
theorem c_mayWrite (hd : 30 ≤ d) (C : CX M p m J A T X) (O : OK1 T X) {off : Bool} (hoff : mF M 25 (p + 205) = I (bI off)) {z t n w : Int} (z0 : -2147483648 ≤ z) (z1 : z < 2147483648) (t0 : -2147483648 ≤ t) (t1 : t < 2147483648) (n0 : -2147483648 ≤ n) (n1 : n < 2147483648) (w0 : 0 ≤ w) (w1 : w ≤ 512)
    (hX : ∀ k, (k = 11 ∨ k = 12 ∨ k = 13) → k = 10 + mwC off T X z t n w → ∀ M1, CX M1 p m J A T X → Sc p M M1 → Q (.threw (mN M1)) (nw M1 (.inl k) 6))
    (hR : mwC off T X z t n w = 0 → ∀ M1, CX M1 p m J A T X → Sc p M M1 → Q (.returned none) M1) :
    Wp d 64 0 [some (.ref p), some (.int (I z)), some (.int (I t)), some (.int (I n)), some (.int (I w))] [] M Q := by
  have k0 := C.1.1.1
  unfold mwC at hX hR
  simp (disch := first | (simp only [dd, dr]; done) | omega) only [W_64, k0, I_lt, I_le, I_inj, inB_I, tc_I, Int.toNat_natCast, fkt, rf1, rf0, cq, Nat.reduceAdd, Nat.reduceEqDiff, Int.reduceToNat, eq_self, true_and, and_true, true_or, or_true, bI_0, bI_1, mm, rAm, mF_sF, mR_sR, false_and, and_false, if_false, if_true, false_or, or_false, not_true_eq_false, not_false_eq_true, and_self]
  refine ca_30 (by omega) (c_on C.1 hoff (fun h1 => ?_) (fun h1 => ?_))
  rotate_left
  · simp (disch := first | (simp only [dd, dr]; done) | omega) only [W_64, I_lt, I_le, I_inj, inB_I, tc_I, Int.toNat_natCast, fkt, rf1, rf0, cq, Nat.reduceAdd, Nat.reduceEqDiff, Int.reduceToNat, eq_self, true_and, and_true, true_or, or_true, bI_0, bI_1, mm, rAm, mF_sF, mR_sR, false_and, and_false, if_false, if_true, false_or, or_false, not_true_eq_false, not_false_eq_true, and_self]
    rw [Th_out (nw_kO M 11 6) (by decide) (by decide +kernel)]
    exact hX 11 (.inl rfl) (by rw [if_pos h1]) M C (Sc.refl _ _)
  have h1' : ¬ off = true := by rw [h1]; simp
  rw [if_neg h1'] at hX hR
  simp (disch := first | (simp only [dd, dr]; done) | omega) only [W_64, k0, I_lt, I_le, I_inj, inB_I, tc_I, Int.toNat_natCast, fkt, rf1, rf0, cq, Nat.reduceAdd, Nat.reduceEqDiff, Int.reduceToNat, eq_self, true_and, and_true, true_or, or_true, bI_0, bI_1, mm, rAm, mF_sF, mR_sR, false_and, and_false, if_false, if_true, false_or, or_false, not_true_eq_false, not_false_eq_true, and_self]
  refine ca_52 (by omega) (n_isFile (by omega) C O z0 z1 (fun M1 T1 C1 => ?_))
  have k01 := C1.1.1.1
  have go : ∀ (b : Bool) (M2 : Mem), CX M2 p m J A T X → Sc p M M2 → (b = true ↔ (isk T X z 1 = true ∧ 0 ≤ t ∧ t ≤ oS X z.toNat)) → Ca d 64 30 [some (.ref p), some (.int (I z)), some (.int (I t)), some (.int (I n)), some (.int (I w))] 37 [.int (I (bI b))] [] M2 Q := by
    intro b M2 C2 F2 hb
    refine ca_37 (by omega) (c_there (fun h2 => ?_) (fun h2 => ?_))
    rotate_left
    · simp (disch := first | (simp only [dd, dr]; done) | omega) only [W_64, I_lt, I_le, I_inj, inB_I, tc_I, Int.toNat_natCast, fkt, rf1, rf0, cq, Nat.reduceAdd, Nat.reduceEqDiff, Int.reduceToNat, eq_self, true_and, and_true, true_or, or_true, bI_0, bI_1, mm, rAm, mF_sF, mR_sR, false_and, and_false, if_false, if_true, false_or, or_false, not_true_eq_false, not_false_eq_true, and_self]
      rw [Th_out (nw_kO M2 12 6) (by decide) (by decide +kernel)]
      exact hX 12 (.inr (.inl rfl)) (by rw [if_neg (fun h => by rw [hb.mpr h] at h2; cases h2)]) M2 C2 F2
    have h2 := hb.mp h2
    rw [if_pos h2] at hX hR
    have hS : (oS X z.toNat : Int) < 65536 := by
      obtain ⟨o, rfl, o1, o2, o3, o4⟩ := isk_of h2.1
      have := (O o o2 o3).2.2.2
      rw [Int.toNat_natCast]; omega
    have hlo := h2.2.1
    have hhi := h2.2.2
    have go2 : ∀ (b : Bool), (b = true ↔ (1 ≤ n ∧ n ≤ w ∧ t + n ≤ 2048)) → Ca d 64 58 [some (.ref p), some (.int (I z)), some (.int (I t)), some (.int (I n)), some (.int (I w))] 39 [.int (I (bI b))] [] M2 Q := by
      intro b hb
      refine ca_39 (by omega) (c_proper (fun h3 => ?_) (fun h3 => ?_))
      · simp (disch := first | (simp only [dd, dr]; done) | omega) only [W_64, I_lt, I_le, I_inj, inB_I, tc_I, Int.toNat_natCast, fkt, rf1, rf0, cq, Nat.reduceAdd, Nat.reduceEqDiff, Int.reduceToNat, eq_self, true_and, and_true, true_or, or_true, bI_0, bI_1, mm, rAm, mF_sF, mR_sR, false_and, and_false, if_false, if_true, false_or, or_false, not_true_eq_false, not_false_eq_true, and_self]
        exact hR (by rw [if_pos (hb.mp h3)]) M2 C2 F2
      · simp (disch := first | (simp only [dd, dr]; done) | omega) only [W_64, I_lt, I_le, I_inj, inB_I, tc_I, Int.toNat_natCast, fkt, rf1, rf0, cq, Nat.reduceAdd, Nat.reduceEqDiff, Int.reduceToNat, eq_self, true_and, and_true, true_or, or_true, bI_0, bI_1, mm, rAm, mF_sF, mR_sR, false_and, and_false, if_false, if_true, false_or, or_false, not_true_eq_false, not_false_eq_true, and_self]
        rw [Th_out (nw_kO M2 13 6) (by decide) (by decide +kernel)]
        exact hX 13 (.inr (.inr rfl)) (by rw [if_neg (fun h => by rw [hb.mpr h] at h3; cases h3)]) M2 C2 F2
    simp (disch := first | (simp only [dd, dr]; done) | omega) only [W_64, I_lt, I_le, I_inj, inB_I, tc_I, Int.toNat_natCast, fkt, rf1, rf0, cq, Nat.reduceAdd, Nat.reduceEqDiff, Int.reduceToNat, eq_self, true_and, and_true, true_or, or_true, bI_0, bI_1, mm, rAm, mF_sF, mR_sR, false_and, and_false, if_false, if_true, false_or, or_false, not_true_eq_false, not_false_eq_true, and_self]
    refine ⟨fun h => ?_, fun h => ?_⟩
    · simp (disch := first | (simp only [dd, dr]; done) | omega) only [W_64, I_lt, I_le, I_inj, inB_I, tc_I, Int.toNat_natCast, fkt, rf1, rf0, cq, Nat.reduceAdd, Nat.reduceEqDiff, Int.reduceToNat, eq_self, true_and, and_true, true_or, or_true, bI_0, bI_1, mm, rAm, mF_sF, mR_sR, false_and, and_false, if_false, if_true, false_or, or_false, not_true_eq_false, not_false_eq_true, and_self]
      exact go2 false (by simp; omega)
    · simp (disch := first | (simp only [dd, dr]; done) | omega) only [W_64, I_lt, I_le, I_inj, inB_I, tc_I, Int.toNat_natCast, fkt, rf1, rf0, cq, Nat.reduceAdd, Nat.reduceEqDiff, Int.reduceToNat, eq_self, true_and, and_true, true_or, or_true, bI_0, bI_1, mm, rAm, mF_sF, mR_sR, false_and, and_false, if_false, if_true, false_or, or_false, not_true_eq_false, not_false_eq_true, and_self]
      refine ⟨fun h' => ?_, fun h' => ?_⟩
      · simp (disch := first | (simp only [dd, dr]; done) | omega) only [W_64, I_lt, I_le, I_inj, inB_I, tc_I, Int.toNat_natCast, fkt, rf1, rf0, cq, Nat.reduceAdd, Nat.reduceEqDiff, Int.reduceToNat, eq_self, true_and, and_true, true_or, or_true, bI_0, bI_1, mm, rAm, mF_sF, mR_sR, false_and, and_false, if_false, if_true, false_or, or_false, not_true_eq_false, not_false_eq_true, and_self]
        exact go2 false (by simp; omega)
      · simp (disch := first | (simp only [dd, dr]; done) | omega) only [W_64, I_lt, I_le, I_inj, inB_I, tc_I, Int.toNat_natCast, fkt, rf1, rf0, cq, Nat.reduceAdd, Nat.reduceEqDiff, Int.reduceToNat, eq_self, true_and, and_true, true_or, or_true, bI_0, bI_1, mm, rAm, mF_sF, mR_sR, false_and, and_false, if_false, if_true, false_or, or_false, not_true_eq_false, not_false_eq_true, and_self]
        refine ⟨fun h'' => ?_, fun h'' => ?_⟩
        · simp (disch := first | (simp only [dd, dr]; done) | omega) only [W_64, I_lt, I_le, I_inj, inB_I, tc_I, Int.toNat_natCast, fkt, rf1, rf0, cq, Nat.reduceAdd, Nat.reduceEqDiff, Int.reduceToNat, eq_self, true_and, and_true, true_or, or_true, bI_0, bI_1, mm, rAm, mF_sF, mR_sR, false_and, and_false, if_false, if_true, false_or, or_false, not_true_eq_false, not_false_eq_true, and_self]
          exact go2 false (by simp; omega)
        · simp (disch := first | (simp only [dd, dr]; done) | omega) only [W_64, I_lt, I_le, I_inj, inB_I, tc_I, Int.toNat_natCast, fkt, rf1, rf0, cq, Nat.reduceAdd, Nat.reduceEqDiff, Int.reduceToNat, eq_self, true_and, and_true, true_or, or_true, bI_0, bI_1, mm, rAm, mF_sF, mR_sR, false_and, and_false, if_false, if_true, false_or, or_false, not_true_eq_false, not_false_eq_true, and_self]
          exact go2 true (by simp; omega)
  simp (disch := first | (simp only [dd, dr]; done) | omega) only [W_64, I_lt, I_le, I_inj, inB_I, tc_I, Int.toNat_natCast, fkt, rf1, rf0, cq, Nat.reduceAdd, Nat.reduceEqDiff, Int.reduceToNat, eq_self, true_and, and_true, true_or, or_true, bI_0, bI_1, mm, rAm, mF_sF, mR_sR, false_and, and_false, if_false, if_true, false_or, or_false, not_true_eq_false, not_false_eq_true, and_self]
  refine ⟨fun h => ?_, fun h => ?_⟩
  · simp (disch := first | (simp only [dd, dr]; done) | omega) only [W_64, I_lt, I_le, I_inj, inB_I, tc_I, Int.toNat_natCast, fkt, rf1, rf0, cq, Nat.reduceAdd, Nat.reduceEqDiff, Int.reduceToNat, eq_self, true_and, and_true, true_or, or_true, bI_0, bI_1, mm, rAm, mF_sF, mR_sR, false_and, and_false, if_false, if_true, false_or, or_false, not_true_eq_false, not_false_eq_true, and_self]
    exact go false M1 C1 T1.sc (by simp [h])
  · have h : isk T X z 1 = true := by simpa using h
    simp (disch := first | (simp only [dd, dr]; done) | omega) only [W_64, I_lt, I_le, I_inj, inB_I, tc_I, Int.toNat_natCast, fkt, rf1, rf0, cq, Nat.reduceAdd, Nat.reduceEqDiff, Int.reduceToNat, eq_self, true_and, and_true, true_or, or_true, bI_0, bI_1, mm, rAm, mF_sF, mR_sR, false_and, and_false, if_false, if_true, false_or, or_false, not_true_eq_false, not_false_eq_true, and_self]
    refine ⟨fun h' => ?_, fun h' => ?_⟩
    · simp (disch := first | (simp only [dd, dr]; done) | omega) only [W_64, I_lt, I_le, I_inj, inB_I, tc_I, Int.toNat_natCast, fkt, rf1, rf0, cq, Nat.reduceAdd, Nat.reduceEqDiff, Int.reduceToNat, eq_self, true_and, and_true, true_or, or_true, bI_0, bI_1, mm, rAm, mF_sF, mR_sR, false_and, and_false, if_false, if_true, false_or, or_false, not_true_eq_false, not_false_eq_true, and_self]
      exact go false M1 C1 T1.sc (by simp; omega)
    · obtain ⟨o, rfl, o1, o2, o3, o4⟩ := isk_of h
      simp (disch := first | (simp only [dd, dr]; done) | omega) only [W_64, k01, I_lt, I_le, I_inj, inB_I, tc_I, Int.toNat_natCast, fkt, rf1, rf0, cq, Nat.reduceAdd, Nat.reduceEqDiff, Int.reduceToNat, eq_self, true_and, and_true, true_or, or_true, bI_0, bI_1, mm, rAm, mF_sF, mR_sR, false_and, and_false, if_false, if_true, false_or, or_false, not_true_eq_false, not_false_eq_true, and_self]
      refine ca_47 (by omega) (n_sizeOf (by omega) C1 O o2 o3 (fun M2 T2 C2 => ?_))
      have hS := (O o o2 o3).2.2.2
      simp only [Int.toNat_natCast] at *
      simp (disch := first | (simp only [dd, dr]; done) | omega) only [W_64, I_lt, I_le, I_inj, inB_I, tc_I, Int.toNat_natCast, fkt, rf1, rf0, cq, Nat.reduceAdd, Nat.reduceEqDiff, Int.reduceToNat, eq_self, true_and, and_true, true_or, or_true, bI_0, bI_1, mm, rAm, mF_sF, mR_sR, false_and, and_false, if_false, if_true, false_or, or_false, not_true_eq_false, not_false_eq_true, and_self]
      refine ⟨fun h'' => ?_, fun h'' => ?_⟩
      · simp (disch := first | (simp only [dd, dr]; done) | omega) only [W_64, I_lt, I_le, I_inj, inB_I, tc_I, Int.toNat_natCast, fkt, rf1, rf0, cq, Nat.reduceAdd, Nat.reduceEqDiff, Int.reduceToNat, eq_self, true_and, and_true, true_or, or_true, bI_0, bI_1, mm, rAm, mF_sF, mR_sR, false_and, and_false, if_false, if_true, false_or, or_false, not_true_eq_false, not_false_eq_true, and_self]
        exact go false M2 C2 (T1.trans T2).sc (by simp; omega)
      · simp (disch := first | (simp only [dd, dr]; done) | omega) only [W_64, I_lt, I_le, I_inj, inB_I, tc_I, Int.toNat_natCast, fkt, rf1, rf0, cq, Nat.reduceAdd, Nat.reduceEqDiff, Int.reduceToNat, eq_self, true_and, and_true, true_or, or_true, bI_0, bI_1, mm, rAm, mF_sF, mR_sR, false_and, and_false, if_false, if_true, false_or, or_false, not_true_eq_false, not_false_eq_true, and_self]
        exact go true M2 C2 (T1.trans T2).sc (by simp [h]; omega)
/-- bytes of a long -/
def lby (w : Int64) (k : Nat) : Nat := (w >>> ((I ((8 * k : Nat) : Int)).toInt64 &&& 63)).toInt32.toBitVec.toNat % 256
theorem I_tn (v : Int32) : I (v.toBitVec.toNat : Int) = v := by
  apply Int32.toBitVec_inj.mp
  unfold I
  rw [Int32.toBitVec_ofInt, BitVec.ofInt_natCast, BitVec.ofNat_toNat, BitVec.setWidth_eq]
theorem lby_b (w : Int64) (k : Nat) : (w >>> ((I (8 * (k : Int))).toInt64 &&& 63)).toInt32.toInt8.toInt32 = bB (lby w k : Nat) := by
  unfold lby
  rw [bB_n]
  unfold bB
  rw [I_tn, show (8 * (k : Int)) = ((8 * k : Nat) : Int) by omega]
/-- a file's bytes once some are written -/
def ovr (F : Nat → Nat) (t n : Nat) (G : Nat → Nat) (i : Nat) : Nat := if t ≤ i ∧ i < t + n then G (i - t) else F i
def wrN (X : Ob) (z t n : Int) : Nat := max (oS X z.toNat) (t.toNat + n.toNat)
/-- write, fill: the code of the exception -/
def wrC (m : Nat) (off : Bool) (T : Tr) (X : Ob) (z t n w : Int) : Nat := if mwC off T X z t n w ≠ 0 then mwC off T X z t n w else if rfA m X T z.toNat (wrN X z t n) = none then 4 else 0
theorem mwC_0 {off : Bool} {z t n w : Int} (h : mwC off T X z t n w = 0) : off = false ∧ ∃ (o t' n' : Nat), z = o ∧ t = t' ∧ n = n' ∧ 1 ≤ o ∧ o ≤ 60 ∧ ky o 0 0 ∈ its T ∧ oK X o = 2 ∧ t' ≤ oS X o ∧ 1 ≤ n' ∧ n ≤ w ∧ t' + n' ≤ 2048 := by
  unfold mwC at h
  split at h
  · cases h
  · rename_i h0
    split at h
    · rename_i h1
      split at h
      · rename_i h2
        obtain ⟨o, rfl, o1, o2, o3, o4⟩ := isk_of h1.1
        have h3 := h1.2.2
        rw [Int.toNat_natCast] at h3
        exact ⟨by simpa using h0, o, t.toNat, n.toNat, rfl, by omega, by omega, o1, o2, o3, o4, by omega, by omega, by omega, by omega⟩
      · cases h
    · cases h
theorem FO.len {o : Nat} (h : FO T X o) : 128 * (oD X o).length + (oT X o).length ≤ 2048 ∧ oS X o ≤ 128 * (oD X o).length + (oT X o).length := by
  obtain ⟨h1, h2, h3, _⟩ := h
  obtain ⟨_, a2, a3, _⟩ := dtO_tl (n := oS X o)
  have := dtO_le h1
  rw [h2, h3]
  by_cases e : tlO (oS X o) = 0
  · omega
  · have := a3 e; omega
set_option maxHeartbeats 1000000 in
theorem c_write (hd : 70 ≤ d) (C : CX M p m J A T X) (D : DR M p T dt) (O : OK2 T X) (hO : ∀ o, o ≤ 60 → ky o 0 0 ∈ its T → oK X o = 2 → FO T X o) {off : Bool} (hoff : mF M 25 (p + 205) = I (bI off)) {z t n : Int} {w : Int64} (z0 : -2147483648 ≤ z) (z1 : z < 2147483648) (t0 : -2147483648 ≤ t) (t1 : t < 2147483648) (n0 : -2147483648 ≤ n) (n1 : n < 2147483648)
    (hX : Thr p m J A T X dt M Q (fun k => wrC m off T X z t n 8 ≠ 0 ∧ k = 10 + wrC m off T X z t n 8))
    (hR : wrC m off T X z t n 8 = 0 → RfR p m J A T X dt M z.toNat (wrN X z t n) (ovr (fc X dt z.toNat) t.toNat n.toNat (lby w)) (fun M' => Q (.returned (some (.int (I (wrN X z t n : Nat))))) M')) :
    Wp d 63 0 [some (.ref p), some (.int (I z)), some (.int (I t)), some (.long w), none, some (.int (I n)), none] [] M Q := by
  have k0 := C.1.1.1
  simp (disch := first | (simp only [dd, dr]; done) | omega) only [W_63, k0, I_lt, I_le, I_inj, inB_I, tc_I, Int.toNat_natCast, fkt, rf1, rf0, cq, Nat.reduceAdd, Nat.reduceEqDiff, Int.reduceToNat, eq_self, true_and, and_true, true_or, or_true, bI_0, bI_1, mm, rAm, mF_sF, mR_sR, false_and, and_false, if_false, if_true, false_or, or_false, not_true_eq_false, not_false_eq_true, and_self]
  refine ca_64 (by omega) (c_mayWrite (by omega) C O.1 hoff z0 z1 t0 t1 n0 n1 (w := 8) (by omega) (by omega) (fun k hk he M1 C1 F1 => ?_) (fun h1 M1 C1 F1 => ?_))
  · have hc : wrC m off T X z t n 8 = mwC off T X z t n 8 := by unfold wrC; rw [if_pos (by omega)]
    have fin := hX.sc D C1 F1 (k := k) (by rw [hc]; omega)
    simp (disch := first | (simp only [dd, dr]; done) | omega) only [W_63, I_lt, I_le, I_inj, inB_I, tc_I, Int.toNat_natCast, fkt, rf1, rf0, cq, Nat.reduceAdd, Nat.reduceEqDiff, Int.reduceToNat, eq_self, true_and, and_true, true_or, or_true, bI_0, bI_1, mm, rAm, mF_sF, mR_sR, false_and, and_false, if_false, if_true, false_or, or_false, not_true_eq_false, not_false_eq_true, and_self]
    rcases hk with rfl | rfl | rfl
    · rw [Th_out (nw_kO M1 11 6) (by decide) (by decide +kernel)]; exact fin
    · rw [Th_out (nw_kO M1 12 6) (by decide) (by decide +kernel)]; exact fin
    · rw [Th_out (nw_kO M1 13 6) (by decide) (by decide +kernel)]; exact fin
  have hX := hX.cf (F1.cf A)
  have hR := fun h => (hR h).sc (F1.cf A)
  have D1 := D.sc C.us F1
  unfold wrC at hX hR
  rw [if_neg (by omega)] at hX hR
  obtain ⟨hoff0, o, t, n, rfl, rfl, rfl, o1, o2, o3, o4, ht, hn1, hn2, hn3⟩ := mwC_0 h1
  simp only [Int.toNat_natCast] at *
  unfold wrN at hX hR
  simp only [Int.toNat_natCast] at hX hR
  have hf := hO o o2 o3 o4
  obtain ⟨hl1, hl2⟩ := hf.len
  have k01 := C1.1.1.1
  simp (disch := first | (simp only [dd, dr]; done) | omega) only [W_63, k01, I_lt, I_le, I_inj, inB_I, tc_I, Int.toNat_natCast, fkt, rf1, rf0, cq, Nat.reduceAdd, Nat.reduceEqDiff, Int.reduceToNat, eq_self, true_and, and_true, true_or, or_true, bI_0, bI_1, mm, rAm, mF_sF, mR_sR, false_and, and_false, if_false, if_true, false_or, or_false, not_true_eq_false, not_false_eq_true, and_self]
  refine ca_65 (by omega) (n_readFile (by omega) C1 D1 o2 hf.2.2.2.1 hf.2.2.2.2.1 hf.2.2.2.2.2.2 hl1 (fun M2 C2 F2 f2 => ?_))
  have k02 := C2.1.1.1
  have k32 := C2.1.1.2.2.2.2.2.1
  have k197 := C2.1.2.2.2.1.2.2.1
  have D2 := D1.sc C1.us F2
  simp (disch := first | (simp only [dd, dr]; done) | omega) only [W_63, I_lt, I_le, I_inj, inB_I, tc_I, Int.toNat_natCast, fkt, rf1, rf0, cq, Nat.reduceAdd, Nat.reduceEqDiff, Int.reduceToNat, eq_self, true_and, and_true, true_or, or_true, bI_0, bI_1, mm, rAm, mF_sF, mR_sR, false_and, and_false, if_false, if_true, false_or, or_false, not_true_eq_false, not_false_eq_true, and_self]
  suffices H : ∀ n' (i : Nat) (g : Nat → Int32), i + n' = n → (∀ k, (k < oS X o ∨ (t ≤ k ∧ k < t + i)) → g k = bB (ovr (fc X dt o) t i (lby w) k : Nat)) → Wp d 63 18 [some (.ref p), some (.int (I (o : Nat))), some (.int (I (t : Nat))), some (.long w), none, some (.int (I (n : Nat))), some (.int (I (i : Nat)))] [] (rA M2 (p + 197) g) Q by
    have := H n 0 (fun i => mA M2 (p + 197) i) (by omega) (fun k hk => by
      unfold ovr
      rw [if_neg (by omega)]
      exact f2 k (by omega))
    rw [rA_id] at this
    exact this
  intro n'
  induction n' with
  | zero =>
    intro i g hi hg
    obtain rfl : i = n := by omega
    have F3 := Sc.rA p M2 (w := p + 197) ⟨by omega, by omega⟩ g
    have C3 := C2.sc F3
    have k03 := C3.1.1.1
    simp (disch := first | (simp only [dd, dr]; done) | omega) only [w_63_18, W_63, I_lt, I_le, I_inj, inB_I, tc_I, Int.toNat_natCast, fkt, rf1, rf0, cq, Nat.reduceAdd, Nat.reduceEqDiff, Int.reduceToNat, eq_self, true_and, and_true, true_or, or_true, bI_0, bI_1, mm, rAm, mF_sF, mR_sR, false_and, and_false, if_false, if_true, false_or, or_false, not_true_eq_false, not_false_eq_true, and_self]
    refine ⟨fun _ => ?_, (fun h => by first | exact False.elim h | exact absurd trivial h | (exfalso; omega) | exact absurd rfl h | cases h)⟩
    simp (disch := first | (simp only [dd, dr]; done) | omega) only [W_63, k03, I_lt, I_le, I_inj, inB_I, tc_I, Int.toNat_natCast, fkt, rf1, rf0, cq, Nat.reduceAdd, Nat.reduceEqDiff, Int.reduceToNat, eq_self, true_and, and_true, true_or, or_true, bI_0, bI_1, mm, rAm, mF_sF, mR_sR, false_and, and_false, if_false, if_true, false_or, or_false, not_true_eq_false, not_false_eq_true, and_self]
    refine ca_47 (by omega) (n_sizeOf (by omega) C3 O.1 o2 o3 (fun M4 T4 C4 => ?_))
    have hS := (O.1 o o2 o3).2.2.2
    have k04 := C4.1.1.1
    simp (disch := first | (simp only [dd, dr]; done) | omega) only [W_63, k04, I_lt, I_le, I_inj, inB_I, tc_I, Int.toNat_natCast, fkt, rf1, rf0, cq, Nat.reduceAdd, Nat.reduceEqDiff, Int.reduceToNat, eq_self, true_and, and_true, true_or, or_true, bI_0, bI_1, mm, rAm, mF_sF, mR_sR, false_and, and_false, if_false, if_true, false_or, or_false, not_true_eq_false, not_false_eq_true, and_self]
    rw [mxI]
    have F04 := (F2.trans F3).trans T4.sc
    have hX := hX.cf (F04.cf A)
    have hR := fun h => (hR h).sc (F04.cf A)
    refine ca_66 (by omega) (n_reformed (Fb := ovr (fc X dt o) t i (lby w)) (by omega) C4 (D1.sc C1.us F04) O.1 o2 o3 hf (by omega) (fun k hk => ?_) (fun hn => ?_) ?_)
    · rw [T4.f1.1, mA_rA, if_pos rfl]
      exact hg k (by omega)
    · intro k M' A' a a1 a2 a3 a4 a5
      subst a2
      simp (disch := first | (simp only [dd, dr]; done) | omega) only [W_63, I_lt, I_le, I_inj, inB_I, tc_I, Int.toNat_natCast, fkt, rf1, rf0, cq, Nat.reduceAdd, Nat.reduceEqDiff, Int.reduceToNat, eq_self, true_and, and_true, true_or, or_true, bI_0, bI_1, mm, rAm, mF_sF, mR_sR, false_and, and_false, if_false, if_true, false_or, or_false, not_true_eq_false, not_false_eq_true, and_self]
      rw [Th_out a1 (by decide) (by decide +kernel)]
      rw [if_pos hn] at hX
      exact hX 14 M' A' a a1 ⟨by omega, rfl⟩ a3 a4 a5
    · intro l T1 T2 T3 a1 a2 a3 a4 a5 M' A' a6 a7 a8
      simp (disch := first | (simp only [dd, dr]; done) | omega) only [W_63, I_lt, I_le, I_inj, inB_I, tc_I, Int.toNat_natCast, fkt, rf1, rf0, cq, Nat.reduceAdd, Nat.reduceEqDiff, Int.reduceToNat, eq_self, true_and, and_true, true_or, or_true, bI_0, bI_1, mm, rAm, mF_sF, mR_sR, false_and, and_false, if_false, if_true, false_or, or_false, not_true_eq_false, not_false_eq_true, and_self]
      rw [if_neg (by rw [a2]; simp)] at hR
      exact hR rfl l T1 T2 T3 a1 a2 a3 a4 a5 M' A' a6 a7 a8
  | succ n' ih =>
    intro i g hi hg
    simp (disch := first | (simp only [dd, dr]; done) | omega) only [w_63_18, W_63, k02, k32, I_lt, I_le, I_inj, inB_I, tc_I, Int.toNat_natCast, fkt, rf1, rf0, cq, Nat.reduceAdd, Nat.reduceEqDiff, Int.reduceToNat, eq_self, true_and, and_true, true_or, or_true, bI_0, bI_1, mm, rAm, mF_sF, mR_sR, false_and, and_false, if_false, if_true, false_or, or_false, not_true_eq_false, not_false_eq_true, and_self]
    refine ⟨(fun h => by first | exact False.elim h | exact absurd trivial h | (exfalso; omega) | exact absurd rfl h | cases h), fun _ => ?_⟩
    simp (disch := first | (simp only [dd, dr]; done) | omega) only [W_63, k02, k32, I_lt, I_le, I_inj, inB_I, tc_I, Int.toNat_natCast, fkt, rf1, rf0, cq, Nat.reduceAdd, Nat.reduceEqDiff, Int.reduceToNat, eq_self, true_and, and_true, true_or, or_true, bI_0, bI_1, mm, rAm, mF_sF, mR_sR, false_and, and_false, if_false, if_true, false_or, or_false, not_true_eq_false, not_false_eq_true, and_self]
    rw [show (t : Int) + (i : Int) = ((t + i : Nat) : Int) by omega]
    simp (disch := first | (simp only [dd, dr]; done) | omega) only [W_63, k197, lby_b, nrw_b, sA_rA, I_lt, I_le, I_inj, inB_I, tc_I, Int.toNat_natCast, fkt, rf1, rf0, cq, Nat.reduceAdd, Nat.reduceEqDiff, Int.reduceToNat, eq_self, true_and, and_true, true_or, or_true, bI_0, bI_1, mm, rAm, mF_sF, mR_sR, false_and, and_false, if_false, if_true, false_or, or_false, not_true_eq_false, not_false_eq_true, and_self]
    rw [show ((i : Int) + 1) = ((i + 1 : Nat) : Int) by omega]
    refine ih (i + 1) _ (by omega) (fun k hk => ?_)
    by_cases e : k = t + i
    · rw [if_pos e]
      unfold ovr
      rw [if_pos (by omega), show k - t = i by omega]
    · rw [if_neg e, hg k (by omega)]
      unfold ovr
      by_cases e2 : t ≤ k ∧ k < t + i
      · rw [if_pos e2, if_pos (by omega)]
      · rw [if_neg e2, if_neg (by omega)]
/-- bytes that fill lays -/
def fby (s : Int) (k : Nat) : Nat := ((s + 7 * (k : Int)) % 256).toNat
theorem fby_b (s : Int) (k : Nat) : bB (s + 7 * (k : Int)) = bB (fby s k : Nat) := by
  unfold fby
  rw [show (((s + 7 * (k : Int)) % 256).toNat : Int) = (s + 7 * (k : Int)) % 256 by omega, bB_mod]
set_option maxHeartbeats 1000000 in
theorem c_fill (hd : 70 ≤ d) (C : CX M p m J A T X) (D : DR M p T dt) (O : OK2 T X) (hO : ∀ o, o ≤ 60 → ky o 0 0 ∈ its T → oK X o = 2 → FO T X o) {off : Bool} (hoff : mF M 25 (p + 205) = I (bI off)) {z t n s : Int} (z0 : -2147483648 ≤ z) (z1 : z < 2147483648) (t0 : -2147483648 ≤ t) (t1 : t < 2147483648) (n0 : -2147483648 ≤ n) (n1 : n < 2147483648)
    (hX : Thr p m J A T X dt M Q (fun k => wrC m off T X z t n 512 ≠ 0 ∧ k = 10 + wrC m off T X z t n 512))
    (hR : wrC m off T X z t n 512 = 0 → RfR p m J A T X dt M z.toNat (wrN X z t n) (ovr (fc X dt z.toNat) t.toNat n.toNat (fby s)) (fun M' => Q (.returned (some (.int (I (wrN X z t n : Nat))))) M')) :
    Wp d 70 0 [some (.ref p), some (.int (I z)), some (.int (I t)), some (.int (I s)), some (.int (I n)), none] [] M Q := by
  have k0 := C.1.1.1
  simp (disch := first | (simp only [dd, dr]; done) | omega) only [W_70, k0, I_lt, I_le, I_inj, inB_I, tc_I, Int.toNat_natCast, fkt, rf1, rf0, cq, Nat.reduceAdd, Nat.reduceEqDiff, Int.reduceToNat, eq_self, true_and, and_true, true_or, or_true, bI_0, bI_1, mm, rAm, mF_sF, mR_sR, false_and, and_false, if_false, if_true, false_or, or_false, not_true_eq_false, not_false_eq_true, and_self]
  refine ca_64 (by omega) (c_mayWrite (by omega) C O.1 hoff z0 z1 t0 t1 n0 n1 (w := 512) (by omega) (by omega) (fun k hk he M1 C1 F1 => ?_) (fun h1 M1 C1 F1 => ?_))
  · have hc : wrC m off T X z t n 512 = mwC off T X z t n 512 := by unfold wrC; rw [if_pos (by omega)]
    have fin := hX.sc D C1 F1 (k := k) (by rw [hc]; omega)
    simp (disch := first | (simp only [dd, dr]; done) | omega) only [W_70, I_lt, I_le, I_inj, inB_I, tc_I, Int.toNat_natCast, fkt, rf1, rf0, cq, Nat.reduceAdd, Nat.reduceEqDiff, Int.reduceToNat, eq_self, true_and, and_true, true_or, or_true, bI_0, bI_1, mm, rAm, mF_sF, mR_sR, false_and, and_false, if_false, if_true, false_or, or_false, not_true_eq_false, not_false_eq_true, and_self]
    rcases hk with rfl | rfl | rfl
    · rw [Th_out (nw_kO M1 11 6) (by decide) (by decide +kernel)]; exact fin
    · rw [Th_out (nw_kO M1 12 6) (by decide) (by decide +kernel)]; exact fin
    · rw [Th_out (nw_kO M1 13 6) (by decide) (by decide +kernel)]; exact fin
  have hX := hX.cf (F1.cf A)
  have hR := fun h => (hR h).sc (F1.cf A)
  have D1 := D.sc C.us F1
  unfold wrC at hX hR
  rw [if_neg (by omega)] at hX hR
  obtain ⟨hoff0, o, t, n, rfl, rfl, rfl, o1, o2, o3, o4, ht, hn1, hn2, hn3⟩ := mwC_0 h1
  simp only [Int.toNat_natCast] at *
  unfold wrN at hX hR
  simp only [Int.toNat_natCast] at hX hR
  have hf := hO o o2 o3 o4
  obtain ⟨hl1, hl2⟩ := hf.len
  have k01 := C1.1.1.1
  simp (disch := first | (simp only [dd, dr]; done) | omega) only [W_70, k01, I_lt, I_le, I_inj, inB_I, tc_I, Int.toNat_natCast, fkt, rf1, rf0, cq, Nat.reduceAdd, Nat.reduceEqDiff, Int.reduceToNat, eq_self, true_and, and_true, true_or, or_true, bI_0, bI_1, mm, rAm, mF_sF, mR_sR, false_and, and_false, if_false, if_true, false_or, or_false, not_true_eq_false, not_false_eq_true, and_self]
  refine ca_65 (by omega) (n_readFile (by omega) C1 D1 o2 hf.2.2.2.1 hf.2.2.2.2.1 hf.2.2.2.2.2.2 hl1 (fun M2 C2 F2 f2 => ?_))
  have k02 := C2.1.1.1
  have k32 := C2.1.1.2.2.2.2.2.1
  have k197 := C2.1.2.2.2.1.2.2.1
  have D2 := D1.sc C1.us F2
  simp (disch := first | (simp only [dd, dr]; done) | omega) only [W_70, I_lt, I_le, I_inj, inB_I, tc_I, Int.toNat_natCast, fkt, rf1, rf0, cq, Nat.reduceAdd, Nat.reduceEqDiff, Int.reduceToNat, eq_self, true_and, and_true, true_or, or_true, bI_0, bI_1, mm, rAm, mF_sF, mR_sR, false_and, and_false, if_false, if_true, false_or, or_false, not_true_eq_false, not_false_eq_true, and_self]
  suffices H : ∀ n' (i : Nat) (g : Nat → Int32), i + n' = n → (∀ k, (k < oS X o ∨ (t ≤ k ∧ k < t + i)) → g k = bB (ovr (fc X dt o) t i (fby s) k : Nat)) → Wp d 70 19 [some (.ref p), some (.int (I (o : Nat))), some (.int (I (t : Nat))), some (.int (I s)), some (.int (I (n : Nat))), some (.int (I (i : Nat)))] [] (rA M2 (p + 197) g) Q by
    have := H n 0 (fun i => mA M2 (p + 197) i) (by omega) (fun k hk => by
      unfold ovr
      rw [if_neg (by omega)]
      exact f2 k (by omega))
    rw [rA_id] at this
    exact this
  intro n'
  induction n' with
  | zero =>
    intro i g hi hg
    obtain rfl : i = n := by omega
    have F3 := Sc.rA p M2 (w := p + 197) ⟨by omega, by omega⟩ g
    have C3 := C2.sc F3
    have k03 := C3.1.1.1
    simp (disch := first | (simp only [dd, dr]; done) | omega) only [w_70_19, W_70, I_lt, I_le, I_inj, inB_I, tc_I, Int.toNat_natCast, fkt, rf1, rf0, cq, Nat.reduceAdd, Nat.reduceEqDiff, Int.reduceToNat, eq_self, true_and, and_true, true_or, or_true, bI_0, bI_1, mm, rAm, mF_sF, mR_sR, false_and, and_false, if_false, if_true, false_or, or_false, not_true_eq_false, not_false_eq_true, and_self]
    refine ⟨fun _ => ?_, (fun h => by first | exact False.elim h | exact absurd trivial h | (exfalso; omega) | exact absurd rfl h | cases h)⟩
    simp (disch := first | (simp only [dd, dr]; done) | omega) only [W_70, k03, I_lt, I_le, I_inj, inB_I, tc_I, Int.toNat_natCast, fkt, rf1, rf0, cq, Nat.reduceAdd, Nat.reduceEqDiff, Int.reduceToNat, eq_self, true_and, and_true, true_or, or_true, bI_0, bI_1, mm, rAm, mF_sF, mR_sR, false_and, and_false, if_false, if_true, false_or, or_false, not_true_eq_false, not_false_eq_true, and_self]
    refine ca_47 (by omega) (n_sizeOf (by omega) C3 O.1 o2 o3 (fun M4 T4 C4 => ?_))
    have hS := (O.1 o o2 o3).2.2.2
    have k04 := C4.1.1.1
    simp (disch := first | (simp only [dd, dr]; done) | omega) only [W_70, k04, I_lt, I_le, I_inj, inB_I, tc_I, Int.toNat_natCast, fkt, rf1, rf0, cq, Nat.reduceAdd, Nat.reduceEqDiff, Int.reduceToNat, eq_self, true_and, and_true, true_or, or_true, bI_0, bI_1, mm, rAm, mF_sF, mR_sR, false_and, and_false, if_false, if_true, false_or, or_false, not_true_eq_false, not_false_eq_true, and_self]
    rw [mxI]
    have F04 := (F2.trans F3).trans T4.sc
    have hX := hX.cf (F04.cf A)
    have hR := fun h => (hR h).sc (F04.cf A)
    refine ca_66 (by omega) (n_reformed (Fb := ovr (fc X dt o) t i (fby s)) (by omega) C4 (D1.sc C1.us F04) O.1 o2 o3 hf (by omega) (fun k hk => ?_) (fun hn => ?_) ?_)
    · rw [T4.f1.1, mA_rA, if_pos rfl]
      exact hg k (by omega)
    · intro k M' A' a a1 a2 a3 a4 a5
      subst a2
      simp (disch := first | (simp only [dd, dr]; done) | omega) only [W_70, I_lt, I_le, I_inj, inB_I, tc_I, Int.toNat_natCast, fkt, rf1, rf0, cq, Nat.reduceAdd, Nat.reduceEqDiff, Int.reduceToNat, eq_self, true_and, and_true, true_or, or_true, bI_0, bI_1, mm, rAm, mF_sF, mR_sR, false_and, and_false, if_false, if_true, false_or, or_false, not_true_eq_false, not_false_eq_true, and_self]
      rw [Th_out a1 (by decide) (by decide +kernel)]
      rw [if_pos hn] at hX
      exact hX 14 M' A' a a1 ⟨by omega, rfl⟩ a3 a4 a5
    · intro l T1 T2 T3 a1 a2 a3 a4 a5 M' A' a6 a7 a8
      simp (disch := first | (simp only [dd, dr]; done) | omega) only [W_70, I_lt, I_le, I_inj, inB_I, tc_I, Int.toNat_natCast, fkt, rf1, rf0, cq, Nat.reduceAdd, Nat.reduceEqDiff, Int.reduceToNat, eq_self, true_and, and_true, true_or, or_true, bI_0, bI_1, mm, rAm, mF_sF, mR_sR, false_and, and_false, if_false, if_true, false_or, or_false, not_true_eq_false, not_false_eq_true, and_self]
      rw [if_neg (by rw [a2]; simp)] at hR
      exact hR rfl l T1 T2 T3 a1 a2 a3 a4 a5 M' A' a6 a7 a8
  | succ n' ih =>
    intro i g hi hg
    simp (disch := first | (simp only [dd, dr]; done) | omega) only [w_70_19, W_70, k02, k32, I_lt, I_le, I_inj, inB_I, tc_I, Int.toNat_natCast, fkt, rf1, rf0, cq, Nat.reduceAdd, Nat.reduceEqDiff, Int.reduceToNat, eq_self, true_and, and_true, true_or, or_true, bI_0, bI_1, mm, rAm, mF_sF, mR_sR, false_and, and_false, if_false, if_true, false_or, or_false, not_true_eq_false, not_false_eq_true, and_self]
    refine ⟨(fun h => by first | exact False.elim h | exact absurd trivial h | (exfalso; omega) | exact absurd rfl h | cases h), fun _ => ?_⟩
    simp (disch := first | (simp only [dd, dr]; done) | omega) only [W_70, k02, k32, I_lt, I_le, I_inj, inB_I, tc_I, Int.toNat_natCast, fkt, rf1, rf0, cq, Nat.reduceAdd, Nat.reduceEqDiff, Int.reduceToNat, eq_self, true_and, and_true, true_or, or_true, bI_0, bI_1, mm, rAm, mF_sF, mR_sR, false_and, and_false, if_false, if_true, false_or, or_false, not_true_eq_false, not_false_eq_true, and_self]
    rw [show (t : Int) + (i : Int) = ((t + i : Nat) : Int) by omega]
    simp (disch := first | (simp only [dd, dr]; done) | omega) only [W_70, k197, bB_def, fby_b, nrw_b, sA_rA, I_lt, I_le, I_inj, inB_I, tc_I, Int.toNat_natCast, fkt, rf1, rf0, cq, Nat.reduceAdd, Nat.reduceEqDiff, Int.reduceToNat, eq_self, true_and, and_true, true_or, or_true, bI_0, bI_1, mm, rAm, mF_sF, mR_sR, false_and, and_false, if_false, if_true, false_or, or_false, not_true_eq_false, not_false_eq_true, and_self]
    rw [show ((i : Int) + 1) = ((i + 1 : Nat) : Int) by omega]
    refine ih (i + 1) _ (by omega) (fun k hk => ?_)
    by_cases e : k = t + i
    · rw [if_pos e]
      unfold ovr
      rw [if_pos (by omega), show k - t = i by omega]
    · rw [if_neg e, hg k (by omega)]
      unfold ovr
      by_cases e2 : t ≤ k ∧ k < t + i
      · rw [if_pos e2, if_pos (by omega)]
      · rw [if_neg e2, if_neg (by omega)]
end Wrt
