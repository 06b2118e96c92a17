/-! ===== THE MODEL: inner nodes that are alike; isChanged, changed ===== -/
section Mc2
variable {d : Nat} {M : Mem} {Q : Outcome → Mem → Prop} {o : Nat} {f : Nat → Int} {s s' b c w : Int → Int} {j : Nat → Bool} {T Tc : Tr} {X Xc : Ob} {dt dtc la : Nat → Nat → Nat} {m : Nat} {sz tl : Nat → Nat}
theorem not_iff1 {r : Bool} {P : Prop} (h : r = true ↔ ¬ P) : (!r) = true ↔ P := by
  cases r with
  | false => exact ⟨fun _ => Classical.byContradiction (fun hn => by have := h.mpr hn; cases this), fun _ => rfl⟩
  | true => exact ⟨(fun hh => by cases hh), fun hp => absurd hp (h.mp rfl)⟩
/-- the first key below a node, as it stands in a row -/
theorem MW.first (A : MW s m T X dt) {h y : Nat} (hy : y ∈ tW T h) (hN : h < tN T) : fdn T h y < 96 ∧ fkey T h y < 249856 ∧ s (4620 + 16 * (fdn T h y : Int)) = ((fkey T h y / 4096 : Nat) : Int) ∧ s (6156 + 16 * (fdn T h y : Int)) = ((fkey T h y / 1024 % 4 : Nat) : Int) ∧ s (7692 + 16 * (fdn T h y : Int)) = ((fkey T h y % 1024 : Nat) : Int) := by
  have hl := fdn_in A.2.1.1 h y hy hN
  obtain ⟨i, hi⟩ := List.getElem?_of_mem hl
  obtain ⟨_, hx96, _, _, e5⟩ := A.1.1.leaf A.2.1.1 hi
  rw [fdn_key]
  have hne := A.2.1.2.1 _ hl
  cases hI : tI T (fdn T h y) with
  | nil => exact absurd hI hne
  | cons a l =>
    obtain ⟨g1, g2, g3, _, _, g6⟩ := e5 0 a (by rw [hI]; rfl)
    rw [show (4620 + 16 * (fdn T h y : Int) + ((0 : Nat) : Int)) = 4620 + 16 * (fdn T h y : Int) by omega] at g1
    rw [show (6156 + 16 * (fdn T h y : Int) + ((0 : Nat) : Int)) = 6156 + 16 * (fdn T h y : Int) by omega] at g2
    rw [show (7692 + 16 * (fdn T h y : Int) + ((0 : Nat) : Int)) = 7692 + 16 * (fdn T h y : Int) by omega] at g3
    exact ⟨hx96, g6, g1, g2, g3⟩
/-- a child's place -/
theorem MW.chd (A : MW s m T X dt) {x h : Nat} (hx : tH T x = h + 2) : x < 96 ∧ h + 1 < tN T ∧ (tC T x).length ≤ 6 ∧ s (3852 + (x : Int)) = ((tC T x).length : Nat) ∧ ∀ k y : Nat, (tC T x)[k]? = some y → s (4044 + 6 * (x : Int) + (k : Int)) = (y : Nat) ∧ y < 96 ∧ y ∈ tW T h := by
  have W := A.2.1.1
  have m1 := W.1.2.2.1 (h + 1) x hx
  have hx96 := (W.1.1 _ _ m1).1
  have n1 : h + 1 < tN T := by
    apply Classical.byContradiction
    intro hn
    have := W.1.2.2.2.2.2.2.2.1.2.2.2 (h + 1) (by omega)
    rw [this] at m1; cases m1
  obtain ⟨e1, e2, e3⟩ := A.1.1.2.2.2.2.1 x hx96
  have e4 := A.1.1.2.2.1 x hx96
  rw [W.1.2.2.2.2.2.1 h x m1] at e4
  refine ⟨hx96, n1, e2, by simpa using e4, fun k y hk => ⟨e1 k y hk, e3 y (List.mem_of_getElem? hk), ?_⟩⟩
  rw [← W.1.2.2.2.2.2.2.1 h n1]
  exact List.mem_flatMap.mpr ⟨x, m1, List.mem_of_getElem? hk⟩
set_option maxHeartbeats 2000000 in
theorem m_isInnerAlike (hK : MK M o) (hd : 6 ≤ d) (A : MW s m T X dt) (C : MW c m Tc Xc dtc) {x h : Nat} (x1 : tH T x = h + 2) (x2 : tH Tc x = h + 2) (hl : (tC T x).length = (tC Tc x).length) {r : Bool} (hr : r = true ↔ tC T x = tC Tc x ∧ ∀ y ∈ tC T x, fkey T h y = fkey Tc h y) (hQ : Q (.returned (some (.int (I (bI r))))) (ms M o f s b c w j)) :
    Wp d 219 0 [some (.ref o), some (.int (I (x : Nat))), none, none, none, none, none] [] (ms M o f s b c w j) Q := by
  have hK' := hK
  obtain ⟨k0, k1, k2, k3, k4, k5, k6, k7, k8, k9, k10⟩ := hK
  obtain ⟨hx96, n1, e2, e3, e5⟩ := A.chd x1
  obtain ⟨_, n2, f2, f3, f5⟩ := C.chd x2
  generalize hcs : tC T x = cs at *
  generalize hcs' : tC Tc x = cs' at *
  have g1 : ∀ k, k < cs.length → cs[k]? = some (cs.getD k 0) := fun k hk => by rw [List.getD_eq_getElem?_getD, List.getElem?_eq_getElem hk]; rfl
  have g2 : ∀ k, k < cs.length → cs'[k]? = some (cs'.getD k 0) := fun k hk => by rw [List.getD_eq_getElem?_getD, List.getElem?_eq_getElem (show k < cs'.length by omega)]; rfl
  have aC := alz_l (s := s) (c := c) (a := 4044 + 6 * (x : Int)) (n := cs.length) (g := fun k => cs.getD k 0) (g' := fun k => cs'.getD k 0) (fun k hk => (e5 k _ (g1 k hk)).1) (fun k hk => (f5 k _ (g2 k hk)).1)
  have bC : ∀ k, k < cs.length → i32 (s (4044 + 6 * (x : Int) + (k : Int))) ∧ i32 (c (4044 + 6 * (x : Int) + (k : Int))) := fun k hk => by
    obtain ⟨u1, u2, _⟩ := e5 k _ (g1 k hk)
    obtain ⟨v1, v2, _⟩ := f5 k _ (g2 k hk)
    rw [u1, v1]; exact ⟨i32_n (by omega), i32_n (by omega)⟩
  suffices loop : ∀ N (k : Nat) (v : Bool) (l5 l6 : Option Value), lo l5 = false → k + N = cs.length → (v = true ↔ (cs = cs' ∧ ∀ i, i < k → fkey T h (cs.getD i 0) = fkey Tc h (cs'.getD i 0))) → Wp d 219 28 [some (.ref o), some (.int (I (x : Nat))), some (.int (I (cs.length : Nat))), some (.int (I (bI v))), some (.int (I (k : Nat))), l5, l6] [] (ms M o f s b c w j) Q by
    simp (disch := first | (simp only [dd, dr]; done) | omega) only [W_219, msK, msR, msF, ms1, msS1, k0, k1, k6, e3, I_lt, I_le, I_inj, inB_I, tc_I, Int.toNat_natCast, fkt, rf1, rf0, cq, Nat.reduceAdd, Nat.reduceEqDiff, Int.reduceToNat, eq_self, true_and, and_true, true_or, or_true, bI_0, bI_1, mm, rAm, mF_sF, mR_sR, false_and, and_false, if_false, if_true, false_or, or_false, not_true_eq_false, not_false_eq_true, and_self]
    refine ca_216 (by omega) (m_isAlike hK' (by omega) (by omega) bC ?_)
    simp (disch := first | (simp only [dd, dr]; done) | omega) only [W_219, I_lt, I_le, I_inj, inB_I, tc_I, Int.toNat_natCast, fkt, rf1, rf0, cq, Nat.reduceAdd, Nat.reduceEqDiff, Int.reduceToNat, eq_self, true_and, and_true, true_or, or_true, bI_0, bI_1, mm, rAm, mF_sF, mR_sR, false_and, and_false, if_false, if_true, false_or, or_false, not_true_eq_false, not_false_eq_true, and_self]
    refine loop cs.length 0 _ none none rfl (by omega) ?_
    rw [aC]
    exact ⟨fun hh => ⟨ext_getD hl hh, fun i hi => by omega⟩, fun hh k hk => by rw [hh.1]⟩
  intro N
  induction N with
  | zero =>
    intro k v l5 l6 _ hk hv
    obtain rfl : k = cs.length := by omega
    have hvr : v = r := by
      rw [Bool.eq_iff_iff, hv, hr]
      constructor
      · rintro ⟨e, hh⟩
        refine ⟨e, fun y hy => ?_⟩
        obtain ⟨i, hi, rfl⟩ := List.getElem_of_mem hy
        have := hh i hi
        rw [← e, List.getD_eq_getElem?_getD, List.getElem?_eq_getElem hi] at this
        exact this
      · rintro ⟨e, hh⟩
        subst e
        exact ⟨rfl, fun i hi => hh _ (getD_mem hi)⟩
    rw [← hvr] at hQ
    simp (disch := first | (simp only [dd, dr]; done) | omega) only [w_219_28, W_219, I_lt, I_le, I_inj, inB_I, tc_I, Int.toNat_natCast, fkt, rf1, rf0, cq, Nat.reduceAdd, Nat.reduceEqDiff, Int.reduceToNat, eq_self, true_and, and_true, true_or, or_true, bI_0, bI_1, mm, rAm, mF_sF, mR_sR, false_and, and_false, if_false, if_true, false_or, or_false, not_true_eq_false, not_false_eq_true, and_self]
    refine ⟨fun _ => ?_, (fun h => by first | exact False.elim h | exact absurd trivial h | (exfalso; omega) | exact absurd rfl h | cases h)⟩
    simp (disch := first | (simp only [dd, dr]; done) | omega) only [W_219, I_lt, I_le, I_inj, inB_I, tc_I, Int.toNat_natCast, fkt, rf1, rf0, cq, Nat.reduceAdd, Nat.reduceEqDiff, Int.reduceToNat, eq_self, true_and, and_true, true_or, or_true, bI_0, bI_1, mm, rAm, mF_sF, mR_sR, false_and, and_false, if_false, if_true, false_or, or_false, not_true_eq_false, not_false_eq_true, and_self]
    exact hQ
  | succ N ih =>
    intro k v l5 l6 hl5 hk hv
    simp (disch := first | (simp only [dd, dr]; done) | omega) only [w_219_28, W_219, I_lt, I_le, I_inj, inB_I, tc_I, Int.toNat_natCast, fkt, rf1, rf0, cq, Nat.reduceAdd, Nat.reduceEqDiff, Int.reduceToNat, eq_self, true_and, and_true, true_or, or_true, bI_0, bI_1, mm, rAm, mF_sF, mR_sR, false_and, and_false, if_false, if_true, false_or, or_false, not_true_eq_false, not_false_eq_true, and_self]
    refine ⟨(fun h => by first | exact False.elim h | exact absurd trivial h | (exfalso; omega) | exact absurd rfl h | cases h), fun _ => ?_⟩
    simp (disch := first | (simp only [dd, dr]; done) | omega) only [W_219, I_lt, I_le, I_inj, inB_I, tc_I, Int.toNat_natCast, fkt, rf1, rf0, cq, Nat.reduceAdd, Nat.reduceEqDiff, Int.reduceToNat, eq_self, true_and, and_true, true_or, or_true, bI_0, bI_1, mm, rAm, mF_sF, mR_sR, false_and, and_false, if_false, if_true, false_or, or_false, not_true_eq_false, not_false_eq_true, and_self]
    refine ⟨fun h' => ?_, fun h' => ?_⟩
    · have h' : v = false := h'
      have hrf : r = false := by
        cases hr' : r with
        | false => rfl
        | true =>
          obtain ⟨e, hh⟩ := hr.mp hr'
          subst e
          have := hv.mpr ⟨rfl, fun i hi => hh _ (getD_mem (by omega))⟩
          rw [h'] at this; cases this
      rw [hrf] at hQ
      rw [h']
      simp (disch := first | (simp only [dd, dr]; done) | omega) only [W_219, I_lt, I_le, I_inj, inB_I, tc_I, Int.toNat_natCast, fkt, rf1, rf0, cq, Nat.reduceAdd, Nat.reduceEqDiff, Int.reduceToNat, eq_self, true_and, and_true, true_or, or_true, bI_0, bI_1, mm, rAm, mF_sF, mR_sR, false_and, and_false, if_false, if_true, false_or, or_false, not_true_eq_false, not_false_eq_true, and_self]
      exact hQ
    have h' : v = true := by simpa using h'
    obtain ⟨ek, hbd⟩ := hv.mp h'
    subst ek
    have hkl : k < cs.length := by omega
    obtain ⟨u1, u2, u3⟩ := e5 k _ (g1 k hkl)
    obtain ⟨v1, v2, v3⟩ := f5 k _ (g1 k hkl)
    generalize hy : cs.getD k 0 = y at *
    obtain ⟨p1, p2, p3, p4, p5⟩ := A.first u3 (by omega)
    obtain ⟨q1, q2, q3, q4, q5⟩ := C.first v3 (by omega)
    have next : ∀ (v' : Bool) (l5 l6 : Option Value), lo l5 = false → (v' = true ↔ fkey T h y = fkey Tc h y) → Wp d 219 28 [some (.ref o), some (.int (I (x : Nat))), some (.int (I (cs.length : Nat))), some (.int (I (bI v'))), some (.int (I ((k : Int) + 1))), l5, l6] [] (ms M o f s b c w j) Q := by
      intro v' l5 l6 hl5 hv'
      rw [show ((k : Int) + 1) = ((k + 1 : Nat) : Int) by omega]
      refine ih (k + 1) v' l5 l6 hl5 (by omega) ⟨fun hh => ⟨rfl, fun i hi => ?_⟩, fun hh => ?_⟩
      · by_cases e : i = k
        · rw [e, hy]; exact hv'.mp hh
        · exact hbd i (by omega)
      · have := hh.2 k (by omega)
        rw [hy] at this
        exact hv'.mpr this
    have v1' : c (4044 + 6 * (x : Int) + (k : Int)) = (y : Nat) := v1
    simp (disch := first | (simp only [dd, dr]; done) | omega) only [W_219, msK, msR, msF, ms1, msS1, k0, k1, k6, u1, I_lt, I_le, I_inj, inB_I, tc_I, Int.toNat_natCast, fkt, rf1, rf0, cq, Nat.reduceAdd, Nat.reduceEqDiff, Int.reduceToNat, eq_self, true_and, and_true, true_or, or_true, bI_0, bI_1, mm, rAm, mF_sF, mR_sR, false_and, and_false, if_false, if_true, false_or, or_false, not_true_eq_false, not_false_eq_true, and_self]
    refine cr_220 (by omega) ?_
    simp (disch := first | (simp only [dd, dr]; done) | omega) only [W_220, I_lt, I_le, I_inj, inB_I, tc_I, Int.toNat_natCast, fkt, rf1, rf0, cq, Nat.reduceAdd, Nat.reduceEqDiff, Int.reduceToNat, eq_self, true_and, and_true, true_or, or_true, bI_0, bI_1, mm, rAm, mF_sF, mR_sR, false_and, and_false, if_false, if_true, false_or, or_false, not_true_eq_false, not_false_eq_true, and_self]
    refine m_firstBelow (M := ms M o f s b c w j) (a := o + 1) (T := T) k6 (fun z hz => ms1 M o f s b c w j hz) A.1.1 A.2.1.1 h y u3 (by omega) ?_ _
    simp (disch := first | (simp only [dd, dr]; done) | omega) only [W_219, msK, msR, msF, ms1, msS1, k0, k1, k6, k3, k8, ms3, v1', I_lt, I_le, I_inj, inB_I, tc_I, Int.toNat_natCast, fkt, rf1, rf0, cq, Nat.reduceAdd, Nat.reduceEqDiff, Int.reduceToNat, eq_self, true_and, and_true, true_or, or_true, bI_0, bI_1, mm, rAm, mF_sF, mR_sR, false_and, and_false, if_false, if_true, false_or, or_false, not_true_eq_false, not_false_eq_true, and_self]
    refine cr_220 (by omega) ?_
    simp (disch := first | (simp only [dd, dr]; done) | omega) only [W_220, I_lt, I_le, I_inj, inB_I, tc_I, Int.toNat_natCast, fkt, rf1, rf0, cq, Nat.reduceAdd, Nat.reduceEqDiff, Int.reduceToNat, eq_self, true_and, and_true, true_or, or_true, bI_0, bI_1, mm, rAm, mF_sF, mR_sR, false_and, and_false, if_false, if_true, false_or, or_false, not_true_eq_false, not_false_eq_true, and_self]
    refine m_firstBelow (M := ms M o f s b c w j) (a := o + 3) (T := Tc) k8 (fun z hz => ms3 M o f s b c w j hz) C.1.1 C.2.1.1 h y v3 (by omega) ?_ _
    simp (disch := first | (simp only [dd, dr]; done) | omega) only [W_219, msK, msR, msF, ms1, msS1, k0, k1, k6, k3, k8, ms3, p3, q3, I_lt, I_le, I_inj, inB_I, tc_I, Int.toNat_natCast, fkt, rf1, rf0, cq, Nat.reduceAdd, Nat.reduceEqDiff, Int.reduceToNat, eq_self, true_and, and_true, true_or, or_true, bI_0, bI_1, mm, rAm, mF_sF, mR_sR, false_and, and_false, if_false, if_true, false_or, or_false, not_true_eq_false, not_false_eq_true, and_self]
    refine ⟨fun h1 => ?_, fun h1 => ?_⟩
    · simp (disch := first | (simp only [dd, dr]; done) | omega) only [W_219, I_lt, I_le, I_inj, inB_I, tc_I, Int.toNat_natCast, fkt, rf1, rf0, cq, Nat.reduceAdd, Nat.reduceEqDiff, Int.reduceToNat, eq_self, true_and, and_true, true_or, or_true, bI_0, bI_1, mm, rAm, mF_sF, mR_sR, false_and, and_false, if_false, if_true, false_or, or_false, not_true_eq_false, not_false_eq_true, and_self]
      exact next false _ _ rfl ⟨(fun hh => by cases hh), fun hh => by rw [hh] at h1; omega⟩
    simp (disch := first | (simp only [dd, dr]; done) | omega) only [W_219, msK, msR, msF, ms1, msS1, k0, k1, k6, k3, k8, ms3, p4, q4, I_lt, I_le, I_inj, inB_I, tc_I, Int.toNat_natCast, fkt, rf1, rf0, cq, Nat.reduceAdd, Nat.reduceEqDiff, Int.reduceToNat, eq_self, true_and, and_true, true_or, or_true, bI_0, bI_1, mm, rAm, mF_sF, mR_sR, false_and, and_false, if_false, if_true, false_or, or_false, not_true_eq_false, not_false_eq_true, and_self]
    refine ⟨fun h2 => ?_, fun h2 => ?_⟩
    · simp (disch := first | (simp only [dd, dr]; done) | omega) only [W_219, I_lt, I_le, I_inj, inB_I, tc_I, Int.toNat_natCast, fkt, rf1, rf0, cq, Nat.reduceAdd, Nat.reduceEqDiff, Int.reduceToNat, eq_self, true_and, and_true, true_or, or_true, bI_0, bI_1, mm, rAm, mF_sF, mR_sR, false_and, and_false, if_false, if_true, false_or, or_false, not_true_eq_false, not_false_eq_true, and_self]
      exact next false _ _ rfl ⟨(fun hh => by cases hh), fun hh => by rw [hh] at h2; omega⟩
    simp (disch := first | (simp only [dd, dr]; done) | omega) only [W_219, msK, msR, msF, ms1, msS1, k0, k1, k6, k3, k8, ms3, p5, q5, I_lt, I_le, I_inj, inB_I, tc_I, Int.toNat_natCast, fkt, rf1, rf0, cq, Nat.reduceAdd, Nat.reduceEqDiff, Int.reduceToNat, eq_self, true_and, and_true, true_or, or_true, bI_0, bI_1, mm, rAm, mF_sF, mR_sR, false_and, and_false, if_false, if_true, false_or, or_false, not_true_eq_false, not_false_eq_true, and_self]
    refine ⟨fun h3 => ?_, fun h3 => ?_⟩
    · simp (disch := first | (simp only [dd, dr]; done) | omega) only [W_219, I_lt, I_le, I_inj, inB_I, tc_I, Int.toNat_natCast, fkt, rf1, rf0, cq, Nat.reduceAdd, Nat.reduceEqDiff, Int.reduceToNat, eq_self, true_and, and_true, true_or, or_true, bI_0, bI_1, mm, rAm, mF_sF, mR_sR, false_and, and_false, if_false, if_true, false_or, or_false, not_true_eq_false, not_false_eq_true, and_self]
      exact next false _ _ rfl ⟨(fun hh => by cases hh), fun hh => by rw [hh] at h3; omega⟩
    · simp (disch := first | (simp only [dd, dr]; done) | omega) only [W_219, I_lt, I_le, I_inj, inB_I, tc_I, Int.toNat_natCast, fkt, rf1, rf0, cq, Nat.reduceAdd, Nat.reduceEqDiff, Int.reduceToNat, eq_self, true_and, and_true, true_or, or_true, bI_0, bI_1, mm, rAm, mF_sF, mR_sR, false_and, and_false, if_false, if_true, false_or, or_false, not_true_eq_false, not_false_eq_true, and_self]
      exact next true _ _ rfl ⟨(fun _ => by omega), fun _ => rfl⟩
set_option maxHeartbeats 2000000 in
theorem m_isChanged (hK : MK M o) (hd : 8 ≤ d) (hm : m ≤ 96) (A : MW s m T X dt) (C : MW c m Tc Xc dtc) (K : CMt m Tc Xc dtc la) {x : Nat} (hx : x < 96) (hQ : Q (.returned (some (.int (I (bI (chq m T X dt Tc la x)))))) (ms M o f s b c w j)) : Wp d 215 0 [some (.ref o), some (.int (I (x : Nat)))] [] (ms M o f s b c w j) Q := by
  have hK' := hK
  obtain ⟨k0, k1, k2, k3, k4, k5, k6, k7, k8, k9, k10⟩ := hK
  have hq := chq_iff hm A C K x
  have eu := A.1.1.1 x hx
  have ec := C.1.1.1 x hx
  have eu' : s (0 + (x : Int)) = bI (tU T x) := by rw [Int.zero_add]; exact eu
  have ec' : c (0 + (x : Int)) = bI (tU Tc x) := by rw [Int.zero_add]; exact ec
  have eh := A.1.1.2.1 x hx
  have ech := C.1.1.2.1 x hx
  have bH : ∀ {sz : Nat → Nat} {T : Tr}, Wf m sz T → tH T x ≤ 8 := by
    intro sz T W
    have t7 := W.1.tN7 W.2.1
    cases hh : tH T x with
    | zero => omega
    | succ k =>
      have := W.1.2.2.1 k x hh
      apply Classical.byContradiction
      intro hn
      have h2 := W.1.2.2.2.2.2.2.2.1.2.2.2 k (by omega)
      rw [h2] at this; cases this
  have hA8 := bH A.2.1.1
  have hC8 := bH C.2.1.1
  generalize chq m T X dt Tc la x = r at *
  cases hu : tU T x with
  | false =>
    have hr : r = false := by cases hr' : r with | false => rfl | true => have := (hq.mp hr').1; rw [hu] at this; cases this
    rw [hr] at hQ
    rw [hu] at eu'
    have eu' : s (0 + (x : Int)) = 0 := eu'
    simp (disch := first | (simp only [dd, dr]; done) | omega) only [W_215, msK, msR, msF, ms1, msS1, k0, k1, k6, eu', I_lt, I_le, I_inj, inB_I, tc_I, Int.toNat_natCast, fkt, rf1, rf0, cq, Nat.reduceAdd, Nat.reduceEqDiff, Int.reduceToNat, eq_self, true_and, and_true, true_or, or_true, bI_0, bI_1, mm, rAm, mF_sF, mR_sR, false_and, and_false, if_false, if_true, false_or, or_false, not_true_eq_false, not_false_eq_true, and_self]
    refine ⟨(fun h => by first | exact False.elim h | exact absurd trivial h | (exfalso; omega) | exact absurd rfl h | cases h), fun _ => ?_⟩
    simp (disch := first | (simp only [dd, dr]; done) | omega) only [W_215, I_lt, I_le, I_inj, inB_I, tc_I, Int.toNat_natCast, fkt, rf1, rf0, cq, Nat.reduceAdd, Nat.reduceEqDiff, Int.reduceToNat, eq_self, true_and, and_true, true_or, or_true, bI_0, bI_1, mm, rAm, mF_sF, mR_sR, false_and, and_false, if_false, if_true, false_or, or_false, not_true_eq_false, not_false_eq_true, and_self]
    exact hQ
  | true =>
  rw [hu] at eu' hq
  have eu' : s (0 + (x : Int)) = 1 := eu'
  simp (disch := first | (simp only [dd, dr]; done) | omega) only [W_215, msK, msR, msF, ms1, msS1, k0, k1, k6, eu', I_lt, I_le, I_inj, inB_I, tc_I, Int.toNat_natCast, fkt, rf1, rf0, cq, Nat.reduceAdd, Nat.reduceEqDiff, Int.reduceToNat, eq_self, true_and, and_true, true_or, or_true, bI_0, bI_1, mm, rAm, mF_sF, mR_sR, false_and, and_false, if_false, if_true, false_or, or_false, not_true_eq_false, not_false_eq_true, and_self]
  refine ⟨fun _ => ?_, (fun h => by first | exact False.elim h | exact absurd trivial h | (exfalso; omega) | exact absurd rfl h | cases h)⟩
  simp (disch := first | (simp only [dd, dr]; done) | omega) only [W_215, I_lt, I_le, I_inj, inB_I, tc_I, Int.toNat_natCast, fkt, rf1, rf0, cq, Nat.reduceAdd, Nat.reduceEqDiff, Int.reduceToNat, eq_self, true_and, and_true, true_or, or_true, bI_0, bI_1, mm, rAm, mF_sF, mR_sR, false_and, and_false, if_false, if_true, false_or, or_false, not_true_eq_false, not_false_eq_true, and_self]
  by_cases x0 : x = 0
  · subst x0
    refine ⟨(fun h => by first | exact False.elim h | exact absurd trivial h | (exfalso; omega) | exact absurd rfl h | cases h), fun _ => ?_⟩
    have hc0 : tU Tc 0 = true := C.2.1.1.1.2.2.2.2.2.2.2.2.1.1
    rw [hc0] at hq
    unfold alB at hq
    rw [if_pos rfl] at hq
    have hrT : tR T < 96 := (A.2.1.1.1.1 _ _ (by rw [A.2.1.1.1.2.2.2.2.2.2.2.1.1]; exact List.mem_cons_self ..)).1
    have hrC : tR Tc < 96 := (C.2.1.1.1.1 _ _ (by rw [C.2.1.1.1.2.2.2.2.2.2.2.1.1]; exact List.mem_cons_self ..)).1
    have aU := alz_iff (s := s) (c := c) (a := 0) 96
    have aU' : alz s c 0 96 = true ↔ ∀ y, y < 96 → tU T y = tU Tc y := by
      rw [aU]
      constructor
      · intro h y hy
        have := h y hy
        rw [Int.zero_add, A.1.1.1 y hy, C.1.1.1 y hy] at this
        cases h1 : tU T y <;> cases h2 : tU Tc y <;> rw [h1, h2] at this <;> first | rfl | cases this
      · intro h k hk
        rw [Int.zero_add, A.1.1.1 k hk, C.1.1.1 k hk, h k hk]
    simp (disch := first | (simp only [dd, dr]; done) | omega) only [W_215, msK, msR, msF, ms1, msS1, k0, k1, k6, I_lt, I_le, I_inj, inB_I, tc_I, Int.toNat_natCast, fkt, rf1, rf0, cq, Nat.reduceAdd, Nat.reduceEqDiff, Int.reduceToNat, eq_self, true_and, and_true, true_or, or_true, bI_0, bI_1, mm, rAm, mF_sF, mR_sR, false_and, and_false, if_false, if_true, false_or, or_false, not_true_eq_false, not_false_eq_true, and_self]
    refine ca_216 (by omega) (m_isAlike (n := 96) hK' (by omega) (by omega) (fun k hk => ?_) ?_)
    · rw [Int.zero_add, A.1.1.1 k hk, C.1.1.1 k hk]
      exact ⟨(by cases tU T k <;> exact ⟨by decide, by decide⟩), (by cases tU Tc k <;> exact ⟨by decide, by decide⟩)⟩
    generalize alz s c 0 96 = al at *
    simp (disch := first | (simp only [dd, dr]; done) | omega) only [W_215, I_lt, I_le, I_inj, inB_I, tc_I, Int.toNat_natCast, fkt, rf1, rf0, cq, Nat.reduceAdd, Nat.reduceEqDiff, Int.reduceToNat, eq_self, true_and, and_true, true_or, or_true, bI_0, bI_1, mm, rAm, mF_sF, mR_sR, false_and, and_false, if_false, if_true, false_or, or_false, not_true_eq_false, not_false_eq_true, and_self]
    refine ⟨fun h1 => ?_, fun h1 => ?_⟩
    · have h1 : al = false := h1
      have hr : r = true := hq.mpr ⟨rfl, fun _ hh => by have := aU'.mpr hh.2; rw [h1] at this; cases this⟩
      rw [hr] at hQ
      simp (disch := first | (simp only [dd, dr]; done) | omega) only [W_215, I_lt, I_le, I_inj, inB_I, tc_I, Int.toNat_natCast, fkt, rf1, rf0, cq, Nat.reduceAdd, Nat.reduceEqDiff, Int.reduceToNat, eq_self, true_and, and_true, true_or, or_true, bI_0, bI_1, mm, rAm, mF_sF, mR_sR, false_and, and_false, if_false, if_true, false_or, or_false, not_true_eq_false, not_false_eq_true, and_self]
      exact hQ
    have h1 : al = true := by simpa using h1
    have aR : alz s c 13076 1 = true ↔ tR T = tR Tc := by
      rw [alz_iff]
      have r1 : s (13076 + ((0 : Nat) : Int)) = (tR T : Nat) := A.1.1.2.2.2.2.2.2.2.1
      have r2 : c (13076 + ((0 : Nat) : Int)) = (tR Tc : Nat) := C.1.1.2.2.2.2.2.2.2.1
      constructor
      · intro h
        have := h 0 (by omega)
        rw [r1, r2] at this
        omega
      · intro h k hk
        obtain rfl : k = 0 := by omega
        rw [r1, r2, h]
    simp (disch := first | (simp only [dd, dr]; done) | omega) only [W_215, msK, msR, msF, ms1, msS1, k0, k1, k6, I_lt, I_le, I_inj, inB_I, tc_I, Int.toNat_natCast, fkt, rf1, rf0, cq, Nat.reduceAdd, Nat.reduceEqDiff, Int.reduceToNat, eq_self, true_and, and_true, true_or, or_true, bI_0, bI_1, mm, rAm, mF_sF, mR_sR, false_and, and_false, if_false, if_true, false_or, or_false, not_true_eq_false, not_false_eq_true, and_self]
    refine ca_216 (by omega) (m_isAlike (n := 1) hK' (by omega) (by omega) (fun k hk => ?_) ?_)
    · obtain rfl : k = 0 := by omega
      have r1 : s (13076 + ((0 : Nat) : Int)) = (tR T : Nat) := A.1.1.2.2.2.2.2.2.2.1
      have r2 : c (13076 + ((0 : Nat) : Int)) = (tR Tc : Nat) := C.1.1.2.2.2.2.2.2.2.1
      rw [r1, r2]
      exact ⟨i32_n (by omega), i32_n (by omega)⟩
    generalize alz s c 13076 1 = al2 at *
    simp (disch := first | (simp only [dd, dr]; done) | omega) only [W_215, I_lt, I_le, I_inj, inB_I, tc_I, Int.toNat_natCast, fkt, rf1, rf0, cq, Nat.reduceAdd, Nat.reduceEqDiff, Int.reduceToNat, eq_self, true_and, and_true, true_or, or_true, bI_0, bI_1, mm, rAm, mF_sF, mR_sR, false_and, and_false, if_false, if_true, false_or, or_false, not_true_eq_false, not_false_eq_true, and_self]
    refine ⟨fun h2 => ?_, fun h2 => ?_⟩
    · have h2 : al2 = true := by simpa using h2
      have hr : r = false := by
        cases hr' : r with
        | false => rfl
        | true => exact absurd ⟨aR.mp h2, aU'.mp h1⟩ ((hq.mp hr').2 rfl)
      rw [hr] at hQ
      simp (disch := first | (simp only [dd, dr]; done) | omega) only [W_215, I_lt, I_le, I_inj, inB_I, tc_I, Int.toNat_natCast, fkt, rf1, rf0, cq, Nat.reduceAdd, Nat.reduceEqDiff, Int.reduceToNat, eq_self, true_and, and_true, true_or, or_true, bI_0, bI_1, mm, rAm, mF_sF, mR_sR, false_and, and_false, if_false, if_true, false_or, or_false, not_true_eq_false, not_false_eq_true, and_self]
      exact hQ
    · have h2 : al2 = false := by simpa using h2
      have hr : r = true := hq.mpr ⟨rfl, fun _ hh => by have := aR.mpr hh.1; rw [h2] at this; cases this⟩
      rw [hr] at hQ
      simp (disch := first | (simp only [dd, dr]; done) | omega) only [W_215, I_lt, I_le, I_inj, inB_I, tc_I, Int.toNat_natCast, fkt, rf1, rf0, cq, Nat.reduceAdd, Nat.reduceEqDiff, Int.reduceToNat, eq_self, true_and, and_true, true_or, or_true, bI_0, bI_1, mm, rAm, mF_sF, mR_sR, false_and, and_false, if_false, if_true, false_or, or_false, not_true_eq_false, not_false_eq_true, and_self]
      exact hQ
  refine ⟨fun _ => ?_, (fun h => by first | exact False.elim h | exact absurd trivial h | (exfalso; omega) | exact absurd rfl h | cases h)⟩
  simp (disch := first | (simp only [dd, dr]; done) | omega) only [W_215, msK, msR, msF, ms1, msS1, k0, k1, k6, k3, k8, ms3, ec', I_lt, I_le, I_inj, inB_I, tc_I, Int.toNat_natCast, fkt, rf1, rf0, cq, Nat.reduceAdd, Nat.reduceEqDiff, Int.reduceToNat, eq_self, true_and, and_true, true_or, or_true, bI_0, bI_1, mm, rAm, mF_sF, mR_sR, false_and, and_false, if_false, if_true, false_or, or_false, not_true_eq_false, not_false_eq_true, and_self]
  cases huc : tU Tc x with
  | false =>
    rw [huc] at hq
    have hr : r = true := hq.mpr ⟨rfl, fun hh => by cases hh⟩
    rw [hr] at hQ
    refine ⟨fun _ => ?_, (fun h => by first | exact False.elim h | exact absurd trivial h | (exfalso; omega) | exact absurd rfl h | cases h)⟩
    simp (disch := first | (simp only [dd, dr]; done) | omega) only [W_215, I_lt, I_le, I_inj, inB_I, tc_I, Int.toNat_natCast, fkt, rf1, rf0, cq, Nat.reduceAdd, Nat.reduceEqDiff, Int.reduceToNat, eq_self, true_and, and_true, true_or, or_true, bI_0, bI_1, mm, rAm, mF_sF, mR_sR, false_and, and_false, if_false, if_true, false_or, or_false, not_true_eq_false, not_false_eq_true, and_self]
    exact hQ
  | true =>
  rw [huc] at hq
  have hq : r = true ↔ ¬ alB T X dt Tc Xc dtc x := by rw [hq]; simp
  unfold alB at hq
  rw [if_neg x0] at hq
  refine ⟨(fun h => by first | exact False.elim h | exact absurd trivial h | (exfalso; omega) | exact absurd rfl h | cases h), fun _ => ?_⟩
  have one : ∀ (a : Int) (y z : Nat), 0 ≤ a → a + 1 ≤ 25366 → y < 100000 → z < 100000 → s a = y → c a = z → ∀ (Q' : Outcome → Mem → Prop), Q' (.returned (some (.int (I (bI (decide (y = z))))))) (ms M o f s b c w j) → ∀ d', Wp d' 216 0 [some (.ref o), some (.int (I a)), some (.int (I 1)), none, none] [] (ms M o f s b c w j) Q' := by
    intro a y z h0 h1 hy hz hs hc Q' hQ' d'
    refine m_isAlike (n := 1) hK' h0 h1 (fun k hk => ?_) ?_
    · obtain rfl : k = 0 := by omega
      rw [show a + ((0 : Nat) : Int) = a by omega, hs, hc]
      exact ⟨⟨by omega, by omega⟩, ⟨by omega, by omega⟩⟩
    · rw [show alz s c a 1 = decide (y = z) from ?_]
      · exact hQ'
      · show (true && decide (s (a + ((0 : Nat) : Int)) = c (a + ((0 : Nat) : Int)))) = _
        rw [Bool.true_and, show a + ((0 : Nat) : Int) = a by omega, hs, hc]
        exact decide_eq_decide.mpr (by omega)
  simp (disch := first | (simp only [dd, dr]; done) | omega) only [W_215, msK, msR, msF, ms1, msS1, k0, k1, k6, I_lt, I_le, I_inj, inB_I, tc_I, Int.toNat_natCast, fkt, rf1, rf0, cq, Nat.reduceAdd, Nat.reduceEqDiff, Int.reduceToNat, eq_self, true_and, and_true, true_or, or_true, bI_0, bI_1, mm, rAm, mF_sF, mR_sR, false_and, and_false, if_false, if_true, false_or, or_false, not_true_eq_false, not_false_eq_true, and_self]
  refine ca_216 (by omega) (one _ _ _ (by omega) (by omega) (by omega) (by omega) eh ech _ ?_ _)
  simp (disch := first | (simp only [dd, dr]; done) | omega) only [W_215, I_lt, I_le, I_inj, inB_I, tc_I, Int.toNat_natCast, fkt, rf1, rf0, cq, Nat.reduceAdd, Nat.reduceEqDiff, Int.reduceToNat, eq_self, true_and, and_true, true_or, or_true, bI_0, bI_1, mm, rAm, mF_sF, mR_sR, false_and, and_false, if_false, if_true, false_or, or_false, not_true_eq_false, not_false_eq_true, and_self]
  refine ⟨fun h1 => ?_, fun h1 => ?_⟩
  rotate_left
  · have h1 : ¬ tH T x = tH Tc x := by simpa using h1
    have hr : r = true := hq.mpr (fun hh => h1 hh.1)
    rw [hr] at hQ
    simp (disch := first | (simp only [dd, dr]; done) | omega) only [W_215, I_lt, I_le, I_inj, inB_I, tc_I, Int.toNat_natCast, fkt, rf1, rf0, cq, Nat.reduceAdd, Nat.reduceEqDiff, Int.reduceToNat, eq_self, true_and, and_true, true_or, or_true, bI_0, bI_1, mm, rAm, mF_sF, mR_sR, false_and, and_false, if_false, if_true, false_or, or_false, not_true_eq_false, not_false_eq_true, and_self]
    exact hQ
  have h1 : tH T x = tH Tc x := by simpa using h1
  have hq : r = true ↔ ¬ (if tH T x = 0 then ∀ i, i < 128 → dt x i = dtc x i else if tH T x = 1 then tI T x = tI Tc x ∧ ∀ k ∈ tI T x, pyO X k = pyO Xc k else tC T x = tC Tc x ∧ ∀ y ∈ tC T x, fkey T (tH T x - 2) y = fkey Tc (tH T x - 2) y) := by
    rw [hq]
    exact ⟨fun h h' => h ⟨h1, h'⟩, fun h h' => h h'.2⟩
  simp (disch := first | (simp only [dd, dr]; done) | omega) only [W_215, msK, msR, msF, ms1, msS1, k0, k1, k6, eh, I_lt, I_le, I_inj, inB_I, tc_I, Int.toNat_natCast, fkt, rf1, rf0, cq, Nat.reduceAdd, Nat.reduceEqDiff, Int.reduceToNat, eq_self, true_and, and_true, true_or, or_true, bI_0, bI_1, mm, rAm, mF_sF, mR_sR, false_and, and_false, if_false, if_true, false_or, or_false, not_true_eq_false, not_false_eq_true, and_self]
  by_cases c0 : tH T x = 0
  · rw [if_pos c0] at hq
    refine ⟨(fun h => by first | exact False.elim h | exact absurd trivial h | (exfalso; omega) | exact absurd rfl h | cases h), fun _ => ?_⟩
    have d1 := fun i hi => A.1.2.2.2 x hx hu c0 x0 i hi
    have d2 := fun i hi => C.1.2.2.2 x hx huc (by omega) x0 i hi
    have l1 := A.2.2.2.2.2 x hu c0 x0
    have l2 := C.2.2.2.2.2 x huc (by omega) x0
    have aD := alz_l (s := s) (c := c) (a := 13078 + 128 * (x : Int)) (n := 128) (g := fun i => dt x i) (g' := fun i => dtc x i) d1 d2
    simp (disch := first | (simp only [dd, dr]; done) | omega) only [W_215, msK, msR, msF, ms1, msS1, k0, k1, k6, I_lt, I_le, I_inj, inB_I, tc_I, Int.toNat_natCast, fkt, rf1, rf0, cq, Nat.reduceAdd, Nat.reduceEqDiff, Int.reduceToNat, eq_self, true_and, and_true, true_or, or_true, bI_0, bI_1, mm, rAm, mF_sF, mR_sR, false_and, and_false, if_false, if_true, false_or, or_false, not_true_eq_false, not_false_eq_true, and_self]
    refine ca_216 (by omega) (m_isAlike (n := 128) hK' (by omega) (by omega) (fun k hk => ?_) ?_)
    · have := l1 k hk
      have := l2 k hk
      rw [d1 k hk, d2 k hk]
      exact ⟨i32_n (by omega), i32_n (by omega)⟩
    generalize alz s c (13078 + 128 * (x : Int)) 128 = al at *
    simp (disch := first | (simp only [dd, dr]; done) | omega) only [W_215, I_lt, I_le, I_inj, inB_I, tc_I, Int.toNat_natCast, fkt, rf1, rf0, cq, Nat.reduceAdd, Nat.reduceEqDiff, Int.reduceToNat, eq_self, true_and, and_true, true_or, or_true, bI_0, bI_1, mm, rAm, mF_sF, mR_sR, false_and, and_false, if_false, if_true, false_or, or_false, not_true_eq_false, not_false_eq_true, and_self]
    refine ⟨fun h2 => ?_, fun h2 => ?_⟩
    · have h2 : al = true := by simpa using h2
      have hr : r = false := by
        cases hr' : r with
        | false => rfl
        | true => exact absurd (aD.mp h2) (hq.mp hr')
      rw [hr] at hQ
      simp (disch := first | (simp only [dd, dr]; done) | omega) only [W_215, I_lt, I_le, I_inj, inB_I, tc_I, Int.toNat_natCast, fkt, rf1, rf0, cq, Nat.reduceAdd, Nat.reduceEqDiff, Int.reduceToNat, eq_self, true_and, and_true, true_or, or_true, bI_0, bI_1, mm, rAm, mF_sF, mR_sR, false_and, and_false, if_false, if_true, false_or, or_false, not_true_eq_false, not_false_eq_true, and_self]
      exact hQ
    · have h2 : al = false := by simpa using h2
      have hr : r = true := hq.mpr (fun hh => by have := aD.mpr hh; rw [h2] at this; cases this)
      rw [hr] at hQ
      simp (disch := first | (simp only [dd, dr]; done) | omega) only [W_215, I_lt, I_le, I_inj, inB_I, tc_I, Int.toNat_natCast, fkt, rf1, rf0, cq, Nat.reduceAdd, Nat.reduceEqDiff, Int.reduceToNat, eq_self, true_and, and_true, true_or, or_true, bI_0, bI_1, mm, rAm, mF_sF, mR_sR, false_and, and_false, if_false, if_true, false_or, or_false, not_true_eq_false, not_false_eq_true, and_self]
      exact hQ
  rw [if_neg c0] at hq
  refine ⟨fun _ => ?_, (fun h => by first | exact False.elim h | exact absurd trivial h | (exfalso; omega) | exact absurd rfl h | cases h)⟩
  have ecn := A.1.1.2.2.1 x hx
  have eccn := C.1.1.2.2.1 x hx
  have ln1 := A.1.1.2.2.2.2.1 x hx
  have ln2 := C.1.1.2.2.2.2.1 x hx
  have ln3 := (A.1.1.2.2.2.2.2.1 x hx).2.1
  have ln4 := (C.1.1.2.2.2.2.2.1 x hx).2.1
  simp (disch := first | (simp only [dd, dr]; done) | omega) only [W_215, msK, msR, msF, ms1, msS1, k0, k1, k6, I_lt, I_le, I_inj, inB_I, tc_I, Int.toNat_natCast, fkt, rf1, rf0, cq, Nat.reduceAdd, Nat.reduceEqDiff, Int.reduceToNat, eq_self, true_and, and_true, true_or, or_true, bI_0, bI_1, mm, rAm, mF_sF, mR_sR, false_and, and_false, if_false, if_true, false_or, or_false, not_true_eq_false, not_false_eq_true, and_self]
  refine ca_216 (by omega) (one _ _ _ (by omega) (by omega) (by omega) (by omega) ecn eccn _ ?_ _)
  by_cases c1 : tH T x = 1
  · rw [if_pos c1] at hq
    have m1 := A.2.1.1.1.2.2.1 0 x c1
    have m2 := C.2.1.1.1.2.2.1 0 x (by omega)
    have z1 := A.2.1.1.1.2.2.2.2.1 x m1
    have z2 := C.2.1.1.1.2.2.2.2.1 x m2
    rw [z1, z2, List.length_nil, Nat.add_zero, Nat.add_zero]
    simp (disch := first | (simp only [dd, dr]; done) | omega) only [W_215, I_lt, I_le, I_inj, inB_I, tc_I, Int.toNat_natCast, fkt, rf1, rf0, cq, Nat.reduceAdd, Nat.reduceEqDiff, Int.reduceToNat, eq_self, true_and, and_true, true_or, or_true, bI_0, bI_1, mm, rAm, mF_sF, mR_sR, false_and, and_false, if_false, if_true, false_or, or_false, not_true_eq_false, not_false_eq_true, and_self]
    refine ⟨fun h2 => ?_, fun h2 => ?_⟩
    · have h2 : ¬ (tI T x).length = (tI Tc x).length := by simpa using h2
      have hr : r = true := hq.mpr (fun hh => h2 (by rw [hh.1]))
      rw [hr] at hQ
      simp (disch := first | (simp only [dd, dr]; done) | omega) only [W_215, I_lt, I_le, I_inj, inB_I, tc_I, Int.toNat_natCast, fkt, rf1, rf0, cq, Nat.reduceAdd, Nat.reduceEqDiff, Int.reduceToNat, eq_self, true_and, and_true, true_or, or_true, bI_0, bI_1, mm, rAm, mF_sF, mR_sR, false_and, and_false, if_false, if_true, false_or, or_false, not_true_eq_false, not_false_eq_true, and_self]
      exact hQ
    have h2 : (tI T x).length = (tI Tc x).length := by simpa using h2
    rw [c1] at eh
    simp (disch := first | (simp only [dd, dr]; done) | omega) only [W_215, msK, msR, msF, ms1, msS1, k0, k1, k6, eh, I_lt, I_le, I_inj, inB_I, tc_I, Int.toNat_natCast, fkt, rf1, rf0, cq, Nat.reduceAdd, Nat.reduceEqDiff, Int.reduceToNat, eq_self, true_and, and_true, true_or, or_true, bI_0, bI_1, mm, rAm, mF_sF, mR_sR, false_and, and_false, if_false, if_true, false_or, or_false, not_true_eq_false, not_false_eq_true, and_self]
    refine ⟨(fun h => by first | exact False.elim h | exact absurd trivial h | (exfalso; omega) | exact absurd rfl h | cases h), fun _ => ?_⟩
    simp (disch := first | (simp only [dd, dr]; done) | omega) only [W_215, msK, msR, msF, ms1, msS1, k0, k1, k6, I_lt, I_le, I_inj, inB_I, tc_I, Int.toNat_natCast, fkt, rf1, rf0, cq, Nat.reduceAdd, Nat.reduceEqDiff, Int.reduceToNat, eq_self, true_and, and_true, true_or, or_true, bI_0, bI_1, mm, rAm, mF_sF, mR_sR, false_and, and_false, if_false, if_true, false_or, or_false, not_true_eq_false, not_false_eq_true, and_self]
    refine ca_217 (by omega) (m_isLeafAlike (r := !r) hK' (by omega) A C c1 (by omega) h2 (not_iff1 hq) ?_)
    simp (disch := first | (simp only [dd, dr]; done) | omega) only [W_215, I_lt, I_le, I_inj, inB_I, tc_I, Int.toNat_natCast, fkt, rf1, rf0, cq, Nat.reduceAdd, Nat.reduceEqDiff, Int.reduceToNat, eq_self, true_and, and_true, true_or, or_true, bI_0, bI_1, mm, rAm, mF_sF, mR_sR, false_and, and_false, if_false, if_true, false_or, or_false, not_true_eq_false, not_false_eq_true, and_self]
    refine ⟨fun h3 => ?_, fun h3 => ?_⟩
    · have h3 : r = true := by simpa using h3
      rw [h3] at hQ
      simp (disch := first | (simp only [dd, dr]; done) | omega) only [W_215, I_lt, I_le, I_inj, inB_I, tc_I, Int.toNat_natCast, fkt, rf1, rf0, cq, Nat.reduceAdd, Nat.reduceEqDiff, Int.reduceToNat, eq_self, true_and, and_true, true_or, or_true, bI_0, bI_1, mm, rAm, mF_sF, mR_sR, false_and, and_false, if_false, if_true, false_or, or_false, not_true_eq_false, not_false_eq_true, and_self]
      exact hQ
    · have h3 : r = false := by simpa using h3
      rw [h3] at hQ
      simp (disch := first | (simp only [dd, dr]; done) | omega) only [W_215, I_lt, I_le, I_inj, inB_I, tc_I, Int.toNat_natCast, fkt, rf1, rf0, cq, Nat.reduceAdd, Nat.reduceEqDiff, Int.reduceToNat, eq_self, true_and, and_true, true_or, or_true, bI_0, bI_1, mm, rAm, mF_sF, mR_sR, false_and, and_false, if_false, if_true, false_or, or_false, not_true_eq_false, not_false_eq_true, and_self]
      exact hQ
  · rw [if_neg c1] at hq
    obtain ⟨h, hh⟩ : ∃ h, tH T x = h + 2 := ⟨tH T x - 2, by omega⟩
    have hh' : tH Tc x = h + 2 := by omega
    rw [hh, Nat.add_sub_cancel] at hq
    have m1 := A.2.1.1.1.2.2.1 (h + 1) x hh
    have m2 := C.2.1.1.1.2.2.1 (h + 1) x hh'
    have z1 := A.2.1.1.1.2.2.2.2.2.1 h x m1
    have z2 := C.2.1.1.1.2.2.2.2.2.1 h x m2
    rw [z1, z2, List.length_nil, Nat.zero_add, Nat.zero_add]
    simp (disch := first | (simp only [dd, dr]; done) | omega) only [W_215, I_lt, I_le, I_inj, inB_I, tc_I, Int.toNat_natCast, fkt, rf1, rf0, cq, Nat.reduceAdd, Nat.reduceEqDiff, Int.reduceToNat, eq_self, true_and, and_true, true_or, or_true, bI_0, bI_1, mm, rAm, mF_sF, mR_sR, false_and, and_false, if_false, if_true, false_or, or_false, not_true_eq_false, not_false_eq_true, and_self]
    refine ⟨fun h2 => ?_, fun h2 => ?_⟩
    · have h2 : ¬ (tC T x).length = (tC Tc x).length := by simpa using h2
      have hr : r = true := hq.mpr (fun hh => h2 (by rw [hh.1]))
      rw [hr] at hQ
      simp (disch := first | (simp only [dd, dr]; done) | omega) only [W_215, I_lt, I_le, I_inj, inB_I, tc_I, Int.toNat_natCast, fkt, rf1, rf0, cq, Nat.reduceAdd, Nat.reduceEqDiff, Int.reduceToNat, eq_self, true_and, and_true, true_or, or_true, bI_0, bI_1, mm, rAm, mF_sF, mR_sR, false_and, and_false, if_false, if_true, false_or, or_false, not_true_eq_false, not_false_eq_true, and_self]
      exact hQ
    have h2 : (tC T x).length = (tC Tc x).length := by simpa using h2
    rw [hh] at eh
    simp (disch := first | (simp only [dd, dr]; done) | omega) only [W_215, msK, msR, msF, ms1, msS1, k0, k1, k6, eh, I_lt, I_le, I_inj, inB_I, tc_I, Int.toNat_natCast, fkt, rf1, rf0, cq, Nat.reduceAdd, Nat.reduceEqDiff, Int.reduceToNat, eq_self, true_and, and_true, true_or, or_true, bI_0, bI_1, mm, rAm, mF_sF, mR_sR, false_and, and_false, if_false, if_true, false_or, or_false, not_true_eq_false, not_false_eq_true, and_self]
    refine ⟨fun _ => ?_, (fun h => by first | exact False.elim h | exact absurd trivial h | (exfalso; omega) | exact absurd rfl h | cases h)⟩
    simp (disch := first | (simp only [dd, dr]; done) | omega) only [W_215, msK, msR, msF, ms1, msS1, k0, k1, k6, I_lt, I_le, I_inj, inB_I, tc_I, Int.toNat_natCast, fkt, rf1, rf0, cq, Nat.reduceAdd, Nat.reduceEqDiff, Int.reduceToNat, eq_self, true_and, and_true, true_or, or_true, bI_0, bI_1, mm, rAm, mF_sF, mR_sR, false_and, and_false, if_false, if_true, false_or, or_false, not_true_eq_false, not_false_eq_true, and_self]
    refine ca_219 (by omega) (m_isInnerAlike (r := !r) hK' (by omega) A C hh hh' h2 (not_iff1 hq) ?_)
    simp (disch := first | (simp only [dd, dr]; done) | omega) only [W_215, I_lt, I_le, I_inj, inB_I, tc_I, Int.toNat_natCast, fkt, rf1, rf0, cq, Nat.reduceAdd, Nat.reduceEqDiff, Int.reduceToNat, eq_self, true_and, and_true, true_or, or_true, bI_0, bI_1, mm, rAm, mF_sF, mR_sR, false_and, and_false, if_false, if_true, false_or, or_false, not_true_eq_false, not_false_eq_true, and_self]
    refine ⟨fun h3 => ?_, fun h3 => ?_⟩
    · have h3 : r = false := by simpa using h3
      rw [h3] at hQ
      simp (disch := first | (simp only [dd, dr]; done) | omega) only [W_215, I_lt, I_le, I_inj, inB_I, tc_I, Int.toNat_natCast, fkt, rf1, rf0, cq, Nat.reduceAdd, Nat.reduceEqDiff, Int.reduceToNat, eq_self, true_and, and_true, true_or, or_true, bI_0, bI_1, mm, rAm, mF_sF, mR_sR, false_and, and_false, if_false, if_true, false_or, or_false, not_true_eq_false, not_false_eq_true, and_self]
      exact hQ
    · have h3 : r = true := by simpa using h3
      rw [h3] at hQ
      simp (disch := first | (simp only [dd, dr]; done) | omega) only [W_215, I_lt, I_le, I_inj, inB_I, tc_I, Int.toNat_natCast, fkt, rf1, rf0, cq, Nat.reduceAdd, Nat.reduceEqDiff, Int.reduceToNat, eq_self, true_and, and_true, true_or, or_true, bI_0, bI_1, mm, rAm, mF_sF, mR_sR, false_and, and_false, if_false, if_true, false_or, or_false, not_true_eq_false, not_false_eq_true, and_self]
      exact hQ
theorem m_changed (hK : MK M o) (hd : 10 ≤ d) (hm : m ≤ 96) (A : MW s m T X dt) (C : MW c m Tc Xc dtc) (K : CMt m Tc Xc dtc la) (f43 : f 43 = m) (hQ : Q (.returned (some (.int (I (cn (chq m T X dt Tc la) m : Nat))))) (ms M o f s b c w j)) : Wp d 214 0 [some (.ref o), none, none] [] (ms M o f s b c w j) Q := by
  have hK' := hK
  obtain ⟨k0, k1, k2, k3, k4, k5, k6, k7, k8, k9, k10⟩ := hK
  simp (disch := first | (simp only [dd, dr]; done) | omega) only [W_214, I_lt, I_le, I_inj, inB_I, tc_I, Int.toNat_natCast, fkt, rf1, rf0, cq, Nat.reduceAdd, Nat.reduceEqDiff, Int.reduceToNat, eq_self, true_and, and_true, true_or, or_true, bI_0, bI_1, mm, rAm, mF_sF, mR_sR, false_and, and_false, if_false, if_true, false_or, or_false, not_true_eq_false, not_false_eq_true, and_self]
  generalize hchg : chq m T X dt Tc la = chg at *
  suffices H : ∀ N (k : Nat), k + N = m → Wp d 214 4 [some (.ref o), some (.int (I (cn chg k : Nat))), some (.int (I (k : Nat)))] [] (ms M o f s b c w j) Q from H m 0 (by omega)
  intro N
  induction N with
  | zero =>
    intro k hk
    obtain rfl : k = m := by omega
    simp (disch := first | (simp only [dd, dr]; done) | omega) only [w_214_4, W_214, msK, msR, msF, ms1, msS1, k0, k1, k6, f43, I_lt, I_le, I_inj, inB_I, tc_I, Int.toNat_natCast, fkt, rf1, rf0, cq, Nat.reduceAdd, Nat.reduceEqDiff, Int.reduceToNat, eq_self, true_and, and_true, true_or, or_true, bI_0, bI_1, mm, rAm, mF_sF, mR_sR, false_and, and_false, if_false, if_true, false_or, or_false, not_true_eq_false, not_false_eq_true, and_self]
    refine ⟨fun _ => ?_, (fun h => by first | exact False.elim h | exact absurd trivial h | (exfalso; omega) | exact absurd rfl h | cases h)⟩
    simp (disch := first | (simp only [dd, dr]; done) | omega) only [W_214, I_lt, I_le, I_inj, inB_I, tc_I, Int.toNat_natCast, fkt, rf1, rf0, cq, Nat.reduceAdd, Nat.reduceEqDiff, Int.reduceToNat, eq_self, true_and, and_true, true_or, or_true, bI_0, bI_1, mm, rAm, mF_sF, mR_sR, false_and, and_false, if_false, if_true, false_or, or_false, not_true_eq_false, not_false_eq_true, and_self]
    exact hQ
  | succ N ih =>
    intro k hk
    have next := ih (k + 1) (by omega)
    rw [cn] at next
    simp (disch := first | (simp only [dd, dr]; done) | omega) only [w_214_4, W_214, msK, msR, msF, ms1, msS1, k0, k1, k6, f43, I_lt, I_le, I_inj, inB_I, tc_I, Int.toNat_natCast, fkt, rf1, rf0, cq, Nat.reduceAdd, Nat.reduceEqDiff, Int.reduceToNat, eq_self, true_and, and_true, true_or, or_true, bI_0, bI_1, mm, rAm, mF_sF, mR_sR, false_and, and_false, if_false, if_true, false_or, or_false, not_true_eq_false, not_false_eq_true, and_self]
    refine ⟨(fun h => by first | exact False.elim h | exact absurd trivial h | (exfalso; omega) | exact absurd rfl h | cases h), fun _ => ?_⟩
    simp (disch := first | (simp only [dd, dr]; done) | omega) only [W_214, msK, msR, msF, ms1, msS1, k0, k1, k6, I_lt, I_le, I_inj, inB_I, tc_I, Int.toNat_natCast, fkt, rf1, rf0, cq, Nat.reduceAdd, Nat.reduceEqDiff, Int.reduceToNat, eq_self, true_and, and_true, true_or, or_true, bI_0, bI_1, mm, rAm, mF_sF, mR_sR, false_and, and_false, if_false, if_true, false_or, or_false, not_true_eq_false, not_false_eq_true, and_self]
    refine ca_215 (by omega) (m_isChanged hK' (by omega) hm A C K (by omega) ?_)
    rw [hchg]
    simp (disch := first | (simp only [dd, dr]; done) | omega) only [W_214, I_lt, I_le, I_inj, inB_I, tc_I, Int.toNat_natCast, fkt, rf1, rf0, cq, Nat.reduceAdd, Nat.reduceEqDiff, Int.reduceToNat, eq_self, true_and, and_true, true_or, or_true, bI_0, bI_1, mm, rAm, mF_sF, mR_sR, false_and, and_false, if_false, if_true, false_or, or_false, not_true_eq_false, not_false_eq_true, and_self]
    refine ⟨fun h => ?_, fun h => ?_⟩
    · rw [if_neg (by rw [show chg k = false from h]; simp)] at next
      simp (disch := first | (simp only [dd, dr]; done) | omega) only [W_214, I_lt, I_le, I_inj, inB_I, tc_I, Int.toNat_natCast, fkt, rf1, rf0, cq, Nat.reduceAdd, Nat.reduceEqDiff, Int.reduceToNat, eq_self, true_and, and_true, true_or, or_true, bI_0, bI_1, mm, rAm, mF_sF, mR_sR, false_and, and_false, if_false, if_true, false_or, or_false, not_true_eq_false, not_false_eq_true, and_self]
      rw [show ((k : Int) + 1) = ((k + 1 : Nat) : Int) by omega, show ((cn chg k : Int) + 0) = ((cn chg k + 0 : Nat) : Int) by omega]
      exact next
    · rw [if_pos (by simpa using h)] at next
      simp (disch := first | (simp only [dd, dr]; done) | omega) only [W_214, I_lt, I_le, I_inj, inB_I, tc_I, Int.toNat_natCast, fkt, rf1, rf0, cq, Nat.reduceAdd, Nat.reduceEqDiff, Int.reduceToNat, eq_self, true_and, and_true, true_or, or_true, bI_0, bI_1, mm, rAm, mF_sF, mR_sR, false_and, and_false, if_false, if_true, false_or, or_false, not_true_eq_false, not_false_eq_true, and_self]
      rw [show ((k : Int) + 1) = ((k + 1 : Nat) : Int) by omega, show ((cn chg k : Int) + 1) = ((cn chg k + 1 : Nat) : Int) by omega]
      exact next
end Mc2
