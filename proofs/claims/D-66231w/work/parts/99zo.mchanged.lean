/-! ===== THE MODEL: which blocks are changed ===== -/
section Mch
variable {d : Nat} {M : Mem} {Q : Outcome → Mem → Prop} {o : Nat} {f : Nat → Int} {s s' b c w : Int → Int} {j : Nat → Bool} {T Tc : Tr} {X Xc : Ob} {dt dtc la : Nat → Nat → Nat} {m : Nat} {sz tl : Nat → Nat}
theorem i32_n {n : Nat} (h : n < 1000000) : i32 (n : Int) := ⟨by omega, by omega⟩
/-- numbers of two lists are alike -/
theorem alz_l {a : Int} {n : Nat} {g g' : Nat → Nat} (h1 : ∀ k, k < n → s (a + (k : Int)) = (g k : Nat)) (h2 : ∀ k, k < n → c (a + (k : Int)) = (g' k : Nat)) : alz s c a n = true ↔ ∀ k, k < n → g k = g' k := by
  rw [alz_iff]
  constructor
  · intro h k hk
    have := h k hk
    rw [h1 k hk, h2 k hk] at this
    omega
  · intro h k hk
    rw [h1 k hk, h2 k hk, h k hk]
set_option maxHeartbeats 2000000 in
theorem m_isLeafAlike (hK : MK M o) (hd : 6 ≤ d) (A : MW s m T X dt) (C : MW c m Tc Xc dtc) {x : Nat} (x1 : tH T x = 1) (x2 : tH Tc x = 1) (hl : (tI T x).length = (tI Tc x).length) {r : Bool} (hr : r = true ↔ tI T x = tI Tc x ∧ ∀ k ∈ tI T x, pyO X k = pyO Xc k) (hQ : Q (.returned (some (.int (I (bI r))))) (ms M o f s b c w j)) :
    Wp d 217 0 [some (.ref o), some (.int (I (x : Nat))), none, none, none, none] [] (ms M o f s b c w j) Q := by
  have hK' := hK
  obtain ⟨k0, k1, k2, k3, k4, k5, k6, k7, k8, k9, k10⟩ := hK
  have m1 := A.2.1.1.1.2.2.1 0 x x1
  have m2 := C.2.1.1.1.2.2.1 0 x x2
  obtain ⟨i1, hi1⟩ := List.getElem?_of_mem m1
  obtain ⟨i2, hi2⟩ := List.getElem?_of_mem m2
  obtain ⟨_, hx96, e3, e4, e5⟩ := A.1.1.leaf A.2.1.1 hi1
  obtain ⟨_, _, f3, f4, f5⟩ := C.1.1.leaf C.2.1.1 hi2
  have j1 : ∀ k ∈ tI T x, k ∈ its T := fun k hk => List.mem_flatMap.mpr ⟨x, m1, hk⟩
  have j2 : ∀ k ∈ tI Tc x, k ∈ its Tc := fun k hk => List.mem_flatMap.mpr ⟨x, m2, hk⟩
  generalize hks : tI T x = ks at *
  generalize hks' : tI Tc x = ks' at *
  have g1 : ∀ k, k < ks.length → ks[k]? = some (ks.getD k 0) := fun k hk => by rw [List.getD_eq_getElem?_getD, List.getElem?_eq_getElem hk]; rfl
  have g2 : ∀ k, k < ks.length → ks'[k]? = some (ks'.getD k 0) := fun k hk => by rw [List.getD_eq_getElem?_getD, List.getElem?_eq_getElem (show k < ks'.length by omega)]; rfl
  have z1 : ∀ k ∈ ks, szO X k ≤ 40 := fun k hk => (A.2.1.1.2.2.2.2.1 k (j1 k hk)).2
  have z2 : ∀ k ∈ ks', szO Xc k ≤ 40 := fun k hk => (C.2.1.1.2.2.2.2.1 k (j2 k hk)).2
  have aO := alz_l (s := s) (c := c) (a := 4620 + 16 * (x : Int)) (n := ks.length) (g := fun k => ks.getD k 0 / 4096) (g' := fun k => ks'.getD k 0 / 4096) (fun k hk => (e5 k _ (g1 k hk)).1) (fun k hk => (f5 k _ (g2 k hk)).1)
  have aS := alz_l (s := s) (c := c) (a := 6156 + 16 * (x : Int)) (n := ks.length) (g := fun k => ks.getD k 0 / 1024 % 4) (g' := fun k => ks'.getD k 0 / 1024 % 4) (fun k hk => (e5 k _ (g1 k hk)).2.1) (fun k hk => (f5 k _ (g2 k hk)).2.1)
  have aN := alz_l (s := s) (c := c) (a := 7692 + 16 * (x : Int)) (n := ks.length) (g := fun k => ks.getD k 0 % 1024) (g' := fun k => ks'.getD k 0 % 1024) (fun k hk => (e5 k _ (g1 k hk)).2.2.1) (fun k hk => (f5 k _ (g2 k hk)).2.2.1)
  have aB := alz_l (s := s) (c := c) (a := 9228 + 16 * (x : Int)) (n := ks.length) (g := fun k => szO X (ks.getD k 0)) (g' := fun k => szO Xc (ks'.getD k 0)) (fun k hk => (e5 k _ (g1 k hk)).2.2.2.1) (fun k hk => (f5 k _ (g2 k hk)).2.2.2.1)
  have bO : ∀ k, k < ks.length → i32 (s (4620 + 16 * (x : Int) + (k : Int))) ∧ i32 (c (4620 + 16 * (x : Int) + (k : Int))) := fun k hk => by
    have h1 := (e5 k _ (g1 k hk)).2.2.2.2.2
    have h2 := (f5 k _ (g2 k hk)).2.2.2.2.2
    rw [(e5 k _ (g1 k hk)).1, (f5 k _ (g2 k hk)).1]; exact ⟨i32_n (by omega), i32_n (by omega)⟩
  have bS : ∀ k, k < ks.length → i32 (s (6156 + 16 * (x : Int) + (k : Int))) ∧ i32 (c (6156 + 16 * (x : Int) + (k : Int))) := fun k hk => by
    rw [(e5 k _ (g1 k hk)).2.1, (f5 k _ (g2 k hk)).2.1]; exact ⟨i32_n (by omega), i32_n (by omega)⟩
  have bN : ∀ k, k < ks.length → i32 (s (7692 + 16 * (x : Int) + (k : Int))) ∧ i32 (c (7692 + 16 * (x : Int) + (k : Int))) := fun k hk => by
    rw [(e5 k _ (g1 k hk)).2.2.1, (f5 k _ (g2 k hk)).2.2.1]; exact ⟨i32_n (by omega), i32_n (by omega)⟩
  have bB' : ∀ k, k < ks.length → i32 (s (9228 + 16 * (x : Int) + (k : Int))) ∧ i32 (c (9228 + 16 * (x : Int) + (k : Int))) := fun k hk => by
    have h1 := z1 _ (getD_mem hk)
    have h2 := z2 _ (getD_mem (show k < ks'.length by omega))
    rw [(e5 k _ (g1 k hk)).2.2.2.1, (f5 k _ (g2 k hk)).2.2.2.1]; exact ⟨i32_n (by omega), i32_n (by omega)⟩
  -- keys and sizes
  have kk : (∀ k, k < ks.length → ks.getD k 0 / 4096 = ks'.getD k 0 / 4096) → (∀ k, k < ks.length → ks.getD k 0 / 1024 % 4 = ks'.getD k 0 / 1024 % 4) → (∀ k, k < ks.length → ks.getD k 0 % 1024 = ks'.getD k 0 % 1024) → ks = ks' := fun h1 h2 h3 => ext_getD hl (fun k hk => by have := h1 k hk; have := h2 k hk; have := h3 k hk; omega)
  suffices loop : ∀ N (k : Nat) (v : Bool), k + N = ks.length → (v = true ↔ (ks = ks' ∧ (∀ i, i < ks.length → szO X (ks.getD i 0) = szO Xc (ks'.getD i 0)) ∧ ∀ i, i < k → pyO X (ks.getD i 0) = pyO Xc (ks'.getD i 0))) → Wp d 217 78 [some (.ref o), some (.int (I (x : Nat))), some (.int (I (16 * (x : Int)))), some (.int (I (ks.length : Nat))), some (.int (I (bI v))), some (.int (I (k : Nat)))] [] (ms M o f s b c w j) Q by
    have start : ∀ v : Bool, (v = true ↔ (ks = ks' ∧ (∀ i, i < ks.length → szO X (ks.getD i 0) = szO Xc (ks'.getD i 0)))) → Wp d 217 78 [some (.ref o), some (.int (I (x : Nat))), some (.int (I (16 * (x : Int)))), some (.int (I (ks.length : Nat))), some (.int (I (bI v))), some (.int (I 0))] [] (ms M o f s b c w j) Q := fun v hv => loop ks.length 0 v (by omega) (by rw [hv]; exact ⟨fun h => ⟨h.1, h.2, fun i hi => by omega⟩, fun h => ⟨h.1, h.2.1⟩⟩)
    simp (disch := first | (simp only [dd, dr]; done) | omega) only [W_217, msK, msR, msF, ms1, msS1, k0, k1, k6, e3, I_lt, I_le, I_inj, inB_I, tc_I, Int.toNat_natCast, fkt, rf1, rf0, cq, Nat.reduceAdd, Nat.reduceEqDiff, Int.reduceToNat, eq_self, true_and, and_true, true_or, or_true, bI_0, bI_1, mm, rAm, mF_sF, mR_sR, false_and, and_false, if_false, if_true, false_or, or_false, not_true_eq_false, not_false_eq_true, and_self]
    refine ca_216 (by omega) (m_isAlike hK' (by omega) (by omega) bO ?_)
    simp (disch := first | (simp only [dd, dr]; done) | omega) only [W_217, I_lt, I_le, I_inj, inB_I, tc_I, Int.toNat_natCast, fkt, rf1, rf0, cq, Nat.reduceAdd, Nat.reduceEqDiff, Int.reduceToNat, eq_self, true_and, and_true, true_or, or_true, bI_0, bI_1, mm, rAm, mF_sF, mR_sR, false_and, and_false, if_false, if_true, false_or, or_false, not_true_eq_false, not_false_eq_true, and_self]
    refine ⟨fun h => ?_, fun h => ?_⟩
    · simp (disch := first | (simp only [dd, dr]; done) | omega) only [W_217, I_lt, I_le, I_inj, inB_I, tc_I, Int.toNat_natCast, fkt, rf1, rf0, cq, Nat.reduceAdd, Nat.reduceEqDiff, Int.reduceToNat, eq_self, true_and, and_true, true_or, or_true, bI_0, bI_1, mm, rAm, mF_sF, mR_sR, false_and, and_false, if_false, if_true, false_or, or_false, not_true_eq_false, not_false_eq_true, and_self]
      refine start false ?_
      have : ¬ (ks = ks' ∧ (∀ i, i < ks.length → szO X (ks.getD i 0) = szO Xc (ks'.getD i 0))) := fun hh => by
        have := aO.mpr (fun k _ => by rw [hh.1])
        rw [h] at this; cases this
      exact ⟨(fun h => by cases h), fun h => absurd h this⟩
    have h := aO.mp (by simpa using h)
    simp (disch := first | (simp only [dd, dr]; done) | omega) only [W_217, msK, msR, msF, ms1, msS1, k0, k1, k6, I_lt, I_le, I_inj, inB_I, tc_I, Int.toNat_natCast, fkt, rf1, rf0, cq, Nat.reduceAdd, Nat.reduceEqDiff, Int.reduceToNat, eq_self, true_and, and_true, true_or, or_true, bI_0, bI_1, mm, rAm, mF_sF, mR_sR, false_and, and_false, if_false, if_true, false_or, or_false, not_true_eq_false, not_false_eq_true, and_self]
    refine ca_216 (by omega) (m_isAlike hK' (by omega) (by omega) bS ?_)
    simp (disch := first | (simp only [dd, dr]; done) | omega) only [W_217, I_lt, I_le, I_inj, inB_I, tc_I, Int.toNat_natCast, fkt, rf1, rf0, cq, Nat.reduceAdd, Nat.reduceEqDiff, Int.reduceToNat, eq_self, true_and, and_true, true_or, or_true, bI_0, bI_1, mm, rAm, mF_sF, mR_sR, false_and, and_false, if_false, if_true, false_or, or_false, not_true_eq_false, not_false_eq_true, and_self]
    refine ⟨fun h' => ?_, fun h' => ?_⟩
    · simp (disch := first | (simp only [dd, dr]; done) | omega) only [W_217, I_lt, I_le, I_inj, inB_I, tc_I, Int.toNat_natCast, fkt, rf1, rf0, cq, Nat.reduceAdd, Nat.reduceEqDiff, Int.reduceToNat, eq_self, true_and, and_true, true_or, or_true, bI_0, bI_1, mm, rAm, mF_sF, mR_sR, false_and, and_false, if_false, if_true, false_or, or_false, not_true_eq_false, not_false_eq_true, and_self]
      refine start false ?_
      have : ¬ (ks = ks' ∧ (∀ i, i < ks.length → szO X (ks.getD i 0) = szO Xc (ks'.getD i 0))) := fun hh => by
        have := aS.mpr (fun k _ => by rw [hh.1])
        rw [h'] at this; cases this
      exact ⟨(fun h => by cases h), fun h => absurd h this⟩
    have h' := aS.mp (by simpa using h')
    simp (disch := first | (simp only [dd, dr]; done) | omega) only [W_217, msK, msR, msF, ms1, msS1, k0, k1, k6, I_lt, I_le, I_inj, inB_I, tc_I, Int.toNat_natCast, fkt, rf1, rf0, cq, Nat.reduceAdd, Nat.reduceEqDiff, Int.reduceToNat, eq_self, true_and, and_true, true_or, or_true, bI_0, bI_1, mm, rAm, mF_sF, mR_sR, false_and, and_false, if_false, if_true, false_or, or_false, not_true_eq_false, not_false_eq_true, and_self]
    refine ca_216 (by omega) (m_isAlike hK' (by omega) (by omega) bN ?_)
    simp (disch := first | (simp only [dd, dr]; done) | omega) only [W_217, I_lt, I_le, I_inj, inB_I, tc_I, Int.toNat_natCast, fkt, rf1, rf0, cq, Nat.reduceAdd, Nat.reduceEqDiff, Int.reduceToNat, eq_self, true_and, and_true, true_or, or_true, bI_0, bI_1, mm, rAm, mF_sF, mR_sR, false_and, and_false, if_false, if_true, false_or, or_false, not_true_eq_false, not_false_eq_true, and_self]
    refine ⟨fun h'' => ?_, fun h'' => ?_⟩
    · simp (disch := first | (simp only [dd, dr]; done) | omega) only [W_217, I_lt, I_le, I_inj, inB_I, tc_I, Int.toNat_natCast, fkt, rf1, rf0, cq, Nat.reduceAdd, Nat.reduceEqDiff, Int.reduceToNat, eq_self, true_and, and_true, true_or, or_true, bI_0, bI_1, mm, rAm, mF_sF, mR_sR, false_and, and_false, if_false, if_true, false_or, or_false, not_true_eq_false, not_false_eq_true, and_self]
      refine start false ?_
      have : ¬ (ks = ks' ∧ (∀ i, i < ks.length → szO X (ks.getD i 0) = szO Xc (ks'.getD i 0))) := fun hh => by
        have := aN.mpr (fun k _ => by rw [hh.1])
        rw [h''] at this; cases this
      exact ⟨(fun h => by cases h), fun h => absurd h this⟩
    have h'' := aN.mp (by simpa using h'')
    have ek := kk h h' h''
    simp (disch := first | (simp only [dd, dr]; done) | omega) only [W_217, msK, msR, msF, ms1, msS1, k0, k1, k6, I_lt, I_le, I_inj, inB_I, tc_I, Int.toNat_natCast, fkt, rf1, rf0, cq, Nat.reduceAdd, Nat.reduceEqDiff, Int.reduceToNat, eq_self, true_and, and_true, true_or, or_true, bI_0, bI_1, mm, rAm, mF_sF, mR_sR, false_and, and_false, if_false, if_true, false_or, or_false, not_true_eq_false, not_false_eq_true, and_self]
    refine ca_216 (by omega) (m_isAlike hK' (by omega) (by omega) bB' ?_)
    simp (disch := first | (simp only [dd, dr]; done) | omega) only [W_217, I_lt, I_le, I_inj, inB_I, tc_I, Int.toNat_natCast, fkt, rf1, rf0, cq, Nat.reduceAdd, Nat.reduceEqDiff, Int.reduceToNat, eq_self, true_and, and_true, true_or, or_true, bI_0, bI_1, mm, rAm, mF_sF, mR_sR, false_and, and_false, if_false, if_true, false_or, or_false, not_true_eq_false, not_false_eq_true, and_self]
    refine ⟨fun h3 => ?_, fun h3 => ?_⟩
    · simp (disch := first | (simp only [dd, dr]; done) | omega) only [W_217, I_lt, I_le, I_inj, inB_I, tc_I, Int.toNat_natCast, fkt, rf1, rf0, cq, Nat.reduceAdd, Nat.reduceEqDiff, Int.reduceToNat, eq_self, true_and, and_true, true_or, or_true, bI_0, bI_1, mm, rAm, mF_sF, mR_sR, false_and, and_false, if_false, if_true, false_or, or_false, not_true_eq_false, not_false_eq_true, and_self]
      refine start false ?_
      have : ¬ (ks = ks' ∧ (∀ i, i < ks.length → szO X (ks.getD i 0) = szO Xc (ks'.getD i 0))) := fun hh => by
        have := aB.mpr hh.2
        rw [h3] at this; cases this
      exact ⟨(fun h => by cases h), fun h => absurd h this⟩
    have h3 := aB.mp (by simpa using h3)
    simp (disch := first | (simp only [dd, dr]; done) | omega) only [W_217, I_lt, I_le, I_inj, inB_I, tc_I, Int.toNat_natCast, fkt, rf1, rf0, cq, Nat.reduceAdd, Nat.reduceEqDiff, Int.reduceToNat, eq_self, true_and, and_true, true_or, or_true, bI_0, bI_1, mm, rAm, mF_sF, mR_sR, false_and, and_false, if_false, if_true, false_or, or_false, not_true_eq_false, not_false_eq_true, and_self]
    exact start true (by simp only [true_iff]; exact ⟨ek, h3⟩)
  have tgt : ∀ k, k ≤ ks.length → (tI T x = tI Tc x ∧ ∀ k ∈ tI T x, pyO X k = pyO Xc k) → (ks = ks' ∧ (∀ i, i < ks.length → szO X (ks.getD i 0) = szO Xc (ks'.getD i 0)) ∧ ∀ i, i < k → pyO X (ks.getD i 0) = pyO Xc (ks'.getD i 0)) := by
    rw [hks, hks']
    rintro k hk ⟨e, h⟩
    subst e
    refine ⟨rfl, fun i hi => ?_, fun i hi => h _ (getD_mem (by omega))⟩
    unfold szO
    rw [h _ (getD_mem hi)]
  rw [hks, hks'] at tgt
  intro N
  induction N with
  | zero =>
    intro k v hk hv
    obtain rfl : k = ks.length := by omega
    have hvr : v = r := by
      rw [Bool.eq_iff_iff, hv, hr]
      constructor
      · rintro ⟨e, _, h⟩
        refine ⟨e, fun k hk => ?_⟩
        obtain ⟨i, hi, rfl⟩ := List.getElem_of_mem hk
        have := h i hi
        rw [← e, List.getD_eq_getElem?_getD, List.getElem?_eq_getElem hi] at this
        exact this
      · exact tgt _ (Nat.le_refl _)
    rw [← hvr] at hQ
    simp (disch := first | (simp only [dd, dr]; done) | omega) only [w_217_78, W_217, I_lt, I_le, I_inj, inB_I, tc_I, Int.toNat_natCast, fkt, rf1, rf0, cq, Nat.reduceAdd, Nat.reduceEqDiff, Int.reduceToNat, eq_self, true_and, and_true, true_or, or_true, bI_0, bI_1, mm, rAm, mF_sF, mR_sR, false_and, and_false, if_false, if_true, false_or, or_false, not_true_eq_false, not_false_eq_true, and_self]
    refine ⟨fun _ => ?_, (fun h => by first | exact False.elim h | exact absurd trivial h | (exfalso; omega) | exact absurd rfl h | cases h)⟩
    simp (disch := first | (simp only [dd, dr]; done) | omega) only [W_217, I_lt, I_le, I_inj, inB_I, tc_I, Int.toNat_natCast, fkt, rf1, rf0, cq, Nat.reduceAdd, Nat.reduceEqDiff, Int.reduceToNat, eq_self, true_and, and_true, true_or, or_true, bI_0, bI_1, mm, rAm, mF_sF, mR_sR, false_and, and_false, if_false, if_true, false_or, or_false, not_true_eq_false, not_false_eq_true, and_self]
    exact hQ
  | succ N ih =>
    intro k v hk hv
    simp (disch := first | (simp only [dd, dr]; done) | omega) only [w_217_78, W_217, I_lt, I_le, I_inj, inB_I, tc_I, Int.toNat_natCast, fkt, rf1, rf0, cq, Nat.reduceAdd, Nat.reduceEqDiff, Int.reduceToNat, eq_self, true_and, and_true, true_or, or_true, bI_0, bI_1, mm, rAm, mF_sF, mR_sR, false_and, and_false, if_false, if_true, false_or, or_false, not_true_eq_false, not_false_eq_true, and_self]
    refine ⟨(fun h => by first | exact False.elim h | exact absurd trivial h | (exfalso; omega) | exact absurd rfl h | cases h), fun _ => ?_⟩
    simp (disch := first | (simp only [dd, dr]; done) | omega) only [W_217, I_lt, I_le, I_inj, inB_I, tc_I, Int.toNat_natCast, fkt, rf1, rf0, cq, Nat.reduceAdd, Nat.reduceEqDiff, Int.reduceToNat, eq_self, true_and, and_true, true_or, or_true, bI_0, bI_1, mm, rAm, mF_sF, mR_sR, false_and, and_false, if_false, if_true, false_or, or_false, not_true_eq_false, not_false_eq_true, and_self]
    refine ⟨fun h => ?_, fun h => ?_⟩
    · have h : v = false := h
      have hrf : r = false := by
        cases hr' : r with
        | false => rfl
        | true =>
          have := hv.mpr (tgt k (by omega) (hr.mp hr'))
          rw [h] at this; cases this
      rw [hrf] at hQ
      rw [h]
      simp (disch := first | (simp only [dd, dr]; done) | omega) only [W_217, I_lt, I_le, I_inj, inB_I, tc_I, Int.toNat_natCast, fkt, rf1, rf0, cq, Nat.reduceAdd, Nat.reduceEqDiff, Int.reduceToNat, eq_self, true_and, and_true, true_or, or_true, bI_0, bI_1, mm, rAm, mF_sF, mR_sR, false_and, and_false, if_false, if_true, false_or, or_false, not_true_eq_false, not_false_eq_true, and_self]
      exact hQ
    have h : v = true := by simpa using h
    obtain ⟨ek, hsz, hbd⟩ := hv.mp h
    subst ek
    have hkl : k < ks.length := by omega
    have hkm := getD_mem hkl
    obtain ⟨u1, u2, u3, u4, u5, u6⟩ := e5 k _ (g1 k hkl)
    obtain ⟨v1, v2, v3, v4, v5, v6⟩ := f5 k _ (g1 k hkl)
    have hszk := hsz k hkl
    have hi_T := j1 _ hkm
    have hi_C := j2 _ hkm
    have hE1 := A.2.2.1.1.2 _ hi_T
    have hE2 := C.2.2.1.1.2 _ hi_C
    have hp1 := (pyO_k A.2.2.2.1 hi_T).2.2.2
    generalize hkey : ks.getD k 0 = key at *
    have next : ∀ v' : Bool, (v' = true ↔ pyO X key = pyO Xc key) → Wp d 217 78 [some (.ref o), some (.int (I (x : Nat))), some (.int (I (16 * (x : Int)))), some (.int (I (ks.length : Nat))), some (.int (I (bI v'))), some (.int (I ((k : Int) + 1)))] [] (ms M o f s b c w j) Q := by
      intro v' hv'
      rw [show ((k : Int) + 1) = ((k + 1 : Nat) : Int) by omega]
      refine ih (k + 1) v' (by omega) ⟨fun hh => ⟨rfl, hsz, fun i hi => ?_⟩, fun hh => ?_⟩
      · by_cases e : i = k
        · rw [e, hkey]; exact hv'.mp hh
        · exact hbd i (by omega)
      · have := hh.2.2 k (by omega)
        rw [hkey] at this
        exact hv'.mpr this
    have body : ∀ r' : Bool, (key / 1024 % 4 ≠ 1 → (r' = true ↔ pyO X key = pyO Xc key)) → (key / 1024 % 4 = 1 → r' = true) → (r' = true ↔ pyO X key = pyO Xc key) → Ca d 217 149 [some (.ref o), some (.int (I (x : Nat))), some (.int (I (16 * (x : Int)))), some (.int (I (ks.length : Nat))), some (.int (I (bI v))), some (.int (I (k : Nat)))] 218 [.ref o, .int (I ((key / 4096 : Nat) : Int)), .int (I ((key / 1024 % 4 : Nat) : Int))] [] (ms M o f s b c w j) Q := by
      intro r' hr1 hr2 hr3
      refine ca_218 (by omega) (m_isBodyAlike hK' (by omega) A C hi_T hi_C hszk hr1 hr2 ?_)
      simp (disch := first | (simp only [dd, dr]; done) | omega) only [W_217, I_lt, I_le, I_inj, inB_I, tc_I, Int.toNat_natCast, fkt, rf1, rf0, cq, Nat.reduceAdd, Nat.reduceEqDiff, Int.reduceToNat, eq_self, true_and, and_true, true_or, or_true, bI_0, bI_1, mm, rAm, mF_sF, mR_sR, false_and, and_false, if_false, if_true, false_or, or_false, not_true_eq_false, not_false_eq_true, and_self]
      refine ⟨fun h => ?_, fun h => ?_⟩
      · have h : r' = false := h
        simp (disch := first | (simp only [dd, dr]; done) | omega) only [W_217, I_lt, I_le, I_inj, inB_I, tc_I, Int.toNat_natCast, fkt, rf1, rf0, cq, Nat.reduceAdd, Nat.reduceEqDiff, Int.reduceToNat, eq_self, true_and, and_true, true_or, or_true, bI_0, bI_1, mm, rAm, mF_sF, mR_sR, false_and, and_false, if_false, if_true, false_or, or_false, not_true_eq_false, not_false_eq_true, and_self]
        exact next false (by rw [← hr3, h])
      · have h : r' = true := by simpa using h
        simp (disch := first | (simp only [dd, dr]; done) | omega) only [W_217, I_lt, I_le, I_inj, inB_I, tc_I, Int.toNat_natCast, fkt, rf1, rf0, cq, Nat.reduceAdd, Nat.reduceEqDiff, Int.reduceToNat, eq_self, true_and, and_true, true_or, or_true, bI_0, bI_1, mm, rAm, mF_sF, mR_sR, false_and, and_false, if_false, if_true, false_or, or_false, not_true_eq_false, not_false_eq_true, and_self]
        exact next true (by rw [← hr3, h])
    rw [show (6156 + 16 * (x : Int) + (k : Int)) = 6156 + 16 * (x : Int) + (k : Int) from rfl] at u2
    simp (disch := first | (simp only [dd, dr]; done) | omega) only [W_217, msK, msR, msF, ms1, msS1, k0, k1, k6, u2, I_lt, I_le, I_inj, inB_I, tc_I, Int.toNat_natCast, fkt, rf1, rf0, cq, Nat.reduceAdd, Nat.reduceEqDiff, Int.reduceToNat, eq_self, true_and, and_true, true_or, or_true, bI_0, bI_1, mm, rAm, mF_sF, mR_sR, false_and, and_false, if_false, if_true, false_or, or_false, not_true_eq_false, not_false_eq_true, and_self]
    refine ⟨fun h' => ?_, fun h' => ?_⟩
    · simp (disch := first | (simp only [dd, dr]; done) | omega) only [W_217, msK, msR, msF, ms1, msS1, k0, k1, k6, u1, u2, I_lt, I_le, I_inj, inB_I, tc_I, Int.toNat_natCast, fkt, rf1, rf0, cq, Nat.reduceAdd, Nat.reduceEqDiff, Int.reduceToNat, eq_self, true_and, and_true, true_or, or_true, bI_0, bI_1, mm, rAm, mF_sF, mR_sR, false_and, and_false, if_false, if_true, false_or, or_false, not_true_eq_false, not_false_eq_true, and_self]
      exact body (decide (pyO X key = pyO Xc key)) (fun _ => by simp) (fun hh => by omega) (by simp)
    · have hk1 : key / 1024 % 4 = 1 := by omega
      have ep : pyO X key = pyO Xc key ↔ oE X key = oE Xc key := by
        rw [hp1 hk1, pyO_1 _ _ (by omega), pyO_1 _ _ (by omega)]
        simp
      have t1 : s (10764 + 16 * (x : Int) + (k : Int)) = (oE X key : Nat) := by rw [u5]; unfold tlX; rw [if_pos hk1]
      have t2 : c (10764 + 16 * (x : Int) + (k : Int)) = (oE Xc key : Nat) := by rw [v5]; unfold tlX; rw [if_pos hk1]
      simp (disch := first | (simp only [dd, dr]; done) | omega) only [W_217, msK, msR, msF, ms1, msS1, k0, k1, k6, I_lt, I_le, I_inj, inB_I, tc_I, Int.toNat_natCast, fkt, rf1, rf0, cq, Nat.reduceAdd, Nat.reduceEqDiff, Int.reduceToNat, eq_self, true_and, and_true, true_or, or_true, bI_0, bI_1, mm, rAm, mF_sF, mR_sR, false_and, and_false, if_false, if_true, false_or, or_false, not_true_eq_false, not_false_eq_true, and_self]
      refine ca_216 (by omega) (m_isAlike (n := 1) hK' (by omega) (by omega) (fun i hi => ?_) ?_)
      · obtain rfl : i = 0 := by omega
        rw [show (10764 + 16 * (x : Int) + (k : Int) + ((0 : Nat) : Int)) = 10764 + 16 * (x : Int) + (k : Int) by omega, t1, t2]
        exact ⟨i32_n (by omega), i32_n (by omega)⟩
      have hal : alz s c (10764 + 16 * (x : Int) + (k : Int)) 1 = true ↔ oE X key = oE Xc key := by
        rw [alz_iff]
        constructor
        · intro h
          have := h 0 (by omega)
          rw [show (10764 + 16 * (x : Int) + (k : Int) + ((0 : Nat) : Int)) = 10764 + 16 * (x : Int) + (k : Int) by omega, t1, t2] at this
          omega
        · intro h i hi
          obtain rfl : i = 0 := by omega
          rw [show (10764 + 16 * (x : Int) + (k : Int) + ((0 : Nat) : Int)) = 10764 + 16 * (x : Int) + (k : Int) by omega, t1, t2, h]
      generalize alz s c (10764 + 16 * (x : Int) + (k : Int)) 1 = al at *
      simp (disch := first | (simp only [dd, dr]; done) | omega) only [W_217, I_lt, I_le, I_inj, inB_I, tc_I, Int.toNat_natCast, fkt, rf1, rf0, cq, Nat.reduceAdd, Nat.reduceEqDiff, Int.reduceToNat, eq_self, true_and, and_true, true_or, or_true, bI_0, bI_1, mm, rAm, mF_sF, mR_sR, false_and, and_false, if_false, if_true, false_or, or_false, not_true_eq_false, not_false_eq_true, and_self]
      refine ⟨fun h2 => ?_, fun h2 => ?_⟩
      · have h2 : al = false := h2
        simp (disch := first | (simp only [dd, dr]; done) | omega) only [W_217, I_lt, I_le, I_inj, inB_I, tc_I, Int.toNat_natCast, fkt, rf1, rf0, cq, Nat.reduceAdd, Nat.reduceEqDiff, Int.reduceToNat, eq_self, true_and, and_true, true_or, or_true, bI_0, bI_1, mm, rAm, mF_sF, mR_sR, false_and, and_false, if_false, if_true, false_or, or_false, not_true_eq_false, not_false_eq_true, and_self]
        exact next false (by rw [ep, ← hal, h2])
      · have h2 : al = true := by simpa using h2
        simp (disch := first | (simp only [dd, dr]; done) | omega) only [W_217, msK, msR, msF, ms1, msS1, k0, k1, k6, u1, u2, I_lt, I_le, I_inj, inB_I, tc_I, Int.toNat_natCast, fkt, rf1, rf0, cq, Nat.reduceAdd, Nat.reduceEqDiff, Int.reduceToNat, eq_self, true_and, and_true, true_or, or_true, bI_0, bI_1, mm, rAm, mF_sF, mR_sR, false_and, and_false, if_false, if_true, false_or, or_false, not_true_eq_false, not_false_eq_true, and_self]
        exact body true (fun hh => absurd hk1 hh) (fun _ => rfl) (by rw [ep, ← hal, h2])
end Mch
