/-! ===== THE MODEL: move ===== -/
section Mmv
variable {d : Nat} {M : Mem} {Q : Outcome → Mem → Prop} {o : Nat} {f : Nat → Int} {s s' b c w : Int → Int} {j : Nat → Bool} {T T' T1 T2 : Tr} {X X' : Ob} {dt : Nat → Nat → Nat} {m : Nat} {sz tl : Nat → Nat} {par : Nat → Nat}
/-- whether v may go below x -/
def mvW (par : Nat → Nat) (X : Ob) (v x : Nat) : Prop := oK X v = 2 ∨ ∀ nw, itr par nw x = 1 → wth par v nw x = false
/-- move: the code of the exception; nw: how far the root is -/
def mvC (m : Nat) (off : Bool) (T : Tr) (X : Ob) (z n x a : Int) (win : Bool) : Nat :=
  if off = true then 1 else if ¬ ((isk T X z 0 = true ∧ isk T X x 0 = true) ∧ tol T X z.toNat n ≠ -1) then 2 else if ¬ (0 ≤ a ∧ a < 1000) then 3 else if ¬ (tol T X x.toNat a = -1 ∧ (oK X (tol T X z.toNat n).toNat = 2 ∨ win = false)) then 4 else
  match stT m (szO X) (dlT m (szO X) T (ky z.toNat 1 n.toNat)) (ky x.toNat 1 a.toNat) 3 with
  | some (true, _) => 0
  | _ => 4
set_option maxHeartbeats 4000000 in
theorem m_move (hK : MK M o) (hd : 12 ≤ d) (S : MS s T X dt) (G : Gt m T (pyO X)) (hm1 : 1 ≤ m) (hm2 : m ≤ 96) (O : OK3 T X) (hn : ∀ k ∈ its T, k / 1024 % 4 = 1 → k % 1024 < 1000) (Pa : Par T X par) (f43 : f 43 = m) {off : Bool} (f52 : f 52 = bI off) {z n x a : Int} (z0 : -2147483648 ≤ z) (z1 : z < 2147483648) (n0 : -2147483648 ≤ n) (n1 : n < 2147483648) (x0 : -2147483648 ≤ x) (x1 : x < 2147483648) (a0 : -2147483648 ≤ a) (a1 : a < 2147483648)
    (hE : ∀ o nn, nn < 1000 → ky o 1 nn ∈ its T → 2 ≤ oE X (ky o 1 nn) ∧ oE X (ky o 1 nn) ≤ 60 ∧ ky (oE X (ky o 1 nn)) 0 0 ∈ its T ∧ 1 ≤ oS X o) {win : Bool} (hwin : ∀ nw, isk T X x 0 = true → itr par nw x.toNat = 1 → wth par (tol T X z.toNat n).toNat nw x.toNat = win)
    (hX : mvC m off T X z n x a win ≠ 0 → ∀ f' s' b', Fe f f' → f' 54 = mvC m off T X z n x a win → (∀ y, 0 ≤ y → y < 25366 → s' y = s y) → Q (.returned (some (.int (I 0)))) (ms M o f' s' b' c w j))
    (hR : mvC m off T X z n x a win = 0 → ∀ v T2, v = oE X (ky z.toNat 1 n.toNat) → stT m (szO X) (dlT m (szO X) T (ky z.toNat 1 n.toNat)) (ky x.toNat 1 a.toNat) 3 = some (true, T2) → ∀ f' s' b', Fe f f' → f' 54 = 0 → MS s' T2 (enX (lvX X z.toNat) x.toNat a.toNat v) dt → Q (.returned (some (.int (I (v : Nat))))) (ms M o f' s' b' c w j)) :
    Wp d 194 0 [some (.ref o), some (.int (I z)), some (.int (I n)), some (.int (I x)), some (.int (I a)), none] [] (ms M o f s b c w j) Q := by
  have hK' := hK
  obtain ⟨k0, k1, k2, k3, k4, k5, k6, k7, k8, k9, k10⟩ := hK
  have W : Wf m (szO X) T := G.1
  have hl : ∀ o, o < 61 → ky o 0 0 ∈ its T → (oD X o).length ≤ 16 := fun o h1 h2 => (O.any (by omega) h2).2.2.2.1
  unfold mvC at hX hR
  have ref : ∀ (k : Nat), 1 ≤ k → k ≤ 4 → (if off = true then 1 else if ¬ ((isk T X z 0 = true ∧ isk T X x 0 = true) ∧ tol T X z.toNat n ≠ -1) then 2 else if ¬ (0 ≤ a ∧ a < 1000) then 3 else if ¬ (tol T X x.toNat a = -1 ∧ (oK X (tol T X z.toNat n).toNat = 2 ∨ win = false)) then 4 else 0) = k → Q (.returned (some (.int (I 0)))) (ms M o (fu f 54 (k : Int)) s b c w j) := by
    intro k h1 h2 hk
    have hx : ∀ f' s' b', Fe f f' → f' 54 = k → (∀ y, 0 ≤ y → y < 25366 → s' y = s y) → Q (.returned (some (.int (I 0)))) (ms M o f' s' b' c w j) := by
      by_cases c1 : off = true
      · rw [if_pos c1] at hk hX
        subst hk
        exact hX (by omega)
      rw [if_neg c1] at hk hX
      by_cases c2 : ¬ ((isk T X z 0 = true ∧ isk T X x 0 = true) ∧ tol T X z.toNat n ≠ -1)
      · rw [if_pos c2] at hk hX
        subst hk
        exact hX (by omega)
      rw [if_neg c2] at hk hX
      by_cases c3 : ¬ (0 ≤ a ∧ a < 1000)
      · rw [if_pos c3] at hk hX
        subst hk
        exact hX (by omega)
      rw [if_neg c3] at hk hX
      by_cases c4 : ¬ (tol T X x.toNat a = -1 ∧ (oK X (tol T X z.toNat n).toNat = 2 ∨ win = false))
      · rw [if_pos c4] at hk hX
        subst hk
        exact hX (by omega)
      rw [if_neg c4] at hk
      omega
    have hf : fu f 54 (k : Int) 54 = k := fu_s _ _ _
    exact hx _ s b (fun g _ h _ => fu_n _ _ h) hf (fun _ _ _ => rfl)
  by_cases h1 : off = true
  · rw [h1] at f52
    have f52 : f 52 = 1 := f52
    simp (disch := first | (simp only [dd, dr]; done) | omega) only [W_194, msK, msR, msF, ms1, msS1, k0, k1, k6, f52, I_lt, I_le, I_inj, inB_I, tc_I, Int.toNat_natCast, fkt, rf1, rf0, cq, Nat.reduceAdd, Nat.reduceEqDiff, Int.reduceToNat, eq_self, true_and, and_true, true_or, or_true, bI_0, bI_1, mm, rAm, mF_sF, mR_sR, false_and, and_false, if_false, if_true, false_or, or_false, not_true_eq_false, not_false_eq_true, and_self]
    refine ⟨fun _ => ?_, (fun h => by first | exact False.elim h | exact absurd trivial h | (exfalso; omega) | exact absurd rfl h | cases h)⟩
    simp (disch := first | (simp only [dd, dr]; done) | omega) only [W_194, msK, msR, msF, ms1, msS1, k0, k1, k6, f52, I_lt, I_le, I_inj, inB_I, tc_I, Int.toNat_natCast, fkt, rf1, rf0, cq, Nat.reduceAdd, Nat.reduceEqDiff, Int.reduceToNat, eq_self, true_and, and_true, true_or, or_true, bI_0, bI_1, mm, rAm, mF_sF, mR_sR, false_and, and_false, if_false, if_true, false_or, or_false, not_true_eq_false, not_false_eq_true, and_self]
    refine ⟨(fun h => by first | exact False.elim h | exact absurd trivial h | (exfalso; omega) | exact absurd rfl h | cases h), fun _ => ?_⟩
    have hf : fu f 54 (1 : Int) 54 = 1 := fu_s _ _ _
    simp (disch := first | (simp only [dd, dr]; done) | omega) only [W_194, msK, msR, msF, ms1, msS1, k0, k1, k6, msSF, hf, I_lt, I_le, I_inj, inB_I, tc_I, Int.toNat_natCast, fkt, rf1, rf0, cq, Nat.reduceAdd, Nat.reduceEqDiff, Int.reduceToNat, eq_self, true_and, and_true, true_or, or_true, bI_0, bI_1, mm, rAm, mF_sF, mR_sR, false_and, and_false, if_false, if_true, false_or, or_false, not_true_eq_false, not_false_eq_true, and_self]
    refine ⟨(fun h => by first | exact False.elim h | exact absurd trivial h | (exfalso; omega) | exact absurd rfl h | cases h), fun _ => ?_⟩
    simp (disch := first | (simp only [dd, dr]; done) | omega) only [W_194, I_lt, I_le, I_inj, inB_I, tc_I, Int.toNat_natCast, fkt, rf1, rf0, cq, Nat.reduceAdd, Nat.reduceEqDiff, Int.reduceToNat, eq_self, true_and, and_true, true_or, or_true, bI_0, bI_1, mm, rAm, mF_sF, mR_sR, false_and, and_false, if_false, if_true, false_or, or_false, not_true_eq_false, not_false_eq_true, and_self]
    exact ref 1 (by omega) (by omega) (by rw [if_pos h1])
  have f52 : f 52 = 0 := by
    have : off = false := by simpa using h1
    rw [this] at f52; exact f52
  simp (disch := first | (simp only [dd, dr]; done) | omega) only [W_194, msK, msR, msF, ms1, msS1, k0, k1, k6, f52, I_lt, I_le, I_inj, inB_I, tc_I, Int.toNat_natCast, fkt, rf1, rf0, cq, Nat.reduceAdd, Nat.reduceEqDiff, Int.reduceToNat, eq_self, true_and, and_true, true_or, or_true, bI_0, bI_1, mm, rAm, mF_sF, mR_sR, false_and, and_false, if_false, if_true, false_or, or_false, not_true_eq_false, not_false_eq_true, and_self]
  refine ⟨(fun h => by first | exact False.elim h | exact absurd trivial h | (exfalso; omega) | exact absurd rfl h | cases h), fun _ => ?_⟩
  simp (disch := first | (simp only [dd, dr]; done) | omega) only [W_194, msK, msR, msF, ms1, msS1, k0, k1, k6, I_lt, I_le, I_inj, inB_I, tc_I, Int.toNat_natCast, fkt, rf1, rf0, cq, Nat.reduceAdd, Nat.reduceEqDiff, Int.reduceToNat, eq_self, true_and, and_true, true_or, or_true, bI_0, bI_1, mm, rAm, mF_sF, mR_sR, false_and, and_false, if_false, if_true, false_or, or_false, not_true_eq_false, not_false_eq_true, and_self]
  refine ca_157 (by omega) (m_isDirectory hK' (by omega) S O.1.1 z0 z1 ?_)
  simp (disch := first | (simp only [dd, dr]; done) | omega) only [W_194, I_lt, I_le, I_inj, inB_I, tc_I, Int.toNat_natCast, fkt, rf1, rf0, cq, Nat.reduceAdd, Nat.reduceEqDiff, Int.reduceToNat, eq_self, true_and, and_true, true_or, or_true, bI_0, bI_1, mm, rAm, mF_sF, mR_sR, false_and, and_false, if_false, if_true, false_or, or_false, not_true_eq_false, not_false_eq_true, and_self]
  refine ⟨fun h2 => ?_, fun h2 => ?_⟩
  rotate_left
  · have h2 : isk T X z 0 = false := by simpa using h2
    simp (disch := first | (simp only [dd, dr]; done) | omega) only [W_194, msK, msR, msF, ms1, msS1, k0, k1, k6, f52, I_lt, I_le, I_inj, inB_I, tc_I, Int.toNat_natCast, fkt, rf1, rf0, cq, Nat.reduceAdd, Nat.reduceEqDiff, Int.reduceToNat, eq_self, true_and, and_true, true_or, or_true, bI_0, bI_1, mm, rAm, mF_sF, mR_sR, false_and, and_false, if_false, if_true, false_or, or_false, not_true_eq_false, not_false_eq_true, and_self]
    refine ⟨fun _ => ?_, (fun h => by first | exact False.elim h | exact absurd trivial h | (exfalso; omega) | exact absurd rfl h | cases h)⟩
    simp (disch := first | (simp only [dd, dr]; done) | omega) only [W_194, I_lt, I_le, I_inj, inB_I, tc_I, Int.toNat_natCast, fkt, rf1, rf0, cq, Nat.reduceAdd, Nat.reduceEqDiff, Int.reduceToNat, eq_self, true_and, and_true, true_or, or_true, bI_0, bI_1, mm, rAm, mF_sF, mR_sR, false_and, and_false, if_false, if_true, false_or, or_false, not_true_eq_false, not_false_eq_true, and_self]
    refine ⟨fun _ => ?_, (fun h => by first | exact False.elim h | exact absurd trivial h | (exfalso; omega) | exact absurd rfl h | cases h)⟩
    have hf : fu f 54 (2 : Int) 54 = 2 := fu_s _ _ _
    simp (disch := first | (simp only [dd, dr]; done) | omega) only [W_194, msK, msR, msF, ms1, msS1, k0, k1, k6, msSF, hf, I_lt, I_le, I_inj, inB_I, tc_I, Int.toNat_natCast, fkt, rf1, rf0, cq, Nat.reduceAdd, Nat.reduceEqDiff, Int.reduceToNat, eq_self, true_and, and_true, true_or, or_true, bI_0, bI_1, mm, rAm, mF_sF, mR_sR, false_and, and_false, if_false, if_true, false_or, or_false, not_true_eq_false, not_false_eq_true, and_self]
    refine ⟨(fun h => by first | exact False.elim h | exact absurd trivial h | (exfalso; omega) | exact absurd rfl h | cases h), fun _ => ?_⟩
    simp (disch := first | (simp only [dd, dr]; done) | omega) only [W_194, I_lt, I_le, I_inj, inB_I, tc_I, Int.toNat_natCast, fkt, rf1, rf0, cq, Nat.reduceAdd, Nat.reduceEqDiff, Int.reduceToNat, eq_self, true_and, and_true, true_or, or_true, bI_0, bI_1, mm, rAm, mF_sF, mR_sR, false_and, and_false, if_false, if_true, false_or, or_false, not_true_eq_false, not_false_eq_true, and_self]
    exact ref 2 (by omega) (by omega) (by rw [if_neg h1, if_pos (fun h => by rw [h.1.1] at h2; cases h2)])
  have h2 : isk T X z 0 = true := by simpa using h2
  obtain ⟨zo, rfl, o1, o2, o3, o4⟩ := isk_of h2
  simp only [Int.toNat_natCast] at *
  simp (disch := first | (simp only [dd, dr]; done) | omega) only [W_194, msK, msR, msF, ms1, msS1, k0, k1, k6, I_lt, I_le, I_inj, inB_I, tc_I, Int.toNat_natCast, fkt, rf1, rf0, cq, Nat.reduceAdd, Nat.reduceEqDiff, Int.reduceToNat, eq_self, true_and, and_true, true_or, or_true, bI_0, bI_1, mm, rAm, mF_sF, mR_sR, false_and, and_false, if_false, if_true, false_or, or_false, not_true_eq_false, not_false_eq_true, and_self]
  refine ca_161 (by omega) (m_entry hK' (by omega) S W hn (by omega) n0 n1 ?_)
  have ht := tol_rng O.1 zo n
  by_cases h3 : tol T X zo n = -1
  · rw [h3]
    simp (disch := first | (simp only [dd, dr]; done) | omega) only [W_194, msK, msR, msF, ms1, msS1, k0, k1, k6, f52, I_lt, I_le, I_inj, inB_I, tc_I, Int.toNat_natCast, fkt, rf1, rf0, cq, Nat.reduceAdd, Nat.reduceEqDiff, Int.reduceToNat, eq_self, true_and, and_true, true_or, or_true, bI_0, bI_1, mm, rAm, mF_sF, mR_sR, false_and, and_false, if_false, if_true, false_or, or_false, not_true_eq_false, not_false_eq_true, and_self]
    refine ⟨fun _ => ?_, (fun h => by first | exact False.elim h | exact absurd trivial h | (exfalso; omega) | exact absurd rfl h | cases h)⟩
    simp (disch := first | (simp only [dd, dr]; done) | omega) only [W_194, I_lt, I_le, I_inj, inB_I, tc_I, Int.toNat_natCast, fkt, rf1, rf0, cq, Nat.reduceAdd, Nat.reduceEqDiff, Int.reduceToNat, eq_self, true_and, and_true, true_or, or_true, bI_0, bI_1, mm, rAm, mF_sF, mR_sR, false_and, and_false, if_false, if_true, false_or, or_false, not_true_eq_false, not_false_eq_true, and_self]
    refine ⟨fun _ => ?_, (fun h => by first | exact False.elim h | exact absurd trivial h | (exfalso; omega) | exact absurd rfl h | cases h)⟩
    have hf : fu f 54 (2 : Int) 54 = 2 := fu_s _ _ _
    simp (disch := first | (simp only [dd, dr]; done) | omega) only [W_194, msK, msR, msF, ms1, msS1, k0, k1, k6, msSF, hf, I_lt, I_le, I_inj, inB_I, tc_I, Int.toNat_natCast, fkt, rf1, rf0, cq, Nat.reduceAdd, Nat.reduceEqDiff, Int.reduceToNat, eq_self, true_and, and_true, true_or, or_true, bI_0, bI_1, mm, rAm, mF_sF, mR_sR, false_and, and_false, if_false, if_true, false_or, or_false, not_true_eq_false, not_false_eq_true, and_self]
    refine ⟨(fun h => by first | exact False.elim h | exact absurd trivial h | (exfalso; omega) | exact absurd rfl h | cases h), fun _ => ?_⟩
    simp (disch := first | (simp only [dd, dr]; done) | omega) only [W_194, I_lt, I_le, I_inj, inB_I, tc_I, Int.toNat_natCast, fkt, rf1, rf0, cq, Nat.reduceAdd, Nat.reduceEqDiff, Int.reduceToNat, eq_self, true_and, and_true, true_or, or_true, bI_0, bI_1, mm, rAm, mF_sF, mR_sR, false_and, and_false, if_false, if_true, false_or, or_false, not_true_eq_false, not_false_eq_true, and_self]
    exact ref 2 (by omega) (by omega) (by rw [if_neg h1, if_pos (fun h => h.2 h3)])
  have hin : 0 ≤ n ∧ n < 1000 ∧ ky zo 1 n.toNat ∈ its T := by
    apply Classical.byContradiction
    intro h
    apply h3
    unfold tol
    rw [if_neg h]
  obtain ⟨nn, rfl⟩ : ∃ nn : Nat, n = nn := ⟨n.toNat, by omega⟩
  simp only [Int.toNat_natCast] at *
  obtain ⟨hi1, hi2, hi3⟩ := hin
  have etol : tol T X zo (nn : Int) = ((oE X (ky zo 1 nn) : Nat) : Int) := by
    unfold tol
    rw [Int.toNat_natCast, if_pos ⟨hi1, hi2, hi3⟩]
  obtain ⟨e1, e2, e3, e4⟩ := hE zo nn (by omega) hi3
  generalize hvv : oE X (ky zo 1 nn) = v at *
  rw [etol]
  simp only [etol, Int.toNat_natCast] at hX hR ref hwin
  simp (disch := first | (simp only [dd, dr]; done) | omega) only [W_194, msK, msR, msF, ms1, msS1, k0, k1, k6, f52, I_lt, I_le, I_inj, inB_I, tc_I, Int.toNat_natCast, fkt, rf1, rf0, cq, Nat.reduceAdd, Nat.reduceEqDiff, Int.reduceToNat, eq_self, true_and, and_true, true_or, or_true, bI_0, bI_1, mm, rAm, mF_sF, mR_sR, false_and, and_false, if_false, if_true, false_or, or_false, not_true_eq_false, not_false_eq_true, and_self]
  refine ⟨fun _ => ?_, (fun h => by first | exact False.elim h | exact absurd trivial h | (exfalso; omega) | exact absurd rfl h | cases h)⟩
  simp (disch := first | (simp only [dd, dr]; done) | omega) only [W_194, I_lt, I_le, I_inj, inB_I, tc_I, Int.toNat_natCast, fkt, rf1, rf0, cq, Nat.reduceAdd, Nat.reduceEqDiff, Int.reduceToNat, eq_self, true_and, and_true, true_or, or_true, bI_0, bI_1, mm, rAm, mF_sF, mR_sR, false_and, and_false, if_false, if_true, false_or, or_false, not_true_eq_false, not_false_eq_true, and_self]
  refine ⟨(fun h => by first | exact False.elim h | exact absurd trivial h | (exfalso; omega) | exact absurd rfl h | cases h), fun _ => ?_⟩
  simp (disch := first | (simp only [dd, dr]; done) | omega) only [W_194, msK, msR, msF, ms1, msS1, k0, k1, k6, I_lt, I_le, I_inj, inB_I, tc_I, Int.toNat_natCast, fkt, rf1, rf0, cq, Nat.reduceAdd, Nat.reduceEqDiff, Int.reduceToNat, eq_self, true_and, and_true, true_or, or_true, bI_0, bI_1, mm, rAm, mF_sF, mR_sR, false_and, and_false, if_false, if_true, false_or, or_false, not_true_eq_false, not_false_eq_true, and_self]
  refine ca_157 (by omega) (m_isDirectory hK' (by omega) S O.1.1 x0 x1 ?_)
  simp (disch := first | (simp only [dd, dr]; done) | omega) only [W_194, I_lt, I_le, I_inj, inB_I, tc_I, Int.toNat_natCast, fkt, rf1, rf0, cq, Nat.reduceAdd, Nat.reduceEqDiff, Int.reduceToNat, eq_self, true_and, and_true, true_or, or_true, bI_0, bI_1, mm, rAm, mF_sF, mR_sR, false_and, and_false, if_false, if_true, false_or, or_false, not_true_eq_false, not_false_eq_true, and_self]
  refine ⟨fun h4 => ?_, fun h4 => ?_⟩
  rotate_left
  · have h4 : isk T X x 0 = false := by simpa using h4
    have hf : fu f 54 (2 : Int) 54 = 2 := fu_s _ _ _
    simp (disch := first | (simp only [dd, dr]; done) | omega) only [W_194, msK, msR, msF, ms1, msS1, k0, k1, k6, msSF, hf, I_lt, I_le, I_inj, inB_I, tc_I, Int.toNat_natCast, fkt, rf1, rf0, cq, Nat.reduceAdd, Nat.reduceEqDiff, Int.reduceToNat, eq_self, true_and, and_true, true_or, or_true, bI_0, bI_1, mm, rAm, mF_sF, mR_sR, false_and, and_false, if_false, if_true, false_or, or_false, not_true_eq_false, not_false_eq_true, and_self]
    refine ⟨(fun h => by first | exact False.elim h | exact absurd trivial h | (exfalso; omega) | exact absurd rfl h | cases h), fun _ => ?_⟩
    simp (disch := first | (simp only [dd, dr]; done) | omega) only [W_194, I_lt, I_le, I_inj, inB_I, tc_I, Int.toNat_natCast, fkt, rf1, rf0, cq, Nat.reduceAdd, Nat.reduceEqDiff, Int.reduceToNat, eq_self, true_and, and_true, true_or, or_true, bI_0, bI_1, mm, rAm, mF_sF, mR_sR, false_and, and_false, if_false, if_true, false_or, or_false, not_true_eq_false, not_false_eq_true, and_self]
    exact ref 2 (by omega) (by omega) (by rw [if_neg h1, if_pos (fun h => by rw [h.1.2] at h4; cases h4)])
  have h4 : isk T X x 0 = true := by simpa using h4
  obtain ⟨xo, rfl, p1, p2, p3, p4⟩ := isk_of h4
  simp only [Int.toNat_natCast] at *
  have h24 : ¬ ¬ ((isk T X (zo : Int) 0 = true ∧ isk T X (xo : Int) 0 = true) ∧ ((v : Nat) : Int) ≠ -1) := fun h => h ⟨⟨h2, h4⟩, by omega⟩
  simp (disch := first | (simp only [dd, dr]; done) | omega) only [W_194, msK, msR, msF, ms1, msS1, k0, k1, k6, I_lt, I_le, I_inj, inB_I, tc_I, Int.toNat_natCast, fkt, rf1, rf0, cq, Nat.reduceAdd, Nat.reduceEqDiff, Int.reduceToNat, eq_self, true_and, and_true, true_or, or_true, bI_0, bI_1, mm, rAm, mF_sF, mR_sR, false_and, and_false, if_false, if_true, false_or, or_false, not_true_eq_false, not_false_eq_true, and_self]
  refine ca_160 (by omega) (m_isName hK' (by omega) a0 a1 ?_)
  simp (disch := first | (simp only [dd, dr]; done) | omega) only [W_194, I_lt, I_le, I_inj, inB_I, tc_I, Int.toNat_natCast, fkt, rf1, rf0, cq, Nat.reduceAdd, Nat.reduceEqDiff, Int.reduceToNat, eq_self, true_and, and_true, true_or, or_true, bI_0, bI_1, mm, rAm, mF_sF, mR_sR, false_and, and_false, if_false, if_true, false_or, or_false, not_true_eq_false, not_false_eq_true, and_self]
  refine ⟨fun h5 => ?_, fun h5 => ?_⟩
  rotate_left
  · have h5 : ¬ (0 ≤ a ∧ a < 1000) := by simpa using h5
    have hf : fu f 54 (3 : Int) 54 = 3 := fu_s _ _ _
    simp (disch := first | (simp only [dd, dr]; done) | omega) only [W_194, msK, msR, msF, ms1, msS1, k0, k1, k6, msSF, hf, I_lt, I_le, I_inj, inB_I, tc_I, Int.toNat_natCast, fkt, rf1, rf0, cq, Nat.reduceAdd, Nat.reduceEqDiff, Int.reduceToNat, eq_self, true_and, and_true, true_or, or_true, bI_0, bI_1, mm, rAm, mF_sF, mR_sR, false_and, and_false, if_false, if_true, false_or, or_false, not_true_eq_false, not_false_eq_true, and_self]
    refine ⟨(fun h => by first | exact False.elim h | exact absurd trivial h | (exfalso; omega) | exact absurd rfl h | cases h), fun _ => ?_⟩
    simp (disch := first | (simp only [dd, dr]; done) | omega) only [W_194, I_lt, I_le, I_inj, inB_I, tc_I, Int.toNat_natCast, fkt, rf1, rf0, cq, Nat.reduceAdd, Nat.reduceEqDiff, Int.reduceToNat, eq_self, true_and, and_true, true_or, or_true, bI_0, bI_1, mm, rAm, mF_sF, mR_sR, false_and, and_false, if_false, if_true, false_or, or_false, not_true_eq_false, not_false_eq_true, and_self]
    exact ref 3 (by omega) (by omega) (by rw [if_neg h1, if_neg h24, if_pos h5])
  have h5 : 0 ≤ a ∧ a < 1000 := by simpa using h5
  have h5' : ¬ ¬ (0 ≤ a ∧ a < 1000) := fun h => h h5
  obtain ⟨aa, rfl⟩ : ∃ aa : Nat, a = aa := ⟨a.toNat, by omega⟩
  simp only [Int.toNat_natCast] at *
  simp (disch := first | (simp only [dd, dr]; done) | omega) only [W_194, msK, msR, msF, ms1, msS1, k0, k1, k6, I_lt, I_le, I_inj, inB_I, tc_I, Int.toNat_natCast, fkt, rf1, rf0, cq, Nat.reduceAdd, Nat.reduceEqDiff, Int.reduceToNat, eq_self, true_and, and_true, true_or, or_true, bI_0, bI_1, mm, rAm, mF_sF, mR_sR, false_and, and_false, if_false, if_true, false_or, or_false, not_true_eq_false, not_false_eq_true, and_self]
  refine ca_161 (by omega) (m_entry hK' (by omega) S W hn (by omega) a0 a1 ?_)
  have htx := tol_rng O.1 xo (aa : Int)
  simp (disch := first | (simp only [dd, dr]; done) | omega) only [W_194, I_lt, I_le, I_inj, inB_I, tc_I, Int.toNat_natCast, fkt, rf1, rf0, cq, Nat.reduceAdd, Nat.reduceEqDiff, Int.reduceToNat, eq_self, true_and, and_true, true_or, or_true, bI_0, bI_1, mm, rAm, mF_sF, mR_sR, false_and, and_false, if_false, if_true, false_or, or_false, not_true_eq_false, not_false_eq_true, and_self]
  refine ⟨fun h6 => ?_, fun h6 => ?_⟩
  · have hf : fu f 54 (4 : Int) 54 = 4 := fu_s _ _ _
    simp (disch := first | (simp only [dd, dr]; done) | omega) only [W_194, msK, msR, msF, ms1, msS1, k0, k1, k6, msSF, hf, I_lt, I_le, I_inj, inB_I, tc_I, Int.toNat_natCast, fkt, rf1, rf0, cq, Nat.reduceAdd, Nat.reduceEqDiff, Int.reduceToNat, eq_self, true_and, and_true, true_or, or_true, bI_0, bI_1, mm, rAm, mF_sF, mR_sR, false_and, and_false, if_false, if_true, false_or, or_false, not_true_eq_false, not_false_eq_true, and_self]
    refine ⟨(fun h => by first | exact False.elim h | exact absurd trivial h | (exfalso; omega) | exact absurd rfl h | cases h), fun _ => ?_⟩
    simp (disch := first | (simp only [dd, dr]; done) | omega) only [W_194, I_lt, I_le, I_inj, inB_I, tc_I, Int.toNat_natCast, fkt, rf1, rf0, cq, Nat.reduceAdd, Nat.reduceEqDiff, Int.reduceToNat, eq_self, true_and, and_true, true_or, or_true, bI_0, bI_1, mm, rAm, mF_sF, mR_sR, false_and, and_false, if_false, if_true, false_or, or_false, not_true_eq_false, not_false_eq_true, and_self]
    exact ref 4 (by omega) (by omega) (by rw [if_neg h1, if_neg h24, if_neg h5', if_pos (fun h => by omega)])
  have h6 : tol T X xo (aa : Int) = -1 := by omega
  have hkn := tol_no (by omega) h6
  have hv1 := S.2.1 v (by omega)
  rw [if_pos e3] at hv1
  obtain ⟨vo1, vo2, vo3, vo4⟩ := O.1.1 v (by omega) e3
  obtain ⟨y1, y2, _⟩ := S.2.2.1 zo (by omega) o3
  rw [if_neg h1, if_neg h24, if_neg h5'] at hX hR
  -- the call goes on
  have rest : (oK X v = 2 ∨ win = false) → Wp d 194 107 [some (.ref o), some (.int (I (zo : Nat))), some (.int (I (nn : Nat))), some (.int (I (xo : Nat))), some (.int (I (aa : Nat))), some (.int (I (v : Nat)))] [.ref o] (ms M o f s b c w j) Q := by
    intro h7
    rw [if_neg (fun h => h ⟨h6, h7⟩)] at hX hR
    have hf0 : fu f 54 (0 : Int) 54 = 0 := fu_s _ _ _
    simp (disch := first | (simp only [dd, dr]; done) | omega) only [W_194, msK, msR, msF, ms1, msS1, k0, k1, k6, msSF, hf0, I_lt, I_le, I_inj, inB_I, tc_I, Int.toNat_natCast, fkt, rf1, rf0, cq, Nat.reduceAdd, Nat.reduceEqDiff, Int.reduceToNat, eq_self, true_and, and_true, true_or, or_true, bI_0, bI_1, mm, rAm, mF_sF, mR_sR, false_and, and_false, if_false, if_true, false_or, or_false, not_true_eq_false, not_false_eq_true, and_self]
    refine ⟨fun _ => ?_, (fun h => by first | exact False.elim h | exact absurd trivial h | (exfalso; omega) | exact absurd rfl h | cases h)⟩
    simp (disch := first | (simp only [dd, dr]; done) | omega) only [W_194, msK, msR, msF, ms1, msS1, k0, k1, k6, I_lt, I_le, I_inj, inB_I, tc_I, Int.toNat_natCast, fkt, rf1, rf0, cq, Nat.reduceAdd, Nat.reduceEqDiff, Int.reduceToNat, eq_self, true_and, and_true, true_or, or_true, bI_0, bI_1, mm, rAm, mF_sF, mR_sR, false_and, and_false, if_false, if_true, false_or, or_false, not_true_eq_false, not_false_eq_true, and_self]
    refine ca_166 (by omega) (m_begin hK' (by omega) ?_)
    simp (disch := first | (simp only [dd, dr]; done) | omega) only [W_194, msK, msR, msF, ms1, msS1, k0, k1, k6, I_lt, I_le, I_inj, inB_I, tc_I, Int.toNat_natCast, fkt, rf1, rf0, cq, Nat.reduceAdd, Nat.reduceEqDiff, Int.reduceToNat, eq_self, true_and, and_true, true_or, or_true, bI_0, bI_1, mm, rAm, mF_sF, mR_sR, false_and, and_false, if_false, if_true, false_or, or_false, not_true_eq_false, not_false_eq_true, and_self]
    generalize hb1 : kp s b = b1
    have hb1x : ∀ x, 0 ≤ x → x < 25366 → b1 x = s x := fun x _ h => by rw [← hb1]; unfold kp; rw [if_pos h]
    generalize hf1 : fu (fu f 54 0) 47 0 = f1
    have g47 : f1 47 = 0 := by rw [← hf1, fu_s]
    have g54 : f1 54 = 0 := by rw [← hf1, fu_n _ _ (by omega), fu_s]
    have g43 : f1 43 = m := by rw [← hf1, fu_n _ _ (by omega), fu_n _ _ (by omega)]; exact f43
    have ge : Fe f f1 := fun g a1 a2 _ => by rw [← hf1, fu_n _ _ a1, fu_n _ _ a2]
    clear hf1 hb1 ref
    obtain ⟨S1, W1⟩ := dlT_st (key := ky zo 1 nn) hm2 W
    refine ca_187 (by omega) (t_del (so := 1) hK' hm2 (by omega) S.1 W (by omega) (by omega) (by omega) hi3 (fun s2 m2 F2 => ?_))
    have mem1 := S1.mem W
    have hi1' : ∀ o', o' < 61 → (ky o' 0 0 ∈ its (dlT m (szO X) T (ky zo 1 nn)) ↔ ky o' 0 0 ∈ its T) := by
      intro o' ho'
      rw [mem1]
      constructor
      · rintro (⟨_, h⟩ | ⟨_, h⟩)
        · exact absurd rfl h
        · exact h
      · intro h
        exact .inr ⟨fun e => by have := (ky_inj (by omega) (by omega) (by omega) (by omega) e).2.1; omega, h⟩
    have hkn1 : ky xo 1 aa ∉ its (dlT m (szO X) T (ky zo 1 nn)) := by
      rw [mem1]
      rintro (⟨_, h⟩ | ⟨_, h⟩)
      · exact absurd rfl h
      · exact hkn h
    have mo1 : MO s2 (dlT m (szO X) T (ky zo 1 nn)) X dt := S.2.tree F2 hl hi1' S1.2.1
    have hl1 : ∀ o', o' < 61 → ky o' 0 0 ∈ its (dlT m (szO X) T (ky zo 1 nn)) → (oD X o').length ≤ 16 := fun o' ho' h => hl o' ho' ((hi1' o' ho').mp h)
    generalize hT1 : dlT m (szO X) T (ky zo 1 nn) = T1 at *
    have y2' : s2 (218 + (zo : Int)) = oS X zo := by rw [F2 _ (by omega)]; exact y2
    generalize hs3 : fz s2 (218 + (zo : Int)) ((oS X zo : Int) - 1) = s3
    have t3 : MT s3 T1 (szO X) (tlX X) := m2.eqs (fun x hx => by rw [← hs3, fz_n _ _ (by omega)])
    have mo2 : MO s3 T1 (lvX X zo) dt := mo1.st (by omega) hl1 (by rw [← hs3, fz_n _ _ (by omega), F2 _ (by omega)]; exact y1) (by rw [← hs3, fz_e _ _ rfl]; omega) (fun x a1 a2 => by rw [← hs3]; exact fz_n _ _ a2)
    simp (disch := first | (simp only [dd, dr]; done) | omega) only [W_194, msK, msR, msF, ms1, msS1, k0, k1, k6, y2', hs3, I_lt, I_le, I_inj, inB_I, tc_I, Int.toNat_natCast, fkt, rf1, rf0, cq, Nat.reduceAdd, Nat.reduceEqDiff, Int.reduceToNat, eq_self, true_and, and_true, true_or, or_true, bI_0, bI_1, mm, rAm, mF_sF, mR_sR, false_and, and_false, if_false, if_true, false_or, or_false, not_true_eq_false, not_false_eq_true, and_self]
    generalize hcd : (match stT m (szO X) T1 (ky xo 1 aa) 3 with
      | some (true, _) => 0
      | _ => 4 : Nat) = cd at hX hR
    obtain ⟨ok2, T2, hg2, hgo2⟩ := stT_ok (key := ky xo 1 aa) (n := 3) hm2 W1 (by omega)
    rw [hg2] at hcd
    refine ca_167 (by omega) (t_put1 hK' hm1 hm2 g43 g47 (ob := xo) (so := 1) (na := aa) (body := 3) (told := v) (by omega) t3 W1 (by omega) (by omega) (by omega) (by omega) (by omega) (by omega) hkn1 hg2 (fun hok s4 m4 F4 => ?_) (fun hok s4 F4 => ?_))
    rotate_left
    · subst hok
      have h4 : cd = 4 := hcd.symm
      simp (disch := first | (simp only [dd, dr]; done) | omega) only [W_194, msK, msR, msF, ms1, msS1, k0, k1, k6, I_lt, I_le, I_inj, inB_I, tc_I, Int.toNat_natCast, fkt, rf1, rf0, cq, Nat.reduceAdd, Nat.reduceEqDiff, Int.reduceToNat, eq_self, true_and, and_true, true_or, or_true, bI_0, bI_1, mm, rAm, mF_sF, mR_sR, false_and, and_false, if_false, if_true, false_or, or_false, not_true_eq_false, not_false_eq_true, and_self]
      refine ca_183 (by omega) (m_ended hK' (by omega) (fun h => ?_) (fun h => ?_) (.inr (fu_s _ _ _)))
      · rw [fu_s] at h; cases h
      · simp (disch := first | (simp only [dd, dr]; done) | omega) only [W_194, I_lt, I_le, I_inj, inB_I, tc_I, Int.toNat_natCast, fkt, rf1, rf0, cq, Nat.reduceAdd, Nat.reduceEqDiff, Int.reduceToNat, eq_self, true_and, and_true, true_or, or_true, bI_0, bI_1, mm, rAm, mF_sF, mR_sR, false_and, and_false, if_false, if_true, false_or, or_false, not_true_eq_false, not_false_eq_true, and_self]
        refine ⟨fun _ => ?_, (fun h => by first | exact False.elim h | exact absurd trivial h | (exfalso; omega) | exact absurd rfl h | cases h)⟩
        simp (disch := first | (simp only [dd, dr]; done) | omega) only [W_194, I_lt, I_le, I_inj, inB_I, tc_I, Int.toNat_natCast, fkt, rf1, rf0, cq, Nat.reduceAdd, Nat.reduceEqDiff, Int.reduceToNat, eq_self, true_and, and_true, true_or, or_true, bI_0, bI_1, mm, rAm, mF_sF, mR_sR, false_and, and_false, if_false, if_true, false_or, or_false, not_true_eq_false, not_false_eq_true, and_self]
        refine hX (by omega) _ _ b1 (fun g a1 a2 a3 => ?_) ?_ (fun x a1 a2 => ?_)
        · rw [fu_n _ _ a2, fu_n _ _ a1]; exact ge g a1 a2 a3
        · rw [fu_s, h4]; rfl
        · unfold kp; rw [if_pos a2]; exact hb1x x a1 a2
    subst hok
    simp only [] at hcd
    rw [fu_idv (szO_1 X xo (by omega))] at m4
    have SF2 := (hgo2 rfl).2
    have mem2 := SF2.mem W1
    have hi2' : ∀ o', o' < 61 → (ky o' 0 0 ∈ its T2 ↔ ky o' 0 0 ∈ its T1) := by
      intro o' ho'
      rw [mem2]
      constructor
      · rintro (⟨h, _⟩ | ⟨_, h⟩)
        · have := (ky_inj (by omega) (by omega) (by omega) (by omega) h).2.1; omega
        · exact h
      · intro h
        exact .inr ⟨fun e => by have := (ky_inj (by omega) (by omega) (by omega) (by omega) e).2.1; omega, h⟩
    have hl2 : ∀ o', o' < 61 → ky o' 0 0 ∈ its T1 → (oD (lvX X zo) o').length ≤ 16 := hl1
    have mo4 : MO s4 T2 (lvX X zo) dt := mo2.tree F4 hl2 hi2' SF2.2.1
    have o3x : ky xo 0 0 ∈ its T2 := (hi2' xo (by omega)).mpr ((hi1' xo (by omega)).mpr p3)
    obtain ⟨q1, q2, _⟩ := mo4.2.1 xo (by omega) o3x
    simp (disch := first | (simp only [dd, dr]; done) | omega) only [W_194, msK, msR, msF, ms1, msS1, k0, k1, k6, q2, I_lt, I_le, I_inj, inB_I, tc_I, Int.toNat_natCast, fkt, rf1, rf0, cq, Nat.reduceAdd, Nat.reduceEqDiff, Int.reduceToNat, eq_self, true_and, and_true, true_or, or_true, bI_0, bI_1, mm, rAm, mF_sF, mR_sR, false_and, and_false, if_false, if_true, false_or, or_false, not_true_eq_false, not_false_eq_true, and_self]
    refine ca_183 (by omega) (m_ended hK' (by omega) (fun h => ?_) (fun h => ?_) (.inl g47))
    rotate_left
    · rw [g47] at h; cases h
    simp (disch := first | (simp only [dd, dr]; done) | omega) only [W_194, I_lt, I_le, I_inj, inB_I, tc_I, Int.toNat_natCast, fkt, rf1, rf0, cq, Nat.reduceAdd, Nat.reduceEqDiff, Int.reduceToNat, eq_self, true_and, and_true, true_or, or_true, bI_0, bI_1, mm, rAm, mF_sF, mR_sR, false_and, and_false, if_false, if_true, false_or, or_false, not_true_eq_false, not_false_eq_true, and_self]
    refine ⟨(fun h => by first | exact False.elim h | exact absurd trivial h | (exfalso; omega) | exact absurd rfl h | cases h), fun _ => ?_⟩
    simp (disch := first | (simp only [dd, dr]; done) | omega) only [W_194, I_lt, I_le, I_inj, inB_I, tc_I, Int.toNat_natCast, fkt, rf1, rf0, cq, Nat.reduceAdd, Nat.reduceEqDiff, Int.reduceToNat, eq_self, true_and, and_true, true_or, or_true, bI_0, bI_1, mm, rAm, mF_sF, mR_sR, false_and, and_false, if_false, if_true, false_or, or_false, not_true_eq_false, not_false_eq_true, and_self]
    refine hR hcd.symm v T2 rfl hg2 f1 _ b1 ge g54 ⟨?_, ?_⟩
    · have t5 : MT (fz s4 (218 + (xo : Int)) ((oS (lvX X zo) xo : Int) + 1)) T2 (szO X) (fu (tlX X) (ky xo 1 aa) v) := m4.eqs (fun x hx => fz_n _ _ (by omega))
      unfold enX
      rw [szO_vS, szO_vE _ _ _ (by omega), tlX_vS, tlX_vE _ _ _ (by omega)]
      unfold lvX at t5 ⊢
      rw [szO_vS, tlX_vS]
      exact t5
    · have mo5 : MO s4 T2 (vE (lvX X zo) (ky xo 1 aa) v) dt := mo4
      exact mo5.st (by omega) (fun o' ho' h => hl2 o' ho' ((hi2' o' ho').mp h)) (by rw [fz_n _ _ (by omega)]; exact q1) (by rw [fz_e _ _ rfl]; rfl) (fun x a1 a2 => fz_n _ _ a2)
  simp (disch := first | (simp only [dd, dr]; done) | omega) only [W_194, msK, msR, msF, ms1, msS1, k0, k1, k6, hv1, I_lt, I_le, I_inj, inB_I, tc_I, Int.toNat_natCast, fkt, rf1, rf0, cq, Nat.reduceAdd, Nat.reduceEqDiff, Int.reduceToNat, eq_self, true_and, and_true, true_or, or_true, bI_0, bI_1, mm, rAm, mF_sF, mR_sR, false_and, and_false, if_false, if_true, false_or, or_false, not_true_eq_false, not_false_eq_true, and_self]
  refine ⟨fun h7 => ?_, fun h7 => ?_⟩
  · have := rest (.inl (by omega))
    simp (disch := first | (simp only [dd, dr]; done) | omega) only [W_194, I_lt, I_le, I_inj, inB_I, tc_I, Int.toNat_natCast, fkt, rf1, rf0, cq, Nat.reduceAdd, Nat.reduceEqDiff, Int.reduceToNat, eq_self, true_and, and_true, true_or, or_true, bI_0, bI_1, mm, rAm, mF_sF, mR_sR, false_and, and_false, if_false, if_true, false_or, or_false, not_true_eq_false, not_false_eq_true, and_self] at this
    simp (disch := first | (simp only [dd, dr]; done) | omega) only [W_194, I_lt, I_le, I_inj, inB_I, tc_I, Int.toNat_natCast, fkt, rf1, rf0, cq, Nat.reduceAdd, Nat.reduceEqDiff, Int.reduceToNat, eq_self, true_and, and_true, true_or, or_true, bI_0, bI_1, mm, rAm, mF_sF, mR_sR, false_and, and_false, if_false, if_true, false_or, or_false, not_true_eq_false, not_false_eq_true, and_self]
    exact this
  · simp (disch := first | (simp only [dd, dr]; done) | omega) only [W_194, msK, msR, msF, ms1, msS1, k0, k1, k6, I_lt, I_le, I_inj, inB_I, tc_I, Int.toNat_natCast, fkt, rf1, rf0, cq, Nat.reduceAdd, Nat.reduceEqDiff, Int.reduceToNat, eq_self, true_and, and_true, true_or, or_true, bI_0, bI_1, mm, rAm, mF_sF, mR_sR, false_and, and_false, if_false, if_true, false_or, or_false, not_true_eq_false, not_false_eq_true, and_self]
    obtain ⟨nw, hnw⟩ := (Pa.2.1 xo p4).2
    refine ca_195 (by omega) ?_
    simp (disch := first | (simp only [dd, dr]; done) | omega) only [W_195, I_lt, I_le, I_inj, inB_I, tc_I, Int.toNat_natCast, fkt, rf1, rf0, cq, Nat.reduceAdd, Nat.reduceEqDiff, Int.reduceToNat, eq_self, true_and, and_true, true_or, or_true, bI_0, bI_1, mm, rAm, mF_sF, mR_sR, false_and, and_false, if_false, if_true, false_or, or_false, not_true_eq_false, not_false_eq_true, and_self]
    refine m_isWithin hK' (by omega) S W O.1 Pa e1 (by omega) nw xo hnw p4 ?_ _
    rw [hwin nw h4 hnw]
    simp (disch := first | (simp only [dd, dr]; done) | omega) only [W_194, I_lt, I_le, I_inj, inB_I, tc_I, Int.toNat_natCast, fkt, rf1, rf0, cq, Nat.reduceAdd, Nat.reduceEqDiff, Int.reduceToNat, eq_self, true_and, and_true, true_or, or_true, bI_0, bI_1, mm, rAm, mF_sF, mR_sR, false_and, and_false, if_false, if_true, false_or, or_false, not_true_eq_false, not_false_eq_true, and_self]
    refine ⟨fun h8 => ?_, fun h8 => ?_⟩
    · have := rest (.inr h8)
      simp (disch := first | (simp only [dd, dr]; done) | omega) only [W_194, I_lt, I_le, I_inj, inB_I, tc_I, Int.toNat_natCast, fkt, rf1, rf0, cq, Nat.reduceAdd, Nat.reduceEqDiff, Int.reduceToNat, eq_self, true_and, and_true, true_or, or_true, bI_0, bI_1, mm, rAm, mF_sF, mR_sR, false_and, and_false, if_false, if_true, false_or, or_false, not_true_eq_false, not_false_eq_true, and_self] at this
      simp (disch := first | (simp only [dd, dr]; done) | omega) only [W_194, I_lt, I_le, I_inj, inB_I, tc_I, Int.toNat_natCast, fkt, rf1, rf0, cq, Nat.reduceAdd, Nat.reduceEqDiff, Int.reduceToNat, eq_self, true_and, and_true, true_or, or_true, bI_0, bI_1, mm, rAm, mF_sF, mR_sR, false_and, and_false, if_false, if_true, false_or, or_false, not_true_eq_false, not_false_eq_true, and_self]
      exact this
    · have h8 : win = true := by simpa using h8
      have hf : fu f 54 (4 : Int) 54 = 4 := fu_s _ _ _
      simp (disch := first | (simp only [dd, dr]; done) | omega) only [W_194, msK, msR, msF, ms1, msS1, k0, k1, k6, msSF, hf, I_lt, I_le, I_inj, inB_I, tc_I, Int.toNat_natCast, fkt, rf1, rf0, cq, Nat.reduceAdd, Nat.reduceEqDiff, Int.reduceToNat, eq_self, true_and, and_true, true_or, or_true, bI_0, bI_1, mm, rAm, mF_sF, mR_sR, false_and, and_false, if_false, if_true, false_or, or_false, not_true_eq_false, not_false_eq_true, and_self]
      refine ⟨(fun h => by first | exact False.elim h | exact absurd trivial h | (exfalso; omega) | exact absurd rfl h | cases h), fun _ => ?_⟩
      simp (disch := first | (simp only [dd, dr]; done) | omega) only [W_194, I_lt, I_le, I_inj, inB_I, tc_I, Int.toNat_natCast, fkt, rf1, rf0, cq, Nat.reduceAdd, Nat.reduceEqDiff, Int.reduceToNat, eq_self, true_and, and_true, true_or, or_true, bI_0, bI_1, mm, rAm, mF_sF, mR_sR, false_and, and_false, if_false, if_true, false_or, or_false, not_true_eq_false, not_false_eq_true, and_self]
      exact ref 4 (by omega) (by omega) (by rw [if_neg h1, if_neg h24, if_neg h5', if_pos (fun h => by rcases h.2 with h | h; omega; rw [h8] at h; cases h)])
end Mmv
