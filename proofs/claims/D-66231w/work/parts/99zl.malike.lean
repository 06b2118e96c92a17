/-! ===== THE MODEL: what is alike ===== -/
/-- so many numbers of two rows are alike -/
def alz (s c : Int → Int) (a : Int) : Nat → Bool
  | 0 => true
  | n + 1 => alz s c a n && decide (s (a + (n : Int)) = c (a + (n : Int)))
theorem alz_iff {s c : Int → Int} {a : Int} : ∀ n, alz s c a n = true ↔ ∀ k : Nat, k < n → s (a + (k : Int)) = c (a + (k : Int))
  | 0 => ⟨fun _ k hk => by omega, fun _ => rfl⟩
  | n + 1 => by
    rw [alz, Bool.and_eq_true, alz_iff n, decide_eq_true_eq]
    constructor
    · rintro ⟨h1, h2⟩ k hk
      by_cases e : k = n
      · rw [e]; exact h2
      · exact h1 k (by omega)
    · intro h
      exact ⟨fun k hk => h k (by omega), h n (by omega)⟩
section Mal
variable {d : Nat} {M : Mem} {Q : Outcome → Mem → Prop} {o : Nat} {f : Nat → Int} {s s' b c w : Int → Int} {j : Nat → Bool} {T Tc : Tr} {X Xc : Ob} {dt dtc : Nat → Nat → Nat} {m : Nat} {sz tl : Nat → Nat}
/-- a number is an int -/
def i32 (z : Int) : Prop := -2147483648 ≤ z ∧ z < 2147483648
theorem m_isAlike (hK : MK M o) {a : Int} {n : Nat} (a0 : 0 ≤ a) (a1 : a + n ≤ 25366) (hb : ∀ k : Nat, k < n → i32 (s (a + (k : Int))) ∧ i32 (c (a + (k : Int)))) (hQ : Q (.returned (some (.int (I (bI (alz s c a n)))))) (ms M o f s b c w j)) : Wp d 216 0 [some (.ref o), some (.int (I a)), some (.int (I (n : Nat))), none, none] [] (ms M o f s b c w j) Q := by
  have hK' := hK
  obtain ⟨k0, k1, k2, k3, k4, k5, k6, k7, k8, k9, k10⟩ := hK
  simp (disch := first | (simp only [dd, dr]; done) | omega) only [W_216, I_lt, I_le, I_inj, inB_I, tc_I, Int.toNat_natCast, fkt, rf1, rf0, cq, Nat.reduceAdd, Nat.reduceEqDiff, Int.reduceToNat, eq_self, true_and, and_true, true_or, or_true, bI_0, bI_1, mm, rAm, mF_sF, mR_sR, false_and, and_false, if_false, if_true, false_or, or_false, not_true_eq_false, not_false_eq_true, and_self]
  suffices H : ∀ N (k : Nat) (v : Bool), k + N = n → v = alz s c a k → Wp d 216 5 [some (.ref o), some (.int (I a)), some (.int (I (n : Nat))), some (.int (I (bI v))), some (.int (I (a + (k : Int))))] [] (ms M o f s b c w j) Q by
    have := H n 0 true (by omega) rfl
    rw [show a + ((0 : Nat) : Int) = a by omega] at this
    exact this
  intro N
  induction N with
  | zero =>
    intro k v hk hv
    obtain rfl : k = n := by omega
    simp (disch := first | (simp only [dd, dr]; done) | omega) only [w_216_5, W_216, I_lt, I_le, I_inj, inB_I, tc_I, Int.toNat_natCast, fkt, rf1, rf0, cq, Nat.reduceAdd, Nat.reduceEqDiff, Int.reduceToNat, eq_self, true_and, and_true, true_or, or_true, bI_0, bI_1, mm, rAm, mF_sF, mR_sR, false_and, and_false, if_false, if_true, false_or, or_false, not_true_eq_false, not_false_eq_true, and_self]
    refine ⟨fun _ => ?_, (fun h => by first | exact False.elim h | exact absurd trivial h | (exfalso; omega) | exact absurd rfl h | cases h)⟩
    simp (disch := first | (simp only [dd, dr]; done) | omega) only [W_216, I_lt, I_le, I_inj, inB_I, tc_I, Int.toNat_natCast, fkt, rf1, rf0, cq, Nat.reduceAdd, Nat.reduceEqDiff, Int.reduceToNat, eq_self, true_and, and_true, true_or, or_true, bI_0, bI_1, mm, rAm, mF_sF, mR_sR, false_and, and_false, if_false, if_true, false_or, or_false, not_true_eq_false, not_false_eq_true, and_self]
    rw [hv]; exact hQ
  | succ N ih =>
    intro k v hk hv
    obtain ⟨⟨s0, s1⟩, ⟨c0, c1⟩⟩ := hb k (by omega)
    have next : ∀ v' : Bool, v' = alz s c a (k + 1) → Wp d 216 5 [some (.ref o), some (.int (I a)), some (.int (I (n : Nat))), some (.int (I (bI v'))), some (.int (I (a + (k : Int) + 1)))] [] (ms M o f s b c w j) Q := by
      intro v' hv'
      have := ih (k + 1) v' (by omega) hv'
      rw [show a + ((k + 1 : Nat) : Int) = a + (k : Int) + 1 by omega] at this
      exact this
    simp (disch := first | (simp only [dd, dr]; done) | omega) only [w_216_5, W_216, I_lt, I_le, I_inj, inB_I, tc_I, Int.toNat_natCast, fkt, rf1, rf0, cq, Nat.reduceAdd, Nat.reduceEqDiff, Int.reduceToNat, eq_self, true_and, and_true, true_or, or_true, bI_0, bI_1, mm, rAm, mF_sF, mR_sR, false_and, and_false, if_false, if_true, false_or, or_false, not_true_eq_false, not_false_eq_true, and_self]
    refine ⟨(fun h => by first | exact False.elim h | exact absurd trivial h | (exfalso; omega) | exact absurd rfl h | cases h), fun _ => ?_⟩
    simp (disch := first | (simp only [dd, dr]; done) | omega) only [W_216, I_lt, I_le, I_inj, inB_I, tc_I, Int.toNat_natCast, fkt, rf1, rf0, cq, Nat.reduceAdd, Nat.reduceEqDiff, Int.reduceToNat, eq_self, true_and, and_true, true_or, or_true, bI_0, bI_1, mm, rAm, mF_sF, mR_sR, false_and, and_false, if_false, if_true, false_or, or_false, not_true_eq_false, not_false_eq_true, and_self]
    refine ⟨fun h => ?_, fun h => ?_⟩
    · have h : v = false := h
      simp (disch := first | (simp only [dd, dr]; done) | omega) only [W_216, I_lt, I_le, I_inj, inB_I, tc_I, Int.toNat_natCast, fkt, rf1, rf0, cq, Nat.reduceAdd, Nat.reduceEqDiff, Int.reduceToNat, eq_self, true_and, and_true, true_or, or_true, bI_0, bI_1, mm, rAm, mF_sF, mR_sR, false_and, and_false, if_false, if_true, false_or, or_false, not_true_eq_false, not_false_eq_true, and_self]
      exact next false (by rw [alz, ← hv, h]; rfl)
    · have h : v = true := by simpa using h
      simp (disch := first | (simp only [dd, dr]; done) | omega) only [W_216, msK, msR, msF, ms1, msS1, k0, k1, k6, k3, k8, ms3, I_lt, I_le, I_inj, inB_I, tc_I, Int.toNat_natCast, fkt, rf1, rf0, cq, Nat.reduceAdd, Nat.reduceEqDiff, Int.reduceToNat, eq_self, true_and, and_true, true_or, or_true, bI_0, bI_1, mm, rAm, mF_sF, mR_sR, false_and, and_false, if_false, if_true, false_or, or_false, not_true_eq_false, not_false_eq_true, and_self]
      refine ⟨fun h' => ?_, fun h' => ?_⟩
      · simp (disch := first | (simp only [dd, dr]; done) | omega) only [W_216, I_lt, I_le, I_inj, inB_I, tc_I, Int.toNat_natCast, fkt, rf1, rf0, cq, Nat.reduceAdd, Nat.reduceEqDiff, Int.reduceToNat, eq_self, true_and, and_true, true_or, or_true, bI_0, bI_1, mm, rAm, mF_sF, mR_sR, false_and, and_false, if_false, if_true, false_or, or_false, not_true_eq_false, not_false_eq_true, and_self]
        exact next false (by rw [alz, ← hv, h, Bool.true_and, decide_eq_false h'])
      · simp (disch := first | (simp only [dd, dr]; done) | omega) only [W_216, I_lt, I_le, I_inj, inB_I, tc_I, Int.toNat_natCast, fkt, rf1, rf0, cq, Nat.reduceAdd, Nat.reduceEqDiff, Int.reduceToNat, eq_self, true_and, and_true, true_or, or_true, bI_0, bI_1, mm, rAm, mF_sF, mR_sR, false_and, and_false, if_false, if_true, false_or, or_false, not_true_eq_false, not_false_eq_true, and_self]
        exact next true (by rw [alz, ← hv, h, Bool.true_and, decide_eq_true (Classical.not_not.mp h')])
/-- the first leaf below a node -/
def fdn (T : Tr) : Nat → Nat → Nat
  | 0, x => x
  | h + 1, x => fdn T h ((tC T x).headD 0)
theorem fdn_key (T : Tr) : ∀ h x, fkey T h x = (tI T (fdn T h x)).headD 0
  | 0, x => rfl
  | h + 1, x => fdn_key T h _
theorem fdn_in {sz : Nat → Nat} (W : Wf m sz T) : ∀ h x, x ∈ tW T h → h < tN T → fdn T h x ∈ tW T 0
  | 0, x, hx, _ => hx
  | h + 1, x, hx, hN => by
    have hc := (W.2.1 h x hx (by simp)).1
    cases hcx : tC T x with
    | nil => rw [hcx] at hc; simp at hc
    | cons y l =>
      rw [fdn, hcx]
      refine fdn_in W h y ?_ (by omega)
      rw [← W.1.2.2.2.2.2.2.1 h hN]
      exact List.mem_flatMap.mpr ⟨x, hx, by rw [hcx]; exact List.mem_cons_self ..⟩
/-- firstBelow on a row s that stands in an array a -/
theorem m_firstBelow {a : Nat} {M : Mem} {g : Int → Int} (hX : kX M a = (0, 25366)) (hA : ∀ z : Int, 0 ≤ z → mA M a z.toNat = I (g z)) {sz tl : Nat → Nat} (t : MT g T sz tl) (W : Wf m sz T) : ∀ (h x : Nat), x ∈ tW T h → h < tN T → Q (.returned (some (.int (I (16 * (fdn T h x : Int)))))) M → ∀ v : Int32, Wp d 220 2 [some (.ref a), some (.int v), some (.int (I (x : Nat)))] [] M Q
  | 0, x, hx, hN, hQ, v => by
    have hx96 := (W.1.1 0 x hx).1
    have e1 := t.2.1 x hx96
    rw [(W.1.1 0 x hx).2.1] at e1
    have e1' := hA (3756 + (x : Int)) (by omega)
    rw [e1] at e1'
    simp (disch := first | (simp only [dd, dr]; done) | omega) only [w_220_2, W_220, hX, e1', I_lt, I_le, I_inj, inB_I, tc_I, Int.toNat_natCast, fkt, rf1, rf0, cq, Nat.reduceAdd, Nat.reduceEqDiff, Int.reduceToNat, eq_self, true_and, and_true, true_or, or_true, bI_0, bI_1, mm, rAm, mF_sF, mR_sR, false_and, and_false, if_false, if_true, false_or, or_false, not_true_eq_false, not_false_eq_true, and_self]
    refine ⟨fun _ => ?_, (fun h => by first | exact False.elim h | exact absurd trivial h | (exfalso; omega) | exact absurd rfl h | cases h)⟩
    simp (disch := first | (simp only [dd, dr]; done) | omega) only [W_220, I_lt, I_le, I_inj, inB_I, tc_I, Int.toNat_natCast, fkt, rf1, rf0, cq, Nat.reduceAdd, Nat.reduceEqDiff, Int.reduceToNat, eq_self, true_and, and_true, true_or, or_true, bI_0, bI_1, mm, rAm, mF_sF, mR_sR, false_and, and_false, if_false, if_true, false_or, or_false, not_true_eq_false, not_false_eq_true, and_self]
    exact hQ
  | h + 1, x, hx, hN, hQ, v => by
    obtain ⟨hx96, hxH, _⟩ := W.1.1 (h + 1) x hx
    have tN7 := W.1.tN7 W.2.1
    have e1 := t.2.1 x hx96
    rw [hxH] at e1
    have e1' := hA (3756 + (x : Int)) (by omega)
    rw [e1] at e1'
    have hc := (W.2.1 h x hx (by simp)).1
    cases hcx : tC T x with
    | nil => rw [hcx] at hc; simp at hc
    | cons y l =>
      have hy : y ∈ tW T h := by
        rw [← W.1.2.2.2.2.2.2.1 h hN]
        exact List.mem_flatMap.mpr ⟨x, hx, by rw [hcx]; exact List.mem_cons_self ..⟩
      have e2 := (t.2.2.2.2.1 x hx96).1 0 y (by rw [hcx]; rfl)
      have e2' := hA (4044 + 6 * (x : Int)) (by omega)
      rw [show (4044 + 6 * (x : Int)) = 4044 + 6 * (x : Int) + ((0 : Nat) : Int) by omega, e2, show 4044 + 6 * (x : Int) + ((0 : Nat) : Int) = (4044 + 6 * (x : Int)) by omega] at e2'
      rw [fdn, hcx] at hQ
      simp (disch := first | (simp only [dd, dr]; done) | omega) only [w_220_2, W_220, hX, e1', I_lt, I_le, I_inj, inB_I, tc_I, Int.toNat_natCast, fkt, rf1, rf0, cq, Nat.reduceAdd, Nat.reduceEqDiff, Int.reduceToNat, eq_self, true_and, and_true, true_or, or_true, bI_0, bI_1, mm, rAm, mF_sF, mR_sR, false_and, and_false, if_false, if_true, false_or, or_false, not_true_eq_false, not_false_eq_true, and_self]
      refine ⟨(fun h => by first | exact False.elim h | exact absurd trivial h | (exfalso; omega) | exact absurd rfl h | cases h), fun _ => ?_⟩
      simp (disch := first | (simp only [dd, dr]; done) | omega) only [W_220, hX, e2', I_lt, I_le, I_inj, inB_I, tc_I, Int.toNat_natCast, fkt, rf1, rf0, cq, Nat.reduceAdd, Nat.reduceEqDiff, Int.reduceToNat, eq_self, true_and, and_true, true_or, or_true, bI_0, bI_1, mm, rAm, mF_sF, mR_sR, false_and, and_false, if_false, if_true, false_or, or_false, not_true_eq_false, not_false_eq_true, and_self]
      exact m_firstBelow hX hA t W h y hy (by omega) hQ v
end Mal
