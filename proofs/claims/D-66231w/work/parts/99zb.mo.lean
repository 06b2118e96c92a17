/-! ===== THE MODEL: objects; small methods ===== -/
/-- what entries tell, by keys -/
def tlX (X : Ob) (k : Nat) : Nat := if k / 1024 % 4 = 1 then oE X k else 0
/-- the model's row s: objects, data -/
def MO (s : Int → Int) (T : Tr) (X : Ob) (dt : Nat → Nat → Nat) : Prop :=
  (∀ o : Nat, o < 61 → s (96 + o) = if ky o 0 0 ∈ its T then (oK X o : Int) else 0) ∧
  (∀ o : Nat, o < 61 → ky o 0 0 ∈ its T → s (157 + o) = oL X o ∧ s (218 + o) = oS X o ∧ s (279 + o) = ((oD X o).length : Nat) ∧ La s (340 + 16 * o) (oD X o) ∧ (oT X o ≠ [] → ∀ k : Nat, k < 40 → s (1316 + 40 * o + k) = ((oT X o).getD k 0 : Nat))) ∧
  (∀ b : Nat, b < 96 → tU T b = true → tH T b = 0 → b ≠ 0 → ∀ i : Nat, i < 128 → s (13078 + 128 * b + i) = (dt b i : Nat))
def MS (s : Int → Int) (T : Tr) (X : Ob) (dt : Nat → Nat → Nat) : Prop := MT s T (szO X) (tlX X) ∧ MO s T X dt
section Mob
variable {d : Nat} {M : Mem} {Q : Outcome → Mem → Prop} {o : Nat} {f : Nat → Int} {s s' b c w : Int → Int} {j : Nat → Bool} {T : Tr} {X : Ob} {dt : Nat → Nat → Nat} {m : Nat} {sz tl : Nat → Nat}
theorem La.eqs {base : Int} {l : List Nat} (h : La s base l) (he : ∀ x, base ≤ x → x < base + l.length → s' x = s x) : La s' base l := by
  intro i x hx
  have := (List.getElem?_eq_some_iff.mp hx).1
  rw [he _ (by omega) (by omega)]
  exact h i x hx
theorem MT.eqs (t : MT s T sz tl) (h : ∀ x, ((0 ≤ x ∧ x < 96) ∨ (3756 ≤ x ∧ x < 13078)) → s' x = s x) : MT s' T sz tl := by
  obtain ⟨m1, m2, m3, m4, m5, m6, m7, m8, m9⟩ := t
  refine ⟨fun x hx => ?_, fun x hx => ?_, fun x hx => ?_, fun x hx hh => ?_, fun x hx => ?_, fun x hx => ?_, fun y hy => ?_, ?_, ?_⟩
  · rw [h _ (by omega)]; exact m1 x hx
  · rw [h _ (by omega)]; exact m2 x hx
  · rw [h _ (by omega)]; exact m3 x hx
  · rw [h _ (by omega)]; exact m4 x hx hh
  · obtain ⟨a1, a2, a3⟩ := m5 x hx
    exact ⟨a1.eqs (fun z z1 z2 => h z (by omega)), a2, a3⟩
  · obtain ⟨a1, a2, a3⟩ := m6 x hx
    exact ⟨a1.eq hx (by simpa using a2) (fun a a0 a1 _ _ => it5_eq (fun z z1 z2 => h z (by omega)) a0 a1), a2, a3⟩
  · obtain ⟨a1, a2, a3, a4⟩ := m7 y hy
    exact ⟨by rw [h _ (by omega)]; exact a1, a2.eqs (fun z z1 z2 => h z (by omega)), a3, a4⟩
  · rw [h _ (by omega)]; exact m8
  · rw [h _ (by omega)]; exact m9
theorem MO.eqs (t : MO s T X dt) (h : ∀ x, ((96 ≤ x ∧ x < 3756) ∨ (13078 ≤ x ∧ x < 25366)) → s' x = s x) (hl : ∀ o, o < 61 → ky o 0 0 ∈ its T → (oD X o).length ≤ 16) : MO s' T X dt := by
  obtain ⟨m1, m2, m3⟩ := t
  refine ⟨fun o ho => by rw [h _ (by omega)]; exact m1 o ho, fun o ho hi => ?_, fun b hb h1 h2 h3 i hi => by rw [h _ (by omega)]; exact m3 b hb h1 h2 h3 i hi⟩
  obtain ⟨a1, a2, a3, a4, a5⟩ := m2 o ho hi
  have := hl o ho hi
  exact ⟨by rw [h _ (by omega)]; exact a1, by rw [h _ (by omega)]; exact a2, by rw [h _ (by omega)]; exact a3, a4.eqs (fun z z1 z2 => h z (by omega)), fun hT k hk => by rw [h _ (by omega)]; exact a5 hT k hk⟩
theorem MS.eqs (t : MS s T X dt) (h : ∀ x, 0 ≤ x → x < 25366 → s' x = s x) (hl : ∀ o, o < 61 → ky o 0 0 ∈ its T → (oD X o).length ≤ 16) : MS s' T X dt := ⟨t.1.eqs (fun x hx => h x (by omega) (by omega)), t.2.eqs (fun x hx => h x (by omega) (by omega)) hl⟩
theorem ms_lit (k : Nat) {x : Int} (h : s (k : Int) = x) : mA (ms M o f s b c w j) (o + 1) k = I x := by
  simp [mA, ms, h]
theorem m_isObject (hK : MK M o) (hd : 1 ≤ d) (S : MS s T X dt) (O : OK1 T X) {z : Int} (z0 : -2147483648 ≤ z) (z1 : z < 2147483648) (hQ : Q (.returned (some (.int (I (bI (iso T z)))))) (ms M o f s b c w j)) : Wp d 158 0 [some (.ref o), some (.int (I z))] [] (ms M o f s b c w j) Q := by
  obtain ⟨k0, k1, k2, k3, k4, k5, k6, k7, k8, k9, k10⟩ := hK
  simp (disch := first | (simp only [dd, dr]; done) | omega) only [W_158, msK, msR, msF, ms1, msS1, k0, k1, k6, I_lt, I_le, I_inj, inB_I, tc_I, Int.toNat_natCast, fkt, rf1, rf0, cq, Nat.reduceAdd, Nat.reduceEqDiff, Int.reduceToNat, eq_self, true_and, and_true, true_or, or_true, bI_0, bI_1, mm, rAm, mF_sF, mR_sR, false_and, and_false, if_false, if_true, false_or, or_false, not_true_eq_false, not_false_eq_true, and_self]
  refine ca_159 (by omega) (m_isIn (by omega) (by omega) (by omega) (by omega) (by omega) (by omega) ?_)
  simp (disch := first | (simp only [dd, dr]; done) | omega) only [W_158, I_lt, I_le, I_inj, inB_I, tc_I, Int.toNat_natCast, fkt, rf1, rf0, cq, Nat.reduceAdd, Nat.reduceEqDiff, Int.reduceToNat, eq_self, true_and, and_true, true_or, or_true, bI_0, bI_1, mm, rAm, mF_sF, mR_sR, false_and, and_false, if_false, if_true, false_or, or_false, not_true_eq_false, not_false_eq_true, and_self]
  refine ⟨fun h => ?_, fun h => ?_⟩
  · have h := of_decide_eq_false h
    rw [show iso T z = false from decide_eq_false (fun h' => h ⟨h'.1, h'.2.1⟩)] at hQ
    simp (disch := first | (simp only [dd, dr]; done) | omega) only [W_158, I_lt, I_le, I_inj, inB_I, tc_I, Int.toNat_natCast, fkt, rf1, rf0, cq, Nat.reduceAdd, Nat.reduceEqDiff, Int.reduceToNat, eq_self, true_and, and_true, true_or, or_true, bI_0, bI_1, mm, rAm, mF_sF, mR_sR, false_and, and_false, if_false, if_true, false_or, or_false, not_true_eq_false, not_false_eq_true, and_self]
    exact hQ
  · have h : 1 ≤ z ∧ z ≤ 60 := by simpa using h
    obtain ⟨zo, rfl⟩ : ∃ zo : Nat, z = zo := ⟨z.toNat, by omega⟩
    have hs := S.2.1 zo (by omega)
    by_cases hk : ky zo 0 0 ∈ its T
    · rw [if_pos hk] at hs
      obtain ⟨o1, o2, _⟩ := O zo (by omega) hk
      rw [show iso T (zo : Int) = true from decide_eq_true ⟨by omega, by omega, hk⟩] at hQ
      simp (disch := first | (simp only [dd, dr]; done) | omega) only [W_158, msK, msR, msF, ms1, msS1, k0, k1, k6, hs, I_lt, I_le, I_inj, inB_I, tc_I, Int.toNat_natCast, fkt, rf1, rf0, cq, Nat.reduceAdd, Nat.reduceEqDiff, Int.reduceToNat, eq_self, true_and, and_true, true_or, or_true, bI_0, bI_1, mm, rAm, mF_sF, mR_sR, false_and, and_false, if_false, if_true, false_or, or_false, not_true_eq_false, not_false_eq_true, and_self]
      refine ⟨(fun h => by first | exact False.elim h | exact absurd trivial h | (exfalso; omega) | exact absurd rfl h | cases h), fun _ => ?_⟩
      simp (disch := first | (simp only [dd, dr]; done) | omega) only [W_158, I_lt, I_le, I_inj, inB_I, tc_I, Int.toNat_natCast, fkt, rf1, rf0, cq, Nat.reduceAdd, Nat.reduceEqDiff, Int.reduceToNat, eq_self, true_and, and_true, true_or, or_true, bI_0, bI_1, mm, rAm, mF_sF, mR_sR, false_and, and_false, if_false, if_true, false_or, or_false, not_true_eq_false, not_false_eq_true, and_self]
      exact hQ
    · rw [if_neg hk] at hs
      rw [show iso T (zo : Int) = false from decide_eq_false (fun h' => hk h'.2.2)] at hQ
      simp (disch := first | (simp only [dd, dr]; done) | omega) only [W_158, msK, msR, msF, ms1, msS1, k0, k1, k6, hs, I_lt, I_le, I_inj, inB_I, tc_I, Int.toNat_natCast, fkt, rf1, rf0, cq, Nat.reduceAdd, Nat.reduceEqDiff, Int.reduceToNat, eq_self, true_and, and_true, true_or, or_true, bI_0, bI_1, mm, rAm, mF_sF, mR_sR, false_and, and_false, if_false, if_true, false_or, or_false, not_true_eq_false, not_false_eq_true, and_self]
      refine ⟨fun _ => ?_, (fun h => by first | exact False.elim h | exact absurd trivial h | (exfalso; omega) | exact absurd rfl h | cases h)⟩
      simp (disch := first | (simp only [dd, dr]; done) | omega) only [W_158, I_lt, I_le, I_inj, inB_I, tc_I, Int.toNat_natCast, fkt, rf1, rf0, cq, Nat.reduceAdd, Nat.reduceEqDiff, Int.reduceToNat, eq_self, true_and, and_true, true_or, or_true, bI_0, bI_1, mm, rAm, mF_sF, mR_sR, false_and, and_false, if_false, if_true, false_or, or_false, not_true_eq_false, not_false_eq_true, and_self]
      exact hQ
theorem m_isDirectory (hK : MK M o) (hd : 2 ≤ d) (S : MS s T X dt) (O : OK1 T X) {z : Int} (z0 : -2147483648 ≤ z) (z1 : z < 2147483648) (hQ : Q (.returned (some (.int (I (bI (isk T X z 0)))))) (ms M o f s b c w j)) : Wp d 157 0 [some (.ref o), some (.int (I z))] [] (ms M o f s b c w j) Q := by
  have hK' := hK
  obtain ⟨k0, k1, k2, k3, k4, k5, k6, k7, k8, k9, k10⟩ := hK
  simp (disch := first | (simp only [dd, dr]; done) | omega) only [W_157, msK, msR, msF, ms1, msS1, k0, k1, k6, I_lt, I_le, I_inj, inB_I, tc_I, Int.toNat_natCast, fkt, rf1, rf0, cq, Nat.reduceAdd, Nat.reduceEqDiff, Int.reduceToNat, eq_self, true_and, and_true, true_or, or_true, bI_0, bI_1, mm, rAm, mF_sF, mR_sR, false_and, and_false, if_false, if_true, false_or, or_false, not_true_eq_false, not_false_eq_true, and_self]
  refine ca_158 (by omega) (m_isObject hK' (by omega) S O z0 z1 ?_)
  unfold isk at hQ
  simp (disch := first | (simp only [dd, dr]; done) | omega) only [W_157, I_lt, I_le, I_inj, inB_I, tc_I, Int.toNat_natCast, fkt, rf1, rf0, cq, Nat.reduceAdd, Nat.reduceEqDiff, Int.reduceToNat, eq_self, true_and, and_true, true_or, or_true, bI_0, bI_1, mm, rAm, mF_sF, mR_sR, false_and, and_false, if_false, if_true, false_or, or_false, not_true_eq_false, not_false_eq_true, and_self]
  refine ⟨fun h => ?_, fun h => ?_⟩
  · rw [h, Bool.false_and] at hQ
    simp (disch := first | (simp only [dd, dr]; done) | omega) only [W_157, I_lt, I_le, I_inj, inB_I, tc_I, Int.toNat_natCast, fkt, rf1, rf0, cq, Nat.reduceAdd, Nat.reduceEqDiff, Int.reduceToNat, eq_self, true_and, and_true, true_or, or_true, bI_0, bI_1, mm, rAm, mF_sF, mR_sR, false_and, and_false, if_false, if_true, false_or, or_false, not_true_eq_false, not_false_eq_true, and_self]
    exact hQ
  · have h : iso T z = true := by simpa using h
    rw [h, Bool.true_and] at hQ
    obtain ⟨zo, rfl, a1, a2, a3⟩ := iso_of h
    have hs := S.2.1 zo (by omega)
    rw [if_pos a3] at hs
    obtain ⟨o1, o2, _⟩ := O zo (by omega) a3
    rw [Int.toNat_natCast] at hQ
    simp (disch := first | (simp only [dd, dr]; done) | omega) only [W_157, msK, msR, msF, ms1, msS1, k0, k1, k6, hs, I_lt, I_le, I_inj, inB_I, tc_I, Int.toNat_natCast, fkt, rf1, rf0, cq, Nat.reduceAdd, Nat.reduceEqDiff, Int.reduceToNat, eq_self, true_and, and_true, true_or, or_true, bI_0, bI_1, mm, rAm, mF_sF, mR_sR, false_and, and_false, if_false, if_true, false_or, or_false, not_true_eq_false, not_false_eq_true, and_self]
    refine ⟨fun h' => ?_, fun h' => ?_⟩
    · rw [decide_eq_false (by omega)] at hQ
      simp (disch := first | (simp only [dd, dr]; done) | omega) only [W_157, I_lt, I_le, I_inj, inB_I, tc_I, Int.toNat_natCast, fkt, rf1, rf0, cq, Nat.reduceAdd, Nat.reduceEqDiff, Int.reduceToNat, eq_self, true_and, and_true, true_or, or_true, bI_0, bI_1, mm, rAm, mF_sF, mR_sR, false_and, and_false, if_false, if_true, false_or, or_false, not_true_eq_false, not_false_eq_true, and_self]
      exact hQ
    · rw [decide_eq_true (by omega)] at hQ
      simp (disch := first | (simp only [dd, dr]; done) | omega) only [W_157, I_lt, I_le, I_inj, inB_I, tc_I, Int.toNat_natCast, fkt, rf1, rf0, cq, Nat.reduceAdd, Nat.reduceEqDiff, Int.reduceToNat, eq_self, true_and, and_true, true_or, or_true, bI_0, bI_1, mm, rAm, mF_sF, mR_sR, false_and, and_false, if_false, if_true, false_or, or_false, not_true_eq_false, not_false_eq_true, and_self]
      exact hQ
theorem m_isFile (hK : MK M o) (hd : 2 ≤ d) (S : MS s T X dt) (O : OK1 T X) {z : Int} (z0 : -2147483648 ≤ z) (z1 : z < 2147483648) (hQ : Q (.returned (some (.int (I (bI (isk T X z 1)))))) (ms M o f s b c w j)) : Wp d 185 0 [some (.ref o), some (.int (I z))] [] (ms M o f s b c w j) Q := by
  have hK' := hK
  obtain ⟨k0, k1, k2, k3, k4, k5, k6, k7, k8, k9, k10⟩ := hK
  simp (disch := first | (simp only [dd, dr]; done) | omega) only [W_185, msK, msR, msF, ms1, msS1, k0, k1, k6, I_lt, I_le, I_inj, inB_I, tc_I, Int.toNat_natCast, fkt, rf1, rf0, cq, Nat.reduceAdd, Nat.reduceEqDiff, Int.reduceToNat, eq_self, true_and, and_true, true_or, or_true, bI_0, bI_1, mm, rAm, mF_sF, mR_sR, false_and, and_false, if_false, if_true, false_or, or_false, not_true_eq_false, not_false_eq_true, and_self]
  refine ca_158 (by omega) (m_isObject hK' (by omega) S O z0 z1 ?_)
  unfold isk at hQ
  simp (disch := first | (simp only [dd, dr]; done) | omega) only [W_185, I_lt, I_le, I_inj, inB_I, tc_I, Int.toNat_natCast, fkt, rf1, rf0, cq, Nat.reduceAdd, Nat.reduceEqDiff, Int.reduceToNat, eq_self, true_and, and_true, true_or, or_true, bI_0, bI_1, mm, rAm, mF_sF, mR_sR, false_and, and_false, if_false, if_true, false_or, or_false, not_true_eq_false, not_false_eq_true, and_self]
  refine ⟨fun h => ?_, fun h => ?_⟩
  · rw [h, Bool.false_and] at hQ
    simp (disch := first | (simp only [dd, dr]; done) | omega) only [W_185, I_lt, I_le, I_inj, inB_I, tc_I, Int.toNat_natCast, fkt, rf1, rf0, cq, Nat.reduceAdd, Nat.reduceEqDiff, Int.reduceToNat, eq_self, true_and, and_true, true_or, or_true, bI_0, bI_1, mm, rAm, mF_sF, mR_sR, false_and, and_false, if_false, if_true, false_or, or_false, not_true_eq_false, not_false_eq_true, and_self]
    exact hQ
  · have h : iso T z = true := by simpa using h
    rw [h, Bool.true_and] at hQ
    obtain ⟨zo, rfl, a1, a2, a3⟩ := iso_of h
    have hs := S.2.1 zo (by omega)
    rw [if_pos a3] at hs
    obtain ⟨o1, o2, _⟩ := O zo (by omega) a3
    rw [Int.toNat_natCast] at hQ
    simp (disch := first | (simp only [dd, dr]; done) | omega) only [W_185, msK, msR, msF, ms1, msS1, k0, k1, k6, hs, I_lt, I_le, I_inj, inB_I, tc_I, Int.toNat_natCast, fkt, rf1, rf0, cq, Nat.reduceAdd, Nat.reduceEqDiff, Int.reduceToNat, eq_self, true_and, and_true, true_or, or_true, bI_0, bI_1, mm, rAm, mF_sF, mR_sR, false_and, and_false, if_false, if_true, false_or, or_false, not_true_eq_false, not_false_eq_true, and_self]
    refine ⟨fun h' => ?_, fun h' => ?_⟩
    · rw [decide_eq_false (by omega)] at hQ
      simp (disch := first | (simp only [dd, dr]; done) | omega) only [W_185, I_lt, I_le, I_inj, inB_I, tc_I, Int.toNat_natCast, fkt, rf1, rf0, cq, Nat.reduceAdd, Nat.reduceEqDiff, Int.reduceToNat, eq_self, true_and, and_true, true_or, or_true, bI_0, bI_1, mm, rAm, mF_sF, mR_sR, false_and, and_false, if_false, if_true, false_or, or_false, not_true_eq_false, not_false_eq_true, and_self]
      exact hQ
    · rw [decide_eq_true (by omega)] at hQ
      simp (disch := first | (simp only [dd, dr]; done) | omega) only [W_185, I_lt, I_le, I_inj, inB_I, tc_I, Int.toNat_natCast, fkt, rf1, rf0, cq, Nat.reduceAdd, Nat.reduceEqDiff, Int.reduceToNat, eq_self, true_and, and_true, true_or, or_true, bI_0, bI_1, mm, rAm, mF_sF, mR_sR, false_and, and_false, if_false, if_true, false_or, or_false, not_true_eq_false, not_false_eq_true, and_self]
      exact hQ
theorem m_isName (hK : MK M o) (hd : 1 ≤ d) {z : Int} (z0 : -2147483648 ≤ z) (z1 : z < 2147483648) (hQ : Q (.returned (some (.int (I (bI (decide (0 ≤ z ∧ z < 1000))))))) (ms M o f s b c w j)) : Wp d 160 0 [some (.ref o), some (.int (I z))] [] (ms M o f s b c w j) Q := by
  simp (disch := first | (simp only [dd, dr]; done) | omega) only [W_160, I_lt, I_le, I_inj, inB_I, tc_I, Int.toNat_natCast, fkt, rf1, rf0, cq, Nat.reduceAdd, Nat.reduceEqDiff, Int.reduceToNat, eq_self, true_and, and_true, true_or, or_true, bI_0, bI_1, mm, rAm, mF_sF, mR_sR, false_and, and_false, if_false, if_true, false_or, or_false, not_true_eq_false, not_false_eq_true, and_self]
  refine ca_159 (by omega) (m_isIn (by omega) (by omega) (by omega) (by omega) (by omega) (by omega) ?_)
  simp (disch := first | (simp only [dd, dr]; done) | omega) only [W_160, I_lt, I_le, I_inj, inB_I, tc_I, Int.toNat_natCast, fkt, rf1, rf0, cq, Nat.reduceAdd, Nat.reduceEqDiff, Int.reduceToNat, eq_self, true_and, and_true, true_or, or_true, bI_0, bI_1, mm, rAm, mF_sF, mR_sR, false_and, and_false, if_false, if_true, false_or, or_false, not_true_eq_false, not_false_eq_true, and_self]
  rw [show decide (0 ≤ z ∧ z ≤ 999) = decide (0 ≤ z ∧ z < 1000) from decide_eq_decide.mpr (by omega)]
  exact hQ
theorem m_thrown (hK : MK M o) (hQ : Q (.returned (some (.int (I (f 54))))) (ms M o f s b c w j)) : Wp d 155 0 [some (.ref o)] [] (ms M o f s b c w j) Q := by
  obtain ⟨k0, k1, k2, k3, k4, k5, k6, k7, k8, k9, k10⟩ := hK
  simp (disch := first | (simp only [dd, dr]; done) | omega) only [W_155, msK, msR, msF, ms1, msS1, k0, k1, k6, I_lt, I_le, I_inj, inB_I, tc_I, Int.toNat_natCast, fkt, rf1, rf0, cq, Nat.reduceAdd, Nat.reduceEqDiff, Int.reduceToNat, eq_self, true_and, and_true, true_or, or_true, bI_0, bI_1, mm, rAm, mF_sF, mR_sR, false_and, and_false, if_false, if_true, false_or, or_false, not_true_eq_false, not_false_eq_true, and_self]
  exact hQ
theorem m_begin (hK : MK M o) (hd : 1 ≤ d) (hQ : Q (.returned none) (ms M o (fu f 47 0) s (kp s b) c w j)) : Wp d 166 0 [some (.ref o)] [] (ms M o f s b c w j) Q := by
  have hK' := hK
  obtain ⟨k0, k1, k2, k3, k4, k5, k6, k7, k8, k9, k10⟩ := hK
  have e0 : nrw 2 (I 0) = I 0 := by decide
  simp (disch := first | (simp only [dd, dr]; done) | omega) only [W_166, msK, msR, msF, ms1, msS1, k0, k1, k6, k2, e0, msSF, I_lt, I_le, I_inj, inB_I, tc_I, Int.toNat_natCast, fkt, rf1, rf0, cq, Nat.reduceAdd, Nat.reduceEqDiff, Int.reduceToNat, eq_self, true_and, and_true, true_or, or_true, bI_0, bI_1, mm, rAm, mF_sF, mR_sR, false_and, and_false, if_false, if_true, false_or, or_false, not_true_eq_false, not_false_eq_true, and_self]
  refine cr_154 (by omega) (m_keepSB hK' ?_)
  simp (disch := first | (simp only [dd, dr]; done) | omega) only [W_166, I_lt, I_le, I_inj, inB_I, tc_I, Int.toNat_natCast, fkt, rf1, rf0, cq, Nat.reduceAdd, Nat.reduceEqDiff, Int.reduceToNat, eq_self, true_and, and_true, true_or, or_true, bI_0, bI_1, mm, rAm, mF_sF, mR_sR, false_and, and_false, if_false, if_true, false_or, or_false, not_true_eq_false, not_false_eq_true, and_self]
  exact hQ
theorem m_ended (hK : MK M o) (hd : 1 ≤ d) {k : Int} (hQ0 : f 47 = 0 → Q (.returned (some (.int (I 1)))) (ms M o f s b c w j)) (hQ1 : f 47 = 1 → Q (.returned (some (.int (I 0)))) (ms M o (fu f 54 k) (kp b s) b c w j)) (hf : f 47 = 0 ∨ f 47 = 1) : Wp d 183 0 [some (.ref o), some (.int (I k))] [] (ms M o f s b c w j) Q := by
  have hK' := hK
  obtain ⟨k0, k1, k2, k3, k4, k5, k6, k7, k8, k9, k10⟩ := hK
  rcases hf with h | h
  · simp (disch := first | (simp only [dd, dr]; done) | omega) only [W_183, msK, msR, msF, ms1, msS1, k0, k1, k6, h, I_lt, I_le, I_inj, inB_I, tc_I, Int.toNat_natCast, fkt, rf1, rf0, cq, Nat.reduceAdd, Nat.reduceEqDiff, Int.reduceToNat, eq_self, true_and, and_true, true_or, or_true, bI_0, bI_1, mm, rAm, mF_sF, mR_sR, false_and, and_false, if_false, if_true, false_or, or_false, not_true_eq_false, not_false_eq_true, and_self]
    refine ⟨fun _ => ?_, (fun h => by first | exact False.elim h | exact absurd trivial h | (exfalso; omega) | exact absurd rfl h | cases h)⟩
    simp (disch := first | (simp only [dd, dr]; done) | omega) only [W_183, msK, msR, msF, ms1, msS1, k0, k1, k6, h, I_lt, I_le, I_inj, inB_I, tc_I, Int.toNat_natCast, fkt, rf1, rf0, cq, Nat.reduceAdd, Nat.reduceEqDiff, Int.reduceToNat, eq_self, true_and, and_true, true_or, or_true, bI_0, bI_1, mm, rAm, mF_sF, mR_sR, false_and, and_false, if_false, if_true, false_or, or_false, not_true_eq_false, not_false_eq_true, and_self]
    refine ⟨(fun h => by first | exact False.elim h | exact absurd trivial h | (exfalso; omega) | exact absurd rfl h | cases h), fun _ => ?_⟩
    simp (disch := first | (simp only [dd, dr]; done) | omega) only [W_183, I_lt, I_le, I_inj, inB_I, tc_I, Int.toNat_natCast, fkt, rf1, rf0, cq, Nat.reduceAdd, Nat.reduceEqDiff, Int.reduceToNat, eq_self, true_and, and_true, true_or, or_true, bI_0, bI_1, mm, rAm, mF_sF, mR_sR, false_and, and_false, if_false, if_true, false_or, or_false, not_true_eq_false, not_false_eq_true, and_self]
    exact hQ0 h
  · simp (disch := first | (simp only [dd, dr]; done) | omega) only [W_183, msK, msR, msF, ms1, msS1, k0, k1, k6, h, I_lt, I_le, I_inj, inB_I, tc_I, Int.toNat_natCast, fkt, rf1, rf0, cq, Nat.reduceAdd, Nat.reduceEqDiff, Int.reduceToNat, eq_self, true_and, and_true, true_or, or_true, bI_0, bI_1, mm, rAm, mF_sF, mR_sR, false_and, and_false, if_false, if_true, false_or, or_false, not_true_eq_false, not_false_eq_true, and_self]
    refine ⟨(fun h => by first | exact False.elim h | exact absurd trivial h | (exfalso; omega) | exact absurd rfl h | cases h), fun _ => ?_⟩
    simp (disch := first | (simp only [dd, dr]; done) | omega) only [W_183, msK, msR, msF, ms1, msS1, k0, k1, k6, k2, h, I_lt, I_le, I_inj, inB_I, tc_I, Int.toNat_natCast, fkt, rf1, rf0, cq, Nat.reduceAdd, Nat.reduceEqDiff, Int.reduceToNat, eq_self, true_and, and_true, true_or, or_true, bI_0, bI_1, mm, rAm, mF_sF, mR_sR, false_and, and_false, if_false, if_true, false_or, or_false, not_true_eq_false, not_false_eq_true, and_self]
    refine cr_154 (by omega) (m_keepBS hK' ?_)
    have h' : fu f 54 k 47 = 1 := by rw [fu_n _ _ (by omega)]; exact h
    simp (disch := first | (simp only [dd, dr]; done) | omega) only [W_183, msK, msR, msF, ms1, msS1, k0, k1, k6, msSF, h', I_lt, I_le, I_inj, inB_I, tc_I, Int.toNat_natCast, fkt, rf1, rf0, cq, Nat.reduceAdd, Nat.reduceEqDiff, Int.reduceToNat, eq_self, true_and, and_true, true_or, or_true, bI_0, bI_1, mm, rAm, mF_sF, mR_sR, false_and, and_false, if_false, if_true, false_or, or_false, not_true_eq_false, not_false_eq_true, and_self]
    refine ⟨fun _ => ?_, (fun h => by first | exact False.elim h | exact absurd trivial h | (exfalso; omega) | exact absurd rfl h | cases h)⟩
    simp (disch := first | (simp only [dd, dr]; done) | omega) only [W_183, I_lt, I_le, I_inj, inB_I, tc_I, Int.toNat_natCast, fkt, rf1, rf0, cq, Nat.reduceAdd, Nat.reduceEqDiff, Int.reduceToNat, eq_self, true_and, and_true, true_or, or_true, bI_0, bI_1, mm, rAm, mF_sF, mR_sR, false_and, and_false, if_false, if_true, false_or, or_false, not_true_eq_false, not_false_eq_true, and_self]
    exact hQ1 h
/-- how many objects there are -/
theorem m_objects (hK : MK M o) (S : MS s T X dt) (O : OK1 T X) (hQ : Q (.returned (some (.int (I (cn (fun i => iso T ((i : Int) + 1)) 60 : Nat))))) (ms M o f s b c w j)) : Wp d 165 0 [some (.ref o), none, none] [] (ms M o f s b c w j) Q := by
  have hK' := hK
  obtain ⟨k0, k1, k2, k3, k4, k5, k6, k7, k8, k9, k10⟩ := hK
  simp (disch := first | (simp only [dd, dr]; done) | omega) only [W_165, I_lt, I_le, I_inj, inB_I, tc_I, Int.toNat_natCast, fkt, rf1, rf0, cq, Nat.reduceAdd, Nat.reduceEqDiff, Int.reduceToNat, eq_self, true_and, and_true, true_or, or_true, bI_0, bI_1, mm, rAm, mF_sF, mR_sR, false_and, and_false, if_false, if_true, false_or, or_false, not_true_eq_false, not_false_eq_true, and_self]
  suffices H : ∀ n' k, k + n' = 60 → Wp d 165 4 [some (.ref o), some (.int (I (cn (fun i => iso T ((i : Int) + 1)) k : Nat))), some (.int (I ((k + 1 : Nat) : Int)))] [] (ms M o f s b c w j) Q from H 60 0 (by omega)
  intro n'
  induction n' with
  | zero =>
    intro k hk
    obtain rfl : k = 60 := by omega
    simp (disch := first | (simp only [dd, dr]; done) | omega) only [w_165_4, W_165, I_lt, I_le, I_inj, inB_I, tc_I, Int.toNat_natCast, fkt, rf1, rf0, cq, Nat.reduceAdd, Nat.reduceEqDiff, Int.reduceToNat, eq_self, true_and, and_true, true_or, or_true, bI_0, bI_1, mm, rAm, mF_sF, mR_sR, false_and, and_false, if_false, if_true, false_or, or_false, not_true_eq_false, not_false_eq_true, and_self]
    refine ⟨fun _ => ?_, (fun h => by first | exact False.elim h | exact absurd trivial h | (exfalso; omega) | exact absurd rfl h | cases h)⟩
    simp (disch := first | (simp only [dd, dr]; done) | omega) only [W_165, I_lt, I_le, I_inj, inB_I, tc_I, Int.toNat_natCast, fkt, rf1, rf0, cq, Nat.reduceAdd, Nat.reduceEqDiff, Int.reduceToNat, eq_self, true_and, and_true, true_or, or_true, bI_0, bI_1, mm, rAm, mF_sF, mR_sR, false_and, and_false, if_false, if_true, false_or, or_false, not_true_eq_false, not_false_eq_true, and_self]
    exact hQ
  | succ n' ih =>
    intro k hk
    have next := ih (k + 1) (by omega)
    rw [cn] at next
    have hs := S.2.1 (k + 1) (by omega)
    simp (disch := first | (simp only [dd, dr]; done) | omega) only [w_165_4, W_165, I_lt, I_le, I_inj, inB_I, tc_I, Int.toNat_natCast, fkt, rf1, rf0, cq, Nat.reduceAdd, Nat.reduceEqDiff, Int.reduceToNat, eq_self, true_and, and_true, true_or, or_true, bI_0, bI_1, mm, rAm, mF_sF, mR_sR, false_and, and_false, if_false, if_true, false_or, or_false, not_true_eq_false, not_false_eq_true, and_self]
    refine ⟨(fun h => by first | exact False.elim h | exact absurd trivial h | (exfalso; omega) | exact absurd rfl h | cases h), fun _ => ?_⟩
    by_cases hi : ky (k + 1) 0 0 ∈ its T
    · rw [if_pos hi] at hs
      obtain ⟨o1, o2, _⟩ := O (k + 1) (by omega) hi
      have hiso : iso T ((k : Int) + 1) = true := decide_eq_true ⟨by omega, by omega, by rw [show ((k : Int) + 1).toNat = k + 1 by omega]; exact hi⟩
      rw [if_pos hiso] at next
      simp (disch := first | (simp only [dd, dr]; done) | omega) only [W_165, msK, msR, msF, ms1, msS1, k0, k1, k6, hs, I_lt, I_le, I_inj, inB_I, tc_I, Int.toNat_natCast, fkt, rf1, rf0, cq, Nat.reduceAdd, Nat.reduceEqDiff, Int.reduceToNat, eq_self, true_and, and_true, true_or, or_true, bI_0, bI_1, mm, rAm, mF_sF, mR_sR, false_and, and_false, if_false, if_true, false_or, or_false, not_true_eq_false, not_false_eq_true, and_self]
      refine ⟨(fun h => by first | exact False.elim h | exact absurd trivial h | (exfalso; omega) | exact absurd rfl h | cases h), fun _ => ?_⟩
      simp (disch := first | (simp only [dd, dr]; done) | omega) only [W_165, I_lt, I_le, I_inj, inB_I, tc_I, Int.toNat_natCast, fkt, rf1, rf0, cq, Nat.reduceAdd, Nat.reduceEqDiff, Int.reduceToNat, eq_self, true_and, and_true, true_or, or_true, bI_0, bI_1, mm, rAm, mF_sF, mR_sR, false_and, and_false, if_false, if_true, false_or, or_false, not_true_eq_false, not_false_eq_true, and_self]
      rw [show (((k + 1 : Nat) : Int) + 1) = ((k + 1 + 1 : Nat) : Int) by omega, show ((cn (fun i => iso T ((i : Int) + 1)) k : Int) + 1) = ((cn (fun i => iso T ((i : Int) + 1)) k + 1 : Nat) : Int) by omega]
      exact next
    · rw [if_neg hi] at hs
      have hf : ¬ iso T ((k : Int) + 1) = true := fun h => hi (by have := (of_decide_eq_true h).2.2; rw [show ((k : Int) + 1).toNat = k + 1 by omega] at this; exact this)
      rw [if_neg hf] at next
      simp (disch := first | (simp only [dd, dr]; done) | omega) only [W_165, msK, msR, msF, ms1, msS1, k0, k1, k6, hs, I_lt, I_le, I_inj, inB_I, tc_I, Int.toNat_natCast, fkt, rf1, rf0, cq, Nat.reduceAdd, Nat.reduceEqDiff, Int.reduceToNat, eq_self, true_and, and_true, true_or, or_true, bI_0, bI_1, mm, rAm, mF_sF, mR_sR, false_and, and_false, if_false, if_true, false_or, or_false, not_true_eq_false, not_false_eq_true, and_self]
      refine ⟨fun _ => ?_, (fun h => by first | exact False.elim h | exact absurd trivial h | (exfalso; omega) | exact absurd rfl h | cases h)⟩
      simp (disch := first | (simp only [dd, dr]; done) | omega) only [W_165, I_lt, I_le, I_inj, inB_I, tc_I, Int.toNat_natCast, fkt, rf1, rf0, cq, Nat.reduceAdd, Nat.reduceEqDiff, Int.reduceToNat, eq_self, true_and, and_true, true_or, or_true, bI_0, bI_1, mm, rAm, mF_sF, mR_sR, false_and, and_false, if_false, if_true, false_or, or_false, not_true_eq_false, not_false_eq_true, and_self]
      rw [show (((k + 1 : Nat) : Int) + 1) = ((k + 1 + 1 : Nat) : Int) by omega, show ((cn (fun i => iso T ((i : Int) + 1)) k : Int) + 0) = ((cn (fun i => iso T ((i : Int) + 1)) k + 0 : Nat) : Int) by omega]
      exact next
theorem wr_0 {z : Int} (h : wr z = 0) : z % 4294967296 = 0 := by
  unfold wr I at h
  rw [Int32.toInt_ofInt] at h
  have h2 : z.bmod 4294967296 = 0 := h
  rw [Int.bmod_def] at h2
  split at h2 <;> omega
theorem fi5_no {ob : Int} {z : Int} (z0 : -2147483648 ≤ z) (z1 : z < 2147483648) (hz : ¬ (0 ≤ z ∧ z < 1024)) (o0 : 0 ≤ ob) (o1 : ob < 100) : ∀ (l : List Nat) (i : Nat), (∀ k ∈ l, k < 249856) → fi5 ob 1 z (l.map (rk sz tl)) i = -1
  | [], i, _ => rfl
  | k :: l, i, h => by
    have hk := h k (List.mem_cons_self ..)
    rw [List.map_cons, fi5, fi5_no z0 z1 hz o0 o1 l (i + 1) (fun y hy => h y (List.mem_cons_of_mem _ hy))]
    rw [if_neg]
    intro hc
    have e : cmp5 (rk sz tl k) ob 1 z = if ((k / 4096 : Nat) : Int) = ob then (if ((k / 1024 % 4 : Nat) : Int) = 1 then ((k % 1024 : Nat) : Int) - z else ((k / 1024 % 4 : Nat) : Int) - 1) else ((k / 4096 : Nat) : Int) - ob := rfl
    rw [e] at hc
    have hc := wr_0 hc
    split at hc
    · split at hc
      · omega
      · omega
    · omega
/-- an entry, by any name -/
theorem m_entry (hK : MK M o) (hd : 3 ≤ d) (S : MS s T X dt) (W : Wf m (szO X) T) (hn : ∀ k ∈ its T, k / 1024 % 4 = 1 → k % 1024 < 1000) {ob : Nat} (h1 : ob < 61) {z : Int} (z0 : -2147483648 ≤ z) (z1 : z < 2147483648) (hQ : Q (.returned (some (.int (I (tol T X ob z))))) (ms M o f s b c w j)) : Wp d 161 0 [some (.ref o), some (.int (I (ob : Nat))), some (.int (I z)), none] [] (ms M o f s b c w j) Q := by
  by_cases hz : 0 ≤ z ∧ z < 1024
  · obtain ⟨n, rfl⟩ : ∃ n : Nat, z = n := ⟨z.toNat, by omega⟩
    refine t_entry hK hd S.1 W h1 (by omega) ?_
    have e : tol T X ob (n : Int) = if ky ob 1 n ∈ its T then (tlX X (ky ob 1 n) : Int) else -1 := by
      unfold tol
      rw [Int.toNat_natCast]
      have hp := ky_parts (o := ob) (k := 1) (n := n) (by omega) (by omega)
      by_cases hk : ky ob 1 n ∈ its T
      · have := hn _ hk hp.1
        rw [if_pos ⟨by omega, by omega, hk⟩, if_pos hk]
        unfold tlX
        rw [if_pos hp.1]
      · rw [if_neg (fun h => hk h.2.2), if_neg hk]
    rw [e] at hQ
    exact hQ
  · have hK' := hK
    obtain ⟨k0, k1, k2, k3, k4, k5, k6, k7, k8, k9, k10⟩ := hK
    have hne := W.1.rowne W.2.1 (h := 0) (by have := W.1.2.2.2.2.2.2.2.1.2.2.1; omega)
    have hrow := head_row hne
    have e : tol T X ob z = -1 := by
      unfold tol
      rw [if_neg (fun h => hz (by omega))]
    rw [e] at hQ
    simp (disch := first | (simp only [dd, dr]; done) | omega) only [W_161, msK, msR, msF, ms1, msS1, k0, k1, k6, I_lt, I_le, I_inj, inB_I, tc_I, Int.toNat_natCast, fkt, rf1, rf0, cq, Nat.reduceAdd, Nat.reduceEqDiff, Int.reduceToNat, eq_self, true_and, and_true, true_or, or_true, bI_0, bI_1, mm, rAm, mF_sF, mR_sR, false_and, and_false, if_false, if_true, false_or, or_false, not_true_eq_false, not_false_eq_true, and_self]
    refine ca_162 (by omega) (m_find hK' (by omega) (t_lvs S.1 (fun x hx => W.1.2.2.2.2.1 x hx)) hrow (by omega) (by omega) (by omega) (by omega) ?_)
    have hm := lf5_mem (L := fun x => (tI T x).map (rk (szO X) (tlX X))) (ob := (ob : Int)) (so := 1) (na := z) (row := tW T 0) (tW T 0) _ (List.mem_of_getElem? hrow) (fun x hx => hx)
    rw [fi5_no z0 z1 hz (by omega) (by omega) _ 0 (fun k hk => (S.1.2.2.2.2.2.1 _ (W.1.1 0 _ hm).1).2.2 k hk)]
    simp (disch := first | (simp only [dd, dr]; done) | omega) only [W_161, msK, msR, msF, ms1, msS1, k0, k1, k6, I_lt, I_le, I_inj, inB_I, tc_I, Int.toNat_natCast, fkt, rf1, rf0, cq, Nat.reduceAdd, Nat.reduceEqDiff, Int.reduceToNat, eq_self, true_and, and_true, true_or, or_true, bI_0, bI_1, mm, rAm, mF_sF, mR_sR, false_and, and_false, if_false, if_true, false_or, or_false, not_true_eq_false, not_false_eq_true, and_self]
    refine ⟨(fun h => by first | exact False.elim h | exact absurd trivial h | (exfalso; omega) | exact absurd rfl h | cases h), fun _ => ?_⟩
    simp (disch := first | (simp only [dd, dr]; done) | omega) only [W_161, msK, msR, msF, ms1, msS1, k0, k1, k6, I_lt, I_le, I_inj, inB_I, tc_I, Int.toNat_natCast, fkt, rf1, rf0, cq, Nat.reduceAdd, Nat.reduceEqDiff, Int.reduceToNat, eq_self, true_and, and_true, true_or, or_true, bI_0, bI_1, mm, rAm, mF_sF, mR_sR, false_and, and_false, if_false, if_true, false_or, or_false, not_true_eq_false, not_false_eq_true, and_self]
    exact hQ
end Mob
