/-! ===== THE MODEL: read, look, name, about, node, item ===== -/
section Mrd
variable {d : Nat} {M : Mem} {Q : Outcome → Mem → Prop} {o : Nat} {f : Nat → Int} {s s' b c w : Int → Int} {j : Nat → Bool} {T T' T1 T2 : Tr} {X X' : Ob} {dt : Nat → Nat → Nat} {m : Nat} {sz tl : Nat → Nat} {par : Nat → Nat}
/-- a byte of a file -/
theorem m_byteOf (hK : MK M o) (S : MS s T X dt) {v k : Nat} (hv : v ≤ 60) (hi : ky v 0 0 ∈ its T) (hO : FO T X v) (hk : k < oS X v) (hQ : Q (.returned (some (.int (I (fc X dt v k : Nat))))) (ms M o f s b c w j)) : Wp d 200 0 [some (.ref o), some (.int (I (v : Nat))), some (.int (I (k : Nat)))] [] (ms M o f s b c w j) Q := by
  obtain ⟨k0, k1, k2, k3, k4, k5, k6, k7, k8, k9, k10⟩ := hK
  obtain ⟨x1, x2, x3, x4, x5⟩ := S.2.2.1 v (by omega) hi
  obtain ⟨hl1, hl2⟩ := hO.len
  obtain ⟨g1, g2, g3, _⟩ := id hO
  have hdv : (k : Int) / 128 = ((k / 128 : Nat) : Int) := by omega
  have hmd : (k : Int) % 128 = ((k % 128 : Nat) : Int) := by omega
  simp (disch := first | (simp only [dd, dr]; done) | omega) only [W_200, msK, msR, msF, ms1, msS1, k0, k1, k6, hdv, x3, I_lt, I_le, I_inj, inB_I, tc_I, Int.toNat_natCast, fkt, rf1, rf0, cq, Nat.reduceAdd, Nat.reduceEqDiff, Int.reduceToNat, eq_self, true_and, and_true, true_or, or_true, bI_0, bI_1, mm, rAm, mF_sF, mR_sR, false_and, and_false, if_false, if_true, false_or, or_false, not_true_eq_false, not_false_eq_true, and_self]
  refine ⟨fun h => ?_, fun h => ?_⟩
  · have hge : (oD X v).length ≤ k / 128 := by omega
    have hne : oT X v ≠ [] := fun e => by rw [e] at hl2; simp at hl2; omega
    have hq := x5 hne (k % 128) (by
      have := tlO_le (oS X v)
      have := dtO_tl (n := oS X v)
      rw [g2] at hge
      omega)
    have e : fc X dt v k = (oT X v).getD (k % 128) 0 := by
      unfold fc
      rw [if_neg (by omega)]
      congr 1
      have := tlO_le (oS X v)
      omega
    rw [e] at hQ
    simp (disch := first | (simp only [dd, dr]; done) | omega) only [W_200, msK, msR, msF, ms1, msS1, k0, k1, k6, hmd, hq, I_lt, I_le, I_inj, inB_I, tc_I, Int.toNat_natCast, fkt, rf1, rf0, cq, Nat.reduceAdd, Nat.reduceEqDiff, Int.reduceToNat, eq_self, true_and, and_true, true_or, or_true, bI_0, bI_1, mm, rAm, mF_sF, mR_sR, false_and, and_false, if_false, if_true, false_or, or_false, not_true_eq_false, not_false_eq_true, and_self]
    exact hQ
  · have hlt : k / 128 < (oD X v).length := by omega
    have hx : (oD X v)[k / 128]? = some (oD X v)[k / 128] := List.getElem?_eq_getElem hlt
    obtain ⟨b1, b2, b3, b4⟩ := hO.2.2.2.2.2.2 _ (List.getElem_mem hlt)
    have ex := x4 _ _ hx
    have e : fc X dt v k = dt (oD X v)[k / 128] (k % 128) := by
      unfold fc
      rw [if_pos (by omega), List.getD_eq_getElem?_getD, hx]
      rfl
    rw [e] at hQ
    generalize (oD X v)[k / 128] = y at *
    have ey := S.2.2.2 y b2 b3 b4 (by omega) (k % 128) (by omega)
    simp (disch := first | (simp only [dd, dr]; done) | omega) only [W_200, msK, msR, msF, ms1, msS1, k0, k1, k6, hdv, hmd, ex, ey, I_lt, I_le, I_inj, inB_I, tc_I, Int.toNat_natCast, fkt, rf1, rf0, cq, Nat.reduceAdd, Nat.reduceEqDiff, Int.reduceToNat, eq_self, true_and, and_true, true_or, or_true, bI_0, bI_1, mm, rAm, mF_sF, mR_sR, false_and, and_false, if_false, if_true, false_or, or_false, not_true_eq_false, not_false_eq_true, and_self]
    exact hQ
theorem m_read (hK : MK M o) (hd : 12 ≤ d) (S : MS s T X dt) (O : OK3 T X) {off : Bool} (f52 : f 52 = bI off) {z n : Int} (z0 : -2147483648 ≤ z) (z1 : z < 2147483648) (n0 : -2147483648 ≤ n) (n1 : n < 2147483648)
    (hX : rdC off T X z n ≠ 0 → ∀ f', Fe f f' → f' 54 = rdC off T X z n → Q (.returned (some (.int (I 0)))) (ms M o f' s b c w j))
    (hR : rdC off T X z n = 0 → ∀ f', Fe f f' → f' 54 = 0 → Q (.returned (some (.int (I (fc X dt z.toNat n.toNat : Nat))))) (ms M o f' s b c w j)) :
    Wp d 206 0 [some (.ref o), some (.int (I z)), some (.int (I n))] [] (ms M o f s b c w j) Q := by
  have hK' := hK
  obtain ⟨k0, k1, k2, k3, k4, k5, k6, k7, k8, k9, k10⟩ := hK
  have ref : ∀ (k : Nat), 1 ≤ k → k ≤ 4 → rdC off T X z n = k → Q (.returned (some (.int (I 0)))) (ms M o (fu f 54 (k : Int)) s b c w j) := by
    intro k h1 h2 hk
    have hf : fu f 54 (k : Int) 54 = k := fu_s _ _ _
    exact hX (by omega) _ (fun g _ h _ => fu_n _ _ h) (by rw [hk]; exact hf)
  unfold rdC at hX hR ref
  simp (disch := first | (simp only [dd, dr]; done) | omega) only [W_206, msK, msR, msF, ms1, msS1, k0, k1, k6, f52, I_lt, I_le, I_inj, inB_I, tc_I, Int.toNat_natCast, fkt, rf1, rf0, cq, Nat.reduceAdd, Nat.reduceEqDiff, Int.reduceToNat, eq_self, true_and, and_true, true_or, or_true, bI_0, bI_1, mm, rAm, mF_sF, mR_sR, false_and, and_false, if_false, if_true, false_or, or_false, not_true_eq_false, not_false_eq_true, and_self]
  refine ⟨fun h1 => ?_, fun h1 => ?_⟩
  rotate_left
  · have h1 : off = true := by simpa using h1
    have hf : fu f 54 (1 : Int) 54 = 1 := fu_s _ _ _
    simp (disch := first | (simp only [dd, dr]; done) | omega) only [W_206, msK, msR, msF, ms1, msS1, k0, k1, k6, msSF, hf, I_lt, I_le, I_inj, inB_I, tc_I, Int.toNat_natCast, fkt, rf1, rf0, cq, Nat.reduceAdd, Nat.reduceEqDiff, Int.reduceToNat, eq_self, true_and, and_true, true_or, or_true, bI_0, bI_1, mm, rAm, mF_sF, mR_sR, false_and, and_false, if_false, if_true, false_or, or_false, not_true_eq_false, not_false_eq_true, and_self]
    refine ⟨(fun h => by first | exact False.elim h | exact absurd trivial h | (exfalso; omega) | exact absurd rfl h | cases h), fun _ => ?_⟩
    simp (disch := first | (simp only [dd, dr]; done) | omega) only [W_206, I_lt, I_le, I_inj, inB_I, tc_I, Int.toNat_natCast, fkt, rf1, rf0, cq, Nat.reduceAdd, Nat.reduceEqDiff, Int.reduceToNat, eq_self, true_and, and_true, true_or, or_true, bI_0, bI_1, mm, rAm, mF_sF, mR_sR, false_and, and_false, if_false, if_true, false_or, or_false, not_true_eq_false, not_false_eq_true, and_self]
    exact ref 1 (by omega) (by omega) (by rw [if_pos h1])
  have h1' : ¬ off = true := by rw [h1]; simp
  simp (disch := first | (simp only [dd, dr]; done) | omega) only [W_206, msK, msR, msF, ms1, msS1, k0, k1, k6, I_lt, I_le, I_inj, inB_I, tc_I, Int.toNat_natCast, fkt, rf1, rf0, cq, Nat.reduceAdd, Nat.reduceEqDiff, Int.reduceToNat, eq_self, true_and, and_true, true_or, or_true, bI_0, bI_1, mm, rAm, mF_sF, mR_sR, false_and, and_false, if_false, if_true, false_or, or_false, not_true_eq_false, not_false_eq_true, and_self]
  refine ca_185 (by omega) (m_isFile hK' (by omega) S O.1.1 z0 z1 ?_)
  simp (disch := first | (simp only [dd, dr]; done) | omega) only [W_206, I_lt, I_le, I_inj, inB_I, tc_I, Int.toNat_natCast, fkt, rf1, rf0, cq, Nat.reduceAdd, Nat.reduceEqDiff, Int.reduceToNat, eq_self, true_and, and_true, true_or, or_true, bI_0, bI_1, mm, rAm, mF_sF, mR_sR, false_and, and_false, if_false, if_true, false_or, or_false, not_true_eq_false, not_false_eq_true, and_self]
  refine ⟨fun h2 => ?_, fun h2 => ?_⟩
  · have hf : fu f 54 (2 : Int) 54 = 2 := fu_s _ _ _
    simp (disch := first | (simp only [dd, dr]; done) | omega) only [W_206, msK, msR, msF, ms1, msS1, k0, k1, k6, msSF, hf, I_lt, I_le, I_inj, inB_I, tc_I, Int.toNat_natCast, fkt, rf1, rf0, cq, Nat.reduceAdd, Nat.reduceEqDiff, Int.reduceToNat, eq_self, true_and, and_true, true_or, or_true, bI_0, bI_1, mm, rAm, mF_sF, mR_sR, false_and, and_false, if_false, if_true, false_or, or_false, not_true_eq_false, not_false_eq_true, and_self]
    refine ⟨(fun h => by first | exact False.elim h | exact absurd trivial h | (exfalso; omega) | exact absurd rfl h | cases h), fun _ => ?_⟩
    simp (disch := first | (simp only [dd, dr]; done) | omega) only [W_206, I_lt, I_le, I_inj, inB_I, tc_I, Int.toNat_natCast, fkt, rf1, rf0, cq, Nat.reduceAdd, Nat.reduceEqDiff, Int.reduceToNat, eq_self, true_and, and_true, true_or, or_true, bI_0, bI_1, mm, rAm, mF_sF, mR_sR, false_and, and_false, if_false, if_true, false_or, or_false, not_true_eq_false, not_false_eq_true, and_self]
    exact ref 2 (by omega) (by omega) (by rw [if_neg h1', if_neg (fun h => by rw [h.1] at h2; cases h2)])
  have h2 : isk T X z 1 = true := by simpa using h2
  obtain ⟨zo, rfl, o1, o2, o3, o4⟩ := isk_of h2
  simp only [Int.toNat_natCast] at *
  obtain ⟨x1, x2, _⟩ := S.2.2.1 zo (by omega) o3
  obtain ⟨zo1, zo2, zo3, zo4⟩ := O.1.1 zo (by omega) o3
  simp (disch := first | (simp only [dd, dr]; done) | omega) only [W_206, msK, msR, msF, ms1, msS1, k0, k1, k6, x2, I_lt, I_le, I_inj, inB_I, tc_I, Int.toNat_natCast, fkt, rf1, rf0, cq, Nat.reduceAdd, Nat.reduceEqDiff, Int.reduceToNat, eq_self, true_and, and_true, true_or, or_true, bI_0, bI_1, mm, rAm, mF_sF, mR_sR, false_and, and_false, if_false, if_true, false_or, or_false, not_true_eq_false, not_false_eq_true, and_self]
  refine ca_159 (by omega) (m_isIn (by omega) (by omega) (by omega) (by omega) (by omega) (by omega) ?_)
  simp (disch := first | (simp only [dd, dr]; done) | omega) only [W_206, I_lt, I_le, I_inj, inB_I, tc_I, Int.toNat_natCast, fkt, rf1, rf0, cq, Nat.reduceAdd, Nat.reduceEqDiff, Int.reduceToNat, eq_self, true_and, and_true, true_or, or_true, bI_0, bI_1, mm, rAm, mF_sF, mR_sR, false_and, and_false, if_false, if_true, false_or, or_false, not_true_eq_false, not_false_eq_true, and_self]
  refine ⟨fun h3 => ?_, fun h3 => ?_⟩
  rotate_left
  · have h3 : ¬ (0 ≤ n ∧ n ≤ (oS X zo : Int) - 1) := by simpa using h3
    have hf : fu f 54 (2 : Int) 54 = 2 := fu_s _ _ _
    simp (disch := first | (simp only [dd, dr]; done) | omega) only [W_206, msK, msR, msF, ms1, msS1, k0, k1, k6, msSF, hf, I_lt, I_le, I_inj, inB_I, tc_I, Int.toNat_natCast, fkt, rf1, rf0, cq, Nat.reduceAdd, Nat.reduceEqDiff, Int.reduceToNat, eq_self, true_and, and_true, true_or, or_true, bI_0, bI_1, mm, rAm, mF_sF, mR_sR, false_and, and_false, if_false, if_true, false_or, or_false, not_true_eq_false, not_false_eq_true, and_self]
    refine ⟨(fun h => by first | exact False.elim h | exact absurd trivial h | (exfalso; omega) | exact absurd rfl h | cases h), fun _ => ?_⟩
    simp (disch := first | (simp only [dd, dr]; done) | omega) only [W_206, I_lt, I_le, I_inj, inB_I, tc_I, Int.toNat_natCast, fkt, rf1, rf0, cq, Nat.reduceAdd, Nat.reduceEqDiff, Int.reduceToNat, eq_self, true_and, and_true, true_or, or_true, bI_0, bI_1, mm, rAm, mF_sF, mR_sR, false_and, and_false, if_false, if_true, false_or, or_false, not_true_eq_false, not_false_eq_true, and_self]
    exact ref 2 (by omega) (by omega) (by rw [if_neg h1', if_neg (fun h => h3 (by omega))])
  have h3 : 0 ≤ n ∧ n ≤ (oS X zo : Int) - 1 := by simpa using h3
  rw [if_neg h1', if_pos ⟨h2, by omega, by omega⟩] at hR
  obtain ⟨nn, rfl⟩ : ∃ nn : Nat, n = nn := ⟨n.toNat, by omega⟩
  simp only [Int.toNat_natCast] at *
  have hf : fu f 54 (0 : Int) 54 = 0 := fu_s _ _ _
  simp (disch := first | (simp only [dd, dr]; done) | omega) only [W_206, msK, msR, msF, ms1, msS1, k0, k1, k6, msSF, hf, I_lt, I_le, I_inj, inB_I, tc_I, Int.toNat_natCast, fkt, rf1, rf0, cq, Nat.reduceAdd, Nat.reduceEqDiff, Int.reduceToNat, eq_self, true_and, and_true, true_or, or_true, bI_0, bI_1, mm, rAm, mF_sF, mR_sR, false_and, and_false, if_false, if_true, false_or, or_false, not_true_eq_false, not_false_eq_true, and_self]
  refine ⟨fun _ => ?_, (fun h => by first | exact False.elim h | exact absurd trivial h | (exfalso; omega) | exact absurd rfl h | cases h)⟩
  simp (disch := first | (simp only [dd, dr]; done) | omega) only [W_206, msK, msR, msF, ms1, msS1, k0, k1, k6, I_lt, I_le, I_inj, inB_I, tc_I, Int.toNat_natCast, fkt, rf1, rf0, cq, Nat.reduceAdd, Nat.reduceEqDiff, Int.reduceToNat, eq_self, true_and, and_true, true_or, or_true, bI_0, bI_1, mm, rAm, mF_sF, mR_sR, false_and, and_false, if_false, if_true, false_or, or_false, not_true_eq_false, not_false_eq_true, and_self]
  refine ca_200 (by omega) (m_byteOf hK' S o2 o3 (O.fo zo o2 o3 o4) (by omega) ?_)
  simp (disch := first | (simp only [dd, dr]; done) | omega) only [W_206, I_lt, I_le, I_inj, inB_I, tc_I, Int.toNat_natCast, fkt, rf1, rf0, cq, Nat.reduceAdd, Nat.reduceEqDiff, Int.reduceToNat, eq_self, true_and, and_true, true_or, or_true, bI_0, bI_1, mm, rAm, mF_sF, mR_sR, false_and, and_false, if_false, if_true, false_or, or_false, not_true_eq_false, not_false_eq_true, and_self]
  exact hR trivial _ (fun g _ h _ => fu_n _ _ h) hf
def loC (off : Bool) (T : Tr) (X : Ob) (z : Int) : Nat := if off = true then 1 else if isk T X z 0 = true then 0 else 2
theorem m_look (hK : MK M o) (hd : 12 ≤ d) (S : MS s T X dt) (W : Wf m (szO X) T) (O : OK3 T X) (hn : ∀ k ∈ its T, k / 1024 % 4 = 1 → k % 1024 < 1000) {off : Bool} (f52 : f 52 = bI off) {z n : Int} (z0 : -2147483648 ≤ z) (z1 : z < 2147483648) (n0 : -2147483648 ≤ n) (n1 : n < 2147483648)
    (hX : loC off T X z ≠ 0 → ∀ f', Fe f f' → f' 54 = loC off T X z → Q (.returned (some (.int (I 0)))) (ms M o f' s b c w j))
    (hR : loC off T X z = 0 → ∀ f', Fe f f' → f' 54 = 0 → Q (.returned (some (.int (I (tol T X z.toNat n))))) (ms M o f' s b c w j)) :
    Wp d 207 0 [some (.ref o), some (.int (I z)), some (.int (I n))] [] (ms M o f s b c w j) Q := by
  have hK' := hK
  obtain ⟨k0, k1, k2, k3, k4, k5, k6, k7, k8, k9, k10⟩ := hK
  have ref : ∀ (k : Nat), 1 ≤ k → k ≤ 4 → loC off T X z = k → Q (.returned (some (.int (I 0)))) (ms M o (fu f 54 (k : Int)) s b c w j) := by
    intro k h1 h2 hk
    have hf : fu f 54 (k : Int) 54 = k := fu_s _ _ _
    exact hX (by omega) _ (fun g _ h _ => fu_n _ _ h) (by rw [hk]; exact hf)
  unfold loC at hX hR ref
  simp (disch := first | (simp only [dd, dr]; done) | omega) only [W_207, msK, msR, msF, ms1, msS1, k0, k1, k6, f52, I_lt, I_le, I_inj, inB_I, tc_I, Int.toNat_natCast, fkt, rf1, rf0, cq, Nat.reduceAdd, Nat.reduceEqDiff, Int.reduceToNat, eq_self, true_and, and_true, true_or, or_true, bI_0, bI_1, mm, rAm, mF_sF, mR_sR, false_and, and_false, if_false, if_true, false_or, or_false, not_true_eq_false, not_false_eq_true, and_self]
  refine ⟨fun h1 => ?_, fun h1 => ?_⟩
  rotate_left
  · have h1 : off = true := by simpa using h1
    have hf : fu f 54 (1 : Int) 54 = 1 := fu_s _ _ _
    simp (disch := first | (simp only [dd, dr]; done) | omega) only [W_207, msK, msR, msF, ms1, msS1, k0, k1, k6, msSF, hf, I_lt, I_le, I_inj, inB_I, tc_I, Int.toNat_natCast, fkt, rf1, rf0, cq, Nat.reduceAdd, Nat.reduceEqDiff, Int.reduceToNat, eq_self, true_and, and_true, true_or, or_true, bI_0, bI_1, mm, rAm, mF_sF, mR_sR, false_and, and_false, if_false, if_true, false_or, or_false, not_true_eq_false, not_false_eq_true, and_self]
    refine ⟨(fun h => by first | exact False.elim h | exact absurd trivial h | (exfalso; omega) | exact absurd rfl h | cases h), fun _ => ?_⟩
    simp (disch := first | (simp only [dd, dr]; done) | omega) only [W_207, I_lt, I_le, I_inj, inB_I, tc_I, Int.toNat_natCast, fkt, rf1, rf0, cq, Nat.reduceAdd, Nat.reduceEqDiff, Int.reduceToNat, eq_self, true_and, and_true, true_or, or_true, bI_0, bI_1, mm, rAm, mF_sF, mR_sR, false_and, and_false, if_false, if_true, false_or, or_false, not_true_eq_false, not_false_eq_true, and_self]
    exact ref 1 (by omega) (by omega) (by rw [if_pos h1])
  have h1' : ¬ off = true := by rw [h1]; simp
  simp (disch := first | (simp only [dd, dr]; done) | omega) only [W_207, msK, msR, msF, ms1, msS1, k0, k1, k6, I_lt, I_le, I_inj, inB_I, tc_I, Int.toNat_natCast, fkt, rf1, rf0, cq, Nat.reduceAdd, Nat.reduceEqDiff, Int.reduceToNat, eq_self, true_and, and_true, true_or, or_true, bI_0, bI_1, mm, rAm, mF_sF, mR_sR, false_and, and_false, if_false, if_true, false_or, or_false, not_true_eq_false, not_false_eq_true, and_self]
  refine ca_157 (by omega) (m_isDirectory hK' (by omega) S O.1.1 z0 z1 ?_)
  simp (disch := first | (simp only [dd, dr]; done) | omega) only [W_207, I_lt, I_le, I_inj, inB_I, tc_I, Int.toNat_natCast, fkt, rf1, rf0, cq, Nat.reduceAdd, Nat.reduceEqDiff, Int.reduceToNat, eq_self, true_and, and_true, true_or, or_true, bI_0, bI_1, mm, rAm, mF_sF, mR_sR, false_and, and_false, if_false, if_true, false_or, or_false, not_true_eq_false, not_false_eq_true, and_self]
  refine ⟨fun h2 => ?_, fun h2 => ?_⟩
  rotate_left
  · have h2 : isk T X z 0 = false := by simpa using h2
    have hf : fu f 54 (2 : Int) 54 = 2 := fu_s _ _ _
    simp (disch := first | (simp only [dd, dr]; done) | omega) only [W_207, msK, msR, msF, ms1, msS1, k0, k1, k6, msSF, hf, I_lt, I_le, I_inj, inB_I, tc_I, Int.toNat_natCast, fkt, rf1, rf0, cq, Nat.reduceAdd, Nat.reduceEqDiff, Int.reduceToNat, eq_self, true_and, and_true, true_or, or_true, bI_0, bI_1, mm, rAm, mF_sF, mR_sR, false_and, and_false, if_false, if_true, false_or, or_false, not_true_eq_false, not_false_eq_true, and_self]
    refine ⟨(fun h => by first | exact False.elim h | exact absurd trivial h | (exfalso; omega) | exact absurd rfl h | cases h), fun _ => ?_⟩
    simp (disch := first | (simp only [dd, dr]; done) | omega) only [W_207, I_lt, I_le, I_inj, inB_I, tc_I, Int.toNat_natCast, fkt, rf1, rf0, cq, Nat.reduceAdd, Nat.reduceEqDiff, Int.reduceToNat, eq_self, true_and, and_true, true_or, or_true, bI_0, bI_1, mm, rAm, mF_sF, mR_sR, false_and, and_false, if_false, if_true, false_or, or_false, not_true_eq_false, not_false_eq_true, and_self]
    exact ref 2 (by omega) (by omega) (by rw [if_neg h1', if_neg (by rw [h2]; simp)])
  have h2 : isk T X z 0 = true := by simpa using h2
  rw [if_neg h1', if_pos h2] at hR
  obtain ⟨zo, rfl, o1, o2, o3, o4⟩ := isk_of h2
  simp only [Int.toNat_natCast] at *
  have hf : fu f 54 (0 : Int) 54 = 0 := fu_s _ _ _
  have fin := hR trivial (fu f 54 0) (fun g _ h _ => fu_n _ _ h) hf
  simp (disch := first | (simp only [dd, dr]; done) | omega) only [W_207, msK, msR, msF, ms1, msS1, k0, k1, k6, msSF, hf, I_lt, I_le, I_inj, inB_I, tc_I, Int.toNat_natCast, fkt, rf1, rf0, cq, Nat.reduceAdd, Nat.reduceEqDiff, Int.reduceToNat, eq_self, true_and, and_true, true_or, or_true, bI_0, bI_1, mm, rAm, mF_sF, mR_sR, false_and, and_false, if_false, if_true, false_or, or_false, not_true_eq_false, not_false_eq_true, and_self]
  refine ⟨fun _ => ?_, (fun h => by first | exact False.elim h | exact absurd trivial h | (exfalso; omega) | exact absurd rfl h | cases h)⟩
  simp (disch := first | (simp only [dd, dr]; done) | omega) only [W_207, msK, msR, msF, ms1, msS1, k0, k1, k6, I_lt, I_le, I_inj, inB_I, tc_I, Int.toNat_natCast, fkt, rf1, rf0, cq, Nat.reduceAdd, Nat.reduceEqDiff, Int.reduceToNat, eq_self, true_and, and_true, true_or, or_true, bI_0, bI_1, mm, rAm, mF_sF, mR_sR, false_and, and_false, if_false, if_true, false_or, or_false, not_true_eq_false, not_false_eq_true, and_self]
  refine ca_160 (by omega) (m_isName hK' (by omega) n0 n1 ?_)
  simp (disch := first | (simp only [dd, dr]; done) | omega) only [W_207, I_lt, I_le, I_inj, inB_I, tc_I, Int.toNat_natCast, fkt, rf1, rf0, cq, Nat.reduceAdd, Nat.reduceEqDiff, Int.reduceToNat, eq_self, true_and, and_true, true_or, or_true, bI_0, bI_1, mm, rAm, mF_sF, mR_sR, false_and, and_false, if_false, if_true, false_or, or_false, not_true_eq_false, not_false_eq_true, and_self]
  refine ⟨fun h3 => ?_, fun h3 => ?_⟩
  · have h3 := of_decide_eq_false h3
    have e : tol T X zo n = -1 := by
      unfold tol
      rw [if_neg (fun h => h3 ⟨h.1, h.2.1⟩)]
    rw [e] at fin
    simp (disch := first | (simp only [dd, dr]; done) | omega) only [W_207, I_lt, I_le, I_inj, inB_I, tc_I, Int.toNat_natCast, fkt, rf1, rf0, cq, Nat.reduceAdd, Nat.reduceEqDiff, Int.reduceToNat, eq_self, true_and, and_true, true_or, or_true, bI_0, bI_1, mm, rAm, mF_sF, mR_sR, false_and, and_false, if_false, if_true, false_or, or_false, not_true_eq_false, not_false_eq_true, and_self]
    exact fin
  · simp (disch := first | (simp only [dd, dr]; done) | omega) only [W_207, msK, msR, msF, ms1, msS1, k0, k1, k6, I_lt, I_le, I_inj, inB_I, tc_I, Int.toNat_natCast, fkt, rf1, rf0, cq, Nat.reduceAdd, Nat.reduceEqDiff, Int.reduceToNat, eq_self, true_and, and_true, true_or, or_true, bI_0, bI_1, mm, rAm, mF_sF, mR_sR, false_and, and_false, if_false, if_true, false_or, or_false, not_true_eq_false, not_false_eq_true, and_self]
    refine ca_161 (by omega) (m_entry hK' (by omega) S W hn (by omega) n0 n1 ?_)
    simp (disch := first | (simp only [dd, dr]; done) | omega) only [W_207, I_lt, I_le, I_inj, inB_I, tc_I, Int.toNat_natCast, fkt, rf1, rf0, cq, Nat.reduceAdd, Nat.reduceEqDiff, Int.reduceToNat, eq_self, true_and, and_true, true_or, or_true, bI_0, bI_1, mm, rAm, mF_sF, mR_sR, false_and, and_false, if_false, if_true, false_or, or_false, not_true_eq_false, not_false_eq_true, and_self]
    exact fin
theorem m_about (hK : MK M o) (hd : 12 ≤ d) (S : MS s T X dt) (O : OK3 T X) {off : Bool} (f52 : f 52 = bI off) {z n : Int} (z0 : -2147483648 ≤ z) (z1 : z < 2147483648) (n0 : -2147483648 ≤ n) (n1 : n < 2147483648)
    (hX : abC off T X z n ≠ 0 → ∀ f', Fe f f' → f' 54 = abC off T X z n → Q (.returned (some (.int (I 0)))) (ms M o f' s b c w j))
    (hR : abC off T X z n = 0 → ∀ f', Fe f f' → f' 54 = 0 → Q (.returned (some (.int (I (abV X z.toNat n.toNat : Nat))))) (ms M o f' s b c w j)) :
    Wp d 209 0 [some (.ref o), some (.int (I z)), some (.int (I n))] [] (ms M o f s b c w j) Q := by
  have hK' := hK
  obtain ⟨k0, k1, k2, k3, k4, k5, k6, k7, k8, k9, k10⟩ := hK
  have ref : ∀ (k : Nat), 1 ≤ k → k ≤ 4 → abC off T X z n = k → Q (.returned (some (.int (I 0)))) (ms M o (fu f 54 (k : Int)) s b c w j) := by
    intro k h1 h2 hk
    have hf : fu f 54 (k : Int) 54 = k := fu_s _ _ _
    exact hX (by omega) _ (fun g _ h _ => fu_n _ _ h) (by rw [hk]; exact hf)
  unfold abC at hX hR ref
  simp (disch := first | (simp only [dd, dr]; done) | omega) only [W_209, msK, msR, msF, ms1, msS1, k0, k1, k6, f52, I_lt, I_le, I_inj, inB_I, tc_I, Int.toNat_natCast, fkt, rf1, rf0, cq, Nat.reduceAdd, Nat.reduceEqDiff, Int.reduceToNat, eq_self, true_and, and_true, true_or, or_true, bI_0, bI_1, mm, rAm, mF_sF, mR_sR, false_and, and_false, if_false, if_true, false_or, or_false, not_true_eq_false, not_false_eq_true, and_self]
  refine ⟨fun h1 => ?_, fun h1 => ?_⟩
  rotate_left
  · have h1 : off = true := by simpa using h1
    have hf : fu f 54 (1 : Int) 54 = 1 := fu_s _ _ _
    simp (disch := first | (simp only [dd, dr]; done) | omega) only [W_209, msK, msR, msF, ms1, msS1, k0, k1, k6, msSF, hf, I_lt, I_le, I_inj, inB_I, tc_I, Int.toNat_natCast, fkt, rf1, rf0, cq, Nat.reduceAdd, Nat.reduceEqDiff, Int.reduceToNat, eq_self, true_and, and_true, true_or, or_true, bI_0, bI_1, mm, rAm, mF_sF, mR_sR, false_and, and_false, if_false, if_true, false_or, or_false, not_true_eq_false, not_false_eq_true, and_self]
    refine ⟨(fun h => by first | exact False.elim h | exact absurd trivial h | (exfalso; omega) | exact absurd rfl h | cases h), fun _ => ?_⟩
    simp (disch := first | (simp only [dd, dr]; done) | omega) only [W_209, I_lt, I_le, I_inj, inB_I, tc_I, Int.toNat_natCast, fkt, rf1, rf0, cq, Nat.reduceAdd, Nat.reduceEqDiff, Int.reduceToNat, eq_self, true_and, and_true, true_or, or_true, bI_0, bI_1, mm, rAm, mF_sF, mR_sR, false_and, and_false, if_false, if_true, false_or, or_false, not_true_eq_false, not_false_eq_true, and_self]
    exact ref 1 (by omega) (by omega) (by rw [if_pos h1])
  have h1' : ¬ off = true := by rw [h1]; simp
  simp (disch := first | (simp only [dd, dr]; done) | omega) only [W_209, msK, msR, msF, ms1, msS1, k0, k1, k6, I_lt, I_le, I_inj, inB_I, tc_I, Int.toNat_natCast, fkt, rf1, rf0, cq, Nat.reduceAdd, Nat.reduceEqDiff, Int.reduceToNat, eq_self, true_and, and_true, true_or, or_true, bI_0, bI_1, mm, rAm, mF_sF, mR_sR, false_and, and_false, if_false, if_true, false_or, or_false, not_true_eq_false, not_false_eq_true, and_self]
  refine ca_158 (by omega) (m_isObject hK' (by omega) S O.1.1 z0 z1 ?_)
  simp (disch := first | (simp only [dd, dr]; done) | omega) only [W_209, I_lt, I_le, I_inj, inB_I, tc_I, Int.toNat_natCast, fkt, rf1, rf0, cq, Nat.reduceAdd, Nat.reduceEqDiff, Int.reduceToNat, eq_self, true_and, and_true, true_or, or_true, bI_0, bI_1, mm, rAm, mF_sF, mR_sR, false_and, and_false, if_false, if_true, false_or, or_false, not_true_eq_false, not_false_eq_true, and_self]
  refine ⟨fun h2 => ?_, fun h2 => ?_⟩
  · have hf : fu f 54 (2 : Int) 54 = 2 := fu_s _ _ _
    simp (disch := first | (simp only [dd, dr]; done) | omega) only [W_209, msK, msR, msF, ms1, msS1, k0, k1, k6, msSF, hf, I_lt, I_le, I_inj, inB_I, tc_I, Int.toNat_natCast, fkt, rf1, rf0, cq, Nat.reduceAdd, Nat.reduceEqDiff, Int.reduceToNat, eq_self, true_and, and_true, true_or, or_true, bI_0, bI_1, mm, rAm, mF_sF, mR_sR, false_and, and_false, if_false, if_true, false_or, or_false, not_true_eq_false, not_false_eq_true, and_self]
    refine ⟨(fun h => by first | exact False.elim h | exact absurd trivial h | (exfalso; omega) | exact absurd rfl h | cases h), fun _ => ?_⟩
    simp (disch := first | (simp only [dd, dr]; done) | omega) only [W_209, I_lt, I_le, I_inj, inB_I, tc_I, Int.toNat_natCast, fkt, rf1, rf0, cq, Nat.reduceAdd, Nat.reduceEqDiff, Int.reduceToNat, eq_self, true_and, and_true, true_or, or_true, bI_0, bI_1, mm, rAm, mF_sF, mR_sR, false_and, and_false, if_false, if_true, false_or, or_false, not_true_eq_false, not_false_eq_true, and_self]
    exact ref 2 (by omega) (by omega) (by rw [if_neg h1', if_neg (fun h => by rw [h.1] at h2; cases h2)])
  have h2 : iso T z = true := by simpa using h2
  obtain ⟨zo, rfl, o1, o2, o3⟩ := iso_of h2
  simp only [Int.toNat_natCast] at *
  obtain ⟨x1, x2, x3, x4, x5⟩ := S.2.2.1 zo (by omega) o3
  have x0 := S.2.1 zo (by omega)
  rw [if_pos o3] at x0
  obtain ⟨zo1, zo2, zo3, zo4⟩ := O.1.1 zo (by omega) o3
  have hl := (O.any o2 o3).2.2.2.1
  have rest : (n < 5 ∨ n - 5 < (oD X zo).length) → Wp d 209 45 [some (.ref o), some (.int (I (zo : Nat))), some (.int (I n))] [.ref o] (ms M o f s b c w j) Q := by
    intro h3
    rw [if_neg h1', if_pos ⟨h2, h3⟩] at hR ref
    simp (disch := first | (simp only [dd, dr]; done) | omega) only [W_209, I_lt, I_le, I_inj, inB_I, tc_I, Int.toNat_natCast, fkt, rf1, rf0, cq, Nat.reduceAdd, Nat.reduceEqDiff, Int.reduceToNat, eq_self, true_and, and_true, true_or, or_true, bI_0, bI_1, mm, rAm, mF_sF, mR_sR, false_and, and_false, if_false, if_true, false_or, or_false, not_true_eq_false, not_false_eq_true, and_self]
    refine ⟨fun h4 => ?_, fun h4 => ?_⟩
    rotate_left
    · have hf : fu f 54 (3 : Int) 54 = 3 := fu_s _ _ _
      simp (disch := first | (simp only [dd, dr]; done) | omega) only [W_209, msK, msR, msF, ms1, msS1, k0, k1, k6, msSF, hf, I_lt, I_le, I_inj, inB_I, tc_I, Int.toNat_natCast, fkt, rf1, rf0, cq, Nat.reduceAdd, Nat.reduceEqDiff, Int.reduceToNat, eq_self, true_and, and_true, true_or, or_true, bI_0, bI_1, mm, rAm, mF_sF, mR_sR, false_and, and_false, if_false, if_true, false_or, or_false, not_true_eq_false, not_false_eq_true, and_self]
      refine ⟨(fun h => by first | exact False.elim h | exact absurd trivial h | (exfalso; omega) | exact absurd rfl h | cases h), fun _ => ?_⟩
      simp (disch := first | (simp only [dd, dr]; done) | omega) only [W_209, I_lt, I_le, I_inj, inB_I, tc_I, Int.toNat_natCast, fkt, rf1, rf0, cq, Nat.reduceAdd, Nat.reduceEqDiff, Int.reduceToNat, eq_self, true_and, and_true, true_or, or_true, bI_0, bI_1, mm, rAm, mF_sF, mR_sR, false_and, and_false, if_false, if_true, false_or, or_false, not_true_eq_false, not_false_eq_true, and_self]
      exact ref 3 (by omega) (by omega) (by rw [if_neg (by omega)])
    rw [if_pos h4] at hR
    obtain ⟨nn, rfl⟩ : ∃ nn : Nat, n = nn := ⟨n.toNat, by omega⟩
    simp only [Int.toNat_natCast] at *
    have hf : fu f 54 (0 : Int) 54 = 0 := fu_s _ _ _
    have fin := hR trivial (fu f 54 0) (fun g _ h _ => fu_n _ _ h) hf
    unfold abV at fin
    simp (disch := first | (simp only [dd, dr]; done) | omega) only [W_209, msK, msR, msF, ms1, msS1, k0, k1, k6, msSF, hf, I_lt, I_le, I_inj, inB_I, tc_I, Int.toNat_natCast, fkt, rf1, rf0, cq, Nat.reduceAdd, Nat.reduceEqDiff, Int.reduceToNat, eq_self, true_and, and_true, true_or, or_true, bI_0, bI_1, mm, rAm, mF_sF, mR_sR, false_and, and_false, if_false, if_true, false_or, or_false, not_true_eq_false, not_false_eq_true, and_self]
    refine ⟨fun _ => ?_, (fun h => by first | exact False.elim h | exact absurd trivial h | (exfalso; omega) | exact absurd rfl h | cases h)⟩
    simp (disch := first | (simp only [dd, dr]; done) | omega) only [W_209, I_lt, I_le, I_inj, inB_I, tc_I, Int.toNat_natCast, fkt, rf1, rf0, cq, Nat.reduceAdd, Nat.reduceEqDiff, Int.reduceToNat, eq_self, true_and, and_true, true_or, or_true, bI_0, bI_1, mm, rAm, mF_sF, mR_sR, false_and, and_false, if_false, if_true, false_or, or_false, not_true_eq_false, not_false_eq_true, and_self]
    by_cases e0 : nn = 0
    · rw [show ((nn : Nat) : Int) = 0 by omega]
      rw [if_pos (by assumption)] at fin
      simp (disch := first | (simp only [dd, dr]; done) | omega) only [W_209, msK, msR, msF, ms1, msS1, k0, k1, k6, x0, I_lt, I_le, I_inj, inB_I, tc_I, Int.toNat_natCast, fkt, rf1, rf0, cq, Nat.reduceAdd, Nat.reduceEqDiff, Int.reduceToNat, eq_self, true_and, and_true, true_or, or_true, bI_0, bI_1, mm, rAm, mF_sF, mR_sR, false_and, and_false, if_false, if_true, false_or, or_false, not_true_eq_false, not_false_eq_true, and_self]
      rw [show (oK X zo : Int) - 1 = ((oK X zo - 1 : Nat) : Int) by omega]
      exact fin
    rw [if_neg e0] at fin
    by_cases e1 : nn = 1
    · rw [show ((nn : Nat) : Int) = 1 by omega]
      rw [if_pos (by assumption)] at fin
      simp (disch := first | (simp only [dd, dr]; done) | omega) only [W_209, msK, msR, msF, ms1, msS1, k0, k1, k6, x1, I_lt, I_le, I_inj, inB_I, tc_I, Int.toNat_natCast, fkt, rf1, rf0, cq, Nat.reduceAdd, Nat.reduceEqDiff, Int.reduceToNat, eq_self, true_and, and_true, true_or, or_true, bI_0, bI_1, mm, rAm, mF_sF, mR_sR, false_and, and_false, if_false, if_true, false_or, or_false, not_true_eq_false, not_false_eq_true, and_self]
      exact fin
    rw [if_neg e1] at fin
    by_cases e2 : nn = 2
    · rw [show ((nn : Nat) : Int) = 2 by omega]
      rw [if_pos (by assumption)] at fin
      simp (disch := first | (simp only [dd, dr]; done) | omega) only [W_209, msK, msR, msF, ms1, msS1, k0, k1, k6, x2, I_lt, I_le, I_inj, inB_I, tc_I, Int.toNat_natCast, fkt, rf1, rf0, cq, Nat.reduceAdd, Nat.reduceEqDiff, Int.reduceToNat, eq_self, true_and, and_true, true_or, or_true, bI_0, bI_1, mm, rAm, mF_sF, mR_sR, false_and, and_false, if_false, if_true, false_or, or_false, not_true_eq_false, not_false_eq_true, and_self]
      exact fin
    rw [if_neg e2] at fin
    by_cases e3 : nn = 3
    · rw [show ((nn : Nat) : Int) = 3 by omega]
      rw [if_pos (by assumption)] at fin
      simp (disch := first | (simp only [dd, dr]; done) | omega) only [W_209, msK, msR, msF, ms1, msS1, k0, k1, k6, x3, I_lt, I_le, I_inj, inB_I, tc_I, Int.toNat_natCast, fkt, rf1, rf0, cq, Nat.reduceAdd, Nat.reduceEqDiff, Int.reduceToNat, eq_self, true_and, and_true, true_or, or_true, bI_0, bI_1, mm, rAm, mF_sF, mR_sR, false_and, and_false, if_false, if_true, false_or, or_false, not_true_eq_false, not_false_eq_true, and_self]
      exact fin
    rw [if_neg e3] at fin
    by_cases e4 : nn = 4
    · rw [show ((nn : Nat) : Int) = 4 by omega]
      rw [if_pos (by assumption)] at fin
      simp (disch := first | (simp only [dd, dr]; done) | omega) only [W_209, msK, msR, msF, ms1, msS1, k0, k1, k6, x0, I_lt, I_le, I_inj, inB_I, tc_I, Int.toNat_natCast, fkt, rf1, rf0, cq, Nat.reduceAdd, Nat.reduceEqDiff, Int.reduceToNat, eq_self, true_and, and_true, true_or, or_true, bI_0, bI_1, mm, rAm, mF_sF, mR_sR, false_and, and_false, if_false, if_true, false_or, or_false, not_true_eq_false, not_false_eq_true, and_self]
      refine ⟨fun h5 => ?_, fun h5 => ?_⟩
      · have : (oT X zo).length = 0 := by
          rcases O.2 zo o2 o3 with h | h
          · have := h.1; omega
          · rw [h.2.2.1]; rfl
        rw [this] at fin
        simp (disch := first | (simp only [dd, dr]; done) | omega) only [W_209, I_lt, I_le, I_inj, inB_I, tc_I, Int.toNat_natCast, fkt, rf1, rf0, cq, Nat.reduceAdd, Nat.reduceEqDiff, Int.reduceToNat, eq_self, true_and, and_true, true_or, or_true, bI_0, bI_1, mm, rAm, mF_sF, mR_sR, false_and, and_false, if_false, if_true, false_or, or_false, not_true_eq_false, not_false_eq_true, and_self]
        exact fin
      · simp (disch := first | (simp only [dd, dr]; done) | omega) only [W_209, msK, msR, msF, ms1, msS1, k0, k1, k6, x2, I_lt, I_le, I_inj, inB_I, tc_I, Int.toNat_natCast, fkt, rf1, rf0, cq, Nat.reduceAdd, Nat.reduceEqDiff, Int.reduceToNat, eq_self, true_and, and_true, true_or, or_true, bI_0, bI_1, mm, rAm, mF_sF, mR_sR, false_and, and_false, if_false, if_true, false_or, or_false, not_true_eq_false, not_false_eq_true, and_self]
        refine ca_192 (by omega) (m_tailOf (by omega) ?_)
        rw [show tlO (oS X zo) = (oT X zo).length by have := (O.fo zo o2 o3 (by omega)).2.2.1; omega]
        simp (disch := first | (simp only [dd, dr]; done) | omega) only [W_209, I_lt, I_le, I_inj, inB_I, tc_I, Int.toNat_natCast, fkt, rf1, rf0, cq, Nat.reduceAdd, Nat.reduceEqDiff, Int.reduceToNat, eq_self, true_and, and_true, true_or, or_true, bI_0, bI_1, mm, rAm, mF_sF, mR_sR, false_and, and_false, if_false, if_true, false_or, or_false, not_true_eq_false, not_false_eq_true, and_self]
        exact fin
    rw [if_neg e4] at fin
    have hx : (oD X zo)[nn - 5]? = some (oD X zo)[nn - 5] := List.getElem?_eq_getElem (by omega)
    rw [List.getD_eq_getElem?_getD, hx, Option.getD_some] at fin
    have ex := x4 _ _ hx
    have ea : 340 + 16 * (zo : Int) + (nn : Int) - 5 = 340 + 16 * (zo : Int) + ((nn - 5 : Nat) : Int) := by omega
    simp (disch := first | (simp only [dd, dr]; done) | omega) only [W_209, msK, msR, msF, ms1, msS1, k0, k1, k6, ea, ex, I_lt, I_le, I_inj, inB_I, tc_I, Int.toNat_natCast, fkt, rf1, rf0, cq, Nat.reduceAdd, Nat.reduceEqDiff, Int.reduceToNat, eq_self, true_and, and_true, true_or, or_true, bI_0, bI_1, mm, rAm, mF_sF, mR_sR, false_and, and_false, if_false, if_true, false_or, or_false, not_true_eq_false, not_false_eq_true, and_self]
    exact fin
  simp (disch := first | (simp only [dd, dr]; done) | omega) only [W_209, I_lt, I_le, I_inj, inB_I, tc_I, Int.toNat_natCast, fkt, rf1, rf0, cq, Nat.reduceAdd, Nat.reduceEqDiff, Int.reduceToNat, eq_self, true_and, and_true, true_or, or_true, bI_0, bI_1, mm, rAm, mF_sF, mR_sR, false_and, and_false, if_false, if_true, false_or, or_false, not_true_eq_false, not_false_eq_true, and_self]
  refine ⟨fun h3 => ?_, fun h3 => ?_⟩
  · exact rest (.inl (by omega))
  · simp (disch := first | (simp only [dd, dr]; done) | omega) only [W_209, msK, msR, msF, ms1, msS1, k0, k1, k6, x3, I_lt, I_le, I_inj, inB_I, tc_I, Int.toNat_natCast, fkt, rf1, rf0, cq, Nat.reduceAdd, Nat.reduceEqDiff, Int.reduceToNat, eq_self, true_and, and_true, true_or, or_true, bI_0, bI_1, mm, rAm, mF_sF, mR_sR, false_and, and_false, if_false, if_true, false_or, or_false, not_true_eq_false, not_false_eq_true, and_self]
    refine ⟨fun h4 => ?_, fun h4 => ?_⟩
    · exact rest (.inr (by omega))
    · have hf : fu f 54 (2 : Int) 54 = 2 := fu_s _ _ _
      simp (disch := first | (simp only [dd, dr]; done) | omega) only [W_209, msK, msR, msF, ms1, msS1, k0, k1, k6, msSF, hf, I_lt, I_le, I_inj, inB_I, tc_I, Int.toNat_natCast, fkt, rf1, rf0, cq, Nat.reduceAdd, Nat.reduceEqDiff, Int.reduceToNat, eq_self, true_and, and_true, true_or, or_true, bI_0, bI_1, mm, rAm, mF_sF, mR_sR, false_and, and_false, if_false, if_true, false_or, or_false, not_true_eq_false, not_false_eq_true, and_self]
      refine ⟨(fun h => by first | exact False.elim h | exact absurd trivial h | (exfalso; omega) | exact absurd rfl h | cases h), fun _ => ?_⟩
      simp (disch := first | (simp only [dd, dr]; done) | omega) only [W_209, I_lt, I_le, I_inj, inB_I, tc_I, Int.toNat_natCast, fkt, rf1, rf0, cq, Nat.reduceAdd, Nat.reduceEqDiff, Int.reduceToNat, eq_self, true_and, and_true, true_or, or_true, bI_0, bI_1, mm, rAm, mF_sF, mR_sR, false_and, and_false, if_false, if_true, false_or, or_false, not_true_eq_false, not_false_eq_true, and_self]
      exact ref 2 (by omega) (by omega) (by rw [if_neg h1', if_neg (fun h => by omega)])
end Mrd
