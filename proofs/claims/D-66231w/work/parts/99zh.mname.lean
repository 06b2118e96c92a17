/-! ===== THE MODEL: name, node, items, item ===== -/
section Mnm
variable {d : Nat} {M : Mem} {Q : Outcome → Mem → Prop} {o : Nat} {f : Nat → Int} {s s' b c w : Int → Int} {j : Nat → Bool} {T T' T1 T2 : Tr} {X X' : Ob} {dt : Nat → Nat → Nat} {m : Nat} {sz tl : Nat → Nat} {par : Nat → Nat}
set_option maxHeartbeats 1000000 in
theorem m_name (hK : MK M o) (hd : 12 ≤ d) (S : MS s T X dt) (W : Wf m (szO X) T) (O : OK3 T X) {off : Bool} (f52 : f 52 = bI off) {z n : Int} (z0 : -2147483648 ≤ z) (z1 : z < 2147483648) (n0 : -2147483648 ≤ n) (n1 : n < 2147483648)
    (hX : nameC off T X z n ≠ 0 → ∀ f', Fe f f' → f' 54 = nameC off T X z n → Q (.returned (some (.int (I 0)))) (ms M o f' s b c w j))
    (hR : nameC off T X z n = 0 → ∀ f', Fe f f' → f' 54 = 0 → Q (.returned (some (.int (I (((ents T z.toNat).getD n.toNat 0 % 1024 : Nat) : Int))))) (ms M o f' s b c w j)) :
    Wp d 208 0 [some (.ref o), some (.int (I z)), some (.int (I n)), none, none, none, none] [] (ms M o f s b c w j) Q := by
  have hK' := hK
  obtain ⟨k0, k1, k2, k3, k4, k5, k6, k7, k8, k9, k10⟩ := hK
  have ref : ∀ (k : Nat), 1 ≤ k → k ≤ 4 → nameC off T X z n = k → Q (.returned (some (.int (I 0)))) (ms M o (fu f 54 (k : Int)) s b c w j) := by
    intro k h1 h2 hk
    have hf : fu f 54 (k : Int) 54 = k := fu_s _ _ _
    exact hX (by omega) _ (fun g _ h _ => fu_n _ _ h) (by rw [hk]; exact hf)
  unfold nameC at hX hR ref
  simp (disch := first | (simp only [dd, dr]; done) | omega) only [W_208, msK, msR, msF, ms1, msS1, k0, k1, k6, f52, I_lt, I_le, I_inj, inB_I, tc_I, Int.toNat_natCast, fkt, rf1, rf0, cq, Nat.reduceAdd, Nat.reduceEqDiff, Int.reduceToNat, eq_self, true_and, and_true, true_or, or_true, bI_0, bI_1, mm, rAm, mF_sF, mR_sR, false_and, and_false, if_false, if_true, false_or, or_false, not_true_eq_false, not_false_eq_true, and_self]
  refine ⟨fun h1 => ?_, fun h1 => ?_⟩
  rotate_left
  · have h1 : off = true := by simpa using h1
    have hf : fu f 54 (1 : Int) 54 = 1 := fu_s _ _ _
    simp (disch := first | (simp only [dd, dr]; done) | omega) only [W_208, msK, msR, msF, ms1, msS1, k0, k1, k6, msSF, hf, I_lt, I_le, I_inj, inB_I, tc_I, Int.toNat_natCast, fkt, rf1, rf0, cq, Nat.reduceAdd, Nat.reduceEqDiff, Int.reduceToNat, eq_self, true_and, and_true, true_or, or_true, bI_0, bI_1, mm, rAm, mF_sF, mR_sR, false_and, and_false, if_false, if_true, false_or, or_false, not_true_eq_false, not_false_eq_true, and_self]
    simp (disch := first | (simp only [dd, dr]; done) | omega) only [w_208_53, W_208, msK, msR, msF, ms1, msS1, k0, k1, k6, hf, I_lt, I_le, I_inj, inB_I, tc_I, Int.toNat_natCast, fkt, rf1, rf0, cq, Nat.reduceAdd, Nat.reduceEqDiff, Int.reduceToNat, eq_self, true_and, and_true, true_or, or_true, bI_0, bI_1, mm, rAm, mF_sF, mR_sR, false_and, and_false, if_false, if_true, false_or, or_false, not_true_eq_false, not_false_eq_true, and_self]
    refine ⟨fun _ => ?_, (fun h => by first | exact False.elim h | exact absurd trivial h | (exfalso; omega) | exact absurd rfl h | cases h)⟩
    simp (disch := first | (simp only [dd, dr]; done) | omega) only [W_208, I_lt, I_le, I_inj, inB_I, tc_I, Int.toNat_natCast, fkt, rf1, rf0, cq, Nat.reduceAdd, Nat.reduceEqDiff, Int.reduceToNat, eq_self, true_and, and_true, true_or, or_true, bI_0, bI_1, mm, rAm, mF_sF, mR_sR, false_and, and_false, if_false, if_true, false_or, or_false, not_true_eq_false, not_false_eq_true, and_self]
    exact ref 1 (by omega) (by omega) (by rw [if_pos h1])
  have h1' : ¬ off = true := by rw [h1]; simp
  simp (disch := first | (simp only [dd, dr]; done) | omega) only [W_208, msK, msR, msF, ms1, msS1, k0, k1, k6, I_lt, I_le, I_inj, inB_I, tc_I, Int.toNat_natCast, fkt, rf1, rf0, cq, Nat.reduceAdd, Nat.reduceEqDiff, Int.reduceToNat, eq_self, true_and, and_true, true_or, or_true, bI_0, bI_1, mm, rAm, mF_sF, mR_sR, false_and, and_false, if_false, if_true, false_or, or_false, not_true_eq_false, not_false_eq_true, and_self]
  refine ca_157 (by omega) (m_isDirectory hK' (by omega) S O.1.1 z0 z1 ?_)
  simp (disch := first | (simp only [dd, dr]; done) | omega) only [W_208, I_lt, I_le, I_inj, inB_I, tc_I, Int.toNat_natCast, fkt, rf1, rf0, cq, Nat.reduceAdd, Nat.reduceEqDiff, Int.reduceToNat, eq_self, true_and, and_true, true_or, or_true, bI_0, bI_1, mm, rAm, mF_sF, mR_sR, false_and, and_false, if_false, if_true, false_or, or_false, not_true_eq_false, not_false_eq_true, and_self]
  refine ⟨fun h2 => ?_, fun h2 => ?_⟩
  · have hf : fu f 54 (2 : Int) 54 = 2 := fu_s _ _ _
    simp (disch := first | (simp only [dd, dr]; done) | omega) only [W_208, msK, msR, msF, ms1, msS1, k0, k1, k6, msSF, hf, I_lt, I_le, I_inj, inB_I, tc_I, Int.toNat_natCast, fkt, rf1, rf0, cq, Nat.reduceAdd, Nat.reduceEqDiff, Int.reduceToNat, eq_self, true_and, and_true, true_or, or_true, bI_0, bI_1, mm, rAm, mF_sF, mR_sR, false_and, and_false, if_false, if_true, false_or, or_false, not_true_eq_false, not_false_eq_true, and_self]
    simp (disch := first | (simp only [dd, dr]; done) | omega) only [w_208_53, W_208, msK, msR, msF, ms1, msS1, k0, k1, k6, hf, I_lt, I_le, I_inj, inB_I, tc_I, Int.toNat_natCast, fkt, rf1, rf0, cq, Nat.reduceAdd, Nat.reduceEqDiff, Int.reduceToNat, eq_self, true_and, and_true, true_or, or_true, bI_0, bI_1, mm, rAm, mF_sF, mR_sR, false_and, and_false, if_false, if_true, false_or, or_false, not_true_eq_false, not_false_eq_true, and_self]
    refine ⟨fun _ => ?_, (fun h => by first | exact False.elim h | exact absurd trivial h | (exfalso; omega) | exact absurd rfl h | cases h)⟩
    simp (disch := first | (simp only [dd, dr]; done) | omega) only [W_208, I_lt, I_le, I_inj, inB_I, tc_I, Int.toNat_natCast, fkt, rf1, rf0, cq, Nat.reduceAdd, Nat.reduceEqDiff, Int.reduceToNat, eq_self, true_and, and_true, true_or, or_true, bI_0, bI_1, mm, rAm, mF_sF, mR_sR, false_and, and_false, if_false, if_true, false_or, or_false, not_true_eq_false, not_false_eq_true, and_self]
    exact ref 2 (by omega) (by omega) (by rw [if_neg h1', if_neg (fun h => by rw [h.1] at h2; cases h2)])
  have h2 : isk T X z 0 = true := by simpa using h2
  obtain ⟨zo, rfl, o1, o2, o3, o4⟩ := isk_of h2
  simp only [Int.toNat_natCast] at *
  obtain ⟨x1, x2, _⟩ := S.2.2.1 zo (by omega) o3
  obtain ⟨zo1, zo2, zo3, zo4⟩ := O.1.1 zo (by omega) o3
  simp (disch := first | (simp only [dd, dr]; done) | omega) only [W_208, msK, msR, msF, ms1, msS1, k0, k1, k6, x2, I_lt, I_le, I_inj, inB_I, tc_I, Int.toNat_natCast, fkt, rf1, rf0, cq, Nat.reduceAdd, Nat.reduceEqDiff, Int.reduceToNat, eq_self, true_and, and_true, true_or, or_true, bI_0, bI_1, mm, rAm, mF_sF, mR_sR, false_and, and_false, if_false, if_true, false_or, or_false, not_true_eq_false, not_false_eq_true, and_self]
  refine ca_159 (by omega) (m_isIn (by omega) (by omega) (by omega) (by omega) (by omega) (by omega) ?_)
  simp (disch := first | (simp only [dd, dr]; done) | omega) only [W_208, I_lt, I_le, I_inj, inB_I, tc_I, Int.toNat_natCast, fkt, rf1, rf0, cq, Nat.reduceAdd, Nat.reduceEqDiff, Int.reduceToNat, eq_self, true_and, and_true, true_or, or_true, bI_0, bI_1, mm, rAm, mF_sF, mR_sR, false_and, and_false, if_false, if_true, false_or, or_false, not_true_eq_false, not_false_eq_true, and_self]
  refine ⟨fun h3 => ?_, fun h3 => ?_⟩
  rotate_left
  · have h3 : ¬ (0 ≤ n ∧ n ≤ (oS X zo : Int) - 1) := by simpa using h3
    have hf : fu f 54 (2 : Int) 54 = 2 := fu_s _ _ _
    simp (disch := first | (simp only [dd, dr]; done) | omega) only [W_208, msK, msR, msF, ms1, msS1, k0, k1, k6, msSF, hf, I_lt, I_le, I_inj, inB_I, tc_I, Int.toNat_natCast, fkt, rf1, rf0, cq, Nat.reduceAdd, Nat.reduceEqDiff, Int.reduceToNat, eq_self, true_and, and_true, true_or, or_true, bI_0, bI_1, mm, rAm, mF_sF, mR_sR, false_and, and_false, if_false, if_true, false_or, or_false, not_true_eq_false, not_false_eq_true, and_self]
    simp (disch := first | (simp only [dd, dr]; done) | omega) only [w_208_53, W_208, msK, msR, msF, ms1, msS1, k0, k1, k6, hf, I_lt, I_le, I_inj, inB_I, tc_I, Int.toNat_natCast, fkt, rf1, rf0, cq, Nat.reduceAdd, Nat.reduceEqDiff, Int.reduceToNat, eq_self, true_and, and_true, true_or, or_true, bI_0, bI_1, mm, rAm, mF_sF, mR_sR, false_and, and_false, if_false, if_true, false_or, or_false, not_true_eq_false, not_false_eq_true, and_self]
    refine ⟨fun _ => ?_, (fun h => by first | exact False.elim h | exact absurd trivial h | (exfalso; omega) | exact absurd rfl h | cases h)⟩
    simp (disch := first | (simp only [dd, dr]; done) | omega) only [W_208, I_lt, I_le, I_inj, inB_I, tc_I, Int.toNat_natCast, fkt, rf1, rf0, cq, Nat.reduceAdd, Nat.reduceEqDiff, Int.reduceToNat, eq_self, true_and, and_true, true_or, or_true, bI_0, bI_1, mm, rAm, mF_sF, mR_sR, false_and, and_false, if_false, if_true, false_or, or_false, not_true_eq_false, not_false_eq_true, and_self]
    exact ref 2 (by omega) (by omega) (by rw [if_neg h1', if_neg (fun h => h3 (by omega))])
  have h3 : 0 ≤ n ∧ n ≤ (oS X zo : Int) - 1 := by simpa using h3
  rw [if_neg h1', if_pos ⟨h2, by omega, by omega⟩] at hR
  obtain ⟨nn, rfl⟩ : ∃ nn : Nat, n = nn := ⟨n.toNat, by omega⟩
  simp only [Int.toNat_natCast] at *
  have hS := O.dir o2 o3 o4
  have hx : (ents T zo)[nn]? = some (ents T zo)[nn] := List.getElem?_eq_getElem (by omega)
  rw [List.getD_eq_getElem?_getD, hx, Option.getD_some] at hR
  generalize (ents T zo)[nn] = key at hx hR
  have hf : fu f 54 (0 : Int) 54 = 0 := fu_s _ _ _
  have fin := hR trivial (fu f 54 0) (fun g _ h _ => fu_n _ _ h) hf
  have e13s : s 13068 = ((tW T 0).length : Nat) := (S.1.2.2.2.2.2.2.1 0 (by omega)).1
  have e13 : ∀ f' : Nat → Int, mA (ms M o f' s b c w j) (o + 1) 13068 = I ((tW T 0).length : Nat) := fun f' => ms_lit 13068 e13s
  have hrow := (S.1.2.2.2.2.2.2.1 0 (by omega)).2.2.1
  simp (disch := first | (simp only [dd, dr]; done) | omega) only [W_208, msK, msR, msF, ms1, msS1, k0, k1, k6, msSF, hf, I_lt, I_le, I_inj, inB_I, tc_I, Int.toNat_natCast, fkt, rf1, rf0, cq, Nat.reduceAdd, Nat.reduceEqDiff, Int.reduceToNat, eq_self, true_and, and_true, true_or, or_true, bI_0, bI_1, mm, rAm, mF_sF, mR_sR, false_and, and_false, if_false, if_true, false_or, or_false, not_true_eq_false, not_false_eq_true, and_self]
  generalize fu f 54 0 = f1 at *
  clear ref hX hR
  unfold ents its at hx
  suffices H : ∀ N (i k : Nat) (l5 l6 : Option Value), i + N = (tW T 0).length → k < 65536 → ((((tW T 0).drop i).flatMap (tI T)).filter (fun k => decide (k / 1024 = 4 * zo + 1)))[k]? = some key → Wp d 208 53 [some (.ref o), some (.int (I (zo : Nat))), some (.int (I (nn : Nat))), some (.int (I (k : Nat))), some (.int (I (i : Nat))), l5, l6] [] (ms M o f1 s b c w j) Q from H (tW T 0).length 0 nn none none (by omega) (by omega) hx
  intro N
  induction N with
  | zero =>
    intro i k l5 l6 hi _ hk
    rw [List.drop_eq_nil_of_le (by omega)] at hk
    cases hk
  | succ N ih =>
    intro i k l5 l6 hi hk1 hk
    have hxx : (tW T 0)[i]? = some (tW T 0)[i] := List.getElem?_eq_getElem (by omega)
    generalize (tW T 0)[i] = x at hxx
    obtain ⟨e1, e2, e3, e4, e5⟩ := S.1.leaf W hxx
    rw [drop_get hxx, List.flatMap_cons] at hk
    simp (disch := first | (simp only [dd, dr]; done) | omega) only [w_208_53, W_208, msK, msR, msF, ms1, msS1, k0, k1, k6, hf, I_lt, I_le, I_inj, inB_I, tc_I, Int.toNat_natCast, fkt, rf1, rf0, cq, Nat.reduceAdd, Nat.reduceEqDiff, Int.reduceToNat, eq_self, true_and, and_true, true_or, or_true, bI_0, bI_1, mm, rAm, mF_sF, mR_sR, false_and, and_false, if_false, if_true, false_or, or_false, not_true_eq_false, not_false_eq_true, and_self]
    refine ⟨(fun h => by first | exact False.elim h | exact absurd trivial h | (exfalso; omega) | exact absurd rfl h | cases h), fun _ => ?_⟩
    simp (disch := first | (simp only [dd, dr]; done) | omega) only [W_208, msK, msR, msF, ms1, msS1, k0, k1, k6, e13, I_lt, I_le, I_inj, inB_I, tc_I, Int.toNat_natCast, fkt, rf1, rf0, cq, Nat.reduceAdd, Nat.reduceEqDiff, Int.reduceToNat, eq_self, true_and, and_true, true_or, or_true, bI_0, bI_1, mm, rAm, mF_sF, mR_sR, false_and, and_false, if_false, if_true, false_or, or_false, not_true_eq_false, not_false_eq_true, and_self]
    refine ⟨(fun h => by first | exact False.elim h | exact absurd trivial h | (exfalso; omega) | exact absurd rfl h | cases h), fun _ => ?_⟩
    simp (disch := first | (simp only [dd, dr]; done) | omega) only [W_208, msK, msR, msF, ms1, msS1, k0, k1, k6, e1, I_lt, I_le, I_inj, inB_I, tc_I, Int.toNat_natCast, fkt, rf1, rf0, cq, Nat.reduceAdd, Nat.reduceEqDiff, Int.reduceToNat, eq_self, true_and, and_true, true_or, or_true, bI_0, bI_1, mm, rAm, mF_sF, mR_sR, false_and, and_false, if_false, if_true, false_or, or_false, not_true_eq_false, not_false_eq_true, and_self]
    suffices H2 : ∀ n2 (q k : Nat), q + n2 = (tI T x).length → k < 65536 → (((tI T x).drop q ++ ((tW T 0).drop (i + 1)).flatMap (tI T)).filter (fun k => decide (k / 1024 = 4 * zo + 1)))[k]? = some key → Wp d 208 89 [some (.ref o), some (.int (I (zo : Nat))), some (.int (I (nn : Nat))), some (.int (I (k : Nat))), some (.int (I (i : Nat))), some (.int (I (x : Nat))), some (.int (I (q : Nat)))] [] (ms M o f1 s b c w j) Q from H2 (tI T x).length 0 k (by omega) hk1 hk
    intro n2
    induction n2 with
    | zero =>
      intro q k hq hk1 hk
      rw [List.drop_eq_nil_of_le (by omega), List.nil_append] at hk
      simp (disch := first | (simp only [dd, dr]; done) | omega) only [w_208_89, W_208, msK, msR, msF, ms1, msS1, k0, k1, k6, e3, I_lt, I_le, I_inj, inB_I, tc_I, Int.toNat_natCast, fkt, rf1, rf0, cq, Nat.reduceAdd, Nat.reduceEqDiff, Int.reduceToNat, eq_self, true_and, and_true, true_or, or_true, bI_0, bI_1, mm, rAm, mF_sF, mR_sR, false_and, and_false, if_false, if_true, false_or, or_false, not_true_eq_false, not_false_eq_true, and_self]
      refine ⟨fun _ => ?_, (fun h => by first | exact False.elim h | exact absurd trivial h | (exfalso; omega) | exact absurd rfl h | cases h)⟩
      simp (disch := first | (simp only [dd, dr]; done) | omega) only [W_208, I_lt, I_le, I_inj, inB_I, tc_I, Int.toNat_natCast, fkt, rf1, rf0, cq, Nat.reduceAdd, Nat.reduceEqDiff, Int.reduceToNat, eq_self, true_and, and_true, true_or, or_true, bI_0, bI_1, mm, rAm, mF_sF, mR_sR, false_and, and_false, if_false, if_true, false_or, or_false, not_true_eq_false, not_false_eq_true, and_self]
      rw [show ((i : Int) + 1) = ((i + 1 : Nat) : Int) by omega]
      exact ih (i + 1) k _ _ (by omega) hk1 hk
    | succ n2 ih2 =>
      intro q k hq hk1 hk
      have hkx : (tI T x)[q]? = some (tI T x)[q] := List.getElem?_eq_getElem (by omega)
      generalize (tI T x)[q] = kk at hkx
      obtain ⟨g1, g2, g3, g4, g5, g6⟩ := e5 q kk hkx
      rw [drop_get hkx, List.cons_append] at hk
      have next : ∀ k : Nat, k < 65536 → (((tI T x).drop (q + 1) ++ ((tW T 0).drop (i + 1)).flatMap (tI T)).filter (fun k => decide (k / 1024 = 4 * zo + 1)))[k]? = some key → Wp d 208 172 [some (.ref o), some (.int (I (zo : Nat))), some (.int (I (nn : Nat))), some (.int (I (k : Nat))), some (.int (I (i : Nat))), some (.int (I (x : Nat))), some (.int (I (q : Nat)))] [] (ms M o f1 s b c w j) Q := by
        intro k hk1 hk2
        simp (disch := first | (simp only [dd, dr]; done) | omega) only [W_208, I_lt, I_le, I_inj, inB_I, tc_I, Int.toNat_natCast, fkt, rf1, rf0, cq, Nat.reduceAdd, Nat.reduceEqDiff, Int.reduceToNat, eq_self, true_and, and_true, true_or, or_true, bI_0, bI_1, mm, rAm, mF_sF, mR_sR, false_and, and_false, if_false, if_true, false_or, or_false, not_true_eq_false, not_false_eq_true, and_self]
        rw [show ((q : Int) + 1) = ((q + 1 : Nat) : Int) by omega]
        exact ih2 (q + 1) k (by omega) hk1 hk2
      simp (disch := first | (simp only [dd, dr]; done) | omega) only [w_208_89, W_208, msK, msR, msF, ms1, msS1, k0, k1, k6, e3, I_lt, I_le, I_inj, inB_I, tc_I, Int.toNat_natCast, fkt, rf1, rf0, cq, Nat.reduceAdd, Nat.reduceEqDiff, Int.reduceToNat, eq_self, true_and, and_true, true_or, or_true, bI_0, bI_1, mm, rAm, mF_sF, mR_sR, false_and, and_false, if_false, if_true, false_or, or_false, not_true_eq_false, not_false_eq_true, and_self]
      refine ⟨(fun h => by first | exact False.elim h | exact absurd trivial h | (exfalso; omega) | exact absurd rfl h | cases h), fun _ => ?_⟩
      simp (disch := first | (simp only [dd, dr]; done) | omega) only [W_208, msK, msR, msF, ms1, msS1, k0, k1, k6, g1, I_lt, I_le, I_inj, inB_I, tc_I, Int.toNat_natCast, fkt, rf1, rf0, cq, Nat.reduceAdd, Nat.reduceEqDiff, Int.reduceToNat, eq_self, true_and, and_true, true_or, or_true, bI_0, bI_1, mm, rAm, mF_sF, mR_sR, false_and, and_false, if_false, if_true, false_or, or_false, not_true_eq_false, not_false_eq_true, and_self]
      refine ⟨fun h => ?_, fun h => ?_⟩
      · rw [List.filter_cons_of_neg (by simp; omega)] at hk
        exact next k hk1 hk
      · simp (disch := first | (simp only [dd, dr]; done) | omega) only [W_208, msK, msR, msF, ms1, msS1, k0, k1, k6, g2, I_lt, I_le, I_inj, inB_I, tc_I, Int.toNat_natCast, fkt, rf1, rf0, cq, Nat.reduceAdd, Nat.reduceEqDiff, Int.reduceToNat, eq_self, true_and, and_true, true_or, or_true, bI_0, bI_1, mm, rAm, mF_sF, mR_sR, false_and, and_false, if_false, if_true, false_or, or_false, not_true_eq_false, not_false_eq_true, and_self]
        refine ⟨fun h' => ?_, fun h' => ?_⟩
        · rw [List.filter_cons_of_neg (by simp; omega)] at hk
          exact next k hk1 hk
        · rw [List.filter_cons_of_pos (by simp; omega)] at hk
          simp (disch := first | (simp only [dd, dr]; done) | omega) only [W_208, I_lt, I_le, I_inj, inB_I, tc_I, Int.toNat_natCast, fkt, rf1, rf0, cq, Nat.reduceAdd, Nat.reduceEqDiff, Int.reduceToNat, eq_self, true_and, and_true, true_or, or_true, bI_0, bI_1, mm, rAm, mF_sF, mR_sR, false_and, and_false, if_false, if_true, false_or, or_false, not_true_eq_false, not_false_eq_true, and_self]
          refine ⟨fun h'' => ?_, fun h'' => ?_⟩
          · obtain ⟨k', rfl⟩ : ∃ k', k = k' + 1 := ⟨k - 1, by omega⟩
            simp (disch := first | (simp only [dd, dr]; done) | omega) only [W_208, I_lt, I_le, I_inj, inB_I, tc_I, Int.toNat_natCast, fkt, rf1, rf0, cq, Nat.reduceAdd, Nat.reduceEqDiff, Int.reduceToNat, eq_self, true_and, and_true, true_or, or_true, bI_0, bI_1, mm, rAm, mF_sF, mR_sR, false_and, and_false, if_false, if_true, false_or, or_false, not_true_eq_false, not_false_eq_true, and_self]
            rw [show ((k' + 1 : Nat) : Int) + -1 = (k' : Nat) by omega, show ((q : Int) + 1) = ((q + 1 : Nat) : Int) by omega]
            exact ih2 (q + 1) k' (by omega) (by omega) hk
          · obtain rfl : k = 0 := by omega
            obtain rfl := Option.some.inj hk
            simp (disch := first | (simp only [dd, dr]; done) | omega) only [W_208, msK, msR, msF, ms1, msS1, k0, k1, k6, g3, I_lt, I_le, I_inj, inB_I, tc_I, Int.toNat_natCast, fkt, rf1, rf0, cq, Nat.reduceAdd, Nat.reduceEqDiff, Int.reduceToNat, eq_self, true_and, and_true, true_or, or_true, bI_0, bI_1, mm, rAm, mF_sF, mR_sR, false_and, and_false, if_false, if_true, false_or, or_false, not_true_eq_false, not_false_eq_true, and_self]
            exact fin
set_option maxHeartbeats 1000000 in
theorem m_node (hK : MK M o) (hd : 12 ≤ d) (S : MS s T X dt) (W : Wf m (szO X) T) {off : Bool} (f52 : f 52 = bI off) {z n v : Int} (z0 : -2147483648 ≤ z) (z1 : z < 2147483648) (n0 : -2147483648 ≤ n) (n1 : n < 2147483648) (v0 : -2147483648 ≤ v) (v1 : v < 2147483648)
    (hX : noC off T z n v ≠ 0 → ∀ f', Fe f f' → f' 54 = noC off T z n v → Q (.returned (some (.int (I 0)))) (ms M o f' s b c w j))
    (hR : noC off T z n v = 0 → ∀ f', Fe f f' → f' 54 = 0 → Q (.returned (some (.int (I (noV T X z.toNat n.toNat v.toNat))))) (ms M o f' s b c w j)) :
    Wp d 210 0 [some (.ref o), some (.int (I z)), some (.int (I n)), some (.int (I v)), none] [] (ms M o f s b c w j) Q := by
  have hK' := hK
  obtain ⟨k0, k1, k2, k3, k4, k5, k6, k7, k8, k9, k10⟩ := hK
  have ref : ∀ (k : Nat), 1 ≤ k → k ≤ 4 → noC off T z n v = k → Q (.returned (some (.int (I 0)))) (ms M o (fu f 54 (k : Int)) s b c w j) := by
    intro k h1 h2 hk
    have hf : fu f 54 (k : Int) 54 = k := fu_s _ _ _
    exact hX (by omega) _ (fun g _ h _ => fu_n _ _ h) (by rw [hk]; exact hf)
  unfold noC at hX hR ref
  have tN7 := W.1.tN7 W.2.1
  have tN1 := W.1.2.2.2.2.2.2.2.1.2.2.1
  have eNs : s 13077 = (tN T : Nat) := S.1.2.2.2.2.2.2.2.2
  have eN : ∀ f' : Nat → Int, mA (ms M o f' s b c w j) (o + 1) 13077 = I (tN T : Nat) := fun f' => ms_lit 13077 eNs
  simp (disch := first | (simp only [dd, dr]; done) | omega) only [W_210, msK, msR, msF, ms1, msS1, k0, k1, k6, f52, I_lt, I_le, I_inj, inB_I, tc_I, Int.toNat_natCast, fkt, rf1, rf0, cq, Nat.reduceAdd, Nat.reduceEqDiff, Int.reduceToNat, eq_self, true_and, and_true, true_or, or_true, bI_0, bI_1, mm, rAm, mF_sF, mR_sR, false_and, and_false, if_false, if_true, false_or, or_false, not_true_eq_false, not_false_eq_true, and_self]
  refine ⟨fun h1 => ?_, fun h1 => ?_⟩
  rotate_left
  · have h1 : off = true := by simpa using h1
    have hf : fu f 54 (1 : Int) 54 = 1 := fu_s _ _ _
    simp (disch := first | (simp only [dd, dr]; done) | omega) only [W_210, msK, msR, msF, ms1, msS1, k0, k1, k6, msSF, hf, I_lt, I_le, I_inj, inB_I, tc_I, Int.toNat_natCast, fkt, rf1, rf0, cq, Nat.reduceAdd, Nat.reduceEqDiff, Int.reduceToNat, eq_self, true_and, and_true, true_or, or_true, bI_0, bI_1, mm, rAm, mF_sF, mR_sR, false_and, and_false, if_false, if_true, false_or, or_false, not_true_eq_false, not_false_eq_true, and_self]
    refine ⟨(fun h => by first | exact False.elim h | exact absurd trivial h | (exfalso; omega) | exact absurd rfl h | cases h), fun _ => ?_⟩
    simp (disch := first | (simp only [dd, dr]; done) | omega) only [W_210, I_lt, I_le, I_inj, inB_I, tc_I, Int.toNat_natCast, fkt, rf1, rf0, cq, Nat.reduceAdd, Nat.reduceEqDiff, Int.reduceToNat, eq_self, true_and, and_true, true_or, or_true, bI_0, bI_1, mm, rAm, mF_sF, mR_sR, false_and, and_false, if_false, if_true, false_or, or_false, not_true_eq_false, not_false_eq_true, and_self]
    exact ref 1 (by omega) (by omega) (by rw [if_pos h1])
  have h1' : ¬ off = true := by rw [h1]; simp
  simp (disch := first | (simp only [dd, dr]; done) | omega) only [W_210, msK, msR, msF, ms1, msS1, k0, k1, k6, eN, I_lt, I_le, I_inj, inB_I, tc_I, Int.toNat_natCast, fkt, rf1, rf0, cq, Nat.reduceAdd, Nat.reduceEqDiff, Int.reduceToNat, eq_self, true_and, and_true, true_or, or_true, bI_0, bI_1, mm, rAm, mF_sF, mR_sR, false_and, and_false, if_false, if_true, false_or, or_false, not_true_eq_false, not_false_eq_true, and_self]
  refine ca_159 (by omega) (m_isIn (by omega) (by omega) (by omega) (by omega) (by omega) (by omega) ?_)
  simp (disch := first | (simp only [dd, dr]; done) | omega) only [W_210, I_lt, I_le, I_inj, inB_I, tc_I, Int.toNat_natCast, fkt, rf1, rf0, cq, Nat.reduceAdd, Nat.reduceEqDiff, Int.reduceToNat, eq_self, true_and, and_true, true_or, or_true, bI_0, bI_1, mm, rAm, mF_sF, mR_sR, false_and, and_false, if_false, if_true, false_or, or_false, not_true_eq_false, not_false_eq_true, and_self]
  refine ⟨fun h2 => ?_, fun h2 => ?_⟩
  · have h2 := of_decide_eq_false h2
    have hf : fu f 54 (2 : Int) 54 = 2 := fu_s _ _ _
    simp (disch := first | (simp only [dd, dr]; done) | omega) only [W_210, msK, msR, msF, ms1, msS1, k0, k1, k6, msSF, hf, I_lt, I_le, I_inj, inB_I, tc_I, Int.toNat_natCast, fkt, rf1, rf0, cq, Nat.reduceAdd, Nat.reduceEqDiff, Int.reduceToNat, eq_self, true_and, and_true, true_or, or_true, bI_0, bI_1, mm, rAm, mF_sF, mR_sR, false_and, and_false, if_false, if_true, false_or, or_false, not_true_eq_false, not_false_eq_true, and_self]
    refine ⟨(fun h => by first | exact False.elim h | exact absurd trivial h | (exfalso; omega) | exact absurd rfl h | cases h), fun _ => ?_⟩
    simp (disch := first | (simp only [dd, dr]; done) | omega) only [W_210, I_lt, I_le, I_inj, inB_I, tc_I, Int.toNat_natCast, fkt, rf1, rf0, cq, Nat.reduceAdd, Nat.reduceEqDiff, Int.reduceToNat, eq_self, true_and, and_true, true_or, or_true, bI_0, bI_1, mm, rAm, mF_sF, mR_sR, false_and, and_false, if_false, if_true, false_or, or_false, not_true_eq_false, not_false_eq_true, and_self]
    exact ref 2 (by omega) (by omega) (by rw [if_neg h1', if_neg (fun h => h2 (by omega))])
  have h2 : 0 ≤ z ∧ z ≤ (tN T : Int) - 1 := by simpa using h2
  obtain ⟨h, rfl⟩ : ∃ h : Nat, z = h := ⟨z.toNat, by omega⟩
  simp only [Int.toNat_natCast] at *
  obtain ⟨r1, r2, r3, r4⟩ := S.1.2.2.2.2.2.2.1 h (by omega)
  simp (disch := first | (simp only [dd, dr]; done) | omega) only [W_210, msK, msR, msF, ms1, msS1, k0, k1, k6, r1, I_lt, I_le, I_inj, inB_I, tc_I, Int.toNat_natCast, fkt, rf1, rf0, cq, Nat.reduceAdd, Nat.reduceEqDiff, Int.reduceToNat, eq_self, true_and, and_true, true_or, or_true, bI_0, bI_1, mm, rAm, mF_sF, mR_sR, false_and, and_false, if_false, if_true, false_or, or_false, not_true_eq_false, not_false_eq_true, and_self]
  refine ca_159 (by omega) (m_isIn (by omega) (by omega) (by omega) (by omega) (by omega) (by omega) ?_)
  simp (disch := first | (simp only [dd, dr]; done) | omega) only [W_210, I_lt, I_le, I_inj, inB_I, tc_I, Int.toNat_natCast, fkt, rf1, rf0, cq, Nat.reduceAdd, Nat.reduceEqDiff, Int.reduceToNat, eq_self, true_and, and_true, true_or, or_true, bI_0, bI_1, mm, rAm, mF_sF, mR_sR, false_and, and_false, if_false, if_true, false_or, or_false, not_true_eq_false, not_false_eq_true, and_self]
  refine ⟨fun h3 => ?_, fun h3 => ?_⟩
  rotate_left
  · have h3 : ¬ (0 ≤ n ∧ n ≤ ((tW T h).length : Int) - 1) := by simpa using h3
    have hf : fu f 54 (2 : Int) 54 = 2 := fu_s _ _ _
    simp (disch := first | (simp only [dd, dr]; done) | omega) only [W_210, msK, msR, msF, ms1, msS1, k0, k1, k6, msSF, hf, I_lt, I_le, I_inj, inB_I, tc_I, Int.toNat_natCast, fkt, rf1, rf0, cq, Nat.reduceAdd, Nat.reduceEqDiff, Int.reduceToNat, eq_self, true_and, and_true, true_or, or_true, bI_0, bI_1, mm, rAm, mF_sF, mR_sR, false_and, and_false, if_false, if_true, false_or, or_false, not_true_eq_false, not_false_eq_true, and_self]
    refine ⟨(fun h => by first | exact False.elim h | exact absurd trivial h | (exfalso; omega) | exact absurd rfl h | cases h), fun _ => ?_⟩
    simp (disch := first | (simp only [dd, dr]; done) | omega) only [W_210, I_lt, I_le, I_inj, inB_I, tc_I, Int.toNat_natCast, fkt, rf1, rf0, cq, Nat.reduceAdd, Nat.reduceEqDiff, Int.reduceToNat, eq_self, true_and, and_true, true_or, or_true, bI_0, bI_1, mm, rAm, mF_sF, mR_sR, false_and, and_false, if_false, if_true, false_or, or_false, not_true_eq_false, not_false_eq_true, and_self]
    exact ref 2 (by omega) (by omega) (by rw [if_neg h1', if_neg (fun h => h3 (by omega))])
  have h3 : 0 ≤ n ∧ n ≤ ((tW T h).length : Int) - 1 := by simpa using h3
  rw [if_neg h1', if_pos ⟨by omega, by omega, by omega⟩] at hR ref
  obtain ⟨nn, rfl⟩ : ∃ nn : Nat, n = nn := ⟨n.toNat, by omega⟩
  simp only [Int.toNat_natCast] at *
  simp (disch := first | (simp only [dd, dr]; done) | omega) only [W_210, I_lt, I_le, I_inj, inB_I, tc_I, Int.toNat_natCast, fkt, rf1, rf0, cq, Nat.reduceAdd, Nat.reduceEqDiff, Int.reduceToNat, eq_self, true_and, and_true, true_or, or_true, bI_0, bI_1, mm, rAm, mF_sF, mR_sR, false_and, and_false, if_false, if_true, false_or, or_false, not_true_eq_false, not_false_eq_true, and_self]
  refine ca_159 (by omega) (m_isIn (by omega) (by omega) (by omega) (by omega) (by omega) (by omega) ?_)
  simp (disch := first | (simp only [dd, dr]; done) | omega) only [W_210, I_lt, I_le, I_inj, inB_I, tc_I, Int.toNat_natCast, fkt, rf1, rf0, cq, Nat.reduceAdd, Nat.reduceEqDiff, Int.reduceToNat, eq_self, true_and, and_true, true_or, or_true, bI_0, bI_1, mm, rAm, mF_sF, mR_sR, false_and, and_false, if_false, if_true, false_or, or_false, not_true_eq_false, not_false_eq_true, and_self]
  refine ⟨fun h4 => ?_, fun h4 => ?_⟩
  rotate_left
  · have h4 : ¬ (0 ≤ v ∧ v ≤ 3) := by simpa using h4
    have hf : fu f 54 (3 : Int) 54 = 3 := fu_s _ _ _
    simp (disch := first | (simp only [dd, dr]; done) | omega) only [W_210, msK, msR, msF, ms1, msS1, k0, k1, k6, msSF, hf, I_lt, I_le, I_inj, inB_I, tc_I, Int.toNat_natCast, fkt, rf1, rf0, cq, Nat.reduceAdd, Nat.reduceEqDiff, Int.reduceToNat, eq_self, true_and, and_true, true_or, or_true, bI_0, bI_1, mm, rAm, mF_sF, mR_sR, false_and, and_false, if_false, if_true, false_or, or_false, not_true_eq_false, not_false_eq_true, and_self]
    refine ⟨(fun h => by first | exact False.elim h | exact absurd trivial h | (exfalso; omega) | exact absurd rfl h | cases h), fun _ => ?_⟩
    simp (disch := first | (simp only [dd, dr]; done) | omega) only [W_210, I_lt, I_le, I_inj, inB_I, tc_I, Int.toNat_natCast, fkt, rf1, rf0, cq, Nat.reduceAdd, Nat.reduceEqDiff, Int.reduceToNat, eq_self, true_and, and_true, true_or, or_true, bI_0, bI_1, mm, rAm, mF_sF, mR_sR, false_and, and_false, if_false, if_true, false_or, or_false, not_true_eq_false, not_false_eq_true, and_self]
    exact ref 3 (by omega) (by omega) (by rw [if_neg h4])
  have h4 : 0 ≤ v ∧ v ≤ 3 := by simpa using h4
  rw [if_pos h4] at hR
  obtain ⟨vv, rfl⟩ : ∃ vv : Nat, v = vv := ⟨v.toNat, by omega⟩
  simp only [Int.toNat_natCast] at *
  have hx : (tW T h)[nn]? = some (tW T h)[nn] := List.getElem?_eq_getElem (by omega)
  generalize (tW T h)[nn] = x at hx
  have hg : (tW T h).getD nn 0 = x := by rw [List.getD_eq_getElem?_getD, hx]; rfl
  have hm := List.mem_of_getElem? hx
  have hx96 := r4 x hm
  have hH := (W.1.1 h x hm).2.1
  have ex : s (12300 + 96 * (h : Int) + (nn : Int)) = x := r2 nn x hx
  have hf : fu f 54 (0 : Int) 54 = 0 := fu_s _ _ _
  have fin := hR trivial (fu f 54 0) (fun g _ h _ => fu_n _ _ h) hf
  unfold noV at fin
  rw [hg] at fin
  simp (disch := first | (simp only [dd, dr]; done) | omega) only [W_210, msK, msR, msF, ms1, msS1, k0, k1, k6, msSF, hf, I_lt, I_le, I_inj, inB_I, tc_I, Int.toNat_natCast, fkt, rf1, rf0, cq, Nat.reduceAdd, Nat.reduceEqDiff, Int.reduceToNat, eq_self, true_and, and_true, true_or, or_true, bI_0, bI_1, mm, rAm, mF_sF, mR_sR, false_and, and_false, if_false, if_true, false_or, or_false, not_true_eq_false, not_false_eq_true, and_self]
  refine ⟨fun _ => ?_, (fun h => by first | exact False.elim h | exact absurd trivial h | (exfalso; omega) | exact absurd rfl h | cases h)⟩
  simp (disch := first | (simp only [dd, dr]; done) | omega) only [W_210, msK, msR, msF, ms1, msS1, k0, k1, k6, ex, I_lt, I_le, I_inj, inB_I, tc_I, Int.toNat_natCast, fkt, rf1, rf0, cq, Nat.reduceAdd, Nat.reduceEqDiff, Int.reduceToNat, eq_self, true_and, and_true, true_or, or_true, bI_0, bI_1, mm, rAm, mF_sF, mR_sR, false_and, and_false, if_false, if_true, false_or, or_false, not_true_eq_false, not_false_eq_true, and_self]
  by_cases c0 : vv = 0
  · rw [if_pos c0] at fin
    refine ⟨(fun h => by first | exact False.elim h | exact absurd trivial h | (exfalso; omega) | exact absurd rfl h | cases h), fun _ => ?_⟩
    simp (disch := first | (simp only [dd, dr]; done) | omega) only [W_210, I_lt, I_le, I_inj, inB_I, tc_I, Int.toNat_natCast, fkt, rf1, rf0, cq, Nat.reduceAdd, Nat.reduceEqDiff, Int.reduceToNat, eq_self, true_and, and_true, true_or, or_true, bI_0, bI_1, mm, rAm, mF_sF, mR_sR, false_and, and_false, if_false, if_true, false_or, or_false, not_true_eq_false, not_false_eq_true, and_self]
    exact fin
  rw [if_neg c0] at fin
  refine ⟨fun _ => ?_, (fun h => by first | exact False.elim h | exact absurd trivial h | (exfalso; omega) | exact absurd rfl h | cases h)⟩
  simp (disch := first | (simp only [dd, dr]; done) | omega) only [W_210, I_lt, I_le, I_inj, inB_I, tc_I, Int.toNat_natCast, fkt, rf1, rf0, cq, Nat.reduceAdd, Nat.reduceEqDiff, Int.reduceToNat, eq_self, true_and, and_true, true_or, or_true, bI_0, bI_1, mm, rAm, mF_sF, mR_sR, false_and, and_false, if_false, if_true, false_or, or_false, not_true_eq_false, not_false_eq_true, and_self]
  by_cases c1 : vv = 1
  · rw [if_pos c1] at fin
    have ec := S.1.2.2.1 x hx96
    refine ⟨(fun h => by first | exact False.elim h | exact absurd trivial h | (exfalso; omega) | exact absurd rfl h | cases h), fun _ => ?_⟩
    have e : ((tI T x).length + (tC T x).length : Nat) = (if h = 0 then (tI T x).length else (tC T x).length) := by
      by_cases hh : h = 0
      · subst hh
        rw [if_pos rfl, W.1.2.2.2.2.1 x hm]; rfl
      · obtain ⟨h', rfl⟩ : ∃ h', h = h' + 1 := ⟨h - 1, by omega⟩
        rw [if_neg (by omega), W.1.2.2.2.2.2.1 h' x hm]; simp
    rw [e] at ec
    simp (disch := first | (simp only [dd, dr]; done) | omega) only [W_210, msK, msR, msF, ms1, msS1, k0, k1, k6, ec, I_lt, I_le, I_inj, inB_I, tc_I, Int.toNat_natCast, fkt, rf1, rf0, cq, Nat.reduceAdd, Nat.reduceEqDiff, Int.reduceToNat, eq_self, true_and, and_true, true_or, or_true, bI_0, bI_1, mm, rAm, mF_sF, mR_sR, false_and, and_false, if_false, if_true, false_or, or_false, not_true_eq_false, not_false_eq_true, and_self]
    exact fin
  rw [if_neg c1] at fin
  refine ⟨fun _ => ?_, (fun h => by first | exact False.elim h | exact absurd trivial h | (exfalso; omega) | exact absurd rfl h | cases h)⟩
  simp (disch := first | (simp only [dd, dr]; done) | omega) only [W_210, I_lt, I_le, I_inj, inB_I, tc_I, Int.toNat_natCast, fkt, rf1, rf0, cq, Nat.reduceAdd, Nat.reduceEqDiff, Int.reduceToNat, eq_self, true_and, and_true, true_or, or_true, bI_0, bI_1, mm, rAm, mF_sF, mR_sR, false_and, and_false, if_false, if_true, false_or, or_false, not_true_eq_false, not_false_eq_true, and_self]
  by_cases c2 : vv = 2
  · rw [if_pos c2] at fin
    refine ⟨(fun h => by first | exact False.elim h | exact absurd trivial h | (exfalso; omega) | exact absurd rfl h | cases h), fun _ => ?_⟩
    simp (disch := first | (simp only [dd, dr]; done) | omega) only [W_210, I_lt, I_le, I_inj, inB_I, tc_I, Int.toNat_natCast, fkt, rf1, rf0, cq, Nat.reduceAdd, Nat.reduceEqDiff, Int.reduceToNat, eq_self, true_and, and_true, true_or, or_true, bI_0, bI_1, mm, rAm, mF_sF, mR_sR, false_and, and_false, if_false, if_true, false_or, or_false, not_true_eq_false, not_false_eq_true, and_self]
    by_cases hh : h = 0
    · subst hh
      rw [if_pos rfl, us_uz] at fin
      refine ⟨(fun h => by first | exact False.elim h | exact absurd trivial h | (exfalso; omega) | exact absurd rfl h | cases h), fun _ => ?_⟩
      simp (disch := first | (simp only [dd, dr]; done) | omega) only [W_210, msK, msR, msF, ms1, msS1, k0, k1, k6, I_lt, I_le, I_inj, inB_I, tc_I, Int.toNat_natCast, fkt, rf1, rf0, cq, Nat.reduceAdd, Nat.reduceEqDiff, Int.reduceToNat, eq_self, true_and, and_true, true_or, or_true, bI_0, bI_1, mm, rAm, mF_sF, mR_sR, false_and, and_false, if_false, if_true, false_or, or_false, not_true_eq_false, not_false_eq_true, and_self]
      refine ca_173 (by omega) (t_used hK' S.1 hx96 (W.1.2.2.2.2.1 x hm) ?_)
      simp (disch := first | (simp only [dd, dr]; done) | omega) only [W_210, I_lt, I_le, I_inj, inB_I, tc_I, Int.toNat_natCast, fkt, rf1, rf0, cq, Nat.reduceAdd, Nat.reduceEqDiff, Int.reduceToNat, eq_self, true_and, and_true, true_or, or_true, bI_0, bI_1, mm, rAm, mF_sF, mR_sR, false_and, and_false, if_false, if_true, false_or, or_false, not_true_eq_false, not_false_eq_true, and_self]
      exact fin
    · rw [if_neg hh] at fin
      refine ⟨fun _ => ?_, (fun h => by first | exact False.elim h | exact absurd trivial h | (exfalso; omega) | exact absurd rfl h | cases h)⟩
      simp (disch := first | (simp only [dd, dr]; done) | omega) only [W_210, I_lt, I_le, I_inj, inB_I, tc_I, Int.toNat_natCast, fkt, rf1, rf0, cq, Nat.reduceAdd, Nat.reduceEqDiff, Int.reduceToNat, eq_self, true_and, and_true, true_or, or_true, bI_0, bI_1, mm, rAm, mF_sF, mR_sR, false_and, and_false, if_false, if_true, false_or, or_false, not_true_eq_false, not_false_eq_true, and_self]
      exact fin
  rw [if_neg c2] at fin
  refine ⟨fun _ => ?_, (fun h => by first | exact False.elim h | exact absurd trivial h | (exfalso; omega) | exact absurd rfl h | cases h)⟩
  have ep := S.1.2.2.2.1 x hx96 (by omega)
  cases hp : tP T x with
  | none =>
    rw [hp] at ep fin
    have ep : s (3948 + (x : Int)) = -1 := ep
    simp (disch := first | (simp only [dd, dr]; done) | omega) only [W_210, msK, msR, msF, ms1, msS1, k0, k1, k6, ep, I_lt, I_le, I_inj, inB_I, tc_I, Int.toNat_natCast, fkt, rf1, rf0, cq, Nat.reduceAdd, Nat.reduceEqDiff, Int.reduceToNat, eq_self, true_and, and_true, true_or, or_true, bI_0, bI_1, mm, rAm, mF_sF, mR_sR, false_and, and_false, if_false, if_true, false_or, or_false, not_true_eq_false, not_false_eq_true, and_self]
    exact fin
  | some y =>
    rw [hp] at ep fin
    have ep : s (3948 + (x : Int)) = (y : Nat) := ep
    simp (disch := first | (simp only [dd, dr]; done) | omega) only [W_210, msK, msR, msF, ms1, msS1, k0, k1, k6, ep, I_lt, I_le, I_inj, inB_I, tc_I, Int.toNat_natCast, fkt, rf1, rf0, cq, Nat.reduceAdd, Nat.reduceEqDiff, Int.reduceToNat, eq_self, true_and, and_true, true_or, or_true, bI_0, bI_1, mm, rAm, mF_sF, mR_sR, false_and, and_false, if_false, if_true, false_or, or_false, not_true_eq_false, not_false_eq_true, and_self]
    exact fin
theorem m_items (hK : MK M o) (S : MS s T X dt) (W : Wf m (szO X) T) (hQ : Q (.returned (some (.int (I ((its T).length : Nat))))) (ms M o f s b c w j)) : Wp d 212 0 [some (.ref o), none, none] [] (ms M o f s b c w j) Q := by
  have hK' := hK
  obtain ⟨k0, k1, k2, k3, k4, k5, k6, k7, k8, k9, k10⟩ := hK
  have e13s : s 13068 = ((tW T 0).length : Nat) := (S.1.2.2.2.2.2.2.1 0 (by omega)).1
  have e13 : ∀ f' : Nat → Int, mA (ms M o f' s b c w j) (o + 1) 13068 = I ((tW T 0).length : Nat) := fun f' => ms_lit 13068 e13s
  have hrow := (S.1.2.2.2.2.2.2.1 0 (by omega)).2.2.1
  simp (disch := first | (simp only [dd, dr]; done) | omega) only [W_212, I_lt, I_le, I_inj, inB_I, tc_I, Int.toNat_natCast, fkt, rf1, rf0, cq, Nat.reduceAdd, Nat.reduceEqDiff, Int.reduceToNat, eq_self, true_and, and_true, true_or, or_true, bI_0, bI_1, mm, rAm, mF_sF, mR_sR, false_and, and_false, if_false, if_true, false_or, or_false, not_true_eq_false, not_false_eq_true, and_self]
  suffices H : ∀ N (i k : Nat), i + N = (tW T 0).length → k + (((tW T 0).drop i).flatMap (tI T)).length = (its T).length → Wp d 212 4 [some (.ref o), some (.int (I (k : Nat))), some (.int (I (i : Nat)))] [] (ms M o f s b c w j) Q from H (tW T 0).length 0 0 (by omega) (by rw [List.drop_zero]; unfold its; omega)
  intro N
  induction N with
  | zero =>
    intro i k hi hk
    rw [List.drop_eq_nil_of_le (by omega)] at hk
    have hk : k = (its T).length := by simpa using hk
    simp (disch := first | (simp only [dd, dr]; done) | omega) only [w_212_4, W_212, msK, msR, msF, ms1, msS1, k0, k1, k6, e13, I_lt, I_le, I_inj, inB_I, tc_I, Int.toNat_natCast, fkt, rf1, rf0, cq, Nat.reduceAdd, Nat.reduceEqDiff, Int.reduceToNat, eq_self, true_and, and_true, true_or, or_true, bI_0, bI_1, mm, rAm, mF_sF, mR_sR, false_and, and_false, if_false, if_true, false_or, or_false, not_true_eq_false, not_false_eq_true, and_self]
    refine ⟨fun _ => ?_, (fun h => by first | exact False.elim h | exact absurd trivial h | (exfalso; omega) | exact absurd rfl h | cases h)⟩
    simp (disch := first | (simp only [dd, dr]; done) | omega) only [W_212, I_lt, I_le, I_inj, inB_I, tc_I, Int.toNat_natCast, fkt, rf1, rf0, cq, Nat.reduceAdd, Nat.reduceEqDiff, Int.reduceToNat, eq_self, true_and, and_true, true_or, or_true, bI_0, bI_1, mm, rAm, mF_sF, mR_sR, false_and, and_false, if_false, if_true, false_or, or_false, not_true_eq_false, not_false_eq_true, and_self]
    rw [hk]; exact hQ
  | succ N ih =>
    intro i k hi hk
    have hxx : (tW T 0)[i]? = some (tW T 0)[i] := List.getElem?_eq_getElem (by omega)
    generalize (tW T 0)[i] = x at hxx
    obtain ⟨e1, e2, e3, e4, e5⟩ := S.1.leaf W hxx
    rw [drop_get hxx, List.flatMap_cons, List.length_append] at hk
    simp (disch := first | (simp only [dd, dr]; done) | omega) only [w_212_4, W_212, msK, msR, msF, ms1, msS1, k0, k1, k6, e13, I_lt, I_le, I_inj, inB_I, tc_I, Int.toNat_natCast, fkt, rf1, rf0, cq, Nat.reduceAdd, Nat.reduceEqDiff, Int.reduceToNat, eq_self, true_and, and_true, true_or, or_true, bI_0, bI_1, mm, rAm, mF_sF, mR_sR, false_and, and_false, if_false, if_true, false_or, or_false, not_true_eq_false, not_false_eq_true, and_self]
    refine ⟨(fun h => by first | exact False.elim h | exact absurd trivial h | (exfalso; omega) | exact absurd rfl h | cases h), fun _ => ?_⟩
    simp (disch := first | (simp only [dd, dr]; done) | omega) only [W_212, msK, msR, msF, ms1, msS1, k0, k1, k6, e1, e3, I_lt, I_le, I_inj, inB_I, tc_I, Int.toNat_natCast, fkt, rf1, rf0, cq, Nat.reduceAdd, Nat.reduceEqDiff, Int.reduceToNat, eq_self, true_and, and_true, true_or, or_true, bI_0, bI_1, mm, rAm, mF_sF, mR_sR, false_and, and_false, if_false, if_true, false_or, or_false, not_true_eq_false, not_false_eq_true, and_self]
    rw [show ((i : Int) + 1) = ((i + 1 : Nat) : Int) by omega, show (k : Int) + ((tI T x).length : Int) = ((k + (tI T x).length : Nat) : Int) by omega]
    exact ih (i + 1) _ (by omega) (by omega)
set_option maxHeartbeats 1000000 in
theorem m_item (hK : MK M o) (hd : 12 ≤ d) (S : MS s T X dt) (W : Wf m (szO X) T) {off : Bool} (f52 : f 52 = bI off) {n v : Int} (n0 : -2147483648 ≤ n) (n1 : n < 2147483648) (v0 : -2147483648 ≤ v) (v1 : v < 2147483648) (hlen : (its T).length < 100000)
    (hX : itC off T n v ≠ 0 → ∀ f', Fe f f' → f' 54 = itC off T n v → Q (.returned (some (.int (I 0)))) (ms M o f' s b c w j))
    (hR : itC off T n v = 0 → ∀ f', Fe f f' → f' 54 = 0 → Q (.returned (some (.int (I (itV T X n.toNat v.toNat : Nat))))) (ms M o f' s b c w j)) :
    Wp d 211 0 [some (.ref o), some (.int (I n)), some (.int (I v)), none, none, none, none] [] (ms M o f s b c w j) Q := by
  have hK' := hK
  obtain ⟨k0, k1, k2, k3, k4, k5, k6, k7, k8, k9, k10⟩ := hK
  have ref : ∀ (k : Nat), 1 ≤ k → k ≤ 4 → itC off T n v = k → Q (.returned (some (.int (I 0)))) (ms M o (fu f 54 (k : Int)) s b c w j) := by
    intro k h1 h2 hk
    have hf : fu f 54 (k : Int) 54 = k := fu_s _ _ _
    exact hX (by omega) _ (fun g _ h _ => fu_n _ _ h) (by rw [hk]; exact hf)
  unfold itC at hX hR ref
  simp (disch := first | (simp only [dd, dr]; done) | omega) only [W_211, msK, msR, msF, ms1, msS1, k0, k1, k6, f52, I_lt, I_le, I_inj, inB_I, tc_I, Int.toNat_natCast, fkt, rf1, rf0, cq, Nat.reduceAdd, Nat.reduceEqDiff, Int.reduceToNat, eq_self, true_and, and_true, true_or, or_true, bI_0, bI_1, mm, rAm, mF_sF, mR_sR, false_and, and_false, if_false, if_true, false_or, or_false, not_true_eq_false, not_false_eq_true, and_self]
  refine ⟨fun h1 => ?_, fun h1 => ?_⟩
  rotate_left
  · have h1 : off = true := by simpa using h1
    have hf : fu f 54 (1 : Int) 54 = 1 := fu_s _ _ _
    simp (disch := first | (simp only [dd, dr]; done) | omega) only [W_211, msK, msR, msF, ms1, msS1, k0, k1, k6, msSF, hf, I_lt, I_le, I_inj, inB_I, tc_I, Int.toNat_natCast, fkt, rf1, rf0, cq, Nat.reduceAdd, Nat.reduceEqDiff, Int.reduceToNat, eq_self, true_and, and_true, true_or, or_true, bI_0, bI_1, mm, rAm, mF_sF, mR_sR, false_and, and_false, if_false, if_true, false_or, or_false, not_true_eq_false, not_false_eq_true, and_self]
    refine ⟨(fun h => by first | exact False.elim h | exact absurd trivial h | (exfalso; omega) | exact absurd rfl h | cases h), fun _ => ?_⟩
    simp (disch := first | (simp only [dd, dr]; done) | omega) only [W_211, I_lt, I_le, I_inj, inB_I, tc_I, Int.toNat_natCast, fkt, rf1, rf0, cq, Nat.reduceAdd, Nat.reduceEqDiff, Int.reduceToNat, eq_self, true_and, and_true, true_or, or_true, bI_0, bI_1, mm, rAm, mF_sF, mR_sR, false_and, and_false, if_false, if_true, false_or, or_false, not_true_eq_false, not_false_eq_true, and_self]
    exact ref 1 (by omega) (by omega) (by rw [if_pos h1])
  have h1' : ¬ off = true := by rw [h1]; simp
  simp (disch := first | (simp only [dd, dr]; done) | omega) only [W_211, msK, msR, msF, ms1, msS1, k0, k1, k6, I_lt, I_le, I_inj, inB_I, tc_I, Int.toNat_natCast, fkt, rf1, rf0, cq, Nat.reduceAdd, Nat.reduceEqDiff, Int.reduceToNat, eq_self, true_and, and_true, true_or, or_true, bI_0, bI_1, mm, rAm, mF_sF, mR_sR, false_and, and_false, if_false, if_true, false_or, or_false, not_true_eq_false, not_false_eq_true, and_self]
  refine ca_212 (by omega) (m_items hK' S W ?_)
  simp (disch := first | (simp only [dd, dr]; done) | omega) only [W_211, I_lt, I_le, I_inj, inB_I, tc_I, Int.toNat_natCast, fkt, rf1, rf0, cq, Nat.reduceAdd, Nat.reduceEqDiff, Int.reduceToNat, eq_self, true_and, and_true, true_or, or_true, bI_0, bI_1, mm, rAm, mF_sF, mR_sR, false_and, and_false, if_false, if_true, false_or, or_false, not_true_eq_false, not_false_eq_true, and_self]
  refine ca_159 (by omega) (m_isIn (by omega) (by omega) (by omega) (by omega) (by omega) (by omega) ?_)
  simp (disch := first | (simp only [dd, dr]; done) | omega) only [W_211, I_lt, I_le, I_inj, inB_I, tc_I, Int.toNat_natCast, fkt, rf1, rf0, cq, Nat.reduceAdd, Nat.reduceEqDiff, Int.reduceToNat, eq_self, true_and, and_true, true_or, or_true, bI_0, bI_1, mm, rAm, mF_sF, mR_sR, false_and, and_false, if_false, if_true, false_or, or_false, not_true_eq_false, not_false_eq_true, and_self]
  refine ⟨fun h3 => ?_, fun h3 => ?_⟩
  rotate_left
  · have h3 : ¬ (0 ≤ n ∧ n ≤ ((its T).length : Int) - 1) := by simpa using h3
    have hf : fu f 54 (2 : Int) 54 = 2 := fu_s _ _ _
    simp (disch := first | (simp only [dd, dr]; done) | omega) only [W_211, msK, msR, msF, ms1, msS1, k0, k1, k6, msSF, hf, I_lt, I_le, I_inj, inB_I, tc_I, Int.toNat_natCast, fkt, rf1, rf0, cq, Nat.reduceAdd, Nat.reduceEqDiff, Int.reduceToNat, eq_self, true_and, and_true, true_or, or_true, bI_0, bI_1, mm, rAm, mF_sF, mR_sR, false_and, and_false, if_false, if_true, false_or, or_false, not_true_eq_false, not_false_eq_true, and_self]
    refine ⟨(fun h => by first | exact False.elim h | exact absurd trivial h | (exfalso; omega) | exact absurd rfl h | cases h), fun _ => ?_⟩
    simp (disch := first | (simp only [dd, dr]; done) | omega) only [W_211, I_lt, I_le, I_inj, inB_I, tc_I, Int.toNat_natCast, fkt, rf1, rf0, cq, Nat.reduceAdd, Nat.reduceEqDiff, Int.reduceToNat, eq_self, true_and, and_true, true_or, or_true, bI_0, bI_1, mm, rAm, mF_sF, mR_sR, false_and, and_false, if_false, if_true, false_or, or_false, not_true_eq_false, not_false_eq_true, and_self]
    exact ref 2 (by omega) (by omega) (by rw [if_neg h1', if_neg (fun h => h3 (by omega))])
  have h3 : 0 ≤ n ∧ n ≤ ((its T).length : Int) - 1 := by simpa using h3
  rw [if_neg h1', if_pos ⟨by omega, by omega⟩] at hR ref
  obtain ⟨nn, rfl⟩ : ∃ nn : Nat, n = nn := ⟨n.toNat, by omega⟩
  simp only [Int.toNat_natCast] at *
  simp (disch := first | (simp only [dd, dr]; done) | omega) only [W_211, I_lt, I_le, I_inj, inB_I, tc_I, Int.toNat_natCast, fkt, rf1, rf0, cq, Nat.reduceAdd, Nat.reduceEqDiff, Int.reduceToNat, eq_self, true_and, and_true, true_or, or_true, bI_0, bI_1, mm, rAm, mF_sF, mR_sR, false_and, and_false, if_false, if_true, false_or, or_false, not_true_eq_false, not_false_eq_true, and_self]
  refine ca_159 (by omega) (m_isIn (by omega) (by omega) (by omega) (by omega) (by omega) (by omega) ?_)
  simp (disch := first | (simp only [dd, dr]; done) | omega) only [W_211, I_lt, I_le, I_inj, inB_I, tc_I, Int.toNat_natCast, fkt, rf1, rf0, cq, Nat.reduceAdd, Nat.reduceEqDiff, Int.reduceToNat, eq_self, true_and, and_true, true_or, or_true, bI_0, bI_1, mm, rAm, mF_sF, mR_sR, false_and, and_false, if_false, if_true, false_or, or_false, not_true_eq_false, not_false_eq_true, and_self]
  refine ⟨fun h4 => ?_, fun h4 => ?_⟩
  rotate_left
  · have h4 : ¬ (0 ≤ v ∧ v ≤ 4) := by simpa using h4
    have hf : fu f 54 (3 : Int) 54 = 3 := fu_s _ _ _
    simp (disch := first | (simp only [dd, dr]; done) | omega) only [W_211, msK, msR, msF, ms1, msS1, k0, k1, k6, msSF, hf, I_lt, I_le, I_inj, inB_I, tc_I, Int.toNat_natCast, fkt, rf1, rf0, cq, Nat.reduceAdd, Nat.reduceEqDiff, Int.reduceToNat, eq_self, true_and, and_true, true_or, or_true, bI_0, bI_1, mm, rAm, mF_sF, mR_sR, false_and, and_false, if_false, if_true, false_or, or_false, not_true_eq_false, not_false_eq_true, and_self]
    refine ⟨(fun h => by first | exact False.elim h | exact absurd trivial h | (exfalso; omega) | exact absurd rfl h | cases h), fun _ => ?_⟩
    simp (disch := first | (simp only [dd, dr]; done) | omega) only [W_211, I_lt, I_le, I_inj, inB_I, tc_I, Int.toNat_natCast, fkt, rf1, rf0, cq, Nat.reduceAdd, Nat.reduceEqDiff, Int.reduceToNat, eq_self, true_and, and_true, true_or, or_true, bI_0, bI_1, mm, rAm, mF_sF, mR_sR, false_and, and_false, if_false, if_true, false_or, or_false, not_true_eq_false, not_false_eq_true, and_self]
    exact ref 3 (by omega) (by omega) (by rw [if_neg h4])
  have h4 : 0 ≤ v ∧ v ≤ 4 := by simpa using h4
  rw [if_pos h4] at hR
  obtain ⟨vv, rfl⟩ : ∃ vv : Nat, v = vv := ⟨v.toNat, by omega⟩
  simp only [Int.toNat_natCast] at *
  have hf : fu f 54 (0 : Int) 54 = 0 := fu_s _ _ _
  have fin := hR trivial (fu f 54 0) (fun g _ h _ => fu_n _ _ h) hf
  simp (disch := first | (simp only [dd, dr]; done) | omega) only [W_211, msK, msR, msF, ms1, msS1, k0, k1, k6, msSF, hf, I_lt, I_le, I_inj, inB_I, tc_I, Int.toNat_natCast, fkt, rf1, rf0, cq, Nat.reduceAdd, Nat.reduceEqDiff, Int.reduceToNat, eq_self, true_and, and_true, true_or, or_true, bI_0, bI_1, mm, rAm, mF_sF, mR_sR, false_and, and_false, if_false, if_true, false_or, or_false, not_true_eq_false, not_false_eq_true, and_self]
  refine ⟨fun _ => ?_, (fun h => by first | exact False.elim h | exact absurd trivial h | (exfalso; omega) | exact absurd rfl h | cases h)⟩
  simp (disch := first | (simp only [dd, dr]; done) | omega) only [W_211, I_lt, I_le, I_inj, inB_I, tc_I, Int.toNat_natCast, fkt, rf1, rf0, cq, Nat.reduceAdd, Nat.reduceEqDiff, Int.reduceToNat, eq_self, true_and, and_true, true_or, or_true, bI_0, bI_1, mm, rAm, mF_sF, mR_sR, false_and, and_false, if_false, if_true, false_or, or_false, not_true_eq_false, not_false_eq_true, and_self]
  generalize fu f 54 0 = f1 at *
  have hrow := (S.1.2.2.2.2.2.2.1 0 (by omega)).2.2.1
  have hni : itp T (tW T 0) nn ≠ none := fun h => by have := itp_none.mp h; unfold its at h3; omega
  unfold itV at fin
  suffices H : ∀ N (i k : Nat), i + N = (tW T 0).length → k < 100000 → itp T (tW T 0) nn = itp T ((tW T 0).drop i) k → Wp d 211 61 [some (.ref o), some (.int (I (nn : Nat))), some (.int (I (vv : Nat))), some (.int (I (i : Nat))), some (.int (I (k : Nat))), none, none] [] (ms M o f1 s b c w j) Q from H (tW T 0).length 0 nn (by omega) (by omega) rfl
  intro N
  induction N with
  | zero =>
    intro i k hi _ hk
    rw [List.drop_eq_nil_of_le (by omega)] at hk
    exact absurd hk hni
  | succ N ih =>
    intro i k hi hk1 hk
    have hxx : (tW T 0)[i]? = some (tW T 0)[i] := List.getElem?_eq_getElem (by omega)
    generalize (tW T 0)[i] = x at hxx
    obtain ⟨e1, e2, e3, e4, e5⟩ := S.1.leaf W hxx
    rw [drop_get hxx, itp] at hk
    simp (disch := first | (simp only [dd, dr]; done) | omega) only [w_211_61, W_211, msK, msR, msF, ms1, msS1, k0, k1, k6, e1, e3, I_lt, I_le, I_inj, inB_I, tc_I, Int.toNat_natCast, fkt, rf1, rf0, cq, Nat.reduceAdd, Nat.reduceEqDiff, Int.reduceToNat, eq_self, true_and, and_true, true_or, or_true, bI_0, bI_1, mm, rAm, mF_sF, mR_sR, false_and, and_false, if_false, if_true, false_or, or_false, not_true_eq_false, not_false_eq_true, and_self]
    refine ⟨fun h5 => ?_, fun h5 => ?_⟩
    rotate_left
    · rw [if_neg (by omega)] at hk
      simp (disch := first | (simp only [dd, dr]; done) | omega) only [W_211, msK, msR, msF, ms1, msS1, k0, k1, k6, e1, e3, I_lt, I_le, I_inj, inB_I, tc_I, Int.toNat_natCast, fkt, rf1, rf0, cq, Nat.reduceAdd, Nat.reduceEqDiff, Int.reduceToNat, eq_self, true_and, and_true, true_or, or_true, bI_0, bI_1, mm, rAm, mF_sF, mR_sR, false_and, and_false, if_false, if_true, false_or, or_false, not_true_eq_false, not_false_eq_true, and_self]
      rw [show ((i : Int) + 1) = ((i + 1 : Nat) : Int) by omega, show (k : Int) - ((tI T x).length : Int) = ((k - (tI T x).length : Nat) : Int) by omega]
      exact ih (i + 1) _ (by omega) (by omega) hk
    rw [if_pos (by omega)] at hk
    rw [hk] at fin
    have hkx : (tI T x)[k]? = some (tI T x)[k] := List.getElem?_eq_getElem (by omega)
    have hg : (tI T x).getD k 0 = (tI T x)[k] := by rw [List.getD_eq_getElem?_getD, hkx]; rfl
    simp only [hg] at fin
    generalize (tI T x)[k] = key at *
    obtain ⟨g1, g2, g3, g4, g5, g6⟩ := e5 k key hkx
    rw [show (4620 + 16 * (x : Int) + (k : Int)) = 4620 + (16 * (x : Int) + (k : Int)) by omega] at g1
    rw [show (6156 + 16 * (x : Int) + (k : Int)) = 6156 + (16 * (x : Int) + (k : Int)) by omega] at g2
    rw [show (7692 + 16 * (x : Int) + (k : Int)) = 7692 + (16 * (x : Int) + (k : Int)) by omega] at g3
    rw [show (9228 + 16 * (x : Int) + (k : Int)) = 9228 + (16 * (x : Int) + (k : Int)) by omega] at g4
    simp (disch := first | (simp only [dd, dr]; done) | omega) only [W_211, msK, msR, msF, ms1, msS1, k0, k1, k6, e1, I_lt, I_le, I_inj, inB_I, tc_I, Int.toNat_natCast, fkt, rf1, rf0, cq, Nat.reduceAdd, Nat.reduceEqDiff, Int.reduceToNat, eq_self, true_and, and_true, true_or, or_true, bI_0, bI_1, mm, rAm, mF_sF, mR_sR, false_and, and_false, if_false, if_true, false_or, or_false, not_true_eq_false, not_false_eq_true, and_self]
    by_cases c0 : vv = 0
    · rw [if_pos c0] at fin
      refine ⟨(fun h => by first | exact False.elim h | exact absurd trivial h | (exfalso; omega) | exact absurd rfl h | cases h), fun _ => ?_⟩
      simp (disch := first | (simp only [dd, dr]; done) | omega) only [W_211, msK, msR, msF, ms1, msS1, k0, k1, k6, g1, I_lt, I_le, I_inj, inB_I, tc_I, Int.toNat_natCast, fkt, rf1, rf0, cq, Nat.reduceAdd, Nat.reduceEqDiff, Int.reduceToNat, eq_self, true_and, and_true, true_or, or_true, bI_0, bI_1, mm, rAm, mF_sF, mR_sR, false_and, and_false, if_false, if_true, false_or, or_false, not_true_eq_false, not_false_eq_true, and_self]
      rw [show key / 4096 = key / 1024 / 4 by omega]
      exact fin
    rw [if_neg c0] at fin
    refine ⟨fun _ => ?_, (fun h => by first | exact False.elim h | exact absurd trivial h | (exfalso; omega) | exact absurd rfl h | cases h)⟩
    simp (disch := first | (simp only [dd, dr]; done) | omega) only [W_211, I_lt, I_le, I_inj, inB_I, tc_I, Int.toNat_natCast, fkt, rf1, rf0, cq, Nat.reduceAdd, Nat.reduceEqDiff, Int.reduceToNat, eq_self, true_and, and_true, true_or, or_true, bI_0, bI_1, mm, rAm, mF_sF, mR_sR, false_and, and_false, if_false, if_true, false_or, or_false, not_true_eq_false, not_false_eq_true, and_self]
    by_cases c1 : vv = 1
    · rw [if_pos c1] at fin
      refine ⟨(fun h => by first | exact False.elim h | exact absurd trivial h | (exfalso; omega) | exact absurd rfl h | cases h), fun _ => ?_⟩
      simp (disch := first | (simp only [dd, dr]; done) | omega) only [W_211, msK, msR, msF, ms1, msS1, k0, k1, k6, g2, I_lt, I_le, I_inj, inB_I, tc_I, Int.toNat_natCast, fkt, rf1, rf0, cq, Nat.reduceAdd, Nat.reduceEqDiff, Int.reduceToNat, eq_self, true_and, and_true, true_or, or_true, bI_0, bI_1, mm, rAm, mF_sF, mR_sR, false_and, and_false, if_false, if_true, false_or, or_false, not_true_eq_false, not_false_eq_true, and_self]
      exact fin
    rw [if_neg c1] at fin
    refine ⟨fun _ => ?_, (fun h => by first | exact False.elim h | exact absurd trivial h | (exfalso; omega) | exact absurd rfl h | cases h)⟩
    simp (disch := first | (simp only [dd, dr]; done) | omega) only [W_211, I_lt, I_le, I_inj, inB_I, tc_I, Int.toNat_natCast, fkt, rf1, rf0, cq, Nat.reduceAdd, Nat.reduceEqDiff, Int.reduceToNat, eq_self, true_and, and_true, true_or, or_true, bI_0, bI_1, mm, rAm, mF_sF, mR_sR, false_and, and_false, if_false, if_true, false_or, or_false, not_true_eq_false, not_false_eq_true, and_self]
    by_cases c2 : vv = 2
    · rw [if_pos c2] at fin
      refine ⟨(fun h => by first | exact False.elim h | exact absurd trivial h | (exfalso; omega) | exact absurd rfl h | cases h), fun _ => ?_⟩
      simp (disch := first | (simp only [dd, dr]; done) | omega) only [W_211, msK, msR, msF, ms1, msS1, k0, k1, k6, g3, I_lt, I_le, I_inj, inB_I, tc_I, Int.toNat_natCast, fkt, rf1, rf0, cq, Nat.reduceAdd, Nat.reduceEqDiff, Int.reduceToNat, eq_self, true_and, and_true, true_or, or_true, bI_0, bI_1, mm, rAm, mF_sF, mR_sR, false_and, and_false, if_false, if_true, false_or, or_false, not_true_eq_false, not_false_eq_true, and_self]
      exact fin
    rw [if_neg c2] at fin
    refine ⟨fun _ => ?_, (fun h => by first | exact False.elim h | exact absurd trivial h | (exfalso; omega) | exact absurd rfl h | cases h)⟩
    simp (disch := first | (simp only [dd, dr]; done) | omega) only [W_211, I_lt, I_le, I_inj, inB_I, tc_I, Int.toNat_natCast, fkt, rf1, rf0, cq, Nat.reduceAdd, Nat.reduceEqDiff, Int.reduceToNat, eq_self, true_and, and_true, true_or, or_true, bI_0, bI_1, mm, rAm, mF_sF, mR_sR, false_and, and_false, if_false, if_true, false_or, or_false, not_true_eq_false, not_false_eq_true, and_self]
    by_cases c3 : vv = 3
    · rw [if_pos c3] at fin
      refine ⟨(fun h => by first | exact False.elim h | exact absurd trivial h | (exfalso; omega) | exact absurd rfl h | cases h), fun _ => ?_⟩
      simp (disch := first | (simp only [dd, dr]; done) | omega) only [W_211, msK, msR, msF, ms1, msS1, k0, k1, k6, g4, I_lt, I_le, I_inj, inB_I, tc_I, Int.toNat_natCast, fkt, rf1, rf0, cq, Nat.reduceAdd, Nat.reduceEqDiff, Int.reduceToNat, eq_self, true_and, and_true, true_or, or_true, bI_0, bI_1, mm, rAm, mF_sF, mR_sR, false_and, and_false, if_false, if_true, false_or, or_false, not_true_eq_false, not_false_eq_true, and_self]
      exact fin
    rw [if_neg c3] at fin
    refine ⟨fun _ => ?_, (fun h => by first | exact False.elim h | exact absurd trivial h | (exfalso; omega) | exact absurd rfl h | cases h)⟩
    simp (disch := first | (simp only [dd, dr]; done) | omega) only [W_211, I_lt, I_le, I_inj, inB_I, tc_I, Int.toNat_natCast, fkt, rf1, rf0, cq, Nat.reduceAdd, Nat.reduceEqDiff, Int.reduceToNat, eq_self, true_and, and_true, true_or, or_true, bI_0, bI_1, mm, rAm, mF_sF, mR_sR, false_and, and_false, if_false, if_true, false_or, or_false, not_true_eq_false, not_false_eq_true, and_self]
    exact fin
end Mnm
