/-! ===== THE MODEL: bodies, leaves, inner nodes that are alike ===== -/
section Mal2
variable {d : Nat} {M : Mem} {Q : Outcome → Mem → Prop} {o : Nat} {f : Nat → Int} {s s' b c w : Int → Int} {j : Nat → Bool} {T Tc : Tr} {X Xc : Ob} {dt dtc : Nat → Nat → Nat} {m : Nat} {sz tl : Nat → Nat}
/-- keys of objects that there are -/
def KO (T : Tr) : Prop := ∀ k ∈ its T, ky (k / 4096) 0 0 ∈ its T ∧ k < 249856 ∧ (k / 1024 % 4 ≠ 1 → k % 1024 = 0) ∧ (k / 1024 % 4 = 1 → k % 1024 < 1000)
theorem ko_le {T : Tr} (K : KO T) {k : Nat} (h : k ∈ its T) : k / 4096 ≤ 60 := by have := (K k h).2.1; omega
/-- all that rows know of a world -/
def MW (s : Int → Int) (m : Nat) (T : Tr) (X : Ob) (dt : Nat → Nat → Nat) : Prop := MS s T X dt ∧ Gt m T (pyO X) ∧ OK3 T X ∧ KO T ∧ (∀ o, ∀ v ∈ oT X o, v < 256) ∧ (∀ y, tU T y = true → tH T y = 0 → y ≠ 0 → ∀ i, i < 128 → dt y i < 256)
theorem pyO_k {k : Nat} (K : KO T) (h : k ∈ its T) : (k / 1024 % 4 = 0 → k = ky (k / 4096) 0 0) ∧ (k / 1024 % 4 = 2 → k = ky (k / 4096) 2 0) ∧ (k / 1024 % 4 = 3 → k = ky (k / 4096) 3 0) ∧ (k / 1024 % 4 = 1 → k = ky (k / 4096) 1 (k % 1024)) := by
  obtain ⟨_, _, h3, _⟩ := K k h
  unfold ky
  refine ⟨fun h' => ?_, fun h' => ?_, fun h' => ?_, fun h' => ?_⟩
  · have := h3 (by omega); omega
  · have := h3 (by omega); omega
  · have := h3 (by omega); omega
  · omega
theorem stB_inj {k l n k' l' n' : Nat} (h1 : 1 ≤ k ∧ k ≤ 2) (h2 : 1 ≤ k' ∧ k' ≤ 2) (hl : l < 65536) (hl' : l' < 65536) (hn : n < 65536) (hn' : n' < 65536) : stB k l n = stB k' l' n' ↔ k = k' ∧ l = l' ∧ n = n' := by
  constructor
  · intro h
    unfold stB at h
    simp only [List.cons.injEq] at h
    omega
  · rintro ⟨rfl, rfl, rfl⟩; rfl
theorem fl2_inj : ∀ {l l' : List Nat}, l.flatMap (fun b => [b, 0]) = l'.flatMap (fun b => [b, 0]) ↔ l = l'
  | [], [] => by simp
  | [], y :: l' => by simp
  | x :: l, [] => by simp
  | x :: l, y :: l' => by
    rw [List.flatMap_cons, List.flatMap_cons]
    simp only [List.cons_append, List.nil_append, List.cons.injEq, true_and]
    rw [fl2_inj]
set_option maxHeartbeats 1000000 in
/-- bodies are alike: of one key in both rows, of one length -/
theorem m_isBodyAlike (hK : MK M o) (hd : 3 ≤ d) (A : MW s m T X dt) (C : MW c m Tc Xc dtc) {k : Nat} (h1 : k ∈ its T) (h2 : k ∈ its Tc) (hz : szO X k = szO Xc k) {r : Bool} (hr : k / 1024 % 4 ≠ 1 → (r = true ↔ pyO X k = pyO Xc k)) (hr1 : k / 1024 % 4 = 1 → r = true) (hQ : Q (.returned (some (.int (I (bI r))))) (ms M o f s b c w j)) :
    Wp d 218 0 [some (.ref o), some (.int (I ((k / 4096 : Nat) : Int))), some (.int (I ((k / 1024 % 4 : Nat) : Int)))] [] (ms M o f s b c w j) Q := by
  have hK' := hK
  obtain ⟨k0, k1, k2, k3, k4, k5, k6, k7, k8, k9, k10⟩ := hK
  have ho := ko_le A.2.2.2.1 h1
  obtain ⟨p0, p2, p3, p1⟩ := pyO_k A.2.2.2.1 h1
  have ka := (A.2.2.2.1 k h1).1
  have kc := (C.2.2.2.1 k h2).1
  have sk := A.1.2.1 (k / 4096) (by omega)
  have ck := C.1.2.1 (k / 4096) (by omega)
  rw [if_pos ka] at sk
  rw [if_pos kc] at ck
  obtain ⟨s1, s2, s3, s4, s5⟩ := A.1.2.2.1 (k / 4096) (by omega) ka
  obtain ⟨c1, c2, c3, c4, c5⟩ := C.1.2.2.1 (k / 4096) (by omega) kc
  obtain ⟨o1, o2, o3, o4⟩ := A.2.2.1.1.1 (k / 4096) (by omega) ka
  obtain ⟨q1, q2, q3, q4⟩ := C.2.2.1.1.1 (k / 4096) (by omega) kc
  obtain ⟨a1, a2, a3, a4, a5⟩ := A.2.2.1.any (by omega) ka
  obtain ⟨d1, d2, d3, d4, d5⟩ := C.2.2.1.any (by omega) kc
  generalize hov : k / 4096 = v at *
  generalize hkd : k / 1024 % 4 = kd at *
  have one : ∀ (a : Int) (x y : Nat), 0 ≤ a → a + 1 ≤ 25366 → x < 100000 → y < 100000 → s a = x → c a = y → ∀ (Q' : Outcome → Mem → Prop), Q' (.returned (some (.int (I (bI (decide (x = y))))))) (ms M o f s b c w j) → ∀ d', Wp d' 216 0 [some (.ref o), some (.int (I a)), some (.int (I 1)), none, none] [] (ms M o f s b c w j) Q' := by
    intro a x y h0 h1 hx hy hs hc Q' hQ' d'
    refine m_isAlike (n := 1) hK' h0 h1 (fun k hk => ?_) ?_
    · obtain rfl : k = 0 := by omega
      rw [show a + ((0 : Nat) : Int) = a by omega, hs, hc]
      exact ⟨⟨by omega, by omega⟩, ⟨by omega, by omega⟩⟩
    · rw [show alz s c a 1 = decide (x = y) from ?_]
      · exact hQ'
      · show (true && decide (s (a + ((0 : Nat) : Int)) = c (a + ((0 : Nat) : Int)))) = _
        rw [Bool.true_and, show a + ((0 : Nat) : Int) = a by omega, hs, hc]
        exact decide_eq_decide.mpr (by omega)
  have hkd4 : kd < 4 := by rw [← hkd]; omega
  by_cases e0 : kd = 0
  · have hp := hr (by omega)
    rw [p0 e0, pyO_0, pyO_0, stB_inj ⟨o1, o2⟩ ⟨q1, q2⟩ o3 q3 o4 q4] at hp
    simp (disch := first | (simp only [dd, dr]; done) | omega) only [W_218, I_lt, I_le, I_inj, inB_I, tc_I, Int.toNat_natCast, fkt, rf1, rf0, cq, Nat.reduceAdd, Nat.reduceEqDiff, Int.reduceToNat, eq_self, true_and, and_true, true_or, or_true, bI_0, bI_1, mm, rAm, mF_sF, mR_sR, false_and, and_false, if_false, if_true, false_or, or_false, not_true_eq_false, not_false_eq_true, and_self]
    refine ⟨(fun h => by first | exact False.elim h | exact absurd trivial h | (exfalso; omega) | exact absurd rfl h | cases h), fun _ => ?_⟩
    simp (disch := first | (simp only [dd, dr]; done) | omega) only [W_218, msK, msR, msF, ms1, msS1, k0, k1, k6, I_lt, I_le, I_inj, inB_I, tc_I, Int.toNat_natCast, fkt, rf1, rf0, cq, Nat.reduceAdd, Nat.reduceEqDiff, Int.reduceToNat, eq_self, true_and, and_true, true_or, or_true, bI_0, bI_1, mm, rAm, mF_sF, mR_sR, false_and, and_false, if_false, if_true, false_or, or_false, not_true_eq_false, not_false_eq_true, and_self]
    refine ca_216 (by omega) (one _ _ _ (by omega) (by omega) (by omega) (by omega) sk ck _ ?_ _)
    simp (disch := first | (simp only [dd, dr]; done) | omega) only [W_218, I_lt, I_le, I_inj, inB_I, tc_I, Int.toNat_natCast, fkt, rf1, rf0, cq, Nat.reduceAdd, Nat.reduceEqDiff, Int.reduceToNat, eq_self, true_and, and_true, true_or, or_true, bI_0, bI_1, mm, rAm, mF_sF, mR_sR, false_and, and_false, if_false, if_true, false_or, or_false, not_true_eq_false, not_false_eq_true, and_self]
    refine ⟨fun h => ?_, fun h => ?_⟩
    · have h := of_decide_eq_false h
      rw [show r = false by cases hr' : r with | false => rfl | true => exact absurd (hp.mp hr').1 h] at hQ
      simp (disch := first | (simp only [dd, dr]; done) | omega) only [W_218, I_lt, I_le, I_inj, inB_I, tc_I, Int.toNat_natCast, fkt, rf1, rf0, cq, Nat.reduceAdd, Nat.reduceEqDiff, Int.reduceToNat, eq_self, true_and, and_true, true_or, or_true, bI_0, bI_1, mm, rAm, mF_sF, mR_sR, false_and, and_false, if_false, if_true, false_or, or_false, not_true_eq_false, not_false_eq_true, and_self]
      exact hQ
    have e1 : oK X v = oK Xc v := by simpa using h
    simp (disch := first | (simp only [dd, dr]; done) | omega) only [W_218, msK, msR, msF, ms1, msS1, k0, k1, k6, I_lt, I_le, I_inj, inB_I, tc_I, Int.toNat_natCast, fkt, rf1, rf0, cq, Nat.reduceAdd, Nat.reduceEqDiff, Int.reduceToNat, eq_self, true_and, and_true, true_or, or_true, bI_0, bI_1, mm, rAm, mF_sF, mR_sR, false_and, and_false, if_false, if_true, false_or, or_false, not_true_eq_false, not_false_eq_true, and_self]
    refine ca_216 (by omega) (one _ _ _ (by omega) (by omega) (by omega) (by omega) s1 c1 _ ?_ _)
    simp (disch := first | (simp only [dd, dr]; done) | omega) only [W_218, I_lt, I_le, I_inj, inB_I, tc_I, Int.toNat_natCast, fkt, rf1, rf0, cq, Nat.reduceAdd, Nat.reduceEqDiff, Int.reduceToNat, eq_self, true_and, and_true, true_or, or_true, bI_0, bI_1, mm, rAm, mF_sF, mR_sR, false_and, and_false, if_false, if_true, false_or, or_false, not_true_eq_false, not_false_eq_true, and_self]
    refine ⟨fun h => ?_, fun h => ?_⟩
    · have h := of_decide_eq_false h
      rw [show r = false by cases hr' : r with | false => rfl | true => exact absurd (hp.mp hr').2.1 h] at hQ
      simp (disch := first | (simp only [dd, dr]; done) | omega) only [W_218, I_lt, I_le, I_inj, inB_I, tc_I, Int.toNat_natCast, fkt, rf1, rf0, cq, Nat.reduceAdd, Nat.reduceEqDiff, Int.reduceToNat, eq_self, true_and, and_true, true_or, or_true, bI_0, bI_1, mm, rAm, mF_sF, mR_sR, false_and, and_false, if_false, if_true, false_or, or_false, not_true_eq_false, not_false_eq_true, and_self]
      exact hQ
    have e2 : oL X v = oL Xc v := by simpa using h
    simp (disch := first | (simp only [dd, dr]; done) | omega) only [W_218, msK, msR, msF, ms1, msS1, k0, k1, k6, I_lt, I_le, I_inj, inB_I, tc_I, Int.toNat_natCast, fkt, rf1, rf0, cq, Nat.reduceAdd, Nat.reduceEqDiff, Int.reduceToNat, eq_self, true_and, and_true, true_or, or_true, bI_0, bI_1, mm, rAm, mF_sF, mR_sR, false_and, and_false, if_false, if_true, false_or, or_false, not_true_eq_false, not_false_eq_true, and_self]
    refine ca_216 (by omega) (one _ _ _ (by omega) (by omega) (by omega) (by omega) s2 c2 _ ?_ _)
    simp (disch := first | (simp only [dd, dr]; done) | omega) only [W_218, I_lt, I_le, I_inj, inB_I, tc_I, Int.toNat_natCast, fkt, rf1, rf0, cq, Nat.reduceAdd, Nat.reduceEqDiff, Int.reduceToNat, eq_self, true_and, and_true, true_or, or_true, bI_0, bI_1, mm, rAm, mF_sF, mR_sR, false_and, and_false, if_false, if_true, false_or, or_false, not_true_eq_false, not_false_eq_true, and_self]
    refine ⟨fun h => ?_, fun h => ?_⟩
    · have h := of_decide_eq_false h
      rw [show r = false by cases hr' : r with | false => rfl | true => exact absurd (hp.mp hr').2.2 h] at hQ
      simp (disch := first | (simp only [dd, dr]; done) | omega) only [W_218, I_lt, I_le, I_inj, inB_I, tc_I, Int.toNat_natCast, fkt, rf1, rf0, cq, Nat.reduceAdd, Nat.reduceEqDiff, Int.reduceToNat, eq_self, true_and, and_true, true_or, or_true, bI_0, bI_1, mm, rAm, mF_sF, mR_sR, false_and, and_false, if_false, if_true, false_or, or_false, not_true_eq_false, not_false_eq_true, and_self]
      exact hQ
    have e3 : oS X v = oS Xc v := by simpa using h
    rw [hp.mpr ⟨e1, e2, e3⟩] at hQ
    simp (disch := first | (simp only [dd, dr]; done) | omega) only [W_218, I_lt, I_le, I_inj, inB_I, tc_I, Int.toNat_natCast, fkt, rf1, rf0, cq, Nat.reduceAdd, Nat.reduceEqDiff, Int.reduceToNat, eq_self, true_and, and_true, true_or, or_true, bI_0, bI_1, mm, rAm, mF_sF, mR_sR, false_and, and_false, if_false, if_true, false_or, or_false, not_true_eq_false, not_false_eq_true, and_self]
    exact hQ
  by_cases e2 : kd = 2
  · have hp := hr (by omega)
    rw [p2 e2, pyO_2, pyO_2, fl2_inj] at hp
    simp (disch := first | (simp only [dd, dr]; done) | omega) only [W_218, I_lt, I_le, I_inj, inB_I, tc_I, Int.toNat_natCast, fkt, rf1, rf0, cq, Nat.reduceAdd, Nat.reduceEqDiff, Int.reduceToNat, eq_self, true_and, and_true, true_or, or_true, bI_0, bI_1, mm, rAm, mF_sF, mR_sR, false_and, and_false, if_false, if_true, false_or, or_false, not_true_eq_false, not_false_eq_true, and_self]
    refine ⟨fun _ => ?_, (fun h => by first | exact False.elim h | exact absurd trivial h | (exfalso; omega) | exact absurd rfl h | cases h)⟩
    simp (disch := first | (simp only [dd, dr]; done) | omega) only [W_218, I_lt, I_le, I_inj, inB_I, tc_I, Int.toNat_natCast, fkt, rf1, rf0, cq, Nat.reduceAdd, Nat.reduceEqDiff, Int.reduceToNat, eq_self, true_and, and_true, true_or, or_true, bI_0, bI_1, mm, rAm, mF_sF, mR_sR, false_and, and_false, if_false, if_true, false_or, or_false, not_true_eq_false, not_false_eq_true, and_self]
    refine ⟨(fun h => by first | exact False.elim h | exact absurd trivial h | (exfalso; omega) | exact absurd rfl h | cases h), fun _ => ?_⟩
    simp (disch := first | (simp only [dd, dr]; done) | omega) only [W_218, msK, msR, msF, ms1, msS1, k0, k1, k6, I_lt, I_le, I_inj, inB_I, tc_I, Int.toNat_natCast, fkt, rf1, rf0, cq, Nat.reduceAdd, Nat.reduceEqDiff, Int.reduceToNat, eq_self, true_and, and_true, true_or, or_true, bI_0, bI_1, mm, rAm, mF_sF, mR_sR, false_and, and_false, if_false, if_true, false_or, or_false, not_true_eq_false, not_false_eq_true, and_self]
    refine ca_216 (by omega) (one _ _ _ (by omega) (by omega) (by omega) (by omega) s3 c3 _ ?_ _)
    simp (disch := first | (simp only [dd, dr]; done) | omega) only [W_218, I_lt, I_le, I_inj, inB_I, tc_I, Int.toNat_natCast, fkt, rf1, rf0, cq, Nat.reduceAdd, Nat.reduceEqDiff, Int.reduceToNat, eq_self, true_and, and_true, true_or, or_true, bI_0, bI_1, mm, rAm, mF_sF, mR_sR, false_and, and_false, if_false, if_true, false_or, or_false, not_true_eq_false, not_false_eq_true, and_self]
    refine ⟨fun h => ?_, fun h => ?_⟩
    · have h := of_decide_eq_false h
      rw [show r = false by cases hr' : r with | false => rfl | true => exact absurd (congrArg List.length (hp.mp hr')) h] at hQ
      simp (disch := first | (simp only [dd, dr]; done) | omega) only [W_218, I_lt, I_le, I_inj, inB_I, tc_I, Int.toNat_natCast, fkt, rf1, rf0, cq, Nat.reduceAdd, Nat.reduceEqDiff, Int.reduceToNat, eq_self, true_and, and_true, true_or, or_true, bI_0, bI_1, mm, rAm, mF_sF, mR_sR, false_and, and_false, if_false, if_true, false_or, or_false, not_true_eq_false, not_false_eq_true, and_self]
      exact hQ
    have el : (oD X v).length = (oD Xc v).length := by simpa using h
    simp (disch := first | (simp only [dd, dr]; done) | omega) only [W_218, msK, msR, msF, ms1, msS1, k0, k1, k6, s3, I_lt, I_le, I_inj, inB_I, tc_I, Int.toNat_natCast, fkt, rf1, rf0, cq, Nat.reduceAdd, Nat.reduceEqDiff, Int.reduceToNat, eq_self, true_and, and_true, true_or, or_true, bI_0, bI_1, mm, rAm, mF_sF, mR_sR, false_and, and_false, if_false, if_true, false_or, or_false, not_true_eq_false, not_false_eq_true, and_self]
    have hval : ∀ k : Nat, k < (oD X v).length → ∃ x y : Nat, (oD X v)[k]? = some x ∧ (oD Xc v)[k]? = some y ∧ s (340 + 16 * (v : Int) + (k : Int)) = x ∧ c (340 + 16 * (v : Int) + (k : Int)) = y ∧ x < 96 ∧ y < 96 := by
      intro k hk
      have hx : (oD X v)[k]? = some (oD X v)[k] := List.getElem?_eq_getElem hk
      have hy : (oD Xc v)[k]? = some (oD Xc v)[k] := List.getElem?_eq_getElem (by omega)
      exact ⟨_, _, hx, hy, s4 _ _ hx, c4 _ _ hy, (a3.2 _ (List.getElem_mem hk)).2.1, (d3.2 _ (List.getElem_mem (by omega))).2.1⟩
    refine ca_216 (by omega) (m_isAlike hK' (by omega) (by omega) (fun k hk => ?_) ?_)
    · obtain ⟨x, y, _, _, hx, hy, hx96, hy96⟩ := hval k hk
      rw [hx, hy]
      exact ⟨⟨by omega, by omega⟩, ⟨by omega, by omega⟩⟩
    have hal := alz_iff (s := s) (c := c) (a := 340 + 16 * (v : Int)) (oD X v).length
    have hDD : alz s c (340 + 16 * (v : Int)) (oD X v).length = true ↔ oD X v = oD Xc v := by
      rw [hal]
      constructor
      · intro h
        apply List.ext_getElem? 
        intro k
        by_cases hk : k < (oD X v).length
        · obtain ⟨x, y, hx', hy', hx, hy, _⟩ := hval k hk
          have := h k hk
          rw [hx, hy] at this
          rw [hx', hy']
          congr 1
          omega
        · rw [List.getElem?_eq_none (by omega), List.getElem?_eq_none (by omega)]
      · intro h k hk
        obtain ⟨x, y, hx', hy', hx, hy, _⟩ := hval k hk
        rw [h, hy'] at hx'
        rw [hx, hy, Option.some.inj hx']
    generalize alz s c (340 + 16 * (v : Int)) (oD X v).length = al at *
    simp (disch := first | (simp only [dd, dr]; done) | omega) only [W_218, I_lt, I_le, I_inj, inB_I, tc_I, Int.toNat_natCast, fkt, rf1, rf0, cq, Nat.reduceAdd, Nat.reduceEqDiff, Int.reduceToNat, eq_self, true_and, and_true, true_or, or_true, bI_0, bI_1, mm, rAm, mF_sF, mR_sR, false_and, and_false, if_false, if_true, false_or, or_false, not_true_eq_false, not_false_eq_true, and_self]
    refine ⟨fun h => ?_, fun h => ?_⟩
    · rw [show r = false by cases hr' : r with | false => rfl | true => exact absurd (hDD.mpr (hp.mp hr')) (by rw [h]; simp)] at hQ
      simp (disch := first | (simp only [dd, dr]; done) | omega) only [W_218, I_lt, I_le, I_inj, inB_I, tc_I, Int.toNat_natCast, fkt, rf1, rf0, cq, Nat.reduceAdd, Nat.reduceEqDiff, Int.reduceToNat, eq_self, true_and, and_true, true_or, or_true, bI_0, bI_1, mm, rAm, mF_sF, mR_sR, false_and, and_false, if_false, if_true, false_or, or_false, not_true_eq_false, not_false_eq_true, and_self]
      exact hQ
    · have h : al = true := by simpa using h
      rw [hp.mpr (hDD.mp h)] at hQ
      simp (disch := first | (simp only [dd, dr]; done) | omega) only [W_218, I_lt, I_le, I_inj, inB_I, tc_I, Int.toNat_natCast, fkt, rf1, rf0, cq, Nat.reduceAdd, Nat.reduceEqDiff, Int.reduceToNat, eq_self, true_and, and_true, true_or, or_true, bI_0, bI_1, mm, rAm, mF_sF, mR_sR, false_and, and_false, if_false, if_true, false_or, or_false, not_true_eq_false, not_false_eq_true, and_self]
      exact hQ
  by_cases e1 : kd = 1
  · rw [hr1 e1] at hQ
    simp (disch := first | (simp only [dd, dr]; done) | omega) only [W_218, I_lt, I_le, I_inj, inB_I, tc_I, Int.toNat_natCast, fkt, rf1, rf0, cq, Nat.reduceAdd, Nat.reduceEqDiff, Int.reduceToNat, eq_self, true_and, and_true, true_or, or_true, bI_0, bI_1, mm, rAm, mF_sF, mR_sR, false_and, and_false, if_false, if_true, false_or, or_false, not_true_eq_false, not_false_eq_true, and_self]
    refine ⟨fun _ => ?_, (fun h => by first | exact False.elim h | exact absurd trivial h | (exfalso; omega) | exact absurd rfl h | cases h)⟩
    simp (disch := first | (simp only [dd, dr]; done) | omega) only [W_218, I_lt, I_le, I_inj, inB_I, tc_I, Int.toNat_natCast, fkt, rf1, rf0, cq, Nat.reduceAdd, Nat.reduceEqDiff, Int.reduceToNat, eq_self, true_and, and_true, true_or, or_true, bI_0, bI_1, mm, rAm, mF_sF, mR_sR, false_and, and_false, if_false, if_true, false_or, or_false, not_true_eq_false, not_false_eq_true, and_self]
    refine ⟨fun _ => ?_, (fun h => by first | exact False.elim h | exact absurd trivial h | (exfalso; omega) | exact absurd rfl h | cases h)⟩
    simp (disch := first | (simp only [dd, dr]; done) | omega) only [W_218, I_lt, I_le, I_inj, inB_I, tc_I, Int.toNat_natCast, fkt, rf1, rf0, cq, Nat.reduceAdd, Nat.reduceEqDiff, Int.reduceToNat, eq_self, true_and, and_true, true_or, or_true, bI_0, bI_1, mm, rAm, mF_sF, mR_sR, false_and, and_false, if_false, if_true, false_or, or_false, not_true_eq_false, not_false_eq_true, and_self]
    refine ⟨fun _ => ?_, (fun h => by first | exact False.elim h | exact absurd trivial h | (exfalso; omega) | exact absurd rfl h | cases h)⟩
    simp (disch := first | (simp only [dd, dr]; done) | omega) only [W_218, I_lt, I_le, I_inj, inB_I, tc_I, Int.toNat_natCast, fkt, rf1, rf0, cq, Nat.reduceAdd, Nat.reduceEqDiff, Int.reduceToNat, eq_self, true_and, and_true, true_or, or_true, bI_0, bI_1, mm, rAm, mF_sF, mR_sR, false_and, and_false, if_false, if_true, false_or, or_false, not_true_eq_false, not_false_eq_true, and_self]
    exact hQ
  have e3 : kd = 3 := by omega
  have hp := hr (by omega)
  rw [p3 e3, pyO_3, pyO_3] at hp
  have hzl : (oT X v).length = (oT Xc v).length := by
    have := hz
    rw [p3 e3] at this
    unfold szO at this
    rw [pyO_3, pyO_3] at this
    exact this
  have n1 : oT X v ≠ [] := a2.mp (by rw [← p3 e3]; exact h1)
  have n2 : oT Xc v ≠ [] := d2.mp (by rw [← p3 e3]; exact h2)
  have s5 := s5 n1
  have c5 := c5 n2
  have hlt : ∀ (Y : Ob) (k : Nat), (∀ x ∈ oT Y v, x < 256) → (oT Y v).getD k 0 < 256 := by
    intro Y k hY
    rw [List.getD_eq_getElem?_getD]
    cases hg : (oT Y v)[k]? with
    | none => show 0 < 256; omega
    | some x => exact hY x (List.mem_of_getElem? hg)
  simp (disch := first | (simp only [dd, dr]; done) | omega) only [W_218, I_lt, I_le, I_inj, inB_I, tc_I, Int.toNat_natCast, fkt, rf1, rf0, cq, Nat.reduceAdd, Nat.reduceEqDiff, Int.reduceToNat, eq_self, true_and, and_true, true_or, or_true, bI_0, bI_1, mm, rAm, mF_sF, mR_sR, false_and, and_false, if_false, if_true, false_or, or_false, not_true_eq_false, not_false_eq_true, and_self]
  refine ⟨fun _ => ?_, (fun h => by first | exact False.elim h | exact absurd trivial h | (exfalso; omega) | exact absurd rfl h | cases h)⟩
  simp (disch := first | (simp only [dd, dr]; done) | omega) only [W_218, I_lt, I_le, I_inj, inB_I, tc_I, Int.toNat_natCast, fkt, rf1, rf0, cq, Nat.reduceAdd, Nat.reduceEqDiff, Int.reduceToNat, eq_self, true_and, and_true, true_or, or_true, bI_0, bI_1, mm, rAm, mF_sF, mR_sR, false_and, and_false, if_false, if_true, false_or, or_false, not_true_eq_false, not_false_eq_true, and_self]
  refine ⟨fun _ => ?_, (fun h => by first | exact False.elim h | exact absurd trivial h | (exfalso; omega) | exact absurd rfl h | cases h)⟩
  simp (disch := first | (simp only [dd, dr]; done) | omega) only [W_218, I_lt, I_le, I_inj, inB_I, tc_I, Int.toNat_natCast, fkt, rf1, rf0, cq, Nat.reduceAdd, Nat.reduceEqDiff, Int.reduceToNat, eq_self, true_and, and_true, true_or, or_true, bI_0, bI_1, mm, rAm, mF_sF, mR_sR, false_and, and_false, if_false, if_true, false_or, or_false, not_true_eq_false, not_false_eq_true, and_self]
  refine ⟨(fun h => by first | exact False.elim h | exact absurd trivial h | (exfalso; omega) | exact absurd rfl h | cases h), fun _ => ?_⟩
  simp (disch := first | (simp only [dd, dr]; done) | omega) only [W_218, msK, msR, msF, ms1, msS1, k0, k1, k6, I_lt, I_le, I_inj, inB_I, tc_I, Int.toNat_natCast, fkt, rf1, rf0, cq, Nat.reduceAdd, Nat.reduceEqDiff, Int.reduceToNat, eq_self, true_and, and_true, true_or, or_true, bI_0, bI_1, mm, rAm, mF_sF, mR_sR, false_and, and_false, if_false, if_true, false_or, or_false, not_true_eq_false, not_false_eq_true, and_self]
  refine ca_216 (by omega) (m_isAlike (n := 40) hK' (by omega) (by omega) (fun k hk => ?_) ?_)
  · rw [s5 k hk, c5 k hk]
    have := hlt X k (A.2.2.2.2.1 v)
    have := hlt Xc k (C.2.2.2.2.1 v)
    exact ⟨⟨by omega, by omega⟩, ⟨by omega, by omega⟩⟩
  have hal := alz_iff (s := s) (c := c) (a := 1316 + 40 * (v : Int)) 40
  have hTT : alz s c (1316 + 40 * (v : Int)) 40 = true ↔ oT X v = oT Xc v := by
    rw [hal]
    constructor
    · intro h
      apply List.ext_getElem?
      intro k
      by_cases hk : k < (oT X v).length
      · have := h k (by omega)
        rw [s5 k (by omega), c5 k (by omega), List.getD_eq_getElem?_getD, List.getD_eq_getElem?_getD, List.getElem?_eq_getElem hk, List.getElem?_eq_getElem (show k < (oT Xc v).length by omega)] at this
        rw [List.getElem?_eq_getElem hk, List.getElem?_eq_getElem (show k < (oT Xc v).length by omega)]
        congr 1
        have : (((oT X v)[k] : Nat) : Int) = (((oT Xc v)[k] : Nat) : Int) := this
        omega
      · rw [List.getElem?_eq_none (by omega), List.getElem?_eq_none (by omega)]
    · intro h k hk
      rw [s5 k hk, c5 k hk, h]
  generalize alz s c (1316 + 40 * (v : Int)) 40 = al at *
  simp (disch := first | (simp only [dd, dr]; done) | omega) only [W_218, I_lt, I_le, I_inj, inB_I, tc_I, Int.toNat_natCast, fkt, rf1, rf0, cq, Nat.reduceAdd, Nat.reduceEqDiff, Int.reduceToNat, eq_self, true_and, and_true, true_or, or_true, bI_0, bI_1, mm, rAm, mF_sF, mR_sR, false_and, and_false, if_false, if_true, false_or, or_false, not_true_eq_false, not_false_eq_true, and_self]
  refine ⟨fun h => ?_, fun h => ?_⟩
  · rw [show r = false by cases hr' : r with | false => rfl | true => exact absurd (hTT.mpr (hp.mp hr')) (by rw [h]; simp)] at hQ
    simp (disch := first | (simp only [dd, dr]; done) | omega) only [W_218, I_lt, I_le, I_inj, inB_I, tc_I, Int.toNat_natCast, fkt, rf1, rf0, cq, Nat.reduceAdd, Nat.reduceEqDiff, Int.reduceToNat, eq_self, true_and, and_true, true_or, or_true, bI_0, bI_1, mm, rAm, mF_sF, mR_sR, false_and, and_false, if_false, if_true, false_or, or_false, not_true_eq_false, not_false_eq_true, and_self]
    exact hQ
  · have h : al = true := by simpa using h
    rw [hp.mpr (hTT.mp h)] at hQ
    simp (disch := first | (simp only [dd, dr]; done) | omega) only [W_218, I_lt, I_le, I_inj, inB_I, tc_I, Int.toNat_natCast, fkt, rf1, rf0, cq, Nat.reduceAdd, Nat.reduceEqDiff, Int.reduceToNat, eq_self, true_and, and_true, true_or, or_true, bI_0, bI_1, mm, rAm, mF_sF, mR_sR, false_and, and_false, if_false, if_true, false_or, or_false, not_true_eq_false, not_false_eq_true, and_self]
    exact hQ
end Mal2
