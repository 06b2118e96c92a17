/-! ===== THE COMPONENT: changes of items ===== -/
section Chg
variable {d p m J : Nat} {M M' : Mem} {A A' : Ad} {T T' : Tr} {X X' : Ob} {Q : Outcome → Mem → Prop} {ok : Bool}
def szO (X : Ob) : Nat → Nat := fun k => (pyO X k).length
/-- the first object that there isn't -/
def fro (u : Nat → Bool) : Nat → Nat → Nat
  | 0, i => i
  | n + 1, i => if u i = true then fro u n (i + 1) else i
theorem n_freeObject (hd : 15 ≤ d) (C : CX M p m J A T X) (hQ : ∀ M', Tw (p + 201) M M' → CX M' p m J A T X → Q (.returned (some (.int (I (fro (fun o => iso T o) 60 1 : Nat))))) M') : Wp d 40 0 [some (.ref p), none] [] M Q := by
  have k0 := C.1.1.1
  simp (disch := first | (simp only [dd, dr]; done) | omega) only [W_40, k0, I_lt, I_le, I_inj, inB_I, tc_I, Int.toNat_natCast, fkt, rf1, rf0, cq, Nat.reduceAdd, Nat.reduceEqDiff, Int.reduceToNat, eq_self, true_and, and_true, true_or, or_true, bI_0, bI_1, mm, rAm, mF_sF, mR_sR, false_and, and_false, if_false, if_true, false_or, or_false, not_true_eq_false, not_false_eq_true, and_self]
  suffices H : ∀ n (i : Nat) (M1 : Mem), i + n = 61 → Tw (p + 201) M M1 → CX M1 p m J A T X → fro (fun o => iso T o) 60 1 = fro (fun o => iso T o) n i → Wp d 40 2 [some (.ref p), some (.int (I (i : Nat)))] [] M1 Q from H 60 1 M rfl (Tw.refl _ _) C rfl
  generalize fro (fun o => iso T o) 60 1 = N at *
  intro n
  induction n with
  | zero =>
    intro i M1 hi hT C1 e
    have fin := hQ M1 hT C1
    rw [e, fro] at fin
    simp (disch := first | (simp only [dd, dr]; done) | omega) only [w_40_2, W_40, I_lt, I_le, I_inj, inB_I, tc_I, Int.toNat_natCast, fkt, rf1, rf0, cq, Nat.reduceAdd, Nat.reduceEqDiff, Int.reduceToNat, eq_self, true_and, and_true, true_or, or_true, bI_0, bI_1, mm, rAm, mF_sF, mR_sR, false_and, and_false, if_false, if_true, false_or, or_false, not_true_eq_false, not_false_eq_true, and_self]
    refine ⟨fun _ => ?_, (fun h => by first | exact False.elim h | exact absurd trivial h | (exfalso; omega) | exact absurd rfl h | cases h)⟩
    simp (disch := first | (simp only [dd, dr]; done) | omega) only [W_40, I_lt, I_le, I_inj, inB_I, tc_I, Int.toNat_natCast, fkt, rf1, rf0, cq, Nat.reduceAdd, Nat.reduceEqDiff, Int.reduceToNat, eq_self, true_and, and_true, true_or, or_true, bI_0, bI_1, mm, rAm, mF_sF, mR_sR, false_and, and_false, if_false, if_true, false_or, or_false, not_true_eq_false, not_false_eq_true, and_self]
    exact fin
  | succ n ih =>
    intro i M1 hi hT C1 e
    have k01 := C1.1.1.1
    simp (disch := first | (simp only [dd, dr]; done) | omega) only [w_40_2, W_40, k01, I_lt, I_le, I_inj, inB_I, tc_I, Int.toNat_natCast, fkt, rf1, rf0, cq, Nat.reduceAdd, Nat.reduceEqDiff, Int.reduceToNat, eq_self, true_and, and_true, true_or, or_true, bI_0, bI_1, mm, rAm, mF_sF, mR_sR, false_and, and_false, if_false, if_true, false_or, or_false, not_true_eq_false, not_false_eq_true, and_self]
    refine ⟨(fun h => by first | exact False.elim h | exact absurd trivial h | (exfalso; omega) | exact absurd rfl h | cases h), fun _ => ?_⟩
    simp (disch := first | (simp only [dd, dr]; done) | omega) only [W_40, k01, I_lt, I_le, I_inj, inB_I, tc_I, Int.toNat_natCast, fkt, rf1, rf0, cq, Nat.reduceAdd, Nat.reduceEqDiff, Int.reduceToNat, eq_self, true_and, and_true, true_or, or_true, bI_0, bI_1, mm, rAm, mF_sF, mR_sR, false_and, and_false, if_false, if_true, false_or, or_false, not_true_eq_false, not_false_eq_true, and_self]
    refine ca_33 (by omega) (n_isObject (by omega) C1 (by omega) (by omega) (fun M2 T2 C2 => ?_))
    rw [fro] at e
    simp (disch := first | (simp only [dd, dr]; done) | omega) only [W_40, I_lt, I_le, I_inj, inB_I, tc_I, Int.toNat_natCast, fkt, rf1, rf0, cq, Nat.reduceAdd, Nat.reduceEqDiff, Int.reduceToNat, eq_self, true_and, and_true, true_or, or_true, bI_0, bI_1, mm, rAm, mF_sF, mR_sR, false_and, and_false, if_false, if_true, false_or, or_false, not_true_eq_false, not_false_eq_true, and_self]
    refine ⟨fun h => ?_, fun h => ?_⟩
    · have fin := hQ M2 (hT.trans T2) C2
      have h' : ¬ iso T (i : Int) = true := by rw [h]; simp
      rw [e, if_neg h'] at fin
      simp (disch := first | (simp only [dd, dr]; done) | omega) only [W_40, I_lt, I_le, I_inj, inB_I, tc_I, Int.toNat_natCast, fkt, rf1, rf0, cq, Nat.reduceAdd, Nat.reduceEqDiff, Int.reduceToNat, eq_self, true_and, and_true, true_or, or_true, bI_0, bI_1, mm, rAm, mF_sF, mR_sR, false_and, and_false, if_false, if_true, false_or, or_false, not_true_eq_false, not_false_eq_true, and_self]
      exact fin
    · have h' : iso T (i : Int) = true := by simpa using h
      rw [if_pos h'] at e
      simp (disch := first | (simp only [dd, dr]; done) | omega) only [W_40, I_lt, I_le, I_inj, inB_I, tc_I, Int.toNat_natCast, fkt, rf1, rf0, cq, Nat.reduceAdd, Nat.reduceEqDiff, Int.reduceToNat, eq_self, true_and, and_true, true_or, or_true, bI_0, bI_1, mm, rAm, mF_sF, mR_sR, false_and, and_false, if_false, if_true, false_or, or_false, not_true_eq_false, not_false_eq_true, and_self]
      rw [show ((i : Int) + 1) = ((i + 1 : Nat) : Int) by omega]
      exact ih (i + 1) M2 (by omega) (hT.trans T2) C2 e
theorem flat2 : ∀ (l : List Nat), (l.flatMap (fun b => [b, 0])).length = 2 * l.length ∧ ∀ k v, l[k]? = some v → (l.flatMap (fun b => [b, 0]))[2 * k]? = some v
  | [] => ⟨rfl, fun k v h => by cases h⟩
  | a :: l => by
    obtain ⟨h1, h2⟩ := flat2 l
    refine ⟨by rw [List.flatMap_cons, List.length_append, h1, List.length_cons, List.length_cons, List.length_cons]; simp; omega, fun k v h => ?_⟩
    rw [List.flatMap_cons]
    cases k with
    | zero => exact h
    | succ k =>
      rw [List.getElem?_cons_succ] at h
      rw [List.getElem?_append_right (by simp; omega), show 2 * (k + 1) - [a, 0].length = 2 * k by simp; omega]
      exact h2 k v h
set_option maxHeartbeats 1000000 in
theorem n_readPointers (hd : 15 ≤ d) (C : CX M p m J A T X) {o : Nat} (ho : o ≤ 60) (hD : ky o 2 0 ∈ its T ↔ oD X o ≠ []) (hb : ∀ b ∈ oD X o, b < 256) (hl : (oD X o).length ≤ 16) (hQ : ∀ M1 g, Tw (p + 201) M M1 → CX (rA M1 (p + 198) g) p m J A T X → (∀ k v, (oD X o)[k]? = some v → g k = I (v : Nat)) → Q (.returned (some (.int (I ((oD X o).length : Nat))))) (rA M1 (p + 198) g)) : Wp d 56 0 [some (.ref p), some (.int (I (o : Nat))), none, none] [] M Q := by
  have k0 := C.1.1.1
  simp (disch := first | (simp only [dd, dr]; done) | omega) only [W_56, k0, I_lt, I_le, I_inj, inB_I, tc_I, Int.toNat_natCast, fkt, rf1, rf0, cq, Nat.reduceAdd, Nat.reduceEqDiff, Int.reduceToNat, eq_self, true_and, and_true, true_or, or_true, bI_0, bI_1, mm, rAm, mF_sF, mR_sR, false_and, and_false, if_false, if_true, false_or, or_false, not_true_eq_false, not_false_eq_true, and_self]
  refine ca_57 (by omega) (n_bytesOf (k := 2) (by omega) C ho (by omega) (fun M1 q hT C1 e14 kq e16 hpl hL hin => ?_))
  have e : (if ky o 2 0 ∈ its T then (pyO X (ky o 2 0)).length else 0) = 2 * (oD X o).length := by
    by_cases h : ky o 2 0 ∈ its T
    · rw [if_pos h, pyO_2, (flat2 _).1]
    · rw [if_neg h]
      have : oD X o = [] := by
        apply Classical.byContradiction
        intro h'; exact h (hD.mpr h')
      rw [this]; rfl
  rw [e]
  simp (disch := first | (simp only [dd, dr]; done) | omega) only [W_56, I_lt, I_le, I_inj, inB_I, tc_I, Int.toNat_natCast, fkt, rf1, rf0, cq, Nat.reduceAdd, Nat.reduceEqDiff, Int.reduceToNat, eq_self, true_and, and_true, true_or, or_true, bI_0, bI_1, mm, rAm, mF_sF, mR_sR, false_and, and_false, if_false, if_true, false_or, or_false, not_true_eq_false, not_false_eq_true, and_self]
  rw [show ((2 * (oD X o).length : Nat) : Int) / 2 = ((oD X o).length : Nat) by omega]
  have k51 := C1.1.1.2.2.2.2.2.2.1
  have k198 := C1.1.2.2.2.1.2.2.2
  have k01 := C1.1.1.1
  have k91 := C1.1.1.2.2.2.2.2.2.2.2.1
  have kt1 := C1.2.1.1.1.1
  have hq3 := hL.1.2.2.2.2.2.2
  have hr35 := hL.1.2.2.2.1
  suffices H : ∀ n (i : Nat) (g : Nat → Int32), i + n = (oD X o).length → (∀ k v, k < i → (oD X o)[k]? = some v → g k = I (v : Nat)) → Wp d 56 11 [some (.ref p), some (.int (I (o : Nat))), some (.int (I ((oD X o).length : Nat))), some (.int (I (i : Nat)))] [] (rA M1 (p + 198) g) Q by
    have := H (oD X o).length 0 (fun i => mA M1 (p + 198) i) (by omega) (fun k v hk => by omega)
    rw [rA_id] at this
    exact this
  intro n
  induction n with
  | zero =>
    intro i g hi hg
    simp (disch := first | (simp only [dd, dr]; done) | omega) only [w_56_11, W_56, I_lt, I_le, I_inj, inB_I, tc_I, Int.toNat_natCast, fkt, rf1, rf0, cq, Nat.reduceAdd, Nat.reduceEqDiff, Int.reduceToNat, eq_self, true_and, and_true, true_or, or_true, bI_0, bI_1, mm, rAm, mF_sF, mR_sR, false_and, and_false, if_false, if_true, false_or, or_false, not_true_eq_false, not_false_eq_true, and_self]
    refine ⟨fun _ => ?_, (fun h => by first | exact False.elim h | exact absurd trivial h | (exfalso; omega) | exact absurd rfl h | cases h)⟩
    simp (disch := first | (simp only [dd, dr]; done) | omega) only [W_56, I_lt, I_le, I_inj, inB_I, tc_I, Int.toNat_natCast, fkt, rf1, rf0, cq, Nat.reduceAdd, Nat.reduceEqDiff, Int.reduceToNat, eq_self, true_and, and_true, true_or, or_true, bI_0, bI_1, mm, rAm, mF_sF, mR_sR, false_and, and_false, if_false, if_true, false_or, or_false, not_true_eq_false, not_false_eq_true, and_self]
    exact hQ M1 g hT (C1.sc (Sc.rA p M1 ⟨by omega, by omega⟩ g)) (fun k v hk => hg k v (by have := (List.getElem?_eq_some_iff.mp hk).1; omega) hk)
  | succ n ih =>
    intro i g hi hg
    have hi' : i < (oD X o).length := by omega
    have hx : (oD X o)[i]? = some (oD X o)[i] := List.getElem?_eq_getElem hi'
    have hb' := hb _ (List.getElem_mem hi')
    have hin' := hin (hD.mpr (fun h => by rw [h] at hi'; exact absurd hi' (by simp)))
    have hL2 : LfIs (rA M1 (p + 198) g) q (tI T (lfT T (ky o 2 0))) (pyO X) := by
      refine hL.sm (fun _ _ _ => rfl) (fun _ => rfl) (fun _ => rfl) (fun a i' h1 h2 => ?_)
      rw [mA_rA, if_neg]
      intro e
      rw [← e] at k198
      have l := hL.1
      have : a = q ∨ a = q + 1 ∨ a = q + 2 ∨ a = q + 3 := by omega
      rcases this with h | h | h | h
      · rw [h, kO_X l.1 (by omega)] at k198; cases k198
      · rw [h, l.2.2.2.2.1] at k198; cases k198
      · rw [h, l.2.2.2.2.2.1] at k198; cases k198
      · rw [h, l.2.2.2.2.2.2] at k198; cases k198
    obtain ⟨b1, b2⟩ := hL2.body hin'
    rw [pyO_2, (flat2 _).1] at b1
    have b3 := b2 (2 * i) _ (by rw [pyO_2]; exact (flat2 _).2 i _ hx)
    simp (disch := first | (simp only [dd, dr]; done) | omega) only [w_56_11, W_56, k01, k51, I_lt, I_le, I_inj, inB_I, tc_I, Int.toNat_natCast, fkt, rf1, rf0, cq, Nat.reduceAdd, Nat.reduceEqDiff, Int.reduceToNat, eq_self, true_and, and_true, true_or, or_true, bI_0, bI_1, mm, rAm, mF_sF, mR_sR, false_and, and_false, if_false, if_true, false_or, or_false, not_true_eq_false, not_false_eq_true, and_self]
    refine ⟨(fun h => by first | exact False.elim h | exact absurd trivial h | (exfalso; omega) | exact absurd rfl h | cases h), fun _ => ?_⟩
    simp (disch := first | (simp only [dd, dr]; done) | omega) only [W_56, k01, k51, k91, kt1, e14, kq, e16, hr35, I_lt, I_le, I_inj, inB_I, tc_I, Int.toNat_natCast, fkt, rf1, rf0, cq, Nat.reduceAdd, Nat.reduceEqDiff, Int.reduceToNat, eq_self, true_and, and_true, true_or, or_true, bI_0, bI_1, mm, rAm, mF_sF, mR_sR, false_and, and_false, if_false, if_true, false_or, or_false, not_true_eq_false, not_false_eq_true, and_self]
    refine ca_126 (by omega) (l_from hL2 hpl ?_)
    simp (disch := first | (simp only [dd, dr]; done) | omega) only [W_56, I_lt, I_le, I_inj, inB_I, tc_I, Int.toNat_natCast, fkt, rf1, rf0, cq, Nat.reduceAdd, Nat.reduceEqDiff, Int.reduceToNat, eq_self, true_and, and_true, true_or, or_true, bI_0, bI_1, mm, rAm, mF_sF, mR_sR, false_and, and_false, if_false, if_true, false_or, or_false, not_true_eq_false, not_false_eq_true, and_self]
    rw [show ((((List.take (pl (ky o 2 0) (tI T (lfT T (ky o 2 0)))) (tI T (lfT T (ky o 2 0)))).flatMap (pyO X)).length : Nat) : Int) + 2 * (i : Int) = ((((List.take (pl (ky o 2 0) (tI T (lfT T (ky o 2 0)))) (tI T (lfT T (ky o 2 0)))).flatMap (pyO X)).length + 2 * i : Nat) : Int) by omega]
    refine cr_36 (by omega) (c_byteOf (n := 240) (z := ((oD X o)[i] : Nat)) hq3 (by omega) (by omega) (by omega) (by rw [Int.toNat_natCast]; exact b3) ?_)
    rw [show (((oD X o)[i] : Nat) : Int) % 256 = ((oD X o)[i] : Nat) by omega]
    simp (disch := first | (simp only [dd, dr]; done) | omega) only [W_56, k198, sA_rA, I_lt, I_le, I_inj, inB_I, tc_I, Int.toNat_natCast, fkt, rf1, rf0, cq, Nat.reduceAdd, Nat.reduceEqDiff, Int.reduceToNat, eq_self, true_and, and_true, true_or, or_true, bI_0, bI_1, mm, rAm, mF_sF, mR_sR, false_and, and_false, if_false, if_true, false_or, or_false, not_true_eq_false, not_false_eq_true, and_self]
    rw [show ((i : Int) + 1) = ((i + 1 : Nat) : Int) by omega]
    refine ih (i + 1) _ (by omega) (fun k v hk hv => ?_)
    by_cases e : k = i
    · subst e
      rw [hx] at hv
      rw [if_pos rfl, ← Option.some.inj hv]
    · rw [if_neg e]; exact hg k v (by omega) hv
theorem n_layStat (hd : 1 ≤ d) (P : PK M p m J) {k l n : Nat} (hk : k < 256) (hl : l < 65536) (hn : n < 65536) (hQ : ∀ g, (∀ i v, (stB (k + 1) l n)[i]? = some v → g i = bB (v : Nat)) → Q (.returned none) (rA M (p + 196) g)) : Wp d 22 0 [some (.ref p), some (.int (I (k : Nat))), some (.int (I (l : Nat))), some (.int (I (n : Nat)))] [] M Q := by
  have k0 := P.1.1
  have kb := P.1.2.2.2.2.1
  have kx := P.2.2.2.1.2.1
  have e0 : nrw 1 (I 0) = I 0 := by decide
  simp (disch := first | (simp only [dd, dr]; done) | omega) only [W_22, k0, kb, kx, bB_def, nrw_b, sA_to_rA, I_lt, I_le, I_inj, inB_I, tc_I, Int.toNat_natCast, fkt, rf1, rf0, cq, Nat.reduceAdd, Nat.reduceEqDiff, Int.reduceToNat, eq_self, true_and, and_true, true_or, or_true, bI_0, bI_1, mm, rAm, mF_sF, mR_sR, false_and, and_false, if_false, if_true, false_or, or_false, not_true_eq_false, not_false_eq_true, and_self]
  refine cr_23 (by omega) (c_putNumber (n := 48) (k := 1) (m := 2) (by exact kx) (by omega) (by omega) (by omega) (by omega) ?_)
  simp (disch := first | (simp only [dd, dr]; done) | omega) only [W_22, k0, kb, kx, I_lt, I_le, I_inj, inB_I, tc_I, Int.toNat_natCast, fkt, rf1, rf0, cq, Nat.reduceAdd, Nat.reduceEqDiff, Int.reduceToNat, eq_self, true_and, and_true, true_or, or_true, bI_0, bI_1, mm, rAm, mF_sF, mR_sR, false_and, and_false, if_false, if_true, false_or, or_false, not_true_eq_false, not_false_eq_true, and_self]
  refine cr_23 (by omega) (c_putNumber (n := 48) (k := 3) (m := 2) (by exact kx) (by omega) (by omega) (by omega) (by omega) ?_)
  simp (disch := first | (simp only [dd, dr]; done) | omega) only [W_22, k0, kb, kx, e0, sA_to_rA, I_lt, I_le, I_inj, inB_I, tc_I, Int.toNat_natCast, fkt, rf1, rf0, cq, Nat.reduceAdd, Nat.reduceEqDiff, Int.reduceToNat, eq_self, true_and, and_true, true_or, or_true, bI_0, bI_1, mm, rAm, mF_sF, mR_sR, false_and, and_false, if_false, if_true, false_or, or_false, not_true_eq_false, not_false_eq_true, and_self]
  rw [rA_rA, rA_rA, rA_rA]
  refine hQ _ (fun i v hv => ?_)
  simp only [mA_rA, if_true]
  match i, hv with
  | 0, hv =>
    obtain rfl := Option.some.inj hv
    simp
  | 1, hv =>
    obtain rfl := Option.some.inj hv
    rw [if_neg (by omega), if_neg (by omega), if_pos (by omega)]
    rw [bB_n]
  | 2, hv =>
    obtain rfl := Option.some.inj hv
    rw [if_neg (by omega), if_neg (by omega), if_pos (by omega)]
    rw [bB_n]; simp
  | 3, hv =>
    obtain rfl := Option.some.inj hv
    rw [if_neg (by omega), if_pos (by omega)]
    rw [bB_n]
  | 4, hv =>
    obtain rfl := Option.some.inj hv
    rw [if_neg (by omega), if_pos (by omega)]
    rw [bB_n]; simp
  | 5, hv =>
    obtain rfl := Option.some.inj hv
    simp only [if_true]
    exact bB_0.symm
  | i + 6, hv => cases hv
theorem Gt.set (g : Gt m T (pyO X)) {key n : Nat} (hm : m ≤ 96) (hkey : key < 1000000) (hs : n ≤ 40) (hg : stT m (szO X) T key n = some (true, T')) (hX : ∀ k ∈ its T', szO X' k = fu (szO X) key n k) (hne : its T' ≠ []) : Gt m T' (pyO X') ∧ StF T T' key n := by
  obtain ⟨ok2, T2, hg2, hgo⟩ := stT_ok (key := key) (n := n) hm g.1 hs
  have hg2 : stT m (szO X) T key n = some (ok2, T2) := hg2
  rw [hg] at hg2
  obtain ⟨e1, e2⟩ := Prod.mk.inj (Option.some.inj hg2)
  subst e1; subst e2
  obtain ⟨w1, w2⟩ := hgo rfl
  have w1' : Wf m (szO X') T' := w1.szs hX
  refine ⟨⟨w1', fun x hx he => hne ?_, fun k hk => ?_⟩, w2⟩
  · have := (w1'.2.2.1 x hx (by simp)).2 he
    unfold its
    rw [this, List.flatMap_cons, he]; rfl
  · rcases (w2.mem g.1 k).mp hk with ⟨h, _⟩ | ⟨_, h⟩
    · rw [h]; exact hkey
    · exact g.2.2 k h
theorem x_set (hd : 22 ≤ d) (C : CX M p m J A T X) {key : Nat} {bs : List Nat} (hkey : key < 1000000) (hr : ∀ i v, bs[i]? = some v → mA M (p + 196) i = bB (v : Nat)) (hs : bs.length ≤ 40) (hg : stT m (szO X) T key bs.length = some (ok, T')) (hX : ok = true → ∀ k ∈ its T', pyO X' k = fu (pyO X) key bs k) (hne : ok = true → its T' ≠ [])
    (hQt : ok = true → ∀ M' A', CX M' p m J A' T' X' → StF T T' key bs.length → Fr (p + 201) (p + 199) A A' 0 M M' → Q (.returned none) M') (hQf : ok = false → ∀ M' A' a, JT M' (p + 201) (p + 199) m A' → Fr (p + 201) (p + 199) A A' 1 M M' → kO M' a = 14 → Q (.threw a) M') :
    Wp d 97 0 [some (.ref (p + 201)), some (.int (I (key : Nat))), some (.ref (p + 196)), some (.int (I (bs.length : Nat))), none, none, none] [] M Q := by
  have hC := C
  obtain ⟨h1, h2, h3, h4, h5⟩ := C
  have hm := h1.2.2.2.2.2.2.2.2.2.2.2.1
  refine n_set hd hm h2 h3.1 h3.2.2 hkey (n := 48) ⟨h1.2.2.2.1.2.1, by omega, by omega, by omega, hr⟩ hs hg (fun hok M' A' R' F' => ?_) hQf
  subst hok
  obtain ⟨g', w2⟩ := Gt.set h3 hm hkey hs hg (fun k hk => by show (pyO X' k).length = _; rw [hX rfl k hk]; exact congrFun (fu_len (pyO X) key bs) k) (hne rfl)
  exact hQt rfl M' A' ⟨h1.fr h4 F' h5, R'.cpy (fun b k hk => hX rfl k (g'.1.mem hk)), g', h4.fr F' h5, by have := F'.2.2.2.2.2.2.1; omega⟩ w2 F'
/-- a call's frame: as CF, and rows, file and pointers stay -/
def Cb (p : Nat) (A A' : Ad) (x : Nat) (M M' : Mem) : Prop := CF p A A' x M M' ∧ ∀ a i, p ≤ a → a ≤ p + 198 → a ≠ p + 196 → mA M' a i = mA M a i
theorem Cb.trans {x x' : Nat} {A'' : Ad} {M'' : Mem} (h : Cb p A A' x M M') (h' : Cb p A' A'' x' M' M'') : Cb p A A'' (x + x') M M'' := ⟨h.1.trans h'.1, fun a i h1 h2 h3 => (h'.2 a i h1 h2 h3).trans (h.2 a i h1 h2 h3)⟩
theorem Fr.cb {x : Nat} (F : Fr (p + 201) (p + 199) A A' x M M') (N : NB A (p + 403 + J)) (hl : p + 403 + J ≤ mN M) : Cb p A A' x M M' := ⟨F.cf, fun a i h1 h2 h3 => (F.2.1 a (by omega) (notOwP N ⟨h1, by omega, by omega⟩)).2.2.1 i⟩
theorem Tw.cb (F : Tw (p + 201) M M') (A : Ad) : Cb p A A 0 M M' := ⟨F.sc.cf A, fun a i _ _ _ => F.f1.1 a i⟩
theorem rA_cb (p : Nat) (M : Mem) (A : Ad) (g : Nat → Int32) : Cb p A A 0 M (rA M (p + 196) g) := ⟨(Sc.rA p M ⟨by omega, by omega⟩ g).cf A, fun a i _ _ h => by rw [mA_rA, if_neg h]⟩
theorem DR.cb {x : Nat} {dt : Nat → Nat → Nat} (D : DR M p T dt) (hu : ∀ b, tU T b = true → b < 96) (h5 : p + 403 + J ≤ mN M) (F : Cb p A A' x M M') (V : Pv T T') : DR M' p T' dt := by
  intro b h1 h2 h3
  obtain ⟨v1, v2⟩ := V b h1 h2
  have r := D b v1 v2 h3
  have hb := hu b v1
  refine ⟨?_, fun i hi => by rw [F.2 _ _ (by omega) (by omega) (by omega)]; exact r.2 i hi⟩
  have := r.1
  unfold kX at this ⊢
  rw [F.1.1 _ (by omega)]; exact this
theorem stT_same {sz : Nat → Nat} {key : Nat} (h : key ∈ its T) (hz : 1 ≤ sz key) : stT m sz T key (sz key) = some (true, T) := by
  unfold stT
  rw [if_pos h, if_neg (by omega), if_neg (by omega), if_neg (by omega)]
theorem n_change (hd : 23 ≤ d) (C : CX M p m J A T X) (O : OK1 T X) {o l n : Nat} (ho : o ≤ 60) (hi : ky o 0 0 ∈ its T) (hl : l < 65536) (hn : n < 65536) (hQ : ∀ M' A', CX M' p m J A' T (vS X o (oK X o) l n) → Cb p A A' 0 M M' → Q (.returned none) M') : Wp d 48 0 [some (.ref p), some (.int (I (o : Nat))), some (.int (I (l : Nat))), some (.int (I (n : Nat)))] [] M Q := by
  have k0 := C.1.1.1
  obtain ⟨o1, o2, o3, o4⟩ := O o ho hi
  simp (disch := first | (simp only [dd, dr]; done) | omega) only [W_48, k0, I_lt, I_le, I_inj, inB_I, tc_I, Int.toNat_natCast, fkt, rf1, rf0, cq, Nat.reduceAdd, Nat.reduceEqDiff, Int.reduceToNat, eq_self, true_and, and_true, true_or, or_true, bI_0, bI_1, mm, rAm, mF_sF, mR_sR, false_and, and_false, if_false, if_true, false_or, or_false, not_true_eq_false, not_false_eq_true, and_self]
  refine ca_34 (by omega) (n_stat (k := 0) (n := 1) (by omega) C ho (by omega) (by omega) hi (by omega) (fun M1 T1 C1 => ?_))
  rw [(nb_st o3 o4).1]
  have k01 := C1.1.1.1
  simp (disch := first | (simp only [dd, dr]; done) | omega) only [W_48, k01, I_lt, I_le, I_inj, inB_I, tc_I, Int.toNat_natCast, fkt, rf1, rf0, cq, Nat.reduceAdd, Nat.reduceEqDiff, Int.reduceToNat, eq_self, true_and, and_true, true_or, or_true, bI_0, bI_1, mm, rAm, mF_sF, mR_sR, false_and, and_false, if_false, if_true, false_or, or_false, not_true_eq_false, not_false_eq_true, and_self]
  refine ca_22 (by omega) (n_layStat (by omega) C1.1 (by omega) hl hn (fun g hg => ?_))
  rw [show oK X o - 1 + 1 = oK X o by omega] at hg
  have C2 := C1.sc (Sc.rA p M1 (w := p + 196) ⟨by omega, by omega⟩ g)
  have k02 := C2.1.1.1
  have k92 := C2.1.1.2.2.2.2.2.2.2.2.1
  have kb2 := C2.1.1.2.2.2.2.1
  have kt2 := C2.2.1.1.1.1
  simp (disch := first | (simp only [dd, dr]; done) | omega) only [W_48, k02, k92, I_lt, I_le, I_inj, inB_I, tc_I, Int.toNat_natCast, fkt, rf1, rf0, cq, Nat.reduceAdd, Nat.reduceEqDiff, Int.reduceToNat, eq_self, true_and, and_true, true_or, or_true, bI_0, bI_1, mm, rAm, mF_sF, mR_sR, false_and, and_false, if_false, if_true, false_or, or_false, not_true_eq_false, not_false_eq_true, and_self]
  refine ca_24 (by omega) (c_keyOf ?_)
  rw [show ((o : Int) * 4 + 0) * 1024 + 0 = ((ky o 0 0 : Nat) : Int) by unfold ky; omega]
  simp (disch := first | (simp only [dd, dr]; done) | omega) only [W_48, k02, kb2, kt2, I_lt, I_le, I_inj, inB_I, tc_I, Int.toNat_natCast, fkt, rf1, rf0, cq, Nat.reduceAdd, Nat.reduceEqDiff, Int.reduceToNat, eq_self, true_and, and_true, true_or, or_true, bI_0, bI_1, mm, rAm, mF_sF, mR_sR, false_and, and_false, if_false, if_true, false_or, or_false, not_true_eq_false, not_false_eq_true, and_self]
  have h6 : szO X (ky o 0 0) = 6 := by unfold szO; rw [pyO_0]; rfl
  have hst : stT m (szO X) T (ky o 0 0) (stB (oK X o) l n).length = some (true, T) := by
    have := stT_same (m := m) (sz := szO X) hi (by omega)
    rw [h6] at this; exact this
  refine cr_97 (by omega) (x_set (ok := true) (bs := stB (oK X o) l n) (X' := vS X o (oK X o) l n) (by omega) C2 (by unfold ky; omega) (fun i v hv => by rw [mA_rA, if_pos rfl]; exact hg i v hv) (by show (6 : Nat) ≤ 40; omega) hst (fun _ k _ => by rw [pyO_vS]) (fun _ h => by rw [h] at hi; cases hi) (fun _ M' A' C' _ F' => ?_) (fun h => by cases h))
  simp (disch := first | (simp only [dd, dr]; done) | omega) only [W_48, I_lt, I_le, I_inj, inB_I, tc_I, Int.toNat_natCast, fkt, rf1, rf0, cq, Nat.reduceAdd, Nat.reduceEqDiff, Int.reduceToNat, eq_self, true_and, and_true, true_or, or_true, bI_0, bI_1, mm, rAm, mF_sF, mR_sR, false_and, and_false, if_false, if_true, false_or, or_false, not_true_eq_false, not_false_eq_true, and_self]
  have := ((T1.cb A).trans (rA_cb p M1 A g)).trans (F'.cb (J := J) C2.2.2.2.1 C2.2.2.2.2)
  exact hQ M' A' C' this
theorem n_count (hd : 24 ≤ d) (C : CX M p m J A T X) (O : OK1 T X) {o : Nat} {v : Int} {n : Nat} (ho : o ≤ 60) (hi : ky o 0 0 ∈ its T) (hv : (oS X o : Int) + v = n) (hn : n < 65536) (hv1 : -1 ≤ v ∧ v ≤ 1) (hQ : ∀ M' A', CX M' p m J A' T (vS X o (oK X o) (oL X o) n) → Cb p A A' 0 M M' → Q (.returned none) M') : Wp d 45 0 [some (.ref p), some (.int (I (o : Nat))), some (.int (I v))] [] M Q := by
  have k0 := C.1.1.1
  obtain ⟨o1, o2, o3, o4⟩ := O o ho hi
  simp (disch := first | (simp only [dd, dr]; done) | omega) only [W_45, k0, I_lt, I_le, I_inj, inB_I, tc_I, Int.toNat_natCast, fkt, rf1, rf0, cq, Nat.reduceAdd, Nat.reduceEqDiff, Int.reduceToNat, eq_self, true_and, and_true, true_or, or_true, bI_0, bI_1, mm, rAm, mF_sF, mR_sR, false_and, and_false, if_false, if_true, false_or, or_false, not_true_eq_false, not_false_eq_true, and_self]
  refine ca_46 (by omega) (n_linksOf (by omega) C O ho hi (fun M1 T1 C1 => ?_))
  have k01 := C1.1.1.1
  simp (disch := first | (simp only [dd, dr]; done) | omega) only [W_45, k01, I_lt, I_le, I_inj, inB_I, tc_I, Int.toNat_natCast, fkt, rf1, rf0, cq, Nat.reduceAdd, Nat.reduceEqDiff, Int.reduceToNat, eq_self, true_and, and_true, true_or, or_true, bI_0, bI_1, mm, rAm, mF_sF, mR_sR, false_and, and_false, if_false, if_true, false_or, or_false, not_true_eq_false, not_false_eq_true, and_self]
  refine ca_47 (by omega) (n_sizeOf (by omega) C1 O ho hi (fun M2 T2 C2 => ?_))
  have k02 := C2.1.1.1
  simp (disch := first | (simp only [dd, dr]; done) | omega) only [W_45, k02, I_lt, I_le, I_inj, inB_I, tc_I, Int.toNat_natCast, fkt, rf1, rf0, cq, Nat.reduceAdd, Nat.reduceEqDiff, Int.reduceToNat, eq_self, true_and, and_true, true_or, or_true, bI_0, bI_1, mm, rAm, mF_sF, mR_sR, false_and, and_false, if_false, if_true, false_or, or_false, not_true_eq_false, not_false_eq_true, and_self]
  rw [hv]
  refine ca_48 (by omega) (n_change (by omega) C2 O ho hi o3 hn (fun M' A' C' F' => ?_))
  simp (disch := first | (simp only [dd, dr]; done) | omega) only [W_45, I_lt, I_le, I_inj, inB_I, tc_I, Int.toNat_natCast, fkt, rf1, rf0, cq, Nat.reduceAdd, Nat.reduceEqDiff, Int.reduceToNat, eq_self, true_and, and_true, true_or, or_true, bI_0, bI_1, mm, rAm, mF_sF, mR_sR, false_and, and_false, if_false, if_true, false_or, or_false, not_true_eq_false, not_false_eq_true, and_self]
  exact hQ M' A' C' (((T1.cb A).trans (T2.cb A)).trans F')
end Chg
