/-! ===== THE COMPONENT: reform, its loops ===== -/
section Rf3
variable {d p m J : Nat} {M M' : Mem} {A A' : Ad} {T T' : Tr} {X X' : Ob} {Q : Outcome → Mem → Prop} {ok : Bool} {dt : Nat → Nat → Nat}
set_option maxHeartbeats 1000000 in
/-- blocks are given back -/
theorem rf_37 {o nb want : Nat} (hd : 1 ≤ d) (hw : want ≤ 16) {M0 : Mem} {l : List Nat} (hl16 : l.length ≤ 16) (B : BL T l) : ∀ (n' : Nat) (M1 : Mem), want + n' ≤ l.length → (n' ≠ 0 ∨ want ≤ l.length) → CX M1 p m J A (fes (l.drop (want + n')).reverse T) X → Pt M1 p l → So p M0 M1 →
    (∀ (M2 : Mem), CX M2 p m J A (fes (l.drop want).reverse T) X → Pt M2 p l → So p M0 M2 → Wp d 67 65 [some (.ref p), some (.int (I (o : Nat))), some (.int (I (nb : Nat))), some (.int (I (want : Nat))), some (.int (I (want : Nat))), some (.int (I 0)), none] [] M2 Q) →
    Wp d 67 37 [some (.ref p), some (.int (I (o : Nat))), some (.int (I (nb : Nat))), some (.int (I ((want + n' : Nat) : Int))), some (.int (I (want : Nat))), none, none] [] M1 Q
  | 0, M1, h1, _, C, P, F, hk => by
    simp (disch := first | (simp only [dd, dr]; done) | omega) only [w_67_37, W_67, I_lt, I_le, I_inj, inB_I, tc_I, Int.toNat_natCast, fkt, rf1, rf0, cq, Nat.reduceAdd, Nat.reduceEqDiff, Int.reduceToNat, eq_self, true_and, and_true, true_or, or_true, bI_0, bI_1, mm, rAm, mF_sF, mR_sR, false_and, and_false, if_false, if_true, false_or, or_false, not_true_eq_false, not_false_eq_true, and_self]
    refine ⟨fun _ => ?_, (fun h => by first | exact False.elim h | exact absurd trivial h | (exfalso; omega) | exact absurd rfl h | cases h)⟩
    simp (disch := first | (simp only [dd, dr]; done) | omega) only [W_67, I_lt, I_le, I_inj, inB_I, tc_I, Int.toNat_natCast, fkt, rf1, rf0, cq, Nat.reduceAdd, Nat.reduceEqDiff, Int.reduceToNat, eq_self, true_and, and_true, true_or, or_true, bI_0, bI_1, mm, rAm, mF_sF, mR_sR, false_and, and_false, if_false, if_true, false_or, or_false, not_true_eq_false, not_false_eq_true, and_self]
    exact hk M1 C P F
  | n' + 1, M1, h1, _, C, P, F, hk => by
    have k0 := C.1.1.1
    have k5 := C.1.1.2.2.2.2.2.2.1
    have k6 := C.1.1.2.2.2.2.2.2.2.1
    have k198 := C.1.2.2.2.1.2.2.2
    have kr := C.2.1.2.1.1
    have hlt : want + n' < l.length := by omega
    have hx : l[want + n']? = some l[want + n'] := List.getElem?_eq_getElem hlt
    obtain ⟨b1, b2, b3, b4⟩ := B.2 _ (List.getElem_mem hlt)
    have hp := P _ _ hx
    simp (disch := first | (simp only [dd, dr]; done) | omega) only [w_67_37, W_67, k0, k5, k6, I_lt, I_le, I_inj, inB_I, tc_I, Int.toNat_natCast, fkt, rf1, rf0, cq, Nat.reduceAdd, Nat.reduceEqDiff, Int.reduceToNat, eq_self, true_and, and_true, true_or, or_true, bI_0, bI_1, mm, rAm, mF_sF, mR_sR, false_and, and_false, if_false, if_true, false_or, or_false, not_true_eq_false, not_false_eq_true, and_self]
    refine ⟨(fun h => by first | exact False.elim h | exact absurd trivial h | (exfalso; omega) | exact absurd rfl h | cases h), fun _ => ?_⟩
    simp (disch := first | (simp only [dd, dr]; done) | omega) only [W_67, k0, k5, k6, I_lt, I_le, I_inj, inB_I, tc_I, Int.toNat_natCast, fkt, rf1, rf0, cq, Nat.reduceAdd, Nat.reduceEqDiff, Int.reduceToNat, eq_self, true_and, and_true, true_or, or_true, bI_0, bI_1, mm, rAm, mF_sF, mR_sR, false_and, and_false, if_false, if_true, false_or, or_false, not_true_eq_false, not_false_eq_true, and_self]
    rw [show ((want + (n' + 1) : Nat) : Int) + -1 = ((want + n' : Nat) : Int) by omega]
    simp (disch := first | (simp only [dd, dr]; done) | omega) only [W_67, k0, k5, k6, k198, hp, kr, I_lt, I_le, I_inj, inB_I, tc_I, Int.toNat_natCast, fkt, rf1, rf0, cq, Nat.reduceAdd, Nat.reduceEqDiff, Int.reduceToNat, eq_self, true_and, and_true, true_or, or_true, bI_0, bI_1, mm, rAm, mF_sF, mR_sR, false_and, and_false, if_false, if_true, false_or, or_false, not_true_eq_false, not_false_eq_true, and_self]
    refine ca_89 (by omega) (r_free C.2.1.2.1 b2 ?_)
    simp (disch := first | (simp only [dd, dr]; done) | omega) only [W_67, I_lt, I_le, I_inj, inB_I, tc_I, Int.toNat_natCast, fkt, rf1, rf0, cq, Nat.reduceAdd, Nat.reduceEqDiff, Int.reduceToNat, eq_self, true_and, and_true, true_or, or_true, bI_0, bI_1, mm, rAm, mF_sF, mR_sR, false_and, and_false, if_false, if_true, false_or, or_false, not_true_eq_false, not_false_eq_true, and_self]
    have hH : tH (fes (l.drop (want + (n' + 1))).reverse T) l[want + n'] = 0 := by rw [(fes_at _ T).1]; exact b4
    have C4 := C.uu (b := l[want + n']) (u := false) hH (by omega) (by intro h; cases h)
    have e : uU (fes (l.drop (want + (n' + 1))).reverse T) l[want + n'] false = fes (l.drop (want + n')).reverse T := by
      rw [drop_get hx, List.reverse_cons, fes_app]
      rfl
    rw [e] at C4
    refine rf_37 hd hw hl16 B n' _ (by omega) (.inr (by omega)) C4 (fun k v hv => ?_) (F.trans (So.sA p M1 (.inr (.inr rfl)) _ _)) hk
    rw [mA_sA, if_neg (by omega)]; exact P k v hv
theorem Rows.at {a b : Nat} {f : Nat → Nat} (h : Rows M a f) (hb : b < 96) : mQ M a b = some (f b) ∧ kX M (f b) = (1, 129) := h.2.1 b hb
set_option maxHeartbeats 1000000 in
/-- rows are cleared -/
theorem rf_65 {o nb want : Nat} (hd : 1 ≤ d) (hw : want ≤ 16) {M0 : Mem} {l : List Nat} (hl : l.length = want) (B : BL T l) : ∀ (n' i : Nat) (M1 : Mem), i + n' = want → CX M1 p m J A T X → Pt M1 p l → Se p M0 M1 → (∀ k b : Nat, k < i → l[k]? = some b → Rw M1 (p + 2 + b) (fun _ => 0)) → (∀ b j, b < 96 → b ∉ l → mA M1 (p + 2 + b) j = mA M0 (p + 2 + b) j) →
    (∀ (M2 : Mem), CX M2 p m J A T X → Pt M2 p l → Se p M0 M2 → (∀ k b : Nat, l[k]? = some b → Rw M2 (p + 2 + b) (fun _ => 0)) → (∀ b j, b < 96 → b ∉ l → mA M2 (p + 2 + b) j = mA M0 (p + 2 + b) j) → Wp d 67 97 [some (.ref p), some (.int (I (o : Nat))), some (.int (I (nb : Nat))), some (.int (I (want : Nat))), some (.int (I (want : Nat))), some (.int (I 0)), none] [] M2 Q) →
    Wp d 67 65 [some (.ref p), some (.int (I (o : Nat))), some (.int (I (nb : Nat))), some (.int (I (want : Nat))), some (.int (I (want : Nat))), some (.int (I (i : Nat))), none] [] M1 Q
  | 0, i, M1, h1, C, P, F, hr, ho, hk => by
    simp (disch := first | (simp only [dd, dr]; done) | omega) only [w_67_65, W_67, I_lt, I_le, I_inj, inB_I, tc_I, Int.toNat_natCast, fkt, rf1, rf0, cq, Nat.reduceAdd, Nat.reduceEqDiff, Int.reduceToNat, eq_self, true_and, and_true, true_or, or_true, bI_0, bI_1, mm, rAm, mF_sF, mR_sR, false_and, and_false, if_false, if_true, false_or, or_false, not_true_eq_false, not_false_eq_true, and_self]
    refine ⟨fun _ => ?_, (fun h => by first | exact False.elim h | exact absurd trivial h | (exfalso; omega) | exact absurd rfl h | cases h)⟩
    simp (disch := first | (simp only [dd, dr]; done) | omega) only [W_67, I_lt, I_le, I_inj, inB_I, tc_I, Int.toNat_natCast, fkt, rf1, rf0, cq, Nat.reduceAdd, Nat.reduceEqDiff, Int.reduceToNat, eq_self, true_and, and_true, true_or, or_true, bI_0, bI_1, mm, rAm, mF_sF, mR_sR, false_and, and_false, if_false, if_true, false_or, or_false, not_true_eq_false, not_false_eq_true, and_self]
    exact hk M1 C P F (fun k b hb => hr k b (by have := (List.getElem?_eq_some_iff.mp hb).1; omega) hb) ho
  | n' + 1, i, M1, h1, C, P, F, hr, ho, hk => by
    have k0 := C.1.1.1
    have k4 := C.1.1.2.1
    have k5 := C.1.1.2.2.2.2.2.2.1
    have k198 := C.1.2.2.2.1.2.2.2
    have e1 := C.1.2.1
    have e1X := e1.1
    have hlt : i < l.length := by omega
    have hx : l[i]? = some l[i] := List.getElem?_eq_getElem hlt
    generalize l[i] = x at hx
    obtain ⟨b1, b2, b3, b4⟩ := B.2 _ (List.mem_of_getElem? hx)
    have hp := P _ _ hx
    obtain ⟨eQ1, kX1⟩ := e1.2.1 x b2
    simp (disch := first | (simp only [dd, dr]; done) | omega) only [w_67_65, W_67, k0, k4, k5, I_lt, I_le, I_inj, inB_I, tc_I, Int.toNat_natCast, fkt, rf1, rf0, cq, Nat.reduceAdd, Nat.reduceEqDiff, Int.reduceToNat, eq_self, true_and, and_true, true_or, or_true, bI_0, bI_1, mm, rAm, mF_sF, mR_sR, false_and, and_false, if_false, if_true, false_or, or_false, not_true_eq_false, not_false_eq_true, and_self]
    refine ⟨(fun h => by first | exact False.elim h | exact absurd trivial h | (exfalso; omega) | exact absurd rfl h | cases h), fun _ => ?_⟩
    simp (disch := first | (simp only [dd, dr]; done) | omega) only [W_67, k0, k4, k5, k198, hp, e1X, eQ1, I_lt, I_le, I_inj, inB_I, tc_I, Int.toNat_natCast, fkt, rf1, rf0, cq, Nat.reduceAdd, Nat.reduceEqDiff, Int.reduceToNat, eq_self, true_and, and_true, true_or, or_true, bI_0, bI_1, mm, rAm, mF_sF, mR_sR, false_and, and_false, if_false, if_true, false_or, or_false, not_true_eq_false, not_false_eq_true, and_self]
    refine cr_26 (by omega) (c_clear (k := 0) kX1 ?_)
    simp (disch := first | (simp only [dd, dr]; done) | omega) only [W_67, I_lt, I_le, I_inj, inB_I, tc_I, Int.toNat_natCast, fkt, rf1, rf0, cq, Nat.reduceAdd, Nat.reduceEqDiff, Int.reduceToNat, eq_self, true_and, and_true, true_or, or_true, bI_0, bI_1, mm, rAm, mF_sF, mR_sR, false_and, and_false, if_false, if_true, false_or, or_false, not_true_eq_false, not_false_eq_true, and_self]
    rw [show ((i : Int) + 1) = ((i + 1 : Nat) : Int) by omega]
    have hS : Se p M1 (rA M1 (p + 2 + x) (fun j => if j < 128 then I 0 else if j = 128 then bB 0 else mA M1 (p + 2 + x) j)) := Se.rA p M1 (.inl ⟨by omega, by omega⟩) _
    refine rf_65 hd hw hl B n' (i + 1) _ (by omega) (C.se hS (fun j => by rw [mA_rA, if_neg (by omega)])) (fun k v hv => by rw [mA_rA, if_neg (by omega)]; exact P k v hv) (F.trans hS) (fun k b hk' hb => ?_) (fun b j hb hbl => ?_) hk
    · by_cases e : b = x
      · rw [e]
        refine ⟨kX1, fun j hj => ?_⟩
        rw [mA_rA, if_pos rfl]
        by_cases hj' : j < 128
        · rw [if_pos hj']; exact bB_0.symm
        · rw [if_neg hj', if_pos (by omega)]; rfl
      · have hki : k < i := by
          apply Classical.byContradiction
          intro hc
          have : k = i := by omega
          rw [this, hx] at hb
          exact e (Option.some.inj hb).symm
        obtain ⟨r1, r2⟩ := hr k b hki hb
        exact ⟨r1, fun j hj => by rw [mA_rA, if_neg (by omega)]; exact r2 j hj⟩
    · rw [mA_rA, if_neg]
      · exact ho b j hb hbl
      · intro e
        have : b = x := by omega
        rw [this] at hbl
        exact hbl (List.mem_of_getElem? hx)
/-- what a data row has -/
def drf (F : Nat → Nat) (n k j : Nat) : Nat := if j = 128 then 0 else if 128 * k + j < n then F (128 * k + j) else 0
set_option maxHeartbeats 1000000 in
/-- bytes are laid -/
theorem rf_97 {o nb want : Nat} {Fb : Nat → Nat} (hd : 1 ≤ d) (hw : want ≤ 16) (hnb : nb ≤ 2048) {M0 : Mem} (hF : ∀ i, i < nb → mA M0 (p + 197) i = bB (Fb i : Nat)) {l : List Nat} (hl : l.length = want) (B : BL T l) : ∀ (n' i : Nat) (M1 : Mem), i + n' = (if want * 128 ≤ nb then want * 128 else nb) → CX M1 p m J A T X → Pt M1 p l → Se p M0 M1 → (∀ k b : Nat, l[k]? = some b → Rw M1 (p + 2 + b) (drf Fb i k)) → (∀ b j, b < 96 → b ∉ l → mA M1 (p + 2 + b) j = mA M0 (p + 2 + b) j) →
    (∀ (M2 : Mem), CX M2 p m J A T X → Pt M2 p l → Se p M0 M2 → (∀ k b : Nat, l[k]? = some b → Rw M2 (p + 2 + b) (drf Fb nb k)) → (∀ b j, b < 96 → b ∉ l → mA M2 (p + 2 + b) j = mA M0 (p + 2 + b) j) → Wp d 67 153 [some (.ref p), some (.int (I (o : Nat))), some (.int (I (nb : Nat))), some (.int (I (want : Nat))), some (.int (I (want : Nat))), some (.int (I 0)), none] [] M2 Q) →
    Wp d 67 97 [some (.ref p), some (.int (I (o : Nat))), some (.int (I (nb : Nat))), some (.int (I (want : Nat))), some (.int (I (want : Nat))), some (.int (I (i : Nat))), none] [] M1 Q
  | 0, i, M1, h1, C, P, F, hr, ho, hk => by
    have hib : i ≤ 2048 := by split at h1 <;> omega
    have fin : Wp d 67 153 [some (.ref p), some (.int (I (o : Nat))), some (.int (I (nb : Nat))), some (.int (I (want : Nat))), some (.int (I (want : Nat))), some (.int (I 0)), none] [] M1 Q := by
      refine hk M1 C P F (fun k b hb => ?_) ho
      obtain ⟨r1, r2⟩ := hr k b hb
      refine ⟨r1, fun j hj => ?_⟩
      rw [r2 j hj]
      have hk' := (List.getElem?_eq_some_iff.mp hb).1
      unfold drf
      by_cases e : j = 128
      · rw [if_pos e, if_pos e]
      · rw [if_neg e, if_neg e]
        have : (128 * k + j < i) ↔ (128 * k + j < nb) := by
          by_cases hc : want * 128 ≤ nb
          · rw [if_pos hc] at h1; omega
          · rw [if_neg hc] at h1; omega
        by_cases hc : 128 * k + j < i
        · rw [if_pos hc, if_pos (this.mp hc)]
        · rw [if_neg hc, if_neg (fun h => hc (this.mpr h))]
    simp (disch := first | (simp only [dd, dr]; done) | omega) only [w_67_97, W_67, I_lt, I_le, I_inj, inB_I, tc_I, Int.toNat_natCast, fkt, rf1, rf0, cq, Nat.reduceAdd, Nat.reduceEqDiff, Int.reduceToNat, eq_self, true_and, and_true, true_or, or_true, bI_0, bI_1, mm, rAm, mF_sF, mR_sR, false_and, and_false, if_false, if_true, false_or, or_false, not_true_eq_false, not_false_eq_true, and_self]
    refine ⟨fun _ => ?_, fun h => ?_⟩
    · simp (disch := first | (simp only [dd, dr]; done) | omega) only [W_67, I_lt, I_le, I_inj, inB_I, tc_I, Int.toNat_natCast, fkt, rf1, rf0, cq, Nat.reduceAdd, Nat.reduceEqDiff, Int.reduceToNat, eq_self, true_and, and_true, true_or, or_true, bI_0, bI_1, mm, rAm, mF_sF, mR_sR, false_and, and_false, if_false, if_true, false_or, or_false, not_true_eq_false, not_false_eq_true, and_self]
      exact fin
    · simp (disch := first | (simp only [dd, dr]; done) | omega) only [W_67, I_lt, I_le, I_inj, inB_I, tc_I, Int.toNat_natCast, fkt, rf1, rf0, cq, Nat.reduceAdd, Nat.reduceEqDiff, Int.reduceToNat, eq_self, true_and, and_true, true_or, or_true, bI_0, bI_1, mm, rAm, mF_sF, mR_sR, false_and, and_false, if_false, if_true, false_or, or_false, not_true_eq_false, not_false_eq_true, and_self]
      refine ⟨fun _ => ?_, fun h' => ?_⟩
      · simp (disch := first | (simp only [dd, dr]; done) | omega) only [W_67, I_lt, I_le, I_inj, inB_I, tc_I, Int.toNat_natCast, fkt, rf1, rf0, cq, Nat.reduceAdd, Nat.reduceEqDiff, Int.reduceToNat, eq_self, true_and, and_true, true_or, or_true, bI_0, bI_1, mm, rAm, mF_sF, mR_sR, false_and, and_false, if_false, if_true, false_or, or_false, not_true_eq_false, not_false_eq_true, and_self]
        exact fin
      · exfalso
        by_cases hc : want * 128 ≤ nb
        · rw [if_pos hc] at h1; omega
        · rw [if_neg hc] at h1; omega
  | n' + 1, i, M1, h1, C, P, F, hr, ho, hk => by
    have hi1 : i < want * 128 ∧ i < nb := by
      by_cases hc : want * 128 ≤ nb
      · rw [if_pos hc] at h1; omega
      · rw [if_neg hc] at h1; omega
    have k0 := C.1.1.1
    have k3 := C.1.1.2.2.2.2.2.1
    have k4 := C.1.1.2.1
    have k5 := C.1.1.2.2.2.2.2.2.1
    have k198 := C.1.2.2.2.1.2.2.2
    have k197 := C.1.2.2.2.1.2.2.1
    have e1 := C.1.2.1
    have e1X := e1.1
    have hlt : i / 128 < l.length := by omega
    have hx : l[i / 128]? = some l[i / 128] := List.getElem?_eq_getElem hlt
    generalize l[i / 128] = x at hx
    obtain ⟨b1, b2, b3, b4⟩ := B.2 _ (List.mem_of_getElem? hx)
    have hp := P _ _ hx
    obtain ⟨eQ1, kX1⟩ := e1.2.1 x b2
    have hfi : mA M1 (p + 197) i = bB (Fb i : Nat) := by rw [F.2.2.2.2 _ _ (by omega)]; exact hF i hi1.2
    have hdv : (i : Int) / 128 = ((i / 128 : Nat) : Int) := by omega
    have hmd : (i : Int) % 128 = ((i % 128 : Nat) : Int) := by omega
    simp (disch := first | (simp only [dd, dr]; done) | omega) only [w_67_97, W_67, I_lt, I_le, I_inj, inB_I, tc_I, Int.toNat_natCast, fkt, rf1, rf0, cq, Nat.reduceAdd, Nat.reduceEqDiff, Int.reduceToNat, eq_self, true_and, and_true, true_or, or_true, bI_0, bI_1, mm, rAm, mF_sF, mR_sR, false_and, and_false, if_false, if_true, false_or, or_false, not_true_eq_false, not_false_eq_true, and_self]
    refine ⟨(fun h => by first | exact False.elim h | exact absurd trivial h | (exfalso; omega) | exact absurd rfl h | cases h), fun _ => ?_⟩
    simp (disch := first | (simp only [dd, dr]; done) | omega) only [W_67, I_lt, I_le, I_inj, inB_I, tc_I, Int.toNat_natCast, fkt, rf1, rf0, cq, Nat.reduceAdd, Nat.reduceEqDiff, Int.reduceToNat, eq_self, true_and, and_true, true_or, or_true, bI_0, bI_1, mm, rAm, mF_sF, mR_sR, false_and, and_false, if_false, if_true, false_or, or_false, not_true_eq_false, not_false_eq_true, and_self]
    refine ⟨(fun h => by first | exact False.elim h | exact absurd trivial h | (exfalso; omega) | exact absurd rfl h | cases h), fun _ => ?_⟩
    simp (disch := first | (simp only [dd, dr]; done) | omega) only [W_67, hdv, hmd, k0, k3, k4, k5, k198, hp, e1X, eQ1, kX1, k197, hfi, nrw_b, bB_i2b, I_lt, I_le, I_inj, inB_I, tc_I, Int.toNat_natCast, fkt, rf1, rf0, cq, Nat.reduceAdd, Nat.reduceEqDiff, Int.reduceToNat, eq_self, true_and, and_true, true_or, or_true, bI_0, bI_1, mm, rAm, mF_sF, mR_sR, false_and, and_false, if_false, if_true, false_or, or_false, not_true_eq_false, not_false_eq_true, and_self]
    rw [show ((i : Int) + 1) = ((i + 1 : Nat) : Int) by omega]
    have hS : Se p M1 (sA M1 (p + 2 + x) (i % 128) (bB (Fb i : Nat))) := Se.sA p M1 (.inl ⟨by omega, by omega⟩) _ _
    refine rf_97 hd hw hnb hF hl B n' (i + 1) _ (by omega) (C.se hS (fun j => by rw [mA_sA, if_neg (by omega)])) (fun k v hv => by rw [mA_sA, if_neg (by omega)]; exact P k v hv) (F.trans hS) (fun k b hb => ?_) (fun b j hb hbl => ?_) hk
    · obtain ⟨r1, r2⟩ := hr k b hb
      refine ⟨r1, fun j hj => ?_⟩
      rw [mA_sA]
      have hkl := (List.getElem?_eq_some_iff.mp hb).1
      by_cases e : b = x
      · have hki : k = i / 128 := (List.getElem?_inj hkl B.1).mp (by rw [hb, hx, e])
        by_cases ej : j = i % 128
        · rw [if_pos ⟨by omega, ej⟩]
          unfold drf
          rw [if_neg (by omega), if_pos (by omega), show 128 * k + j = i by omega]
        · rw [if_neg (fun h => ej h.2), r2 j hj]
          unfold drf
          by_cases e8 : j = 128
          · rw [if_pos e8, if_pos e8]
          · rw [if_neg e8, if_neg e8]
            by_cases hc : 128 * k + j < i
            · rw [if_pos hc, if_pos (by omega)]
            · rw [if_neg hc, if_neg (by omega)]
      · rw [if_neg (fun h => e (by omega)), r2 j hj]
        have hki : k ≠ i / 128 := by intro h; rw [h, hx] at hb; exact e (Option.some.inj hb).symm
        unfold drf
        by_cases e8 : j = 128
        · rw [if_pos e8, if_pos e8]
        · rw [if_neg e8, if_neg e8]
          by_cases hc : 128 * k + j < i
          · rw [if_pos hc, if_pos (by omega)]
          · rw [if_neg hc, if_neg (by omega)]
    · rw [mA_sA, if_neg]
      · exact ho b j hb hbl
      · rintro ⟨e, _⟩
        have : b = x := by omega
        rw [this] at hbl
        exact hbl (List.mem_of_getElem? hx)
theorem shl8 {v : Nat} (hv : v < 8388608) : I (v : Nat) <<< (I 8 &&& 31) = I ((v * 256 : Nat) : Int) := by
  have h := sh8 hv (u := 0) (by omega)
  rw [Nat.add_zero] at h
  rw [← h]
  have : ∀ x : Int32, x ||| I ((0 : Nat) : Int) = x := by
    intro x
    apply Int32.toBitVec_inj.mp
    rw [Int32.toBitVec_or, I_bvn]
    simp
  rw [this]
set_option maxHeartbeats 1000000 in
/-- pointers become a body -/
theorem rf_153 {o nb want : Nat} (hd : 1 ≤ d) (hw : want ≤ 16) {l : List Nat} (hl : l.length = want) (B : BL T l) {M0 : Mem} (C : CX M0 p m J A T X) (P : Pt M0 p l) : ∀ (n' i : Nat) (g : Nat → Int32), i + n' = want → (∀ k b : Nat, k < i → l[k]? = some b → g (2 * k) = bB (b : Nat) ∧ g (2 * k + 1) = bB 0) →
    (∀ g, (∀ i v, (l.flatMap (fun b => [b, 0]))[i]? = some v → g i = bB (v : Nat)) → Wp d 67 188 [some (.ref p), some (.int (I (o : Nat))), some (.int (I (nb : Nat))), some (.int (I (want : Nat))), some (.int (I (want : Nat))), some (.int (I (want : Nat))), none] [] (rA M0 (p + 196) g) Q) →
    Wp d 67 153 [some (.ref p), some (.int (I (o : Nat))), some (.int (I (nb : Nat))), some (.int (I (want : Nat))), some (.int (I (want : Nat))), some (.int (I (i : Nat))), none] [] (rA M0 (p + 196) g) Q
  | 0, i, g, h1, hg, hk => by
    obtain rfl : i = want := by omega
    simp (disch := first | (simp only [dd, dr]; done) | omega) only [w_67_153, W_67, I_lt, I_le, I_inj, inB_I, tc_I, Int.toNat_natCast, fkt, rf1, rf0, cq, Nat.reduceAdd, Nat.reduceEqDiff, Int.reduceToNat, eq_self, true_and, and_true, true_or, or_true, bI_0, bI_1, mm, rAm, mF_sF, mR_sR, false_and, and_false, if_false, if_true, false_or, or_false, not_true_eq_false, not_false_eq_true, and_self]
    refine ⟨fun _ => ?_, (fun h => by first | exact False.elim h | exact absurd trivial h | (exfalso; omega) | exact absurd rfl h | cases h)⟩
    refine hk g (fun j v hv => ?_)
    have hlt : ∀ (l : List Nat) (j v : Nat), (l.flatMap (fun b => [b, 0]))[j]? = some v → ∃ b, l[j / 2]? = some b ∧ v = if j % 2 = 0 then b else 0 := by
      intro l
      induction l with
      | nil => intro j v h; simp at h
      | cons a l ih =>
        intro j v h
        rw [List.flatMap_cons] at h
        match j, h with
        | 0, h => exact ⟨a, rfl, (Option.some.inj h).symm⟩
        | 1, h => exact ⟨a, rfl, (Option.some.inj h).symm⟩
        | j + 2, h =>
          rw [List.getElem?_append_right (by simp)] at h
          obtain ⟨b, b1, b2⟩ := ih j v h
          exact ⟨b, by rw [show (j + 2) / 2 = j / 2 + 1 by omega, List.getElem?_cons_succ]; exact b1, by rw [show (j + 2) % 2 = j % 2 by omega]; exact b2⟩
    obtain ⟨b, b1, b2⟩ := hlt l j v hv
    have hbl := (List.getElem?_eq_some_iff.mp b1).1
    obtain ⟨g1, g2⟩ := hg _ b (by omega) b1
    by_cases e : j % 2 = 0
    · rw [if_pos e] at b2
      rw [show j = 2 * (j / 2) by omega, g1, b2]
    · rw [if_neg e] at b2
      rw [show j = 2 * (j / 2) + 1 by omega, g2, b2]; rfl
  | n' + 1, i, g, h1, hg, hk => by
    have k0 := C.1.1.1
    have kb := C.1.1.2.2.2.2.1
    have k5 := C.1.1.2.2.2.2.2.2.1
    have k198 := C.1.2.2.2.1.2.2.2
    have k196 := C.1.2.2.2.1.2.1
    have hx : l[i]? = some l[i] := List.getElem?_eq_getElem (by omega)
    generalize l[i] = x at hx
    obtain ⟨b1, b2, b3, b4⟩ := B.2 _ (List.mem_of_getElem? hx)
    have hp : mA (rA M0 (p + 196) g) (p + 198) i = I (x : Nat) := by rw [mA_rA, if_neg (by omega)]; exact P _ _ hx
    have hsh := shl8 (v := x) (by omega)
    simp (disch := first | (simp only [dd, dr]; done) | omega) only [w_67_153, W_67, k0, kb, k5, I_lt, I_le, I_inj, inB_I, tc_I, Int.toNat_natCast, fkt, rf1, rf0, cq, Nat.reduceAdd, Nat.reduceEqDiff, Int.reduceToNat, eq_self, true_and, and_true, true_or, or_true, bI_0, bI_1, mm, rAm, mF_sF, mR_sR, false_and, and_false, if_false, if_true, false_or, or_false, not_true_eq_false, not_false_eq_true, and_self]
    refine ⟨(fun h => by first | exact False.elim h | exact absurd trivial h | (exfalso; omega) | exact absurd rfl h | cases h), fun _ => ?_⟩
    simp (disch := first | (simp only [dd, dr]; done) | omega) only [W_67, k0, kb, k5, k198, hp, hsh, I_lt, I_le, I_inj, inB_I, tc_I, Int.toNat_natCast, fkt, rf1, rf0, cq, Nat.reduceAdd, Nat.reduceEqDiff, Int.reduceToNat, eq_self, true_and, and_true, true_or, or_true, bI_0, bI_1, mm, rAm, mF_sF, mR_sR, false_and, and_false, if_false, if_true, false_or, or_false, not_true_eq_false, not_false_eq_true, and_self]
    rw [show (2 : Int) * (i : Int) = ((2 * i : Nat) : Int) by omega]
    refine cr_23 (by omega) (c_putNumber (n := 48) (k := 2 * i) (m := 2) (by exact k196) (by omega) (by omega) (by omega) (by omega) ?_)
    simp (disch := first | (simp only [dd, dr]; done) | omega) only [W_67, I_lt, I_le, I_inj, inB_I, tc_I, Int.toNat_natCast, fkt, rf1, rf0, cq, Nat.reduceAdd, Nat.reduceEqDiff, Int.reduceToNat, eq_self, true_and, and_true, true_or, or_true, bI_0, bI_1, mm, rAm, mF_sF, mR_sR, false_and, and_false, if_false, if_true, false_or, or_false, not_true_eq_false, not_false_eq_true, and_self]
    rw [rA_rA, show ((i : Int) + 1) = ((i + 1 : Nat) : Int) by omega]
    refine rf_153 hd hw hl B C P n' (i + 1) _ (by omega) (fun k b hk' hb => ?_) hk
    simp only [mA_rA, if_true]
    by_cases e : k = i
    · rw [e, hx] at hb
      obtain rfl := Option.some.inj hb
      rw [e, if_pos (by omega), if_pos (by omega)]
      rw [show 2 - 1 - (2 * i - 2 * i) = 1 by omega, show 2 - 1 - (2 * i + 1 - 2 * i) = 0 by omega]
      refine ⟨?_, ?_⟩
      · rw [show x * 256 / 256 ^ 1 = x by omega]
      · rw [← bB_mod]
        congr 1
        omega
    · rw [if_neg (by omega), if_neg (by omega)]
      exact hg k b (by omega) hb
end Rf3
