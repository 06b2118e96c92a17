/-! ===== THE COMPONENT: files are read; blocks are taken ===== -/
section Rfm
variable {d p m J : Nat} {M M' : Mem} {A A' : Ad} {T T' : Tr} {X X' : Ob} {Q : Outcome → Mem → Prop} {ok : Bool} {dt : Nat → Nat → Nat}
theorem n_undo2 {M1 : Mem} {x : Nat} (hd : 50 ≤ d) (C : CX M1 p m J A T X) (hsp : ∀ b, tU T b = true → Rw M1 (p + 99 + b) (img m T (pyO X) dt b)) (P : PK M p m J) (N : NB A' (p + 403 + J)) (K : JT M (p + 201) (p + 199) m A') (F : CF p A A' x M1 M) (Fs : ∀ a i, p + 99 ≤ a → a ≤ p + 194 → mA M a i = mA M1 a i) (hQ : ∀ M' A'', CX M' p m J A'' T X → DR M' p T dt → CF p A A'' x M1 M' → (∀ a, a < mN M → mK M' a = mK M a) → Q (.returned none) M') : Wp d 49 0 [some (.ref p), none] [] M Q := by
  have h5 : p + 403 + J ≤ mN M := by have := C.2.2.2.2; have := F.2.2.2.2.2.2.1; omega
  refine n_putBack (T := T) (py := pyO X) (dt := dt) hd P K N h5 C.2.2.1 (fun b hb => ?_) (fun M2 M' A'' F2 o2 R' D' F' => ?_)
  · have r := hsp b hb
    have hb' := C.us b hb
    refine ⟨?_, fun i hi => by rw [Fs _ _ (by omega) (by omega)]; exact r.2 i hi⟩
    have := r.1
    unfold kX at this ⊢
    rw [F.1 _ (by have := C.2.2.2.2; omega)]; exact this
  · have hN : mN M2 = mN M := F2.f1.2.2.2.2.2.2.1
    have F3 : CF p A' A' 0 M M2 := F2.cf A' (fun z i hz => o2 z i (fun b hb => (hz b hb).1))
    have h0 := (F.trans F3).trans F'.cf
    refine hQ M' A'' ⟨(P.ro F2).fr N F' (by omega), R', C.2.2.1, N.fr F' (by omega), by have := F'.2.2.2.2.2.2.1; omega⟩ D' h0 (fun a ha => ?_)
    rw [F'.1 a (by omega)]; exact F2.f1.2.2.2.2.2.2.2.2 a
/-- a file's bytes -/
def fc (X : Ob) (dt : Nat → Nat → Nat) (o i : Nat) : Nat := if i < 128 * (oD X o).length then dt ((oD X o).getD (i / 128) 0) (i % 128) else (oT X o).getD (i - 128 * (oD X o).length) 0
set_option maxHeartbeats 2000000 in
theorem n_readFile (hd : 16 ≤ d) (C : CX M p m J A T X) (D : DR M p T dt) {o : Nat} (ho : o ≤ 60) (hD : ky o 2 0 ∈ its T ↔ oD X o ≠ []) (hT : ky o 3 0 ∈ its T ↔ oT X o ≠ []) (hb : ∀ b ∈ oD X o, 1 ≤ b ∧ b < 96 ∧ tU T b = true ∧ tH T b = 0) (hl : 128 * (oD X o).length + (oT X o).length ≤ 2048) (hQ : ∀ M', CX M' p m J A T X → Sc p M M' → (∀ i, i < 128 * (oD X o).length + (oT X o).length → mA M' (p + 197) i = bB (fc X dt o i : Nat)) → Q (.returned none) M') : Wp d 65 0 [some (.ref p), some (.int (I (o : Nat))), none, none, none] [] M Q := by
  have k0 := C.1.1.1
  simp (disch := first | (simp only [dd, dr]; done) | omega) only [W_65, k0, I_lt, I_le, I_inj, inB_I, tc_I, Int.toNat_natCast, fkt, rf1, rf0, cq, Nat.reduceAdd, Nat.reduceEqDiff, Int.reduceToNat, eq_self, true_and, and_true, true_or, or_true, bI_0, bI_1, mm, rAm, mF_sF, mR_sR, false_and, and_false, if_false, if_true, false_or, or_false, not_true_eq_false, not_false_eq_true, and_self]
  refine ca_56 (by omega) (n_readPointers (by omega) C ho hD (fun b h => by have := hb b h; omega) (by omega) (fun M1 g T1 C1 hg => ?_))
  have F1 : Sc p M (rA M1 (p + 198) g) := T1.sc.trans (Sc.rA p M1 (w := p + 198) ⟨by omega, by omega⟩ g)
  have hg' : ∀ k v, (oD X o)[k]? = some v → mA (rA M1 (p + 198) g) (p + 198) k = I (v : Nat) := fun k v hv => by rw [mA_rA, if_pos rfl]; exact hg k v hv
  generalize rA M1 (p + 198) g = M2 at *
  clear hg T1 M1
  simp (disch := first | (simp only [dd, dr]; done) | omega) only [W_65, I_lt, I_le, I_inj, inB_I, tc_I, Int.toNat_natCast, fkt, rf1, rf0, cq, Nat.reduceAdd, Nat.reduceEqDiff, Int.reduceToNat, eq_self, true_and, and_true, true_or, or_true, bI_0, bI_1, mm, rAm, mF_sF, mR_sR, false_and, and_false, if_false, if_true, false_or, or_false, not_true_eq_false, not_false_eq_true, and_self]
  have D2 := D.sc C.us F1
  have k02 := C1.1.1.1
  have k32 := C1.1.1.2.2.2.2.2.1
  have k42 := C1.1.1.2.1
  have k52 := C1.1.1.2.2.2.2.2.2.1
  have k198 := C1.1.2.2.2.1.2.2.2
  have k197 := C1.1.2.2.2.1.2.2.1
  have e1 := C1.1.2.1
  have e1X := e1.1
  have hn : (oD X o).length ≤ 16 := by omega
  suffices H : ∀ n' (i : Nat) (g : Nat → Int32), i + n' = 128 * (oD X o).length → (∀ k, k < i → g k = bB (fc X dt o k : Nat)) → Wp d 65 8 [some (.ref p), some (.int (I (o : Nat))), some (.int (I ((oD X o).length : Nat))), some (.int (I (i : Nat))), none] [] (rA M2 (p + 197) g) Q by
    have := H (128 * (oD X o).length) 0 (fun i => mA M2 (p + 197) i) (by omega) (fun k hk => by omega)
    rw [rA_id] at this
    exact this
  intro n'
  induction n' with
  | zero =>
    intro i g hi hg
    simp (disch := first | (simp only [dd, dr]; done) | omega) only [w_65_8, W_65, I_lt, I_le, I_inj, inB_I, tc_I, Int.toNat_natCast, fkt, rf1, rf0, cq, Nat.reduceAdd, Nat.reduceEqDiff, Int.reduceToNat, eq_self, true_and, and_true, true_or, or_true, bI_0, bI_1, mm, rAm, mF_sF, mR_sR, false_and, and_false, if_false, if_true, false_or, or_false, not_true_eq_false, not_false_eq_true, and_self]
    refine ⟨fun _ => ?_, (fun h => by first | exact False.elim h | exact absurd trivial h | (exfalso; omega) | exact absurd rfl h | cases h)⟩
    have C3 := C1.sc (Sc.rA p M2 (w := p + 197) ⟨by omega, by omega⟩ g)
    simp (disch := first | (simp only [dd, dr]; done) | omega) only [W_65, k02, I_lt, I_le, I_inj, inB_I, tc_I, Int.toNat_natCast, fkt, rf1, rf0, cq, Nat.reduceAdd, Nat.reduceEqDiff, Int.reduceToNat, eq_self, true_and, and_true, true_or, or_true, bI_0, bI_1, mm, rAm, mF_sF, mR_sR, false_and, and_false, if_false, if_true, false_or, or_false, not_true_eq_false, not_false_eq_true, and_self]
    refine ca_57 (by omega) (n_bytesOf (k := 3) (by omega) C3 ho (by omega) (fun M4 q T4 C4 e14 kq e16 hpl hL hin => ?_))
    have e : (if ky o 3 0 ∈ its T then (pyO X (ky o 3 0)).length else 0) = (oT X o).length := by
      by_cases h : ky o 3 0 ∈ its T
      · rw [if_pos h, pyO_3]
      · rw [if_neg h]
        have : oT X o = [] := by
          apply Classical.byContradiction
          intro h'; exact h (hT.mpr h')
        rw [this]; rfl
    rw [e]
    have F4 : Sc p M M4 := (F1.trans (Sc.rA p M2 (w := p + 197) ⟨by omega, by omega⟩ g)).trans T4.sc
    have g4 : ∀ k, k < i → mA M4 (p + 197) k = bB (fc X dt o k : Nat) := fun k hk => by rw [T4.f1.1, mA_rA, if_pos rfl]; exact hg k hk
    have k04 := C4.1.1.1
    have k34 := C4.1.1.2.2.2.2.2.1
    have k94 := C4.1.1.2.2.2.2.2.2.2.2.1
    have kt4 := C4.2.1.1.1.1
    have k197' := C4.1.2.2.2.1.2.2.1
    have hq3 := hL.1.2.2.2.2.2.2
    have hr35 := hL.1.2.2.2.1
    simp (disch := first | (simp only [dd, dr]; done) | omega) only [W_65, I_lt, I_le, I_inj, inB_I, tc_I, Int.toNat_natCast, fkt, rf1, rf0, cq, Nat.reduceAdd, Nat.reduceEqDiff, Int.reduceToNat, eq_self, true_and, and_true, true_or, or_true, bI_0, bI_1, mm, rAm, mF_sF, mR_sR, false_and, and_false, if_false, if_true, false_or, or_false, not_true_eq_false, not_false_eq_true, and_self]
    suffices H2 : ∀ n2 (j : Nat) (g2 : Nat → Int32), j + n2 = (oT X o).length → (∀ k, k < 128 * (oD X o).length + j → g2 k = bB (fc X dt o k : Nat)) → Wp d 65 60 [some (.ref p), some (.int (I (o : Nat))), some (.int (I ((oD X o).length : Nat))), some (.int (I ((oT X o).length : Nat))), some (.int (I (j : Nat)))] [] (rA M4 (p + 197) g2) Q by
      have := H2 (oT X o).length 0 (fun i => mA M4 (p + 197) i) (by omega) (fun k hk => g4 k (by omega))
      rw [rA_id] at this
      exact this
    intro n2
    induction n2 with
    | zero =>
      intro j g2 hj hg2
      simp (disch := first | (simp only [dd, dr]; done) | omega) only [w_65_60, W_65, I_lt, I_le, I_inj, inB_I, tc_I, Int.toNat_natCast, fkt, rf1, rf0, cq, Nat.reduceAdd, Nat.reduceEqDiff, Int.reduceToNat, eq_self, true_and, and_true, true_or, or_true, bI_0, bI_1, mm, rAm, mF_sF, mR_sR, false_and, and_false, if_false, if_true, false_or, or_false, not_true_eq_false, not_false_eq_true, and_self]
      refine ⟨fun _ => ?_, (fun h => by first | exact False.elim h | exact absurd trivial h | (exfalso; omega) | exact absurd rfl h | cases h)⟩
      simp (disch := first | (simp only [dd, dr]; done) | omega) only [W_65, I_lt, I_le, I_inj, inB_I, tc_I, Int.toNat_natCast, fkt, rf1, rf0, cq, Nat.reduceAdd, Nat.reduceEqDiff, Int.reduceToNat, eq_self, true_and, and_true, true_or, or_true, bI_0, bI_1, mm, rAm, mF_sF, mR_sR, false_and, and_false, if_false, if_true, false_or, or_false, not_true_eq_false, not_false_eq_true, and_self]
      exact hQ _ (C4.sc (Sc.rA p M4 (w := p + 197) ⟨by omega, by omega⟩ g2)) (F4.trans (Sc.rA p M4 (w := p + 197) ⟨by omega, by omega⟩ g2)) (fun k hk => by rw [mA_rA, if_pos rfl]; exact hg2 k (by omega))
    | succ n2 ih2 =>
      intro j g2 hj hg2
      have hj' : j < (oT X o).length := by omega
      have hx : (oT X o)[j]? = some (oT X o)[j] := List.getElem?_eq_getElem hj'
      have hin' := hin (hT.mpr (fun h => by rw [h] at hj'; exact absurd hj' (by simp)))
      have hL2 : LfIs (rA M4 (p + 197) g2) q (tI T (lfT T (ky o 3 0))) (pyO X) := by
        refine hL.sm (fun _ _ _ => rfl) (fun _ => rfl) (fun _ => rfl) (fun a i' h1 h2 => ?_)
        rw [mA_rA, if_neg]
        intro e
        rw [← e] at k197'
        have l := hL.1
        have : a = q ∨ a = q + 1 ∨ a = q + 2 ∨ a = q + 3 := by omega
        rcases this with h | h | h | h
        · rw [h, kO_X l.1 (by omega)] at k197'; cases k197'
        · rw [h, l.2.2.2.2.1] at k197'; cases k197'
        · rw [h, l.2.2.2.2.2.1] at k197'; cases k197'
        · rw [h, l.2.2.2.2.2.2] at k197'; cases k197'
      obtain ⟨b1, b2⟩ := hL2.body hin'
      have b3 := b2 j _ (by rw [pyO_3]; exact hx)
      rw [pyO_3] at b1
      generalize hfr : ((List.take (pl (ky o 3 0) (tI T (lfT T (ky o 3 0)))) (tI T (lfT T (ky o 3 0)))).flatMap (pyO X)).length = fr at *
      simp (disch := first | (simp only [dd, dr]; done) | omega) only [w_65_60, W_65, k04, k34, I_lt, I_le, I_inj, inB_I, tc_I, Int.toNat_natCast, fkt, rf1, rf0, cq, Nat.reduceAdd, Nat.reduceEqDiff, Int.reduceToNat, eq_self, true_and, and_true, true_or, or_true, bI_0, bI_1, mm, rAm, mF_sF, mR_sR, false_and, and_false, if_false, if_true, false_or, or_false, not_true_eq_false, not_false_eq_true, and_self]
      refine ⟨(fun h => by first | exact False.elim h | exact absurd trivial h | (exfalso; omega) | exact absurd rfl h | cases h), fun _ => ?_⟩
      simp (disch := first | (simp only [dd, dr]; done) | omega) only [W_65, k04, k34, k94, kt4, e14, kq, e16, hr35, I_lt, I_le, I_inj, inB_I, tc_I, Int.toNat_natCast, fkt, rf1, rf0, cq, Nat.reduceAdd, Nat.reduceEqDiff, Int.reduceToNat, eq_self, true_and, and_true, true_or, or_true, bI_0, bI_1, mm, rAm, mF_sF, mR_sR, false_and, and_false, if_false, if_true, false_or, or_false, not_true_eq_false, not_false_eq_true, and_self]
      refine ca_126 (by omega) (l_from hL2 hpl ?_)
      rw [hfr]
      simp (disch := first | (simp only [dd, dr]; done) | omega) only [W_65, I_lt, I_le, I_inj, inB_I, tc_I, Int.toNat_natCast, fkt, rf1, rf0, cq, Nat.reduceAdd, Nat.reduceEqDiff, Int.reduceToNat, eq_self, true_and, and_true, true_or, or_true, bI_0, bI_1, mm, rAm, mF_sF, mR_sR, false_and, and_false, if_false, if_true, false_or, or_false, not_true_eq_false, not_false_eq_true, and_self]
      rw [show (fr : Int) + (j : Int) = ((fr + j : Nat) : Int) by omega, show ((oD X o).length : Int) * 128 + (j : Int) = ((128 * (oD X o).length + j : Nat) : Int) by omega]
      simp (disch := first | (simp only [dd, dr]; done) | omega) only [W_65, hq3, b3, k197', nrw_b, bB_i2b, sA_rA, I_lt, I_le, I_inj, inB_I, tc_I, Int.toNat_natCast, fkt, rf1, rf0, cq, Nat.reduceAdd, Nat.reduceEqDiff, Int.reduceToNat, eq_self, true_and, and_true, true_or, or_true, bI_0, bI_1, mm, rAm, mF_sF, mR_sR, false_and, and_false, if_false, if_true, false_or, or_false, not_true_eq_false, not_false_eq_true, and_self]
      rw [show ((j : Int) + 1) = ((j + 1 : Nat) : Int) by omega]
      refine ih2 (j + 1) _ (by omega) (fun k hk => ?_)
      by_cases e : k = 128 * (oD X o).length + j
      · rw [if_pos e]
        unfold fc
        rw [if_neg (by omega), e, Nat.add_sub_cancel_left, List.getD_eq_getElem?_getD, hx]
        rfl
      · rw [if_neg e]; exact hg2 k (by omega)
  | succ n' ih =>
    intro i g hi hg
    have hi1 : i / 128 < (oD X o).length := by omega
    have hx : (oD X o)[i / 128]? = some (oD X o)[i / 128] := List.getElem?_eq_getElem hi1
    obtain ⟨b1, b2, b3, b4⟩ := hb _ (List.getElem_mem hi1)
    have hp := hg' _ _ hx
    have hrow := D2 _ b3 b4 (by omega)
    obtain ⟨eQ1, kX1⟩ := e1.2.1 _ b2
    have hby := hrow.2 (i % 128) (by omega)
    unfold drw at hby
    rw [if_neg (by omega)] at hby
    have hpr : mA (rA M2 (p + 197) g) (p + 198) (i / 128) = I ((oD X o)[i / 128] : Nat) := by rw [mA_rA, if_neg (by omega)]; exact hp
    have hbr : mA (rA M2 (p + 197) g) (p + 2 + (oD X o)[i / 128]) (i % 128) = bB (dt (oD X o)[i / 128] (i % 128) : Nat) := by rw [mA_rA, if_neg (by omega)]; exact hby
    simp (disch := first | (simp only [dd, dr]; done) | omega) only [w_65_8, W_65, k02, k32, I_lt, I_le, I_inj, inB_I, tc_I, Int.toNat_natCast, fkt, rf1, rf0, cq, Nat.reduceAdd, Nat.reduceEqDiff, Int.reduceToNat, eq_self, true_and, and_true, true_or, or_true, bI_0, bI_1, mm, rAm, mF_sF, mR_sR, false_and, and_false, if_false, if_true, false_or, or_false, not_true_eq_false, not_false_eq_true, and_self]
    refine ⟨(fun h => by first | exact False.elim h | exact absurd trivial h | (exfalso; omega) | exact absurd rfl h | cases h), fun _ => ?_⟩
    have hdv : (i : Int) / 128 = ((i / 128 : Nat) : Int) := by omega
    have hmd : (i : Int) % 128 = ((i % 128 : Nat) : Int) := by omega
    simp (disch := first | (simp only [dd, dr]; done) | omega) only [W_65, hdv, hmd, k02, k32, k42, k52, k198, hpr, e1X, eQ1, kX1, hbr, k197, nrw_b, bB_i2b, sA_rA, I_lt, I_le, I_inj, inB_I, tc_I, Int.toNat_natCast, fkt, rf1, rf0, cq, Nat.reduceAdd, Nat.reduceEqDiff, Int.reduceToNat, eq_self, true_and, and_true, true_or, or_true, bI_0, bI_1, mm, rAm, mF_sF, mR_sR, false_and, and_false, if_false, if_true, false_or, or_false, not_true_eq_false, not_false_eq_true, and_self]
    rw [show ((i : Int) + 1) = ((i + 1 : Nat) : Int) by omega]
    refine ih (i + 1) _ (by omega) (fun k hk => ?_)
    by_cases e : k = i
    · rw [if_pos e]
      unfold fc
      rw [if_pos (by omega), e, List.getD_eq_getElem?_getD, hx]
      rfl
    · rw [if_neg e]; exact hg k (by omega)
end Rfm
