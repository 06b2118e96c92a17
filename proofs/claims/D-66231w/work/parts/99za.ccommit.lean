/-! ===== THE COMPONENT: commit, checkpoint, back, fail, off, recover ===== -/
/-- the device's numbers: writes, what is left, off, commits, the journal's use, what stands in it -/
abbrev Dv : Type := Int × Int × Bool × Int × Nat × (Nat → Bool)
/-- all that is committed is written home -/
def dvH (m : Nat) (v : Dv) : Dv := if v.2.2.2.2.1 = 0 then v else if (wn v.2.1 (cn v.2.2.2.2.2 m + 1)).2.2 = true then (v.1 + ((wn v.2.1 (cn v.2.2.2.2.2 m + 1)).1 : Nat), (wn v.2.1 (cn v.2.2.2.2.2 m + 1)).2.1, true, v.2.2.2.1, v.2.2.2.2.1, v.2.2.2.2.2) else (v.1 + ((wn v.2.1 (cn v.2.2.2.2.2 m + 1)).1 : Nat), (wn v.2.1 (cn v.2.2.2.2.2 m + 1)).2.1, v.2.2.1, v.2.2.2.1, 0, fun _ => false)
/-- n changed blocks are written to the journal -/
def dvJ (m : Nat) (v : Dv) (chg : Nat → Bool) : Dv := if (wn v.2.1 (cn chg m + 2)).2.2 = true then (v.1 + ((wn v.2.1 (cn chg m + 2)).1 : Nat), -1, true, v.2.2.2.1, v.2.2.2.2.1, v.2.2.2.2.2) else (v.1 + ((cn chg m + 2 : Nat) : Int), (wn v.2.1 (cn chg m + 2)).2.1, false, v.2.2.2.1 + 1, v.2.2.2.2.1 + cn chg m + 2, fun b => v.2.2.2.2.2 b || (decide (b < m) && chg b))
def dv1 (m J : Nat) (v : Dv) (chg : Nat → Bool) : Dv := if J < v.2.2.2.2.1 + cn chg m + 2 then dvH m v else v
def dvC (m J : Nat) (v : Dv) (chg : Nat → Bool) : Dv := if (dv1 m J v chg).2.2.1 = true then dv1 m J v chg else dvJ m (dv1 m J v chg) chg
/-- whether a commit comes to its end -/
def dvB (m J : Nat) (v : Dv) (chg : Nat → Bool) : Bool := !(dv1 m J v chg).2.2.1 && !(wn (dv1 m J v chg).2.1 (cn chg m + 2)).2.2
def DJv (M : Mem) (p m J : Nat) (v : Dv) (la : Nat → Nat → Nat) : Prop := DJ M p m J v.1 v.2.1 v.2.2.1 v.2.2.2.1 v.2.2.2.2.1 v.2.2.2.2.2 la
section Ccm
variable {d p m J : Nat} {M M' : Mem} {A A' : Ad} {T T' Tc : Tr} {X X' Xc : Ob} {Q : Outcome → Mem → Prop} {ok : Bool} {dt dtc : Nat → Nat → Nat} {v : Dv} {la : Nat → Nat → Nat}
theorem dvH_ju {v : Dv} (h0 : v.2.2.1 = false) (h : (dvH m v).2.2.1 = false) : (dvH m v).2.2.2.2.1 = 0 := by
  unfold dvH at h ⊢
  split
  · rename_i e; exact e
  · rename_i e
    rw [if_neg e] at h
    split
    · rename_i e2
      rw [if_pos e2] at h
      cases h
    · rfl
theorem n_dhome (hd : 4 ≤ d) (P : PK M p m J) (h : DJv M p m J v la) (ho : v.2.2.1 = false) (hQ : ∀ M', De p J M M' → DJv M' p m J (dvH m v) la → Q (.returned none) M') : Wp d 114 0 [some (.ref (p + 205)), none, none] [] M Q := by
  obtain ⟨wr, lf, off, cm, ju, lj⟩ := v
  have ho : off = false := ho
  subst ho
  unfold dvH at hQ
  refine n_dcheck hd P h (fun e => ?_) (fun e1 e2 M' F D => ?_) (fun e1 e2 M' F D => ?_)
  · rw [if_pos e] at hQ
    exact hQ M (De.refl _ _ _) h
  · rw [if_neg e1, if_pos e2] at hQ
    exact hQ M' F D
  · rw [if_neg e1, if_neg (by rw [e2]; simp)] at hQ
    exact hQ M' F D
/-- what is committed: a tree, objects, data, and rows as last -/
def CMt (m : Nat) (T : Tr) (X : Ob) (dt la : Nat → Nat → Nat) : Prop := Gt m T (pyO X) ∧ ∀ b, tU T b = true → ∀ i, la b i = img m T (pyO X) dt b i
theorem CMt.la0 (K : CMt m Tc Xc dtc la) : ∀ i, la 0 i = frw m (tU Tc) (tR Tc) i := fun i => by
  rw [K.2 0 K.1.1.1.2.2.2.2.2.2.2.2.1.1 i]
  unfold img
  rw [if_pos rfl]
/-- which blocks are changed -/
def chq (m : Nat) (T : Tr) (X : Ob) (dt : Nat → Nat → Nat) (Tc : Tr) (la : Nat → Nat → Nat) : Nat → Bool := chb (tU T) (tU Tc) (img m T (pyO X) dt) la
def cmC (m J : Nat) (off : Bool) (chg : Nat → Bool) : Nat := if off = true then 1 else if cn chg m ≠ 0 ∧ J < cn chg m + 2 then 4 else 0
/-- rows as last, after a commit -/
def laC (m : Nat) (T : Tr) (X : Ob) (dt la : Nat → Nat → Nat) : Nat → Nat → Nat := fun b => if tU T b = true then img m T (pyO X) dt b else la b
theorem laC_cm (g : Gt m T (pyO X)) : CMt m T X dt (laC m T X dt la) := ⟨g, fun b hb i => by unfold laC; rw [if_pos hb]⟩
theorem chq_la {b i : Nat} (hi : i < 129) : laC m T X dt la b i % 256 = (if chq m T X dt Tc la b = true then img m T (pyO X) dt b else la b) i % 256 := by
  unfold laC
  by_cases h : tU T b = true
  · rw [if_pos h]
    split
    · rfl
    · rename_i hc
      have hc : chq m T X dt Tc la b = false := by simpa using hc
      unfold chq chb at hc
      rw [h, Bool.true_and, Bool.not_eq_false', Bool.and_eq_true] at hc
      exact (eqn_iff 129).mp hc.2 i hi
  · rw [if_neg h]
    have hc : chq m T X dt Tc la b = false := by
      unfold chq chb
      have : tU T b = false := by simpa using h
      rw [this]; rfl
    rw [hc, if_neg (by simp)]
/-- lookOver -/
theorem n_look1 (hd : 42 ≤ d) (C : CX M p m J A T X) (D : DR M p T dt) (K : CMt m Tc Xc dtc la) (V : DJv M p m J v la) (hQ : ∀ M', CX M' p m J A T X → DR M' p T dt → DJv M' p m J v la → CF p A A 0 M M' → (∀ b, b < m → mA M' (p + 195) b = I (bI (chq m T X dt Tc la b))) → (∀ b, tU T b = true → Rw M' (p + 2 + b) (img m T (pyO X) dt b)) → Q (.returned (some (.int (I (cn (chq m T X dt Tc la) m : Nat))))) M') : Wp d 79 0 [some (.ref p), none, none] [] M Q := by
  have hm := C.1.2.2.2.2.2.2.2.2.2.2.2.1
  refine n_lookOver hd C.1 C.2.1 C.2.2.1 D V.f.2.2.2.2.2.2.2.2 K.la0 (fun M1 gg F1 hA hB hG => ?_)
  have F2 := Sc.rA p M1 (w := p + 195) ⟨by omega, by omega⟩ gg
  have C1 := C.ro F1
  have D1 : DR M1 p T dt := by
    intro b b1 b2 b3
    have := hA b b1
    unfold img at this
    rw [if_neg b3, if_neg (by omega)] at this
    exact this
  have F := (F1.cf (p := p) A (fun z i hz => hB z i (fun b hb => (hz b hb).1))).trans (F2.cf A)
  refine hQ _ (C1.sc F2) (D1.sc C1.us F2) (DJ.cf V C.2.2.2.1 C.2.2.2.2 hm F) F (fun b hb => by rw [mA_rA, if_pos rfl]; exact hG b hb) (fun b hb => ?_)
  have r := hA b hb
  have hb' := C.us b hb
  exact ⟨r.1, fun i hi => by rw [mA_rA, if_neg (by omega)]; exact r.2 i hi⟩
set_option maxHeartbeats 1000000 in
theorem c_commit (hd : 60 ≤ d) (C : CX M p m J A T X) (D : DR M p T dt) (K : CMt m Tc Xc dtc la) (V : DJv M p m J v la)
    (hX : Thr p m J A T X dt M Q (fun k => cmC m J v.2.2.1 (chq m T X dt Tc la) ≠ 0 ∧ k = 10 + cmC m J v.2.2.1 (chq m T X dt Tc la)))
    (hR0 : cmC m J v.2.2.1 (chq m T X dt Tc la) = 0 → cn (chq m T X dt Tc la) m = 0 → ∀ M', CX M' p m J A T X → DR M' p T dt → CF p A A 0 M M' → Q (.returned (some (.int (I 0)))) M')
    (hR1 : cmC m J v.2.2.1 (chq m T X dt Tc la) = 0 → cn (chq m T X dt Tc la) m ≠ 0 → ∀ M', CX M' p m J A T X → DR M' p T dt → CD p J A A 0 M M' → DJv M' p m J (dvC m J v (chq m T X dt Tc la)) (if dvB m J v (chq m T X dt Tc la) = true then laC m T X dt la else la) → Q (.returned (some (.int (I ((dvC m J v (chq m T X dt Tc la)).1 - v.1))))) M') :
    Wp d 78 0 [some (.ref p), none, none] [] M Q := by
  have k0 := C.1.1.1
  generalize hchg : chq m T X dt Tc la = chg at *
  unfold cmC at hX hR0 hR1
  simp (disch := first | (simp only [dd, dr]; done) | omega) only [W_78, k0, I_lt, I_le, I_inj, inB_I, tc_I, Int.toNat_natCast, fkt, rf1, rf0, cq, Nat.reduceAdd, Nat.reduceEqDiff, Int.reduceToNat, eq_self, true_and, and_true, true_or, or_true, bI_0, bI_1, mm, rAm, mF_sF, mR_sR, false_and, and_false, if_false, if_true, false_or, or_false, not_true_eq_false, not_false_eq_true, and_self]
  refine ca_30 (by omega) (c_on C.1 V.f.2.2.1 (fun h1 => ?_) (fun h1 => ?_))
  rotate_left
  · simp (disch := first | (simp only [dd, dr]; done) | omega) only [W_78, I_lt, I_le, I_inj, inB_I, tc_I, Int.toNat_natCast, fkt, rf1, rf0, cq, Nat.reduceAdd, Nat.reduceEqDiff, Int.reduceToNat, eq_self, true_and, and_true, true_or, or_true, bI_0, bI_1, mm, rAm, mF_sF, mR_sR, false_and, and_false, if_false, if_true, false_or, or_false, not_true_eq_false, not_false_eq_true, and_self]
    rw [Th_out (nw_kO M 11 6) (by decide) (by decide +kernel)]
    rw [if_pos h1] at hX
    exact hX.sc D C (Sc.refl _ _) ⟨by omega, rfl⟩
  have h1' : ¬ v.2.2.1 = true := by rw [h1]; simp
  rw [if_neg h1'] at hX hR0 hR1
  simp (disch := first | (simp only [dd, dr]; done) | omega) only [W_78, k0, I_lt, I_le, I_inj, inB_I, tc_I, Int.toNat_natCast, fkt, rf1, rf0, cq, Nat.reduceAdd, Nat.reduceEqDiff, Int.reduceToNat, eq_self, true_and, and_true, true_or, or_true, bI_0, bI_1, mm, rAm, mF_sF, mR_sR, false_and, and_false, if_false, if_true, false_or, or_false, not_true_eq_false, not_false_eq_true, and_self]
  refine ca_79 (by omega) (n_look1 (by omega) C D K V (fun M1 C1 D1 V1 F1 hc1 hr1 => ?_))
  rw [hchg] at hc1 ⊢
  have hcn : cn chg m ≤ m := cn_le chg m
  have hJ := C.1.2.2.2.2.2.2.2.2.2.2
  have hX := hX.cf F1
  simp (disch := first | (simp only [dd, dr]; done) | omega) only [W_78, I_lt, I_le, I_inj, inB_I, tc_I, Int.toNat_natCast, fkt, rf1, rf0, cq, Nat.reduceAdd, Nat.reduceEqDiff, Int.reduceToNat, eq_self, true_and, and_true, true_or, or_true, bI_0, bI_1, mm, rAm, mF_sF, mR_sR, false_and, and_false, if_false, if_true, false_or, or_false, not_true_eq_false, not_false_eq_true, and_self]
  refine ⟨fun h => ?_, fun h => ?_⟩
  rotate_left
  · have e0 : cn chg m = 0 := by omega
    rw [if_neg (fun h => h.1 e0)] at hR0
    simp (disch := first | (simp only [dd, dr]; done) | omega) only [W_78, I_lt, I_le, I_inj, inB_I, tc_I, Int.toNat_natCast, fkt, rf1, rf0, cq, Nat.reduceAdd, Nat.reduceEqDiff, Int.reduceToNat, eq_self, true_and, and_true, true_or, or_true, bI_0, bI_1, mm, rAm, mF_sF, mR_sR, false_and, and_false, if_false, if_true, false_or, or_false, not_true_eq_false, not_false_eq_true, and_self]
    exact hR0 rfl e0 M1 C1 D1 F1
  have e0 : cn chg m ≠ 0 := by omega
  have k01 := C1.1.1.1
  have k21 := C1.1.1.2.2.2.2.2.2.2.2.2.1
  have kd1 := C1.1.2.2.2.2.1.1
  have k27 := C1.1.2.2.2.2.1.2.2.2.2.2.1
  have kS := C1.1.2.2.2.2.2.2.2.2.2.1
  simp (disch := first | (simp only [dd, dr]; done) | omega) only [W_78, k01, k21, kd1, I_lt, I_le, I_inj, inB_I, tc_I, Int.toNat_natCast, fkt, rf1, rf0, cq, Nat.reduceAdd, Nat.reduceEqDiff, Int.reduceToNat, eq_self, true_and, and_true, true_or, or_true, bI_0, bI_1, mm, rAm, mF_sF, mR_sR, false_and, and_false, if_false, if_true, false_or, or_false, not_true_eq_false, not_false_eq_true, and_self]
  refine ca_113 (by omega) ?_
  simp (disch := first | (simp only [dd, dr]; done) | omega) only [W_113, kd1, k27, kS, I_lt, I_le, I_inj, inB_I, tc_I, Int.toNat_natCast, fkt, rf1, rf0, cq, Nat.reduceAdd, Nat.reduceEqDiff, Int.reduceToNat, eq_self, true_and, and_true, true_or, or_true, bI_0, bI_1, mm, rAm, mF_sF, mR_sR, false_and, and_false, if_false, if_true, false_or, or_false, not_true_eq_false, not_false_eq_true, and_self]
  have go : ∀ (b : Bool), (b = true ↔ ¬ J < cn chg m + 2) → Ca d 78 33 [some (.ref p), some (.int (I (cn chg m : Nat))), none] 42 [.int (I (bI b))] [] M1 Q := by
    intro b hb
    refine ca_42 (by omega) (c_can (fun h2 => ?_) (fun h2 => ?_))
    rotate_left
    · simp (disch := first | (simp only [dd, dr]; done) | omega) only [W_78, I_lt, I_le, I_inj, inB_I, tc_I, Int.toNat_natCast, fkt, rf1, rf0, cq, Nat.reduceAdd, Nat.reduceEqDiff, Int.reduceToNat, eq_self, true_and, and_true, true_or, or_true, bI_0, bI_1, mm, rAm, mF_sF, mR_sR, false_and, and_false, if_false, if_true, false_or, or_false, not_true_eq_false, not_false_eq_true, and_self]
      rw [Th_out (nw_kO M1 14 6) (by decide) (by decide +kernel)]
      rw [if_pos ⟨e0, by apply Classical.byContradiction; intro hh; rw [hb.mpr hh] at h2; cases h2⟩] at hX
      exact hX.sc D1 C1 (Sc.refl _ _) ⟨by omega, rfl⟩
    have h2 := hb.mp h2
    rw [if_neg (fun h => h2 h.2)] at hR1
    have hR1 := hR1 rfl e0
    have e29 := V1.f.1
    have e20 := V1.f.2.2.2.2.1 h1
    have hju := V1.f.2.2.2.2.2.1
    simp (disch := first | (simp only [dd, dr]; done) | omega) only [W_78, k01, k21, kd1, e29, I_lt, I_le, I_inj, inB_I, tc_I, Int.toNat_natCast, fkt, rf1, rf0, cq, Nat.reduceAdd, Nat.reduceEqDiff, Int.reduceToNat, eq_self, true_and, and_true, true_or, or_true, bI_0, bI_1, mm, rAm, mF_sF, mR_sR, false_and, and_false, if_false, if_true, false_or, or_false, not_true_eq_false, not_false_eq_true, and_self]
    refine ca_113 (by omega) ?_
    simp (disch := first | (simp only [dd, dr]; done) | omega) only [W_113, kd1, k27, kS, I_lt, I_le, I_inj, inB_I, tc_I, Int.toNat_natCast, fkt, rf1, rf0, cq, Nat.reduceAdd, Nat.reduceEqDiff, Int.reduceToNat, eq_self, true_and, and_true, true_or, or_true, bI_0, bI_1, mm, rAm, mF_sF, mR_sR, false_and, and_false, if_false, if_true, false_or, or_false, not_true_eq_false, not_false_eq_true, and_self]
    simp (disch := first | (simp only [dd, dr]; done) | omega) only [W_78, k01, k21, kd1, e20, I_lt, I_le, I_inj, inB_I, tc_I, Int.toNat_natCast, fkt, rf1, rf0, cq, Nat.reduceAdd, Nat.reduceEqDiff, Int.reduceToNat, eq_self, true_and, and_true, true_or, or_true, bI_0, bI_1, mm, rAm, mF_sF, mR_sR, false_and, and_false, if_false, if_true, false_or, or_false, not_true_eq_false, not_false_eq_true, and_self]
    -- after the journal has room
    have rest : ∀ M2, De p J M1 M2 → DJv M2 p m J (dv1 m J v chg) la → Wp d 78 72 [some (.ref p), some (.int (I (cn chg m : Nat))), some (.int (I v.1))] [] M2 Q := by
      intro M2 F2 V2
      have C2 := C1.de F2
      have D2 := D1.de C1.us F2
      have k02 := C2.1.1.1
      have k22 := C2.1.1.2.2.2.2.2.2.2.2.2.1
      have k42 := C2.1.1.2.1
      have k12 := C2.1.1.2.2.2.1
      have kd2 := C2.1.2.2.2.2.1.1
      have e25 := V2.f.2.2.1
      unfold dvC dvB at hR1
      simp (disch := first | (simp only [dd, dr]; done) | omega) only [W_78, k02, k22, kd2, e25, I_lt, I_le, I_inj, inB_I, tc_I, Int.toNat_natCast, fkt, rf1, rf0, cq, Nat.reduceAdd, Nat.reduceEqDiff, Int.reduceToNat, eq_self, true_and, and_true, true_or, or_true, bI_0, bI_1, mm, rAm, mF_sF, mR_sR, false_and, and_false, if_false, if_true, false_or, or_false, not_true_eq_false, not_false_eq_true, and_self]
      refine ⟨fun h3 => ?_, fun h3 => ?_⟩
      · have h3 : (dv1 m J v chg).2.2.1 = true := by simpa using h3
        rw [if_pos h3, h3] at hR1
        have e292 := V2.f.1
        simp (disch := first | (simp only [dd, dr]; done) | omega) only [W_78, k02, k22, kd2, e292, I_lt, I_le, I_inj, inB_I, tc_I, Int.toNat_natCast, fkt, rf1, rf0, cq, Nat.reduceAdd, Nat.reduceEqDiff, Int.reduceToNat, eq_self, true_and, and_true, true_or, or_true, bI_0, bI_1, mm, rAm, mF_sF, mR_sR, false_and, and_false, if_false, if_true, false_or, or_false, not_true_eq_false, not_false_eq_true, and_self]
        exact hR1 M2 C2 D2 ((F1.cd J).trans (F2.cd A)) V2
      · have h3 : (dv1 m J v chg).2.2.1 = false := by simpa using h3
        rw [if_neg (by rw [h3]; simp), h3] at hR1
        have hroom : (dv1 m J v chg).2.2.2.2.1 + cn chg m + 2 ≤ J := by
          unfold dv1 at h3 ⊢
          split
          · rename_i e
            rw [if_pos e] at h3
            rw [dvH_ju h1 h3]; omega
          · omega
        simp (disch := first | (simp only [dd, dr]; done) | omega) only [W_78, k02, k22, k42, k12, kd2, I_lt, I_le, I_inj, inB_I, tc_I, Int.toNat_natCast, fkt, rf1, rf0, cq, Nat.reduceAdd, Nat.reduceEqDiff, Int.reduceToNat, eq_self, true_and, and_true, true_or, or_true, bI_0, bI_1, mm, rAm, mF_sF, mR_sR, false_and, and_false, if_false, if_true, false_or, or_false, not_true_eq_false, not_false_eq_true, and_self]
        generalize dv1 m J v chg = v1 at *
        obtain ⟨wr, lf, off, cm, ju, lj⟩ := v1
        have h3 : off = false := h3
        subst h3
        unfold dvJ at hR1
        refine cr_117 (by omega) (n_dcommit (im := img m T (pyO X) dt) (la2 := laC m T X dt la) (by omega) C2.1 V2 (chg := chg) (fun b hb => ?_) (fun b hb hcb => ?_) hroom (fun b i hb hi => ?_) (fun w1 w2 M3 F3 V3 => ?_) (fun w1 M3 F3 V3 => ?_))
        · rw [F2.2.2.2.2 _ _ (.inl (by omega))]; exact hc1 b hb
        · have hu : tU T b = true := by
            rw [← hchg] at hcb
            unfold chq chb at hcb
            rw [Bool.and_eq_true] at hcb
            exact hcb.1
          have r := hr1 b hu
          exact ⟨by rw [F2.f1.2.1]; exact r.1, fun i hi => by rw [F2.2.2.2.2 _ _ (.inl (by omega))]; exact r.2 i hi⟩
        · rw [← hchg]; exact chq_la hi
        · simp only [w1, if_true] at hR1
          have C3 := C2.de F3
          have k03 := C3.1.1.1
          have k23 := C3.1.1.2.2.2.2.2.2.2.2.2.1
          have kd3 := C3.1.2.2.2.2.1.1
          have e293 := V3.f.1
          simp (disch := first | (simp only [dd, dr]; done) | omega) only [W_78, k03, k23, kd3, e293, I_lt, I_le, I_inj, inB_I, tc_I, Int.toNat_natCast, fkt, rf1, rf0, cq, Nat.reduceAdd, Nat.reduceEqDiff, Int.reduceToNat, eq_self, true_and, and_true, true_or, or_true, bI_0, bI_1, mm, rAm, mF_sF, mR_sR, false_and, and_false, if_false, if_true, false_or, or_false, not_true_eq_false, not_false_eq_true, and_self]
          exact hR1 M3 C3 (D2.de C2.us F3) (((F1.cd J).trans (F2.cd A)).trans (F3.cd A)) V3
        · simp only [w1] at hR1
          have C3 := C2.de F3
          have k03 := C3.1.1.1
          have k23 := C3.1.1.2.2.2.2.2.2.2.2.2.1
          have kd3 := C3.1.2.2.2.2.1.1
          have e293 := V3.f.1
          simp (disch := first | (simp only [dd, dr]; done) | omega) only [W_78, k03, k23, kd3, e293, I_lt, I_le, I_inj, inB_I, tc_I, Int.toNat_natCast, fkt, rf1, rf0, cq, Nat.reduceAdd, Nat.reduceEqDiff, Int.reduceToNat, eq_self, true_and, and_true, true_or, or_true, bI_0, bI_1, mm, rAm, mF_sF, mR_sR, false_and, and_false, if_false, if_true, false_or, or_false, not_true_eq_false, not_false_eq_true, and_self]
          exact hR1 M3 C3 (D2.de C2.us F3) (((F1.cd J).trans (F2.cd A)).trans (F3.cd A)) V3
    refine ⟨fun h3 => ?_, fun h3 => ?_⟩
    · have e : dv1 m J v chg = v := by unfold dv1; rw [if_neg (by omega)]
      exact rest M1 (De.refl _ _ _) (by rw [e]; exact V1)
    · have e : dv1 m J v chg = dvH m v := by unfold dv1; rw [if_pos (by omega)]
      simp (disch := first | (simp only [dd, dr]; done) | omega) only [W_78, k01, k21, kd1, I_lt, I_le, I_inj, inB_I, tc_I, Int.toNat_natCast, fkt, rf1, rf0, cq, Nat.reduceAdd, Nat.reduceEqDiff, Int.reduceToNat, eq_self, true_and, and_true, true_or, or_true, bI_0, bI_1, mm, rAm, mF_sF, mR_sR, false_and, and_false, if_false, if_true, false_or, or_false, not_true_eq_false, not_false_eq_true, and_self]
      refine ca_114 (by omega) (n_dhome (by omega) C1.1 V1 h1 (fun M2 F2 V2 => ?_))
      simp (disch := first | (simp only [dd, dr]; done) | omega) only [I_lt, I_le, I_inj, inB_I, tc_I, Int.toNat_natCast, fkt, rf1, rf0, cq, Nat.reduceAdd, Nat.reduceEqDiff, Int.reduceToNat, eq_self, true_and, and_true, true_or, or_true, bI_0, bI_1, mm, rAm, mF_sF, mR_sR, false_and, and_false, if_false, if_true, false_or, or_false, not_true_eq_false, not_false_eq_true, and_self]
      exact rest M2 F2 (by rw [e]; exact V2)
  simp (disch := first | (simp only [dd, dr]; done) | omega) only [W_78, I_lt, I_le, I_inj, inB_I, tc_I, Int.toNat_natCast, fkt, rf1, rf0, cq, Nat.reduceAdd, Nat.reduceEqDiff, Int.reduceToNat, eq_self, true_and, and_true, true_or, or_true, bI_0, bI_1, mm, rAm, mF_sF, mR_sR, false_and, and_false, if_false, if_true, false_or, or_false, not_true_eq_false, not_false_eq_true, and_self]
  refine ⟨fun h2 => ?_, fun h2 => ?_⟩
  · simp (disch := first | (simp only [dd, dr]; done) | omega) only [W_78, I_lt, I_le, I_inj, inB_I, tc_I, Int.toNat_natCast, fkt, rf1, rf0, cq, Nat.reduceAdd, Nat.reduceEqDiff, Int.reduceToNat, eq_self, true_and, and_true, true_or, or_true, bI_0, bI_1, mm, rAm, mF_sF, mR_sR, false_and, and_false, if_false, if_true, false_or, or_false, not_true_eq_false, not_false_eq_true, and_self]
    exact go false (by simp; omega)
  · simp (disch := first | (simp only [dd, dr]; done) | omega) only [W_78, I_lt, I_le, I_inj, inB_I, tc_I, Int.toNat_natCast, fkt, rf1, rf0, cq, Nat.reduceAdd, Nat.reduceEqDiff, Int.reduceToNat, eq_self, true_and, and_true, true_or, or_true, bI_0, bI_1, mm, rAm, mF_sF, mR_sR, false_and, and_false, if_false, if_true, false_or, or_false, not_true_eq_false, not_false_eq_true, and_self]
    exact go true (by simp; omega)
set_option maxHeartbeats 1000000 in
theorem c_check (hd : 60 ≤ d) (C : CX M p m J A T X) (D : DR M p T dt) (V : DJv M p m J v la)
    (hX : Thr p m J A T X dt M Q (fun k => v.2.2.1 = true ∧ k = 11))
    (hR : v.2.2.1 = false → ∀ M', CX M' p m J A T X → DR M' p T dt → CD p J A A 0 M M' → DJv M' p m J (dvH m v) la → Q (.returned (some (.int (I ((dvH m v).1 - v.1))))) M') :
    Wp d 81 0 [some (.ref p), none] [] M Q := by
  have k0 := C.1.1.1
  have k2 := C.1.1.2.2.2.2.2.2.2.2.2.1
  have kd := C.1.2.2.2.2.1.1
  have e29 := V.f.1
  simp (disch := first | (simp only [dd, dr]; done) | omega) only [W_81, k0, I_lt, I_le, I_inj, inB_I, tc_I, Int.toNat_natCast, fkt, rf1, rf0, cq, Nat.reduceAdd, Nat.reduceEqDiff, Int.reduceToNat, eq_self, true_and, and_true, true_or, or_true, bI_0, bI_1, mm, rAm, mF_sF, mR_sR, false_and, and_false, if_false, if_true, false_or, or_false, not_true_eq_false, not_false_eq_true, and_self]
  refine ca_30 (by omega) (c_on C.1 V.f.2.2.1 (fun h1 => ?_) (fun h1 => ?_))
  rotate_left
  · simp (disch := first | (simp only [dd, dr]; done) | omega) only [W_81, I_lt, I_le, I_inj, inB_I, tc_I, Int.toNat_natCast, fkt, rf1, rf0, cq, Nat.reduceAdd, Nat.reduceEqDiff, Int.reduceToNat, eq_self, true_and, and_true, true_or, or_true, bI_0, bI_1, mm, rAm, mF_sF, mR_sR, false_and, and_false, if_false, if_true, false_or, or_false, not_true_eq_false, not_false_eq_true, and_self]
    rw [Th_out (nw_kO M 11 6) (by decide) (by decide +kernel)]
    exact hX.sc D C (Sc.refl _ _) ⟨h1, rfl⟩
  simp (disch := first | (simp only [dd, dr]; done) | omega) only [W_81, k0, k2, kd, e29, I_lt, I_le, I_inj, inB_I, tc_I, Int.toNat_natCast, fkt, rf1, rf0, cq, Nat.reduceAdd, Nat.reduceEqDiff, Int.reduceToNat, eq_self, true_and, and_true, true_or, or_true, bI_0, bI_1, mm, rAm, mF_sF, mR_sR, false_and, and_false, if_false, if_true, false_or, or_false, not_true_eq_false, not_false_eq_true, and_self]
  refine ca_114 (by omega) (n_dhome (by omega) C.1 V h1 (fun M2 F2 V2 => ?_))
  have C2 := C.de F2
  have k02 := C2.1.1.1
  have k22 := C2.1.1.2.2.2.2.2.2.2.2.2.1
  have kd2 := C2.1.2.2.2.2.1.1
  have e292 := V2.f.1
  simp (disch := first | (simp only [dd, dr]; done) | omega) only [W_81, k02, k22, kd2, e292, I_lt, I_le, I_inj, inB_I, tc_I, Int.toNat_natCast, fkt, rf1, rf0, cq, Nat.reduceAdd, Nat.reduceEqDiff, Int.reduceToNat, eq_self, true_and, and_true, true_or, or_true, bI_0, bI_1, mm, rAm, mF_sF, mR_sR, false_and, and_false, if_false, if_true, false_or, or_false, not_true_eq_false, not_false_eq_true, and_self]
  exact hR h1 M2 C2 (D.de C.us F2) (F2.cd A) V2
/-- takeLast -/
theorem n_last1 (hd : 50 ≤ d) (C : CX M p m J A T X) (K : CMt m Tc Xc dtc la) (V : DJv M p m J v la) (hQ : ∀ M' A', CX M' p m J A' Tc Xc → DR M' p Tc dtc → DJv M' p m J v la → CF p A A' 0 M M' → Q (.returned none) M') : Wp d 83 0 [some (.ref p), none] [] M Q := by
  have hm := C.1.2.2.2.2.2.2.2.2.2.2.2.1
  refine n_takeLast hd C.1 C.2.1.jt C.2.2.2.1 C.2.2.2.2 K.1 V.f.2.2.2.2.2.2.2.2 K.2 (fun M1 M' A' F1 o1 R' D' F' => ?_)
  have C1 := C.ro F1
  have N1 := C1.2.2.2.1
  have F := (F1.cf (p := p) A (fun z i hz => o1 z i (fun b hb => (hz b hb).1))).trans F'.cf
  exact hQ M' A' ⟨C1.1.fr N1 F' C1.2.2.2.2, R', K.1, N1.fr F' C1.2.2.2.2, by have := F'.2.2.2.2.2.2.1; have := C1.2.2.2.2; omega⟩ D' (DJ.cf V C.2.2.2.1 C.2.2.2.2 hm F) F
theorem c_back (hd : 60 ≤ d) (C : CX M p m J A T X) (D : DR M p T dt) (K : CMt m Tc Xc dtc la) (V : DJv M p m J v la)
    (hX : Thr p m J A T X dt M Q (fun k => v.2.2.1 = true ∧ k = 11))
    (hR : v.2.2.1 = false → ∀ M' A', CX M' p m J A' Tc Xc → DR M' p Tc dtc → CF p A A' 0 M M' → Q (.returned (some (.int (I (cn (chq m T X dt Tc la) m : Nat))))) M') :
    Wp d 82 0 [some (.ref p), none] [] M Q := by
  have k0 := C.1.1.1
  simp (disch := first | (simp only [dd, dr]; done) | omega) only [W_82, k0, I_lt, I_le, I_inj, inB_I, tc_I, Int.toNat_natCast, fkt, rf1, rf0, cq, Nat.reduceAdd, Nat.reduceEqDiff, Int.reduceToNat, eq_self, true_and, and_true, true_or, or_true, bI_0, bI_1, mm, rAm, mF_sF, mR_sR, false_and, and_false, if_false, if_true, false_or, or_false, not_true_eq_false, not_false_eq_true, and_self]
  refine ca_30 (by omega) (c_on C.1 V.f.2.2.1 (fun h1 => ?_) (fun h1 => ?_))
  rotate_left
  · simp (disch := first | (simp only [dd, dr]; done) | omega) only [W_82, I_lt, I_le, I_inj, inB_I, tc_I, Int.toNat_natCast, fkt, rf1, rf0, cq, Nat.reduceAdd, Nat.reduceEqDiff, Int.reduceToNat, eq_self, true_and, and_true, true_or, or_true, bI_0, bI_1, mm, rAm, mF_sF, mR_sR, false_and, and_false, if_false, if_true, false_or, or_false, not_true_eq_false, not_false_eq_true, and_self]
    rw [Th_out (nw_kO M 11 6) (by decide) (by decide +kernel)]
    exact hX.sc D C (Sc.refl _ _) ⟨h1, rfl⟩
  simp (disch := first | (simp only [dd, dr]; done) | omega) only [W_82, k0, I_lt, I_le, I_inj, inB_I, tc_I, Int.toNat_natCast, fkt, rf1, rf0, cq, Nat.reduceAdd, Nat.reduceEqDiff, Int.reduceToNat, eq_self, true_and, and_true, true_or, or_true, bI_0, bI_1, mm, rAm, mF_sF, mR_sR, false_and, and_false, if_false, if_true, false_or, or_false, not_true_eq_false, not_false_eq_true, and_self]
  refine ca_79 (by omega) (n_look1 (by omega) C D K V (fun M1 C1 D1 V1 F1 hc1 hr1 => ?_))
  have k01 := C1.1.1.1
  simp (disch := first | (simp only [dd, dr]; done) | omega) only [W_82, k01, I_lt, I_le, I_inj, inB_I, tc_I, Int.toNat_natCast, fkt, rf1, rf0, cq, Nat.reduceAdd, Nat.reduceEqDiff, Int.reduceToNat, eq_self, true_and, and_true, true_or, or_true, bI_0, bI_1, mm, rAm, mF_sF, mR_sR, false_and, and_false, if_false, if_true, false_or, or_false, not_true_eq_false, not_false_eq_true, and_self]
  refine ca_83 (by omega) (n_last1 (by omega) C1 K V1 (fun M2 A2 C2 D2 V2 F2 => ?_))
  simp (disch := first | (simp only [dd, dr]; done) | omega) only [W_82, I_lt, I_le, I_inj, inB_I, tc_I, Int.toNat_natCast, fkt, rf1, rf0, cq, Nat.reduceAdd, Nat.reduceEqDiff, Int.reduceToNat, eq_self, true_and, and_true, true_or, or_true, bI_0, bI_1, mm, rAm, mF_sF, mR_sR, false_and, and_false, if_false, if_true, false_or, or_false, not_true_eq_false, not_false_eq_true, and_self]
  exact hR h1 M2 A2 C2 D2 (F1.trans F2)
theorem DJ.left {wr lf cm : Int} {off : Bool} {ju : Nat} {lj : Nat → Bool} (h : DJ M p m J wr lf off cm ju lj la) {n : Int} (n0 : -1 ≤ n) (n1 : n < 2147483648) : DJ (sF M 23 (p + 205) (I n)) p m J wr n off cm ju lj la := by
  obtain ⟨full, sg, jr, hm, Gs, ⟨⟨a1, a2, a3, a4, a5, a6, a7, a8⟩, b1, b2, b3, b4⟩, r⟩ := h
  refine ⟨full, sg, jr, hm, Gs, ⟨⟨?_, by rw [mF_sF, if_pos ⟨rfl, rfl⟩], ?_, ?_, ?_, a6, n0, n1⟩, b1, b2, b3, b4⟩, r⟩
  · rw [mF_sF, if_neg (by omega)]; exact a1
  · rw [mF_sF, if_neg (by omega)]; exact a3
  · rw [mF_sF, if_neg (by omega)]; exact a4
  · rw [mF_sF, if_neg (by omega)]; exact a5
theorem c_fail (hd : 5 ≤ d) (C : CX M p m J A T X) (D : DR M p T dt) (V : DJv M p m J v la) {n : Int} (n0 : -2147483648 ≤ n) (n1 : n < 2147483648)
    (hX : Thr p m J A T X dt M Q (fun k => n < -1 ∧ k = 13))
    (hR : -1 ≤ n → ∀ M', CX M' p m J A T X → DR M' p T dt → CD p J A A 0 M M' → DJv M' p m J (v.1, n, v.2.2) la → Q (.returned none) M') :
    Wp d 84 0 [some (.ref p), some (.int (I n))] [] M Q := by
  have k0 := C.1.1.1
  have k2 := C.1.1.2.2.2.2.2.2.2.2.2.1
  have kd := C.1.2.2.2.2.1.1
  have go : ∀ (b : Bool), (b = true ↔ -1 ≤ n) → Ca d 84 10 [some (.ref p), some (.int (I n))] 39 [.int (I (bI b))] [] M Q := by
    intro b hb
    refine ca_39 (by omega) (c_proper (fun h2 => ?_) (fun h2 => ?_))
    · have h2 := hb.mp h2
      simp (disch := first | (simp only [dd, dr]; done) | omega) only [W_84, k0, k2, kd, I_lt, I_le, I_inj, inB_I, tc_I, Int.toNat_natCast, fkt, rf1, rf0, cq, Nat.reduceAdd, Nat.reduceEqDiff, Int.reduceToNat, eq_self, true_and, and_true, true_or, or_true, bI_0, bI_1, mm, rAm, mF_sF, mR_sR, false_and, and_false, if_false, if_true, false_or, or_false, not_true_eq_false, not_false_eq_true, and_self]
      have F := De.sF p J M (f := 23) (by decide) (I n)
      exact hR h2 _ (C.de F) (D.de C.us F) (F.cd A) (DJ.left V h2 n1)
    · simp (disch := first | (simp only [dd, dr]; done) | omega) only [W_84, I_lt, I_le, I_inj, inB_I, tc_I, Int.toNat_natCast, fkt, rf1, rf0, cq, Nat.reduceAdd, Nat.reduceEqDiff, Int.reduceToNat, eq_self, true_and, and_true, true_or, or_true, bI_0, bI_1, mm, rAm, mF_sF, mR_sR, false_and, and_false, if_false, if_true, false_or, or_false, not_true_eq_false, not_false_eq_true, and_self]
      rw [Th_out (nw_kO M 13 6) (by decide) (by decide +kernel)]
      exact hX.sc D C (Sc.refl _ _) ⟨(by apply Classical.byContradiction; intro hh; rw [hb.mpr (by omega)] at h2; cases h2), rfl⟩
  simp (disch := first | (simp only [dd, dr]; done) | omega) only [W_84, I_lt, I_le, I_inj, inB_I, tc_I, Int.toNat_natCast, fkt, rf1, rf0, cq, Nat.reduceAdd, Nat.reduceEqDiff, Int.reduceToNat, eq_self, true_and, and_true, true_or, or_true, bI_0, bI_1, mm, rAm, mF_sF, mR_sR, false_and, and_false, if_false, if_true, false_or, or_false, not_true_eq_false, not_false_eq_true, and_self]
  refine ⟨fun h => ?_, fun h => ?_⟩
  · simp (disch := first | (simp only [dd, dr]; done) | omega) only [W_84, I_lt, I_le, I_inj, inB_I, tc_I, Int.toNat_natCast, fkt, rf1, rf0, cq, Nat.reduceAdd, Nat.reduceEqDiff, Int.reduceToNat, eq_self, true_and, and_true, true_or, or_true, bI_0, bI_1, mm, rAm, mF_sF, mR_sR, false_and, and_false, if_false, if_true, false_or, or_false, not_true_eq_false, not_false_eq_true, and_self]
    exact go false (by simp; omega)
  · simp (disch := first | (simp only [dd, dr]; done) | omega) only [W_84, I_lt, I_le, I_inj, inB_I, tc_I, Int.toNat_natCast, fkt, rf1, rf0, cq, Nat.reduceAdd, Nat.reduceEqDiff, Int.reduceToNat, eq_self, true_and, and_true, true_or, or_true, bI_0, bI_1, mm, rAm, mF_sF, mR_sR, false_and, and_false, if_false, if_true, false_or, or_false, not_true_eq_false, not_false_eq_true, and_self]
    exact go true (by simp; omega)
theorem c_off (C : CX M p m J A T X) (V : DJv M p m J v la) (hR : Q (.returned (some (.int (I (bI v.2.2.1))))) M) : Wp d 28 0 [some (.ref p)] [] M Q := by
  have k0 := C.1.1.1
  have k2 := C.1.1.2.2.2.2.2.2.2.2.2.1
  have kd := C.1.2.2.2.2.1.1
  have e25 := V.f.2.2.1
  simp (disch := first | (simp only [dd, dr]; done) | omega) only [W_28, k0, k2, kd, e25, I_lt, I_le, I_inj, inB_I, tc_I, Int.toNat_natCast, fkt, rf1, rf0, cq, Nat.reduceAdd, Nat.reduceEqDiff, Int.reduceToNat, eq_self, true_and, and_true, true_or, or_true, bI_0, bI_1, mm, rAm, mF_sF, mR_sR, false_and, and_false, if_false, if_true, false_or, or_false, not_true_eq_false, not_false_eq_true, and_self]
  exact hR
theorem c_recov (hd : 60 ≤ d) (C : CX M p m J A T X) (D : DR M p T dt) (K : CMt m Tc Xc dtc la) (V : DJv M p m J v la)
    (hX : Thr p m J A T X dt M Q (fun k => v.2.2.1 = false ∧ k = 14))
    (hR : v.2.2.1 = true → ∀ M' A', CX M' p m J A' Tc Xc → DR M' p Tc dtc → CD p J A A' 0 M M' → DJv M' p m J (dvH m (v.1, v.2.1, false, v.2.2.2)) la → Q (.returned (some (.int (I ((dvH m (v.1, v.2.1, false, v.2.2.2)).1 - v.1))))) M') :
    Wp d 85 0 [some (.ref p), none] [] M Q := by
  have k0 := C.1.1.1
  have k2 := C.1.1.2.2.2.2.2.2.2.2.2.1
  have kd := C.1.2.2.2.2.1.1
  have e25 := V.f.2.2.1
  have e29 := V.f.1
  simp (disch := first | (simp only [dd, dr]; done) | omega) only [W_85, k0, k2, kd, e25, I_lt, I_le, I_inj, inB_I, tc_I, Int.toNat_natCast, fkt, rf1, rf0, cq, Nat.reduceAdd, Nat.reduceEqDiff, Int.reduceToNat, eq_self, true_and, and_true, true_or, or_true, bI_0, bI_1, mm, rAm, mF_sF, mR_sR, false_and, and_false, if_false, if_true, false_or, or_false, not_true_eq_false, not_false_eq_true, and_self]
  refine ca_42 (by omega) (c_can (fun h1 => ?_) (fun h1 => ?_))
  rotate_left
  · simp (disch := first | (simp only [dd, dr]; done) | omega) only [W_85, I_lt, I_le, I_inj, inB_I, tc_I, Int.toNat_natCast, fkt, rf1, rf0, cq, Nat.reduceAdd, Nat.reduceEqDiff, Int.reduceToNat, eq_self, true_and, and_true, true_or, or_true, bI_0, bI_1, mm, rAm, mF_sF, mR_sR, false_and, and_false, if_false, if_true, false_or, or_false, not_true_eq_false, not_false_eq_true, and_self]
    rw [Th_out (nw_kO M 14 6) (by decide) (by decide +kernel)]
    exact hX.sc D C (Sc.refl _ _) ⟨h1, rfl⟩
  simp (disch := first | (simp only [dd, dr]; done) | omega) only [W_85, k0, k2, kd, e29, I_lt, I_le, I_inj, inB_I, tc_I, Int.toNat_natCast, fkt, rf1, rf0, cq, Nat.reduceAdd, Nat.reduceEqDiff, Int.reduceToNat, eq_self, true_and, and_true, true_or, or_true, bI_0, bI_1, mm, rAm, mF_sF, mR_sR, false_and, and_false, if_false, if_true, false_or, or_false, not_true_eq_false, not_false_eq_true, and_self]
  refine ca_119 (by omega) (n_drecover (by omega) C.1 V (fun M1 F1 V1 => ?_))
  have C1 := C.de F1
  have k01 := C1.1.1.1
  simp (disch := first | (simp only [dd, dr]; done) | omega) only [W_85, k01, I_lt, I_le, I_inj, inB_I, tc_I, Int.toNat_natCast, fkt, rf1, rf0, cq, Nat.reduceAdd, Nat.reduceEqDiff, Int.reduceToNat, eq_self, true_and, and_true, true_or, or_true, bI_0, bI_1, mm, rAm, mF_sF, mR_sR, false_and, and_false, if_false, if_true, false_or, or_false, not_true_eq_false, not_false_eq_true, and_self]
  refine ca_83 (by omega) (n_last1 (v := (v.1, v.2.1, false, v.2.2.2)) (by omega) C1 K V1 (fun M2 A2 C2 D2 V2 F2 => ?_))
  have k02 := C2.1.1.1
  have k22 := C2.1.1.2.2.2.2.2.2.2.2.2.1
  have kd2 := C2.1.2.2.2.2.1.1
  simp (disch := first | (simp only [dd, dr]; done) | omega) only [W_85, k02, k22, kd2, I_lt, I_le, I_inj, inB_I, tc_I, Int.toNat_natCast, fkt, rf1, rf0, cq, Nat.reduceAdd, Nat.reduceEqDiff, Int.reduceToNat, eq_self, true_and, and_true, true_or, or_true, bI_0, bI_1, mm, rAm, mF_sF, mR_sR, false_and, and_false, if_false, if_true, false_or, or_false, not_true_eq_false, not_false_eq_true, and_self]
  refine ca_114 (by omega) (n_dhome (by omega) C2.1 V2 rfl (fun M3 F3 V3 => ?_))
  have C3 := C2.de F3
  have k03 := C3.1.1.1
  have k23 := C3.1.1.2.2.2.2.2.2.2.2.2.1
  have kd3 := C3.1.2.2.2.2.1.1
  have e293 := V3.f.1
  simp (disch := first | (simp only [dd, dr]; done) | omega) only [W_85, k03, k23, kd3, e293, I_lt, I_le, I_inj, inB_I, tc_I, Int.toNat_natCast, fkt, rf1, rf0, cq, Nat.reduceAdd, Nat.reduceEqDiff, Int.reduceToNat, eq_self, true_and, and_true, true_or, or_true, bI_0, bI_1, mm, rAm, mF_sF, mR_sR, false_and, and_false, if_false, if_true, false_or, or_false, not_true_eq_false, not_false_eq_true, and_self]
  exact hR h1 M3 A2 C3 (D2.de C2.us F3) (((F1.cd A).trans (F2.cd J)).trans (F3.cd A2)) V3
end Ccm
