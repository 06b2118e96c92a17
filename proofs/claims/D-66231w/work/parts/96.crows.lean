/-! ===== THE COMPONENT: layAll, takeAll ===== -/
/-- a data block's row; a block's row -/
def drw (dt : Nat → Nat → Nat) (b i : Nat) : Nat := if i = 128 then 0 else dt b i
def img (m : Nat) (T : Tr) (py : Nat → List Nat) (dt : Nat → Nat → Nat) (b : Nat) : Nat → Nat := if b = 0 then frw m (tU T) (tR T) else if 1 ≤ tH T b then rowN T py b else drw dt b
/-- rows of data blocks are as they are said -/
def DR (M : Mem) (p : Nat) (T : Tr) (dt : Nat → Nat → Nat) : Prop := ∀ b, tU T b = true → tH T b = 0 → b ≠ 0 → Rw M (p + 2 + b) (drw dt b)
/-- what is needed of a tree that is laid or read -/
def Gt (m : Nat) (T : Tr) (py : Nat → List Nat) : Prop := Wf m (fun k => (py k).length) T ∧ (∀ x ∈ tW T 0, tI T x ≠ []) ∧ ∀ k ∈ its T, k < 1000000
theorem Gt.lf {m : Nat} {T : Tr} {py : Nat → List Nat} (g : Gt m T py) : ∀ b, tH T b = 1 → us py (tI T b) ≤ 120 ∧ (∀ k ∈ tI T b, (py k).length ≤ 40) ∧ ∀ k ∈ tI T b, k < 1000000 := by
  intro b hb
  have hm := g.1.1.2.2.1 0 b hb
  refine ⟨by rw [us_uz]; exact (g.1.2.2.1 b hm (by simp)).1, fun k hk => (g.1.2.2.2.2.1 k (g.1.mem hk)).2, fun k hk => g.2.2 k (g.1.mem hk)⟩
theorem Gt.ch {m : Nat} {T : Tr} {py : Nat → List Nat} (g : Gt m T py) : ∀ h b, tH T b = h + 2 → b < 96 ∧ ∀ c ∈ tC T b, c < 96 := by
  intro h b hb
  have hm := g.1.1.2.2.1 (h + 1) b hb
  refine ⟨(g.1.1.1 _ b hm).1, fun c hc => ?_⟩
  have hcH := (g.1.1.sw.2.2.1 h b c hb hc).1
  exact (g.1.1.1 h c (g.1.1.2.2.1 h c hcH)).1
section CR
variable {d p m J : Nat} {M : Mem} {A : Ad} {T : Tr} {py : Nat → List Nat} {dt : Nat → Nat → Nat} {Q : Outcome → Mem → Prop}
set_option maxHeartbeats 4000000 in
theorem n_layAll (hd : 40 ≤ d) (P : PK M p m J) (R : RM M (p + 201) (p + 199) m A T py none) (g : Gt m T py) (D : DR M p T dt) (hQ : ∀ M', Ro M M' → (∀ b, tU T b = true → Rw M' (p + 2 + b) (img m T py dt b)) → (∀ z i, (∀ b, b < 96 → z ≠ p + 2 + b) → mA M' z i = mA M z i) → Q (.returned none) M') : Wp d 25 0 [some (.ref p)] [] M Q := by
  have S := g.1.1.sw
  have h7 := g.1.1.tN7 g.1.2.1
  have hN := S.2.2.2.2.2.2
  have hNr : tH T (tR T) = (tN T - 1) + 1 := by have := S.2.2.2.2.1; omega
  obtain ⟨qr, hqr⟩ := R.node hNr
  have r18 : mR M 18 (p + 201) = some qr := by rw [R.2.2.2.2.2.2]; exact hqr
  obtain ⟨⟨a1, a2, a3, a4, a5, a6, a7, a8, a9, a10, a11⟩, b1, _⟩ := id P
  have t0 := R.1.1.1
  have F := g.1.ful g.2.1 g.2.2
  simp (disch := first | (simp only [dd, dr]; done) | omega) only [W_25, a1, a9, a2, t0, I_lt, I_le, I_inj, inB_I, tc_I, Int.toNat_natCast, fkt, rf1, rf0, cq, Nat.reduceAdd, Nat.reduceEqDiff, Int.reduceToNat, eq_self, true_and, and_true, true_or, or_true, bI_0, bI_1, mm, rAm, mF_sF, mR_sR, false_and, and_false, if_false, if_true, false_or, or_false, not_true_eq_false, not_false_eq_true, and_self]
  refine cr_106 (by omega) ?_
  simp (disch := first | (simp only [dd, dr]; done) | omega) only [W_106, t0, r18, I_lt, I_le, I_inj, inB_I, tc_I, Int.toNat_natCast, fkt, rf1, rf0, cq, Nat.reduceAdd, Nat.reduceEqDiff, Int.reduceToNat, eq_self, true_and, and_true, true_or, or_true, bI_0, bI_1, mm, rAm, mF_sF, mR_sR, false_and, and_false, if_false, if_true, false_or, or_false, not_true_eq_false, not_false_eq_true, and_self]
  refine ca_107 (o0 := some qr) (o1 := some (p + 1)) (by omega) (n_lay S F (fun b hb => ⟨(g.lf b hb).1, (g.lf b hb).2.1⟩) g.ch (tN T - 1) (d - 1 - 1) (tR T) qr M _ (by omega) (by omega) R b1 hNr hqr (fun M1 F1 hA hB => ?_))
  simp (disch := first | (simp only [dd, dr]; done) | omega) only [W_106, I_lt, I_le, I_inj, inB_I, tc_I, Int.toNat_natCast, fkt, rf1, rf0, cq, Nat.reduceAdd, Nat.reduceEqDiff, Int.reduceToNat, eq_self, true_and, and_true, true_or, or_true, bI_0, bI_1, mm, rAm, mF_sF, mR_sR, false_and, and_false, if_false, if_true, false_or, or_false, not_true_eq_false, not_false_eq_true, and_self]
  have P1 := P.ro F1
  have R1 := R.ro F1
  obtain ⟨⟨c1, c2, c3, c4, c5, c6, c7, c8, c9, c10, c11⟩, e1, _⟩ := id P1
  have t01 := R1.1.1.1
  have r181 : mR M1 18 (p + 201) = some qr := by rw [R1.2.2.2.2.2.2]; exact hqr
  have k32 := (R1.1.kind hqr).2.2.1
  have f32 := (fkN (R1.1.kind hqr).2.1).2.2.1
  have e1X := e1.1
  obtain ⟨eQ0, kX0⟩ := e1.2.1 0 (by omega)
  have r01 := R1.2.1.1
  simp (disch := first | (simp only [dd, dr]; done) | omega) only [W_25, c1, c8, c2, c9, e1X, eQ0, t01, r181, f32, k32, r01, I_lt, I_le, I_inj, inB_I, tc_I, Int.toNat_natCast, fkt, rf1, rf0, cq, Nat.reduceAdd, Nat.reduceEqDiff, Int.reduceToNat, eq_self, true_and, and_true, true_or, or_true, bI_0, bI_1, mm, rAm, mF_sF, mR_sR, false_and, and_false, if_false, if_true, false_or, or_false, not_true_eq_false, not_false_eq_true, and_self]
  refine cr_90 (by omega) (c_layR (rt := tR T) R1.2.1 (by omega) kX0 (fun gg hg => ?_))
  simp (disch := first | (simp only [dd, dr]; done) | omega) only [W_25, I_lt, I_le, I_inj, inB_I, tc_I, Int.toNat_natCast, fkt, rf1, rf0, cq, Nat.reduceAdd, Nat.reduceEqDiff, Int.reduceToNat, eq_self, true_and, and_true, true_or, or_true, bI_0, bI_1, mm, rAm, mF_sF, mR_sR, false_and, and_false, if_false, if_true, false_or, or_false, not_true_eq_false, not_false_eq_true, and_self]
  have F2 : Ro M1 (rA M1 (p + 2 + 0) gg) := Ro.rA kX0 gg
  refine hQ _ (F1.trans F2) (fun b hb => ?_) (fun z i hz => ?_)
  · unfold img
    by_cases h0 : b = 0
    · subst h0
      rw [if_pos rfl]
      exact ⟨kX0, fun i hi => by rw [mA_rA, if_pos rfl]; exact hg i hi⟩
    · rw [if_neg h0]
      have hne : ∀ i, mA (rA M1 (p + 2 + 0) gg) (p + 2 + b) i = mA M1 (p + 2 + b) i := fun i => by rw [mA_rA, if_neg (by omega)]
      have hkx : kX (rA M1 (p + 2 + 0) gg) (p + 2 + b) = kX M1 (p + 2 + b) := rfl
      by_cases hH : 1 ≤ tH T b
      · rw [if_pos hH]
        obtain ⟨_, hr⟩ := hA b (sub_all g.1.1 (k := tH T b - 1) (by omega))
        exact ⟨by rw [hkx]; exact hr.1, fun i hi => by rw [hne]; exact hr.2 i hi⟩
      · rw [if_neg hH]
        have hd := D b hb (by omega) h0
        refine ⟨by rw [hkx, F1.f1.2.1]; exact hd.1, fun i hi => ?_⟩
        rw [hne, hB _ _ (fun b' hb' e => ?_)]
        · exact hd.2 i hi
        · have h1 := (sub_H S _ _ b' hNr hb').1
          have : b = b' := by omega
          rw [this] at hH; exact hH h1
  · rw [mA_rA, if_neg (fun e => hz 0 (by omega) e), hB _ _ (fun b hb e => hz b (hA b hb).1 e)]
theorem RmIs.any {M : Mem} {r m : Nat} {u0 : Nat → Bool} {u : Nat → Bool} {gg : Nat → Int32} (h : RmIs M r (r + 1) m u0) (hg : ∀ b, b < m → gg b = I (bI (u b))) : RmIs (rA M (r + 1) gg) r (r + 1) m u := by
  obtain ⟨h1, h2, h3, h4, h5, h6⟩ := h
  exact ⟨h1, h2, h3, h4, h5, fun b hb => by rw [mA_rA, if_pos rfl]; exact hg b hb⟩
set_option maxHeartbeats 4000000 in
/-- the tree and the room are taken from the rows there are -/
theorem n_takeAll (hd : 45 ≤ d) (P : PK M p m J) (J0 : JT M (p + 201) (p + 199) m A) (N : NB A (p + 403 + J)) (hl : p + 403 + J ≤ mN M) (g : Gt m T py) (hrow : ∀ b, tU T b = true → Rw M (p + 2 + b) (img m T py dt b)) (hQ : ∀ M' A', RM M' (p + 201) (p + 199) m A' T py none → DR M' p T dt → Fr (p + 201) (p + 199) A A' 0 M M' → Q (.returned none) M') : Wp d 50 0 [some (.ref p)] [] M Q := by
  obtain ⟨K, u0, U⟩ := J0
  obtain ⟨⟨a1, a2, a3, a4, a5, a6, a7, a8, a9, a10, a11⟩, b1, _⟩ := id P
  have b1X := b1.1
  obtain ⟨eQ0, kX0⟩ := b1.2.1 0 (by omega)
  have hS := g.1.1
  have hU0 : tU T 0 = true := hS.2.2.2.2.2.2.2.2.1.1
  have h0H : tH T 0 = 0 := hS.2.2.2.2.2.2.2.2.1.2
  have row0 : Rw M (p + 2 + 0) (frw m (tU T) (tR T)) := by have := hrow 0 hU0; unfold img at this; rw [if_pos rfl] at this; exact this
  have r0 := U.1
  have t0 := K.1.1
  simp (disch := first | (simp only [dd, dr]; done) | omega) only [W_50, a1, a8, a2, b1X, eQ0, r0, I_lt, I_le, I_inj, inB_I, tc_I, Int.toNat_natCast, fkt, rf1, rf0, cq, Nat.reduceAdd, Nat.reduceEqDiff, Int.reduceToNat, eq_self, true_and, and_true, true_or, or_true, bI_0, bI_1, mm, rAm, mF_sF, mR_sR, false_and, and_false, if_false, if_true, false_or, or_false, not_true_eq_false, not_false_eq_true, and_self]
  refine cr_92 (by omega) (c_takeFrom (by omega) U row0 (fun gg hg => ?_))
  have U1 := U.any hg
  have kXr := U.2.2.2.1
  have F1 : Fr (p + 201) (p + 199) A A 0 M (rA M (p + 199 + 1) gg) := Fr.step (fun _ => rfl) rfl rfl (fun a ha => ⟨fun _ => rfl, fun _ => rfl, fun i => by rw [mA_rA, if_neg (fun e => ha (.inr (.inl e)))], fun _ => rfl, fun _ => rfl⟩)
  have K1 : TK (rA M (p + 199 + 1) gg) (p + 201) (p + 199) A := K
  have P1 := P.fr N F1 hl
  have rows1 : ∀ b, tU T b = true → Rw (rA M (p + 199 + 1) gg) (p + 2 + b) (img m T py dt b) := by
    intro b hb
    have h := hrow b hb
    refine ⟨h.1, fun i hi => ?_⟩
    rw [mA_rA, if_neg (fun e => by have := h.1; rw [e, kXr] at this; cases this)]; exact h.2 i hi
  generalize rA M (p + 199 + 1) gg = M1 at *
  obtain ⟨⟨c1, c2, c3, c4, c5, c6, c7, c8, c9, c10, c11⟩, e1, _⟩ := id P1
  have e1X := e1.1
  obtain ⟨eQ01, kX01⟩ := e1.2.1 0 (by omega)
  have t01 := K1.1.1
  have row01 : Rw M1 (p + 2 + 0) (frw m (tU T) (tR T)) := by have := rows1 0 hU0; unfold img at this; rw [if_pos rfl] at this; exact this
  simp (disch := first | (simp only [dd, dr]; done) | omega) only [W_50, c1, c9, c2, e1X, eQ01, t01, I_lt, I_le, I_inj, inB_I, tc_I, Int.toNat_natCast, fkt, rf1, rf0, cq, Nat.reduceAdd, Nat.reduceEqDiff, Int.reduceToNat, eq_self, true_and, and_true, true_or, or_true, bI_0, bI_1, mm, rAm, mF_sF, mR_sR, false_and, and_false, if_false, if_true, false_or, or_false, not_true_eq_false, not_false_eq_true, and_self]
  refine cr_36 (by omega) (c_byteN (k := 0) row01 (by omega) rfl ?_)
  have hR96 : tR T < 96 := by
    have hN := hS.2.2.2.2.2.2.2.1.2.2.1
    have : tR T ∈ tW T (tN T - 1) := by rw [hS.2.2.2.2.2.2.2.1.1]; exact List.mem_cons_self ..
    exact (hS.1 _ _ this).1
  have ef : frw m (tU T) (tR T) 0 % 256 = tR T := by show tR T % 256 = tR T; omega
  rw [ef]
  simp (disch := first | (simp only [dd, dr]; done) | omega) only [W_50, t01, I_lt, I_le, I_inj, inB_I, tc_I, Int.toNat_natCast, fkt, rf1, rf0, cq, Nat.reduceAdd, Nat.reduceEqDiff, Int.reduceToNat, eq_self, true_and, and_true, true_or, or_true, bI_0, bI_1, mm, rAm, mF_sF, mR_sR, false_and, and_false, if_false, if_true, false_or, or_false, not_true_eq_false, not_false_eq_true, and_self]
  refine ca_108 (o0 := some (p + 1)) (by omega) (z_takeT (by omega) hS g.1.2.1 g.lf K1 e1 (fun b hb => ?_) U1 (fun M2 A2 R2 F2 => ?_))
  · have hm := hS.2.2.1 (tH T b - 1) b (by omega)
    obtain ⟨h96, _, hu⟩ := hS.1 _ b hm
    refine ⟨h96, ?_⟩
    have := rows1 b hu
    unfold img at this
    rw [if_neg (by intro e; rw [e, h0H] at hb; omega), if_pos hb] at this
    exact this
  · simp (disch := first | (simp only [dd, dr]; done) | omega) only [W_50, I_lt, I_le, I_inj, inB_I, tc_I, Int.toNat_natCast, fkt, rf1, rf0, cq, Nat.reduceAdd, Nat.reduceEqDiff, Int.reduceToNat, eq_self, true_and, and_true, true_or, or_true, bI_0, bI_1, mm, rAm, mF_sF, mR_sR, false_and, and_false, if_false, if_true, false_or, or_false, not_true_eq_false, not_false_eq_true, and_self]
    have F12 : Fr (p + 201) (p + 199) A A2 0 M M2 := F1.trans (F2.up (by omega))
    refine hQ M2 A2 R2 (fun b hu hH h0 => ?_) F12
    have := rows1 b hu
    unfold img at this
    rw [if_neg h0, if_neg (by omega)] at this
    exact this.keep K1 F2
end CR
