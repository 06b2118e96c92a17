/-! ===== THE COMPONENT: its constructor, the root directory ===== -/
section Cn10
variable {d p m J : Nat} {M : Mem} {Q : Outcome → Mem → Prop}
theorem nC_A9 : nC A9 = 0 ∧ sC A9 = 0 := by decide
/-- rows as they are first -/
def g9 (m : Nat) (b : Nat) : Nat → Nat := if b < 2 then img m (T9 [4096]) (pyO X9) (fun _ _ => 0) b else fun _ => 0
theorem c_new20y (hd : 60 ≤ d) (K : NK M p m J) {z1 z2 : Int32} (hQ : ∀ M' A', CX M' p m J A' (T9 [4096]) X9 → (∀ b, b < 96 → Rw M' (p + 2 + b) (g9 m b)) → CF p A9 A' 0 M M' → ∀ z3, Wp d 20 176 [some (.ref p), some (.int z1), some (.int z2), some (.int z3), some (.int (I 0))] [] M' Q) :
    Ca d 20 132 [some (.ref p), some (.int z1), some (.int z2), none, none] 88 [.ref (p + 199)] [] M Q := by
  obtain ⟨P, U, Kt, h18, hdv, hz, hN⟩ := K
  obtain ⟨m0, m1, j0, j1⟩ := P.2.2.2.2.2.2.2.2.2.2
  refine ca_88 (by omega) (r_take U (fun k h1 h2 h3 => ?_) (fun hall => ?_))
  rotate_left
  · exact absurd (hall 0 (by omega)) (by decide)
  have hk : k = 0 := by
    by_cases e : k = 0
    · exact e
    · exact absurd (h3 0 (by omega)) (by decide)
  subst hk
  have P1 : PK (sA M (p + 200) 0 (I 1)) p m J := P
  have U1 : RmIs (sA M (p + 200) 0 (I 1)) (p + 199) (p + 199 + 1) m (fun b => decide (b < 1)) := by
    obtain ⟨g1, g2, g3, g4, g5, g6⟩ := U
    refine ⟨g1, g2, g3, g4, g5, fun b hb => ?_⟩
    rw [mA_sA]
    by_cases e : b = 0
    · rw [if_pos ⟨rfl, e⟩, e]; rfl
    · rw [if_neg (fun h => e h.2), g6 b hb]
      congr 2
      exact (decide_eq_false (by omega)).symm
  have K1 : TK (sA M (p + 200) 0 (I 1)) (p + 201) (p + 199) A9 := by
    obtain ⟨a1, a2, a3, a4, a5⟩ := Kt
    exact ⟨a1, a2, (fun b q h => by cases h), (fun b q h => by cases h), a5⟩
  have F1 : Fr (p + 201) (p + 199) A9 A9 0 M (sA M (p + 200) 0 (I 1)) := Fr.use (p + 201) (p + 199) A9 M 0 (I 1)
  have hz1 : ∀ b, b < 96 → ∀ i, mA (sA M (p + 200) 0 (I 1)) (p + 2 + b) i = 0 := fun b hb i => by rw [mA_sA, if_neg (by omega)]; exact hz.1 b hb i
  have n1 : mN (sA M (p + 200) 0 (I 1)) = p + 403 + J := hN
  generalize sA M (p + 200) 0 (I 1) = M1 at *
  have k0 := P1.1.1
  have k9 := P1.1.2.2.2.2.2.2.2.2.1
  have kt := K1.1.1
  simp (disch := first | (simp only [dd, dr]; done) | omega) only [W_20, k0, k9, kt, I_lt, I_le, I_inj, inB_I, tc_I, Int.toNat_natCast, fkt, rf1, rf0, cq, Nat.reduceAdd, Nat.reduceEqDiff, Int.reduceToNat, eq_self, true_and, and_true, true_or, or_true, bI_0, bI_1, mm, rAm, mF_sF, mR_sR, false_and, and_false, if_false, if_true, false_or, or_false, not_true_eq_false, not_false_eq_true, and_self]
  refine ca_95 (by omega) (c_begin (py := pyO X9) (by omega) K1 U1 (by omega) (by omega) (fun M2 A2 R2 F2 => ?_))
  have NB9 : NB A9 (p + 403 + J) := fun b q h => by rcases h with h | h <;> cases h
  have P2 := P1.fr NB9 F2 (by omega)
  have N2' := NB9.fr F2 (by omega)
  have n2 : p + 403 + J ≤ mN M2 := by have := F2.2.2.2.2.2.2.1; omega
  have k02 := P2.1.1
  simp (disch := first | (simp only [dd, dr]; done) | omega) only [W_20, k02, I_lt, I_le, I_inj, inB_I, tc_I, Int.toNat_natCast, fkt, rf1, rf0, cq, Nat.reduceAdd, Nat.reduceEqDiff, Int.reduceToNat, eq_self, true_and, and_true, true_or, or_true, bI_0, bI_1, mm, rAm, mF_sF, mR_sR, false_and, and_false, if_false, if_true, false_or, or_false, not_true_eq_false, not_false_eq_true, and_self]
  refine ca_22 (by omega) (n_layStat (k := 0) (l := 1) (n := 0) (by omega) P2 (by omega) (by omega) (by omega) (fun g hg => ?_))
  have S3 : Sc p M2 (rA M2 (p + 196) g) := Sc.rA p M2 (w := p + 196) ⟨by omega, by omega⟩ g
  have hb3 : ∀ i w, (stB 1 1 0)[i]? = some w → mA (rA M2 (p + 196) g) (p + 196) i = bB (w : Nat) := fun i w hw => by rw [mA_rA, if_pos rfl]; exact hg i w hw
  have n3 : mN (rA M2 (p + 196) g) = mN M2 := rfl
  generalize rA M2 (p + 196) g = M3 at *
  have f3 := S3.f1
  have P3 : PK M3 p m J := P2.of (fun a _ => f3.1 a) (fun a f ha => S3.2.2.2.1 f a (by have := ha.2.2; omega)) (fun a i _ => f3.2.2.2.1 a i) (S3.2.2.1 _ _ (by omega)) (S3.2.2.1 _ _ (by omega))
  have R3 : RM M3 (p + 201) (p + 199) m A2 (T9 []) (pyO X9) none := R2.sm (fun a _ => f3.1 a) (fun a ha => by rw [f3.1]; exact R2.1.2.2.2.2 a (by omega)) (fun a ha => ⟨fun f hf => S3.2.2.1 f a hf, fun f hf => S3.2.2.2.1 f a hf, fun i => f3.2.2.2.1 a i, fun ho i => S3.2.2.2.2 a i (fun hh => by
    rcases ho with h | h | ⟨b, q, h, a1, a2⟩ | ⟨b, q, h, a1, a2⟩
    · omega
    · omega
    · have := N2' b q (.inl h); omega
    · have := N2' b q (.inr h); omega)⟩)
  have k03 := P3.1.1
  have k93 := P3.1.2.2.2.2.2.2.2.2.1
  have kb3 := P3.1.2.2.2.2.1
  have kt3 := R3.1.1.1
  simp (disch := first | (simp only [dd, dr]; done) | omega) only [W_20, k03, k93, I_lt, I_le, I_inj, inB_I, tc_I, Int.toNat_natCast, fkt, rf1, rf0, cq, Nat.reduceAdd, Nat.reduceEqDiff, Int.reduceToNat, eq_self, true_and, and_true, true_or, or_true, bI_0, bI_1, mm, rAm, mF_sF, mR_sR, false_and, and_false, if_false, if_true, false_or, or_false, not_true_eq_false, not_false_eq_true, and_self]
  refine ca_24 (by omega) (c_keyOf ?_)
  rw [show ((1 : Int) * 4 + 0) * 1024 + 0 = ((4096 : Nat) : Int) by omega]
  simp (disch := first | (simp only [dd, dr]; done) | omega) only [W_20, k03, kb3, kt3, I_lt, I_le, I_inj, inB_I, tc_I, Int.toNat_natCast, fkt, rf1, rf0, cq, Nat.reduceAdd, Nat.reduceEqDiff, Int.reduceToNat, eq_self, true_and, and_true, true_or, or_true, bI_0, bI_1, mm, rAm, mF_sF, mR_sR, false_and, and_false, if_false, if_true, false_or, or_false, not_true_eq_false, not_false_eq_true, and_self]
  have hW : Row M3 (p + 196) 48 (stB 1 1 0) := ⟨P3.2.2.2.1.2.1, by omega, by omega, by show 6 ≤ 48; omega, hb3⟩
  have wf : Wf m (fun k => (pyO X9 k).length) (T9 []) := T9_wf (by omega) (by show 0 ≤ 120; omega) List.Pairwise.nil (fun k hk => by cases hk)
  refine cr_97 (by omega) (n_set (bs := stB 1 1 0) (key := 4096) (ok := true) (T' := T9 [4096]) (by omega) (by omega) R3 wf (fun k hk => by rw [T9_its] at hk; cases hk) (by omega) hW (by show 6 ≤ 40; omega) T9_set (fun _ M4 A4 R4 F4 => ?_) (fun h => by cases h))
  rw [← X9_body, fu_id] at R4
  have P4 := P3.fr N2' F4 (by omega)
  have N4 := N2'.fr F4 (by omega)
  have n4 : p + 403 + J ≤ mN M4 := by have := F4.2.2.2.2.2.2.1; omega
  have FC : CF p A9 A4 0 M M4 := ((F1.cf.trans F2.cf).trans (S3.cf A2)).trans F4.cf
  have C4 : CX M4 p m J A4 (T9 [4096]) X9 := ⟨P4, R4, X9_gt (by omega), N4, n4⟩
  have D4 : DR M4 p (T9 [4096]) (fun _ _ => 0) := by
    intro b b1 b2 b3
    rcases T9_mU b1 with e | e
    · exact absurd e b3
    · subst e; exact absurd b2 (by decide)
  have hz4 : ∀ b, b < 96 → ∀ i, mA M4 (p + 2 + b) i = 0 := by
    intro b hb i
    have s2 := F2.2.1 (p + 2 + b) (by omega) (fun ho => by
      rcases ho with h | h | ⟨b', q, h, _⟩ | ⟨b', q, h, _⟩
      · omega
      · omega
      · cases h
      · cases h)
    have s4 := F4.2.1 (p + 2 + b) (by omega) (fun ho => by
      rcases ho with h | h | ⟨b', q, h, a1, a2⟩ | ⟨b', q, h, a1, a2⟩
      · omega
      · omega
      · have := N2' b' q (.inl h); omega
      · have := N2' b' q (.inr h); omega)
    rw [s4.2.2.1, S3.2.2.2.2 _ _ (by omega), s2.2.2.1]
    exact hz1 b hb i
  have k04 := P4.1.1
  simp (disch := first | (simp only [dd, dr]; done) | omega) only [W_20, k04, I_lt, I_le, I_inj, inB_I, tc_I, Int.toNat_natCast, fkt, rf1, rf0, cq, Nat.reduceAdd, Nat.reduceEqDiff, Int.reduceToNat, eq_self, true_and, and_true, true_or, or_true, bI_0, bI_1, mm, rAm, mF_sF, mR_sR, false_and, and_false, if_false, if_true, false_or, or_false, not_true_eq_false, not_false_eq_true, and_self]
  refine ca_25 (by omega) (n_layAllU (by omega) P4 R4 C4.2.2.1 D4 (fun M5 F5 r5 o5 => ?_))
  have C5 := C4.ro F5
  have k05 := C5.1.1.1
  simp (disch := first | (simp only [dd, dr]; done) | omega) only [W_20, k05, I_lt, I_le, I_inj, inB_I, tc_I, Int.toNat_natCast, fkt, rf1, rf0, cq, Nat.reduceAdd, Nat.reduceEqDiff, Int.reduceToNat, eq_self, true_and, and_true, true_or, or_true, bI_0, bI_1, mm, rAm, mF_sF, mR_sR, false_and, and_false, if_false, if_true, false_or, or_false, not_true_eq_false, not_false_eq_true, and_self]
  refine hQ M5 A4 C5 (fun b hb => ?_) (FC.trans (F5.cf A4 (fun z i hzz => o5 z i (fun b' hb' => (hzz b' (by rcases T9_mU hb' with e | e <;> omega)).1)))) _
  unfold g9
  by_cases e : b < 2
  · rw [if_pos e]
    exact r5 b (by show decide (b < 2) = true; exact decide_eq_true e)
  · rw [if_neg e]
    refine ⟨(C5.1.2.1.2.1 b hb).2, fun i hi => ?_⟩
    rw [o5 _ _ (fun b' hb' => by rcases T9_mU hb' with e' | e' <;> omega), hz4 b hb i]
    rfl
end Cn10
section Cn11
variable {d p m J : Nat} {M : Mem} {Q : Outcome → Mem → Prop}
/-- the rows are laid to the device -/
theorem c_new20x {A : Ad} {T : Tr} {X : Ob} {g : Nat → Nat → Nat} {z1 z2 z3 : Int32} (hd : 2 ≤ d) (C : CX M p m J A T X) (hg : ∀ b, b < 96 → Rw M (p + 2 + b) (g b)) (hQ : ∀ M', CX M' p m J A T X → Ro M M' → (∀ b, b < 96 → Rw M' (p + 2 + b) (g b)) → (∀ b, b < m → Rw M' (p + 207 + b) (g b) ∧ Rw M' (p + 304 + b) (g b)) → (∀ z i, (z < p + 206 ∨ p + 400 ≤ z) → mA M' z i = mA M z i) → Q (.returned none) M') :
    Wp d 20 176 [some (.ref p), some (.int z1), some (.int z2), some (.int z3), some (.int (I 0))] [] M Q := by
  have m1 := C.1.2.2.2.2.2.2.2.2.2.2.2.1
  suffices H : ∀ n' (i : Nat) (M1 : Mem), i + n' = m → Ro M M1 → (∀ b, b < 96 → Rw M1 (p + 2 + b) (g b)) → (∀ b, b < i → Rw M1 (p + 207 + b) (g b) ∧ Rw M1 (p + 304 + b) (g b)) → (∀ z i, (z < p + 206 ∨ p + 400 ≤ z) → mA M1 z i = mA M z i) → Wp d 20 176 [some (.ref p), some (.int z1), some (.int z2), some (.int z3), some (.int (I (i : Nat)))] [] M1 Q from H m 0 M (by omega) (Ro.refl M) hg (fun b hb => absurd hb (Nat.not_lt_zero _)) (fun _ _ _ => rfl)
  intro n'
  induction n' with
  | succ n' ih =>
    intro i M1 hi F h1 h2 h3
    have C1 := C.ro F
    obtain ⟨⟨a1, a2, a3, a4, a5, a6, a7, a8, a9, a10, a11⟩, b1, b2, _, ⟨d1, d2, d3, _⟩, e1, e2, _⟩ := id C1.1
    have b1X := b1.1
    obtain ⟨q1, x1⟩ := b1.2.1 i (by omega)
    have e1X := e1.1
    obtain ⟨q2, x2⟩ := e1.2.1 i (by omega)
    simp (disch := first | (simp only [dd, dr]; done) | omega) only [w_20_176, W_20, a1, a2, a10, a11, b1X, q1, d1, d2, e1X, q2, I_lt, I_le, I_inj, inB_I, tc_I, Int.toNat_natCast, fkt, rf1, rf0, cq, Nat.reduceAdd, Nat.reduceEqDiff, Int.reduceToNat, eq_self, true_and, and_true, true_or, or_true, bI_0, bI_1, mm, rAm, mF_sF, mR_sR, false_and, and_false, if_false, if_true, false_or, or_false, not_true_eq_false, not_false_eq_true, and_self]
    refine ⟨(fun h => by first | exact False.elim h | exact absurd trivial h | (exfalso; omega) | exact absurd rfl h | cases h), fun _ => ?_⟩
    simp (disch := first | (simp only [dd, dr]; done) | omega) only [W_20, a1, a2, a10, a11, b1X, q1, d1, d2, e1X, q2, I_lt, I_le, I_inj, inB_I, tc_I, Int.toNat_natCast, fkt, rf1, rf0, cq, Nat.reduceAdd, Nat.reduceEqDiff, Int.reduceToNat, eq_self, true_and, and_true, true_or, or_true, bI_0, bI_1, mm, rAm, mF_sF, mR_sR, false_and, and_false, if_false, if_true, false_or, or_false, not_true_eq_false, not_false_eq_true, and_self]
    refine cr_27 (by omega) (c_copyR (h1 i (by omega)) x2 (by omega) (fun M2 F2 r2 o2 => ?_))
    have C2 := C1.ro F2
    obtain ⟨⟨a1, a2, a3, a4, a5, a6, a7, a8, a9, a10, a11⟩, b1, b2, _, ⟨d1, d2, d3, _⟩, e1, e2, _⟩ := id C2.1
    have b1X := b1.1
    obtain ⟨q1, x1⟩ := b1.2.1 i (by omega)
    have e2X := e2.1
    obtain ⟨q3, x3⟩ := e2.2.1 i (by omega)
    have h1' : ∀ b, b < 96 → Rw M2 (p + 2 + b) (g b) := fun b hb => (h1 b hb).same F2 (fun j => o2 _ _ (by omega))
    simp (disch := first | (simp only [dd, dr]; done) | omega) only [W_20, a1, a2, a10, a11, b1X, q1, d1, d3, e2X, q3, I_lt, I_le, I_inj, inB_I, tc_I, Int.toNat_natCast, fkt, rf1, rf0, cq, Nat.reduceAdd, Nat.reduceEqDiff, Int.reduceToNat, eq_self, true_and, and_true, true_or, or_true, bI_0, bI_1, mm, rAm, mF_sF, mR_sR, false_and, and_false, if_false, if_true, false_or, or_false, not_true_eq_false, not_false_eq_true, and_self]
    refine cr_27 (by omega) (c_copyR (h1' i (by omega)) x3 (by omega) (fun M3 F3 r3 o3 => ?_))
    simp (disch := first | (simp only [dd, dr]; done) | omega) only [W_20, I_lt, I_le, I_inj, inB_I, tc_I, Int.toNat_natCast, fkt, rf1, rf0, cq, Nat.reduceAdd, Nat.reduceEqDiff, Int.reduceToNat, eq_self, true_and, and_true, true_or, or_true, bI_0, bI_1, mm, rAm, mF_sF, mR_sR, false_and, and_false, if_false, if_true, false_or, or_false, not_true_eq_false, not_false_eq_true, and_self]
    rw [show ((i : Int) + 1) = ((i + 1 : Nat) : Int) by omega]
    refine ih (i + 1) M3 (by omega) ((F.trans F2).trans F3) (fun b hb => (h1' b hb).same F3 (fun j => o3 _ _ (by omega))) (fun b hb => ?_) (fun z j hz => by rw [o3 _ _ (by omega), o2 _ _ (by omega)]; exact h3 z j hz)
    by_cases e : b = i
    · subst e
      exact ⟨r2.same F3 (fun j => o3 _ _ (by omega)), r3⟩
    · have := h2 b (by omega)
      exact ⟨(this.1.same F2 (fun j => o2 _ _ (by omega))).same F3 (fun j => o3 _ _ (by omega)), (this.2.same F2 (fun j => o2 _ _ (by omega))).same F3 (fun j => o3 _ _ (by omega))⟩
  | zero =>
    intro i M1 hi F h1 h2 h3
    obtain rfl : i = m := by omega
    have C1 := C.ro F
    have a1 := C1.1.1.1
    have a11 := C1.1.1.2.2.2.2.2.2.2.2.2.2
    simp (disch := first | (simp only [dd, dr]; done) | omega) only [w_20_176, W_20, a1, a11, I_lt, I_le, I_inj, inB_I, tc_I, Int.toNat_natCast, fkt, rf1, rf0, cq, Nat.reduceAdd, Nat.reduceEqDiff, Int.reduceToNat, eq_self, true_and, and_true, true_or, or_true, bI_0, bI_1, mm, rAm, mF_sF, mR_sR, false_and, and_false, if_false, if_true, false_or, or_false, not_true_eq_false, not_false_eq_true, and_self]
    refine ⟨fun _ => ?_, (fun h => by first | exact False.elim h | exact absurd trivial h | (exfalso; omega) | exact absurd rfl h | cases h)⟩
    simp (disch := first | (simp only [dd, dr]; done) | omega) only [W_20, I_lt, I_le, I_inj, inB_I, tc_I, Int.toNat_natCast, fkt, rf1, rf0, cq, Nat.reduceAdd, Nat.reduceEqDiff, Int.reduceToNat, eq_self, true_and, and_true, true_or, or_true, bI_0, bI_1, mm, rAm, mF_sF, mR_sR, false_and, and_false, if_false, if_true, false_or, or_false, not_true_eq_false, not_false_eq_true, and_self]
    exact hQ M1 C1 F h1 h2 h3
end Cn11
