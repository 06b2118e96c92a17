/-! ===== THE COMPONENT: commit and recover of the device ===== -/
/-- blocks that are marked, in order -/
def cl (u : Nat → Bool) : Nat → List Nat
  | 0 => []
  | b + 1 => cl u b ++ (if u b = true then [b] else [])
theorem cl_len (u : Nat → Bool) : ∀ b, (cl u b).length = cn u b
  | 0 => rfl
  | b + 1 => by
    rw [cl, cn, List.length_append, cl_len u b]
    split <;> rfl
theorem cl_lt (u : Nat → Bool) : ∀ {b x : Nat}, x ∈ cl u b ↔ x < b ∧ u x = true
  | 0, x => by simp [cl]
  | b + 1, x => by
    rw [cl, List.mem_append, cl_lt u]
    by_cases e : u b = true
    · rw [if_pos e, List.mem_singleton]
      constructor
      · rintro (⟨h1, h2⟩ | h)
        · exact ⟨by omega, h2⟩
        · exact ⟨by omega, by rw [h]; exact e⟩
      · rintro ⟨h1, h2⟩
        by_cases e2 : x = b
        · exact .inr e2
        · exact .inl ⟨by omega, h2⟩
    · rw [if_neg e]
      constructor
      · rintro (⟨h1, h2⟩ | h)
        · exact ⟨by omega, h2⟩
        · cases h
      · rintro ⟨h1, h2⟩
        refine .inl ⟨?_, h2⟩
        by_cases e2 : x = b
        · rw [e2] at h2; exact absurd h2 e
        · omega
theorem Enc.app {sg : Nat → Int} : ∀ {Gs : List (List Nat)} {k k' : Nat} {g : List Nat}, Enc sg k Gs k' → sg k' = -2 → (∀ (i b : Nat), g[i]? = some b → sg (k' + 1 + i) = (b : Int)) → sg (k' + 1 + g.length) = -3 → Enc sg k (Gs ++ [g]) (k' + g.length + 2)
  | [], k, k', g, h, h1, h2, h3 => by
    have : k = k' := h
    subst this
    exact ⟨h1, h2, h3, rfl⟩
  | g0 :: Gs, k, k', g, h, h1, h2, h3 => ⟨h.1, h.2.1, h.2.2.1, Enc.app h.2.2.2 h1 h2 h3⟩
theorem Enc.congr {sg sg' : Nat → Int} : ∀ {Gs : List (List Nat)} {k k' : Nat}, Enc sg k Gs k' → (∀ i, i < k' → sg' i = sg i) → Enc sg' k Gs k'
  | [], _, _, h, _ => h
  | g :: Gs, k, k', h, hs => by
    have hle := Enc.le h.2.2.2
    refine ⟨by rw [hs k (by omega)]; exact h.1, fun i b hb => ?_, by rw [hs _ (by omega)]; exact h.2.2.1, Enc.congr h.2.2.2 hs⟩
    have := (List.getElem?_eq_some_iff.mp hb).1
    rw [hs _ (by omega)]; exact h.2.1 i b hb
theorem Enc.last {sg : Nat → Int} : ∀ {Gs : List (List Nat)} {k k' : Nat}, Enc sg k Gs k' → k = k' ∨ (k < k' ∧ sg (k' - 1) = -3)
  | [], _, _, h => .inl h
  | g :: Gs, k, k', h => by
    right
    rcases Enc.last h.2.2.2 with e | e
    · subst e
      refine ⟨by omega, ?_⟩
      have := h.2.2.1
      rw [show k + g.length + 2 - 1 = k + 1 + g.length by omega]; exact this
    · exact ⟨by omega, e.2⟩
section DM
variable {d p m J : Nat} {M : Mem} {Q : Outcome → Mem → Prop} {wr lf cm : Int} {off : Bool} {full : Nat} {sg : Nat → Int} {jr hm la : Nat → Nat → Nat}
theorem DevS.last {M' : Mem} (h : DevS M p m J wr lf off cm full sg jr hm la) (hJ : m ≤ 96) {b : Nat} {g : Nat → Nat} (F : Ro M M') (r : Rw M' (p + 304 + b) g) (hb : b < m) (o : ∀ z j, z ≠ p + 304 + b → mA M' z j = mA M z j) : DevS M' p m J wr lf off cm full sg jr hm (fu la b g) := by
  obtain ⟨⟨a1, a2, a3, a4, a5, a6⟩, b1, b2, b3, b4⟩ := h
  have f := F.f1
  have oR : ∀ w g, Rw M w g → w ≠ p + 304 + b → Rw M' w g := fun w g hw hne => ⟨by rw [f.2.1]; exact hw.1, fun i hi => by rw [o w i hne]; exact hw.2 i hi⟩
  refine ⟨⟨by rw [f.2.2.1]; exact a1, by rw [f.2.2.1]; exact a2, by rw [f.2.2.1]; exact a3, by rw [f.2.2.1]; exact a4, by rw [f.2.2.1]; exact a5, a6⟩, fun i hi => by rw [o _ _ (by omega)]; exact b1 i hi, fun i hi h0 => oR _ _ (b2 i hi h0) (by omega), fun b' hb' => oR _ _ (b3 b' hb') (by omega), fun b' hb' => ?_⟩
  by_cases e : b' = b
  · subst e; rw [fu_s]; exact r
  · rw [fu_n _ _ e]; exact oR _ _ (b4 b' hb') (by omega)
theorem DevS.com (h : DevS M p m J wr lf off cm full sg jr hm la) (v : Int) : DevS (sF M 19 (p + 205) (I v)) p m J wr lf off v full sg jr hm la := by
  obtain ⟨⟨a1, a2, a3, a4, a5, a6, a7, a8⟩, b1, b2, b3, b4⟩ := h
  refine ⟨⟨?_, ?_, ?_, by simp [mF_sF], ?_, a6, a7, a8⟩, b1, b2, b3, b4⟩
  · rw [mF_sF, if_neg (by omega)]; exact a1
  · rw [mF_sF, if_neg (by omega)]; exact a2
  · rw [mF_sF, if_neg (by omega)]; exact a3
  · rw [mF_sF, if_neg (by omega)]; exact a5
theorem DevS.eqv {sg' : Nat → Int} {jr' la' : Nat → Nat → Nat} (h : DevS M p m J wr lf off cm full sg jr hm la) (h1 : ∀ i, i < full → sg' i = sg i) (h2 : ∀ i, i < full → jr' i = jr i) (h3 : ∀ b, b < m → la' b = la b) : DevS M p m J wr lf off cm full sg' jr' hm la' := by
  obtain ⟨a, b1, b2, b3, b4⟩ := h
  exact ⟨a, fun i hi => by rw [h1 i hi]; exact b1 i hi, fun i hi h0 => by rw [h2 i hi]; rw [h1 i hi] at h0; exact b2 i hi h0, b3, fun b hb => by rw [h3 b hb]; exact b4 b hb⟩
set_option maxHeartbeats 8000000 in
theorem c_recover (hd : 4 ≤ d) (P : PK M p m J) (h : DevS M p m J wr lf off cm full sg jr hm la) {Gs : List (List Nat)} {k' : Nat} (hE : Enc sg 0 Gs k') (hk' : k' ≤ full) (ht : ∀ i, k' ≤ i → i < full → sg i ≠ -3) (hG : ∀ g ∈ Gs, ∀ b ∈ g, b < m)
    (hQ : ∀ M', De p J M M' → PK M' p m J → DevS M' p m J wr lf false cm k' sg jr hm (ovl jr Gs 0 hm) → Q (.returned none) M') : Wp d 119 0 [some (.ref (p + 205)), none] [] M Q := by
  have hJ := P.2.2.2.2.2.2.2.2.2.2
  have k4 := P.2.2.2.2.1.1
  have hfJ := h.1.2.2.2.2.2.1
  have e0 : nrw 2 (I 0) = I 0 := by decide
  simp (disch := first | (simp only [dd, dr]; done) | omega) only [W_119, k4, e0, I_lt, I_le, I_inj, inB_I, tc_I, Int.toNat_natCast, fkt, rf1, rf0, cq, Nat.reduceAdd, Nat.reduceEqDiff, Int.reduceToNat, eq_self, true_and, and_true, true_or, or_true, bI_0, bI_1, mm, rAm, mF_sF, mR_sR, false_and, and_false, if_false, if_true, false_or, or_false, not_true_eq_false, not_false_eq_true, and_self]
  have D0 : DevS (sF M 25 (p + 205) (I 0)) p m J wr lf false cm full sg jr hm la := by
    obtain ⟨⟨a1, a2, a3, a4, a5, a6, a7, a8⟩, b1, b2, b3, b4⟩ := h
    refine ⟨⟨?_, ?_, by simp [mF_sF]; rfl, ?_, ?_, a6, a7, a8⟩, b1, b2, b3, b4⟩
    · rw [mF_sF, if_neg (by omega)]; exact a1
    · rw [mF_sF, if_neg (by omega)]; exact a2
    · rw [mF_sF, if_neg (by omega)]; exact a4
    · rw [mF_sF, if_neg (by omega)]; exact a5
  have F0 : De p J M (sF M 25 (p + 205) (I 0)) := De.sF p J M (by decide) _
  -- the journal's end goes
  have trim : ∀ n' (f2 : Nat) (M2 : Mem) (v1 : Option Value), lo v1 = false → k' + n' = f2 → f2 ≤ full → De p J M M2 → PK M2 p m J → DevS M2 p m J wr lf false cm f2 sg jr hm (ovl jr Gs 0 hm) → Wp d 119 41 [some (.ref (p + 205)), v1] [] M2 Q := by
    intro n'
    induction n' with
    | zero =>
      intro f2 M2 v1 hv1 hf hff F2 P2 D2
      have : f2 = k' := by omega
      subst this
      have k42 := P2.2.2.2.2.1.1
      have k27 := P2.2.2.2.2.1.2.2.2.2.2.1
      have kS := P2.2.2.2.2.2.2.2.2.2.1
      have e20 := D2.1.2.2.2.2.1
      rcases Enc.last hE with e | ⟨e1, e2⟩
      · subst e
        simp (disch := first | (simp only [dd, dr]; done) | omega) only [w_119_41, W_119, k42, e20, I_lt, I_le, I_inj, inB_I, tc_I, Int.toNat_natCast, fkt, rf1, rf0, cq, Nat.reduceAdd, Nat.reduceEqDiff, Int.reduceToNat, eq_self, true_and, and_true, true_or, or_true, bI_0, bI_1, mm, rAm, mF_sF, mR_sR, false_and, and_false, if_false, if_true, false_or, or_false, not_true_eq_false, not_false_eq_true, and_self]
        refine ⟨fun _ => ?_, (fun h => by first | exact False.elim h | exact absurd trivial h | (exfalso; omega) | exact absurd rfl h | cases h)⟩
        simp (disch := first | (simp only [dd, dr]; done) | omega) only [W_119, I_lt, I_le, I_inj, inB_I, tc_I, Int.toNat_natCast, fkt, rf1, rf0, cq, Nat.reduceAdd, Nat.reduceEqDiff, Int.reduceToNat, eq_self, true_and, and_true, true_or, or_true, bI_0, bI_1, mm, rAm, mF_sF, mR_sR, false_and, and_false, if_false, if_true, false_or, or_false, not_true_eq_false, not_false_eq_true, and_self]
        exact hQ M2 F2 P2 D2
      · have es := (D2.2.1 (f2 - 1) (by omega)).1
        rw [e2] at es
        simp (disch := first | (simp only [dd, dr]; done) | omega) only [w_119_41, W_119, k42, e20, I_lt, I_le, I_inj, inB_I, tc_I, Int.toNat_natCast, fkt, rf1, rf0, cq, Nat.reduceAdd, Nat.reduceEqDiff, Int.reduceToNat, eq_self, true_and, and_true, true_or, or_true, bI_0, bI_1, mm, rAm, mF_sF, mR_sR, false_and, and_false, if_false, if_true, false_or, or_false, not_true_eq_false, not_false_eq_true, and_self]
        refine ⟨(fun h => by first | exact False.elim h | exact absurd trivial h | (exfalso; omega) | exact absurd rfl h | cases h), fun _ => ?_⟩
        simp (disch := first | (simp only [dd, dr]; done) | omega) only [W_119, k42, k27, kS, e20, I_lt, I_le, I_inj, inB_I, tc_I, Int.toNat_natCast, fkt, rf1, rf0, cq, Nat.reduceAdd, Nat.reduceEqDiff, Int.reduceToNat, eq_self, true_and, and_true, true_or, or_true, bI_0, bI_1, mm, rAm, mF_sF, mR_sR, false_and, and_false, if_false, if_true, false_or, or_false, not_true_eq_false, not_false_eq_true, and_self]
        rw [show ((f2 : Int) - 1) = ((f2 - 1 : Nat) : Int) by omega]
        simp (disch := first | (simp only [dd, dr]; done) | omega) only [W_119, k42, k27, kS, es, I_lt, I_le, I_inj, inB_I, tc_I, Int.toNat_natCast, fkt, rf1, rf0, cq, Nat.reduceAdd, Nat.reduceEqDiff, Int.reduceToNat, eq_self, true_and, and_true, true_or, or_true, bI_0, bI_1, mm, rAm, mF_sF, mR_sR, false_and, and_false, if_false, if_true, false_or, or_false, not_true_eq_false, not_false_eq_true, and_self]
        refine ⟨fun _ => ?_, (fun h => by first | exact False.elim h | exact absurd trivial h | (exfalso; omega) | exact absurd rfl h | cases h)⟩
        simp (disch := first | (simp only [dd, dr]; done) | omega) only [W_119, I_lt, I_le, I_inj, inB_I, tc_I, Int.toNat_natCast, fkt, rf1, rf0, cq, Nat.reduceAdd, Nat.reduceEqDiff, Int.reduceToNat, eq_self, true_and, and_true, true_or, or_true, bI_0, bI_1, mm, rAm, mF_sF, mR_sR, false_and, and_false, if_false, if_true, false_or, or_false, not_true_eq_false, not_false_eq_true, and_self]
        exact hQ M2 F2 P2 D2
    | succ n' ih =>
      intro f2 M2 v1 hv1 hf hff F2 P2 D2
      have k42 := P2.2.2.2.2.1.1
      have k27 := P2.2.2.2.2.1.2.2.2.2.2.1
      have kS := P2.2.2.2.2.2.2.2.2.2.1
      have e20 := D2.1.2.2.2.2.1
      obtain ⟨es, s1, s2⟩ := D2.2.1 (f2 - 1) (by omega)
      have hne := ht (f2 - 1) (by omega) (by omega)
      simp (disch := first | (simp only [dd, dr]; done) | omega) only [w_119_41, W_119, k42, e20, I_lt, I_le, I_inj, inB_I, tc_I, Int.toNat_natCast, fkt, rf1, rf0, cq, Nat.reduceAdd, Nat.reduceEqDiff, Int.reduceToNat, eq_self, true_and, and_true, true_or, or_true, bI_0, bI_1, mm, rAm, mF_sF, mR_sR, false_and, and_false, if_false, if_true, false_or, or_false, not_true_eq_false, not_false_eq_true, and_self]
      refine ⟨(fun h => by first | exact False.elim h | exact absurd trivial h | (exfalso; omega) | exact absurd rfl h | cases h), fun _ => ?_⟩
      simp (disch := first | (simp only [dd, dr]; done) | omega) only [W_119, k42, k27, kS, e20, I_lt, I_le, I_inj, inB_I, tc_I, Int.toNat_natCast, fkt, rf1, rf0, cq, Nat.reduceAdd, Nat.reduceEqDiff, Int.reduceToNat, eq_self, true_and, and_true, true_or, or_true, bI_0, bI_1, mm, rAm, mF_sF, mR_sR, false_and, and_false, if_false, if_true, false_or, or_false, not_true_eq_false, not_false_eq_true, and_self]
      rw [show ((f2 : Int) - 1) = ((f2 - 1 : Nat) : Int) by omega]
      simp (disch := first | (simp only [dd, dr]; done) | omega) only [W_119, k42, k27, kS, es, I_lt, I_le, I_inj, inB_I, tc_I, Int.toNat_natCast, fkt, rf1, rf0, cq, Nat.reduceAdd, Nat.reduceEqDiff, Int.reduceToNat, eq_self, true_and, and_true, true_or, or_true, bI_0, bI_1, mm, rAm, mF_sF, mR_sR, false_and, and_false, if_false, if_true, false_or, or_false, not_true_eq_false, not_false_eq_true, and_self]
      refine ⟨fun h3 => absurd h3 hne, fun _ => ?_⟩
      simp (disch := first | (simp only [dd, dr]; done) | omega) only [W_119, k42, e20, I_lt, I_le, I_inj, inB_I, tc_I, Int.toNat_natCast, fkt, rf1, rf0, cq, Nat.reduceAdd, Nat.reduceEqDiff, Int.reduceToNat, eq_self, true_and, and_true, true_or, or_true, bI_0, bI_1, mm, rAm, mF_sF, mR_sR, false_and, and_false, if_false, if_true, false_or, or_false, not_true_eq_false, not_false_eq_true, and_self]
      rw [show ((f2 : Int) - 1) = ((f2 - 1 : Nat) : Int) by omega]
      refine ih (f2 - 1) _ v1 hv1 (by omega) (by omega) (F2.trans (De.sF p J M2 (by decide) _)) (P2.de (De.sF p J M2 (by decide) _)) ?_
      obtain ⟨⟨a1, a2, a3, a4, a5, a6, a7, a8⟩, b1, b2, b3, b4⟩ := D2
      refine ⟨⟨?_, ?_, ?_, ?_, by simp [mF_sF], by omega, a7, a8⟩, fun i hi => b1 i (by omega), fun i hi h0 => b2 i (by omega) h0, b3, b4⟩
      · rw [mF_sF, if_neg (by omega)]; exact a1
      · rw [mF_sF, if_neg (by omega)]; exact a2
      · rw [mF_sF, if_neg (by omega)]; exact a3
      · rw [mF_sF, if_neg (by omega)]; exact a4
  suffices H : ∀ n' (b : Nat) (M2 : Mem) (la2 : Nat → Nat → Nat), b + n' = m → De p J M M2 → PK M2 p m J → DevS M2 p m J wr lf false cm full sg jr hm la2 → (∀ b', b' < b → la2 b' = hm b') → Wp d 119 7 [some (.ref (p + 205)), some (.int (I (b : Nat)))] [] M2 Q from H m 0 _ la (by omega) F0 (P.de F0) D0 (fun b' hb' => by omega)
  intro n'
  induction n' with
  | zero =>
    intro b M2 la2 hb F2 P2 D2 hl
    have k42 := P2.2.2.2.2.1.1
    have k28 := P2.2.2.2.2.1.2.2.2.2.2.2
    simp (disch := first | (simp only [dd, dr]; done) | omega) only [w_119_7, W_119, k42, k28, I_lt, I_le, I_inj, inB_I, tc_I, Int.toNat_natCast, fkt, rf1, rf0, cq, Nat.reduceAdd, Nat.reduceEqDiff, Int.reduceToNat, eq_self, true_and, and_true, true_or, or_true, bI_0, bI_1, mm, rAm, mF_sF, mR_sR, false_and, and_false, if_false, if_true, false_or, or_false, not_true_eq_false, not_false_eq_true, and_self]
    refine ⟨fun _ => ?_, (fun h => by first | exact False.elim h | exact absurd trivial h | (exfalso; omega) | exact absurd rfl h | cases h)⟩
    simp (disch := first | (simp only [dd, dr]; done) | omega) only [W_119, k42, I_lt, I_le, I_inj, inB_I, tc_I, Int.toNat_natCast, fkt, rf1, rf0, cq, Nat.reduceAdd, Nat.reduceEqDiff, Int.reduceToNat, eq_self, true_and, and_true, true_or, or_true, bI_0, bI_1, mm, rAm, mF_sF, mR_sR, false_and, and_false, if_false, if_true, false_or, or_false, not_true_eq_false, not_false_eq_true, and_self]
    have D2' : DevS M2 p m J wr lf false cm full sg jr hm hm := D2.eqv (fun _ _ => rfl) (fun _ _ => rfl) (fun b' hb' => (hl b' (by omega)).symm)
    refine ca_115 (by omega) (c_dread (lays := true) (by omega) P2 D2' hE hk' ht hG (fun M3 Z3 => ?_))
    obtain ⟨P3, D3, _, F3⟩ := Z3
    simp (disch := first | (simp only [dd, dr]; done) | omega) only [W_119, I_lt, I_le, I_inj, inB_I, tc_I, Int.toNat_natCast, fkt, rf1, rf0, cq, Nat.reduceAdd, Nat.reduceEqDiff, Int.reduceToNat, eq_self, true_and, and_true, true_or, or_true, bI_0, bI_1, mm, rAm, mF_sF, mR_sR, false_and, and_false, if_false, if_true, false_or, or_false, not_true_eq_false, not_false_eq_true, and_self]
    exact trim (full - k') full M3 _ rfl (by omega) (Nat.le_refl _) (F2.trans F3) P3 D3
  | succ n' ih =>
    intro b M2 la2 hb F2 P2 D2 hl
    have k42 := P2.2.2.2.2.1.1
    have k28 := P2.2.2.2.2.1.2.2.2.2.2.2
    have k21 := P2.2.2.2.2.1.2.1
    have k22 := P2.2.2.2.2.1.2.2.1
    have e1 := P2.2.2.2.2.2.1
    have e2 := P2.2.2.2.2.2.2.1
    have e1X := e1.1
    have e2X := e2.1
    obtain ⟨eQ1, kX1⟩ := e1.2.1 b (by omega)
    obtain ⟨eQ2, kX2⟩ := e2.2.1 b (by omega)
    have rh := D2.2.2.2.1 b (by omega)
    simp (disch := first | (simp only [dd, dr]; done) | omega) only [w_119_7, W_119, k42, k28, I_lt, I_le, I_inj, inB_I, tc_I, Int.toNat_natCast, fkt, rf1, rf0, cq, Nat.reduceAdd, Nat.reduceEqDiff, Int.reduceToNat, eq_self, true_and, and_true, true_or, or_true, bI_0, bI_1, mm, rAm, mF_sF, mR_sR, false_and, and_false, if_false, if_true, false_or, or_false, not_true_eq_false, not_false_eq_true, and_self]
    refine ⟨(fun h => by first | exact False.elim h | exact absurd trivial h | (exfalso; omega) | exact absurd rfl h | cases h), fun _ => ?_⟩
    simp (disch := first | (simp only [dd, dr]; done) | omega) only [W_119, k42, k21, k22, e1X, e2X, eQ1, eQ2, I_lt, I_le, I_inj, inB_I, tc_I, Int.toNat_natCast, fkt, rf1, rf0, cq, Nat.reduceAdd, Nat.reduceEqDiff, Int.reduceToNat, eq_self, true_and, and_true, true_or, or_true, bI_0, bI_1, mm, rAm, mF_sF, mR_sR, false_and, and_false, if_false, if_true, false_or, or_false, not_true_eq_false, not_false_eq_true, and_self]
    refine cr_27 (by omega) (c_copyR rh kX2 (by omega) (fun M3 F3 r3 o3 => ?_))
    simp (disch := first | (simp only [dd, dr]; done) | omega) only [W_119, I_lt, I_le, I_inj, inB_I, tc_I, Int.toNat_natCast, fkt, rf1, rf0, cq, Nat.reduceAdd, Nat.reduceEqDiff, Int.reduceToNat, eq_self, true_and, and_true, true_or, or_true, bI_0, bI_1, mm, rAm, mF_sF, mR_sR, false_and, and_false, if_false, if_true, false_or, or_false, not_true_eq_false, not_false_eq_true, and_self]
    rw [show ((b : Int) + 1) = ((b + 1 : Nat) : Int) by omega]
    have De3 : De p J M2 M3 := ⟨F3.1, F3.2.2.1, F3.2.2.2.1, fun f' a _ => F3.f1.2.2.1 f' a, fun a i ha => o3 a i (by omega)⟩
    refine ih (b + 1) M3 _ (by omega) (F2.trans De3) (P2.ro F3) (D2.last hJ.2.1 F3 r3 (by omega) o3) (fun b' hb' => ?_)
    by_cases e : b' = b
    · subst e; rw [fu_s]
    · rw [fu_n _ _ e]; exact hl b' (by omega)
/-- what stands in the journal while a commit goes on -/
def Jx (full : Nat) (sg sg2 : Nat → Int) (jr jr2 im : Nat → Nat → Nat) (g : List Nat) : Prop := (∀ i, i < full → sg2 i = sg i ∧ jr2 i = jr i) ∧ sg2 full = -2 ∧ ∀ (i x : Nat), g[i]? = some x → sg2 (full + 1 + i) = (x : Int) ∧ jr2 (full + 1 + i) = im x
set_option maxHeartbeats 8000000 in
theorem c_dcommit (hd : 4 ≤ d) (P : PK M p m J) (h : DevS M p m J wr lf off cm full sg jr hm la) {chg : Nat → Bool} {im : Nat → Nat → Nat} (hch : ∀ b, b < m → mA M (p + 195) b = I (bI (chg b))) (him : ∀ b, b < m → chg b = true → Rw M (p + 2 + b) (im b)) (hroom : full + cn chg m + 2 ≤ J)
    (hQ1 : (wn lf (cn chg m + 2)).2.2 = true → ∀ M' full' sg' jr', De p J M M' → PK M' p m J → DevS M' p m J (wr + ((wn lf (cn chg m + 2)).1 : Nat)) (-1) true cm full' sg' jr' hm la → full ≤ full' → (∀ i, i < full → sg' i = sg i ∧ jr' i = jr i) → (∀ i, full ≤ i → i < full' → sg' i ≠ -3) → (wn lf (cn chg m + 2)).2.1 = -1 → Q (.returned none) M')
    (hQ2 : (wn lf (cn chg m + 2)).2.2 = false → ∀ M' sg' jr', De p J M M' → PK M' p m J → DevS M' p m J (wr + ((cn chg m + 2 : Nat) : Int)) (wn lf (cn chg m + 2)).2.1 off (cm + 1) (full + cn chg m + 2) sg' jr' hm (fun b => if chg b = true then im b else la b) → Jx full sg sg' jr jr' im (cl chg m) → sg' (full + 1 + cn chg m) = -3 → Q (.returned none) M') :
    Wp d 117 0 [some (.ref (p + 205)), some (.ref (p + 1)), some (.ref (p + 195)), none, none] [] M Q := by
  have hJ := P.2.2.2.2.2.2.2.2.2.2
  have k4 := P.2.2.2.2.1.1
  have bad : ∀ (c : Nat) (M2 : Mem) full' sg' jr', wn lf (cn chg m + 2) = (c, -1, true) → De p J M M2 → PK M2 p m J → DevS M2 p m J (wr + (c : Nat)) (-1) true cm full' sg' jr' hm la → full ≤ full' → (∀ i, i < full → sg' i = sg i ∧ jr' i = jr i) → (∀ i, full ≤ i → i < full' → sg' i ≠ -3) → Q (.returned none) M2 := by
    intro c M2 full' sg' jr' hw F2 P2 D2 h1 h2 h3
    refine hQ1 (by rw [hw]) M2 full' sg' jr' F2 P2 (by rw [hw]; exact D2) h1 h2 h3 (by rw [hw])
  simp (disch := first | (simp only [dd, dr]; done) | omega) only [W_117, k4, I_lt, I_le, I_inj, inB_I, tc_I, Int.toNat_natCast, fkt, rf1, rf0, cq, Nat.reduceAdd, Nat.reduceEqDiff, Int.reduceToNat, eq_self, true_and, and_true, true_or, or_true, bI_0, bI_1, mm, rAm, mF_sF, mR_sR, false_and, and_false, if_false, if_true, false_or, or_false, not_true_eq_false, not_false_eq_true, and_self]
  refine ca_118 (o1 := none) (by omega) (n_log0 (v := -2) (by omega) P h (by omega) (by omega) (fun h0 M1 F1 D1 o1 => ?_) (fun h0 M1 F1 D1 o1 => ?_))
  · have w0 : wn lf 1 = (0, -1, true) := by rw [wn, if_pos h0]
    have wA : wn lf (cn chg m + 2) = (0, -1, true) := by
      have := wn_bad (b := cn chg m + 1) w0
      rw [show 1 + (cn chg m + 1) = cn chg m + 2 by omega] at this; exact this
    have P1 := P.de F1
    have k41 := P1.2.2.2.2.1.1
    have k28 := P1.2.2.2.2.1.2.2.2.2.2.2
    have fin := bad 0 M1 full sg jr wA F1 P1 (by rw [show wr + ((0 : Nat) : Int) = wr by omega]; exact D1) (Nat.le_refl _) (fun i _ => ⟨rfl, rfl⟩) (fun i h1 h2 => by omega)
    simp (disch := first | (simp only [dd, dr]; done) | omega) only [W_117, I_lt, I_le, I_inj, inB_I, tc_I, Int.toNat_natCast, fkt, rf1, rf0, cq, Nat.reduceAdd, Nat.reduceEqDiff, Int.reduceToNat, eq_self, true_and, and_true, true_or, or_true, bI_0, bI_1, mm, rAm, mF_sF, mR_sR, false_and, and_false, if_false, if_true, false_or, or_false, not_true_eq_false, not_false_eq_true, and_self]
    simp (disch := first | (simp only [dd, dr]; done) | omega) only [w_117_11, W_117, k41, k28, I_lt, I_le, I_inj, inB_I, tc_I, Int.toNat_natCast, fkt, rf1, rf0, cq, Nat.reduceAdd, Nat.reduceEqDiff, Int.reduceToNat, eq_self, true_and, and_true, true_or, or_true, bI_0, bI_1, mm, rAm, mF_sF, mR_sR, false_and, and_false, if_false, if_true, false_or, or_false, not_true_eq_false, not_false_eq_true, and_self]
    refine ⟨fun _ => ?_, fun _ => ?_⟩
    · simp (disch := first | (simp only [dd, dr]; done) | omega) only [W_117, I_lt, I_le, I_inj, inB_I, tc_I, Int.toNat_natCast, fkt, rf1, rf0, cq, Nat.reduceAdd, Nat.reduceEqDiff, Int.reduceToNat, eq_self, true_and, and_true, true_or, or_true, bI_0, bI_1, mm, rAm, mF_sF, mR_sR, false_and, and_false, if_false, if_true, false_or, or_false, not_true_eq_false, not_false_eq_true, and_self]
      refine ⟨fun _ => ?_, (fun h => by first | exact False.elim h | exact absurd trivial h | (exfalso; omega) | exact absurd rfl h | cases h)⟩
      simp (disch := first | (simp only [dd, dr]; done) | omega) only [W_117, I_lt, I_le, I_inj, inB_I, tc_I, Int.toNat_natCast, fkt, rf1, rf0, cq, Nat.reduceAdd, Nat.reduceEqDiff, Int.reduceToNat, eq_self, true_and, and_true, true_or, or_true, bI_0, bI_1, mm, rAm, mF_sF, mR_sR, false_and, and_false, if_false, if_true, false_or, or_false, not_true_eq_false, not_false_eq_true, and_self]
      exact fin
    · simp (disch := first | (simp only [dd, dr]; done) | omega) only [W_117, I_lt, I_le, I_inj, inB_I, tc_I, Int.toNat_natCast, fkt, rf1, rf0, cq, Nat.reduceAdd, Nat.reduceEqDiff, Int.reduceToNat, eq_self, true_and, and_true, true_or, or_true, bI_0, bI_1, mm, rAm, mF_sF, mR_sR, false_and, and_false, if_false, if_true, false_or, or_false, not_true_eq_false, not_false_eq_true, and_self]
      refine ⟨fun _ => ?_, (fun h => by first | exact False.elim h | exact absurd trivial h | (exfalso; omega) | exact absurd rfl h | cases h)⟩
      simp (disch := first | (simp only [dd, dr]; done) | omega) only [W_117, I_lt, I_le, I_inj, inB_I, tc_I, Int.toNat_natCast, fkt, rf1, rf0, cq, Nat.reduceAdd, Nat.reduceEqDiff, Int.reduceToNat, eq_self, true_and, and_true, true_or, or_true, bI_0, bI_1, mm, rAm, mF_sF, mR_sR, false_and, and_false, if_false, if_true, false_or, or_false, not_true_eq_false, not_false_eq_true, and_self]
      refine ⟨fun _ => ?_, (fun h => by first | exact False.elim h | exact absurd trivial h | (exfalso; omega) | exact absurd rfl h | cases h)⟩
      simp (disch := first | (simp only [dd, dr]; done) | omega) only [W_117, I_lt, I_le, I_inj, inB_I, tc_I, Int.toNat_natCast, fkt, rf1, rf0, cq, Nat.reduceAdd, Nat.reduceEqDiff, Int.reduceToNat, eq_self, true_and, and_true, true_or, or_true, bI_0, bI_1, mm, rAm, mF_sF, mR_sR, false_and, and_false, if_false, if_true, false_or, or_false, not_true_eq_false, not_false_eq_true, and_self]
      exact fin
  have w1 : wn lf 1 = (1, dn lf, false) := by rw [wn, if_neg h0]; rfl
  simp (disch := first | (simp only [dd, dr]; done) | omega) only [W_117, I_lt, I_le, I_inj, inB_I, tc_I, Int.toNat_natCast, fkt, rf1, rf0, cq, Nat.reduceAdd, Nat.reduceEqDiff, Int.reduceToNat, eq_self, true_and, and_true, true_or, or_true, bI_0, bI_1, mm, rAm, mF_sF, mR_sR, false_and, and_false, if_false, if_true, false_or, or_false, not_true_eq_false, not_false_eq_true, and_self]
  suffices H : ∀ n' (b : Nat) (M2 : Mem) (sg2 : Nat → Int) (jr2 : Nat → Nat → Nat) (l : Int), b + n' = m → wn lf (cn chg b + 1) = (cn chg b + 1, l, false) → De p J M M2 → PK M2 p m J → DevS M2 p m J (wr + ((cn chg b + 1 : Nat) : Int)) l off cm (full + cn chg b + 1) sg2 jr2 hm la → Jx full sg sg2 jr jr2 im (cl chg b) → Wp d 117 11 [some (.ref (p + 205)), some (.ref (p + 1)), some (.ref (p + 195)), some (.int (I 1)), some (.int (I (b : Nat)))] [] M2 Q by
    refine H m 0 M1 (fun i => if i = full then -2 else sg i) jr (dn lf) (by omega) (by rw [cn]; exact w1) F1 (P.de F1) ?_ ⟨fun i hi => ?_, ?_, fun i x hx => by simp [cl] at hx⟩
    · rw [show wr + ((cn chg 0 + 1 : Nat) : Int) = wr + 1 by rw [cn]; omega, show full + cn chg 0 + 1 = full + 1 by rw [cn]]
      exact D1
    · simp only [show ¬ i = full by omega, if_false]; exact ⟨trivial, trivial⟩
    · simp
  intro n'
  induction n' with
  | zero =>
    intro b M2 sg2 jr2 l hb hw F2 P2 D2 Jx2
    have hbm : b = m := by omega
    subst hbm
    have k42 := P2.2.2.2.2.1.1
    have k28 := P2.2.2.2.2.1.2.2.2.2.2.2
    have wE := wn_one hw
    simp (disch := first | (simp only [dd, dr]; done) | omega) only [w_117_11, W_117, k42, k28, I_lt, I_le, I_inj, inB_I, tc_I, Int.toNat_natCast, fkt, rf1, rf0, cq, Nat.reduceAdd, Nat.reduceEqDiff, Int.reduceToNat, eq_self, true_and, and_true, true_or, or_true, bI_0, bI_1, mm, rAm, mF_sF, mR_sR, false_and, and_false, if_false, if_true, false_or, or_false, not_true_eq_false, not_false_eq_true, and_self]
    refine ⟨fun _ => ?_, (fun h => by first | exact False.elim h | exact absurd trivial h | (exfalso; omega) | exact absurd rfl h | cases h)⟩
    simp (disch := first | (simp only [dd, dr]; done) | omega) only [W_117, I_lt, I_le, I_inj, inB_I, tc_I, Int.toNat_natCast, fkt, rf1, rf0, cq, Nat.reduceAdd, Nat.reduceEqDiff, Int.reduceToNat, eq_self, true_and, and_true, true_or, or_true, bI_0, bI_1, mm, rAm, mF_sF, mR_sR, false_and, and_false, if_false, if_true, false_or, or_false, not_true_eq_false, not_false_eq_true, and_self]
    refine ⟨(fun h => by first | exact False.elim h | exact absurd trivial h | (exfalso; omega) | exact absurd rfl h | cases h), fun _ => ?_⟩
    simp (disch := first | (simp only [dd, dr]; done) | omega) only [W_117, k42, I_lt, I_le, I_inj, inB_I, tc_I, Int.toNat_natCast, fkt, rf1, rf0, cq, Nat.reduceAdd, Nat.reduceEqDiff, Int.reduceToNat, eq_self, true_and, and_true, true_or, or_true, bI_0, bI_1, mm, rAm, mF_sF, mR_sR, false_and, and_false, if_false, if_true, false_or, or_false, not_true_eq_false, not_false_eq_true, and_self]
    refine ca_118 (o1 := none) (by omega) (n_log0 (v := -3) (by omega) P2 D2 (by omega) (by omega) (fun h0 M3 F3 D3 o3 => ?_) (fun h0 M3 F3 D3 o3 => ?_))
    · rw [if_pos h0] at wE
      simp (disch := first | (simp only [dd, dr]; done) | omega) only [W_117, I_lt, I_le, I_inj, inB_I, tc_I, Int.toNat_natCast, fkt, rf1, rf0, cq, Nat.reduceAdd, Nat.reduceEqDiff, Int.reduceToNat, eq_self, true_and, and_true, true_or, or_true, bI_0, bI_1, mm, rAm, mF_sF, mR_sR, false_and, and_false, if_false, if_true, false_or, or_false, not_true_eq_false, not_false_eq_true, and_self]
      refine ⟨fun _ => ?_, (fun h => by first | exact False.elim h | exact absurd trivial h | (exfalso; omega) | exact absurd rfl h | cases h)⟩
      simp (disch := first | (simp only [dd, dr]; done) | omega) only [W_117, I_lt, I_le, I_inj, inB_I, tc_I, Int.toNat_natCast, fkt, rf1, rf0, cq, Nat.reduceAdd, Nat.reduceEqDiff, Int.reduceToNat, eq_self, true_and, and_true, true_or, or_true, bI_0, bI_1, mm, rAm, mF_sF, mR_sR, false_and, and_false, if_false, if_true, false_or, or_false, not_true_eq_false, not_false_eq_true, and_self]
      refine bad _ M3 _ sg2 jr2 wE (F2.trans F3) (P2.de F3) D3 (by omega) (fun i hi => Jx2.1 i hi) (fun i h1 h2 => ?_)
      by_cases e : i = full
      · rw [e, Jx2.2.1]; omega
      · have hlen := cl_len chg b
        have hx : (cl chg b)[i - full - 1]? = some (cl chg b)[i - full - 1] := List.getElem?_eq_getElem (by omega)
        have := (Jx2.2.2 _ _ hx).1
        rw [show full + 1 + (i - full - 1) = i by omega] at this
        rw [this]; omega
    · rw [if_neg h0] at wE
      have P3 := P2.de F3
      have k43 := P3.2.2.2.2.1.1
      have e19 := D3.1.2.2.2.1
      simp (disch := first | (simp only [dd, dr]; done) | omega) only [W_117, I_lt, I_le, I_inj, inB_I, tc_I, Int.toNat_natCast, fkt, rf1, rf0, cq, Nat.reduceAdd, Nat.reduceEqDiff, Int.reduceToNat, eq_self, true_and, and_true, true_or, or_true, bI_0, bI_1, mm, rAm, mF_sF, mR_sR, false_and, and_false, if_false, if_true, false_or, or_false, not_true_eq_false, not_false_eq_true, and_self]
      refine ⟨(fun h => by first | exact False.elim h | exact absurd trivial h | (exfalso; omega) | exact absurd rfl h | cases h), fun _ => ?_⟩
      simp (disch := first | (simp only [dd, dr]; done) | omega) only [W_117, k43, e19, I_lt, I_le, I_inj, inB_I, tc_I, Int.toNat_natCast, fkt, rf1, rf0, cq, Nat.reduceAdd, Nat.reduceEqDiff, Int.reduceToNat, eq_self, true_and, and_true, true_or, or_true, bI_0, bI_1, mm, rAm, mF_sF, mR_sR, false_and, and_false, if_false, if_true, false_or, or_false, not_true_eq_false, not_false_eq_true, and_self]
      have F4 : De p J M3 (sF M3 19 (p + 205) (I (cm + 1))) := De.sF p J M3 (by decide) _
      suffices H2 : ∀ n2 (c : Nat) (M5 : Mem) (la5 : Nat → Nat → Nat), c + n2 = b → De p J M M5 → PK M5 p b J → DevS M5 p b J (wr + ((cn chg b + 2 : Nat) : Int)) (dn l) off (cm + 1) (full + cn chg b + 2) (fun i => if i = full + cn chg b + 1 then -3 else sg2 i) jr2 hm la5 → (∀ b', b' < c → la5 b' = if chg b' = true then im b' else la b') → (∀ b', c ≤ b' → la5 b' = la b') → Wp d 117 83 [some (.ref (p + 205)), some (.ref (p + 1)), some (.ref (p + 195)), some (.int (I 1)), some (.int (I (c : Nat)))] [] M5 Q by
        refine H2 b 0 _ la (by omega) ((F2.trans F3).trans F4) (P3.de F4) ?_ (fun b' hb' => by omega) (fun b' _ => rfl)
        have := D3.com (cm + 1)
        rw [show wr + ((cn chg b + 1 : Nat) : Int) + 1 = wr + ((cn chg b + 2 : Nat) : Int) by omega] at this
        exact this
      intro n2
      induction n2 with
      | zero =>
        intro c M5 la5 hc F5 P5 D5 hl1 hl2
        have k45 := P5.2.2.2.2.1.1
        have k285 := P5.2.2.2.2.1.2.2.2.2.2.2
        simp (disch := first | (simp only [dd, dr]; done) | omega) only [w_117_83, W_117, k45, k285, I_lt, I_le, I_inj, inB_I, tc_I, Int.toNat_natCast, fkt, rf1, rf0, cq, Nat.reduceAdd, Nat.reduceEqDiff, Int.reduceToNat, eq_self, true_and, and_true, true_or, or_true, bI_0, bI_1, mm, rAm, mF_sF, mR_sR, false_and, and_false, if_false, if_true, false_or, or_false, not_true_eq_false, not_false_eq_true, and_self]
        refine ⟨fun _ => ?_, (fun h => by first | exact False.elim h | exact absurd trivial h | (exfalso; omega) | exact absurd rfl h | cases h)⟩
        simp (disch := first | (simp only [dd, dr]; done) | omega) only [W_117, I_lt, I_le, I_inj, inB_I, tc_I, Int.toNat_natCast, fkt, rf1, rf0, cq, Nat.reduceAdd, Nat.reduceEqDiff, Int.reduceToNat, eq_self, true_and, and_true, true_or, or_true, bI_0, bI_1, mm, rAm, mF_sF, mR_sR, false_and, and_false, if_false, if_true, false_or, or_false, not_true_eq_false, not_false_eq_true, and_self]
        have hlen := cl_len chg b
        refine hQ2 (by rw [wE]) M5 (fun i => if i = full + cn chg b + 1 then -3 else sg2 i) jr2 F5 P5 ?_ ⟨fun i hi => ?_, ?_, fun i x hx => ?_⟩ ?_
        · rw [wE]
          exact D5.eqv (fun _ _ => rfl) (fun _ _ => rfl) (fun b' hb' => (hl1 b' (by omega)).symm)
        · simp only [show ¬ i = full + cn chg b + 1 by omega, if_false]; exact Jx2.1 i hi
        · simp only [show ¬ full = full + cn chg b + 1 by omega, if_false]; exact Jx2.2.1
        · have := (List.getElem?_eq_some_iff.mp hx).1
          simp only [show ¬ full + 1 + i = full + cn chg b + 1 by omega, if_false]; exact Jx2.2.2 i x hx
        · simp only [show full + 1 + cn chg b = full + cn chg b + 1 by omega, if_true]
      | succ n2 ih2 =>
        intro c M5 la5 hc F5 P5 D5 hl1 hl2
        have k45 := P5.2.2.2.2.1.1
        have k285 := P5.2.2.2.2.1.2.2.2.2.2.2
        have kCh := P5.2.2.2.1.1
        have k22 := P5.2.2.2.2.1.2.2.1
        have e1 := P5.2.1
        have e2 := P5.2.2.2.2.2.2.1
        have e1X := e1.1
        have e2X := e2.1
        obtain ⟨eQ1, kX1⟩ := e1.2.1 c (by omega)
        obtain ⟨eQ2, kX2⟩ := e2.2.1 c (by omega)
        have eC : mA M5 (p + 195) c = I (bI (chg c)) := by rw [F5.2.2.2.2 _ _ (by omega)]; exact hch c (by omega)
        simp (disch := first | (simp only [dd, dr]; done) | omega) only [w_117_83, W_117, k45, k285, I_lt, I_le, I_inj, inB_I, tc_I, Int.toNat_natCast, fkt, rf1, rf0, cq, Nat.reduceAdd, Nat.reduceEqDiff, Int.reduceToNat, eq_self, true_and, and_true, true_or, or_true, bI_0, bI_1, mm, rAm, mF_sF, mR_sR, false_and, and_false, if_false, if_true, false_or, or_false, not_true_eq_false, not_false_eq_true, and_self]
        refine ⟨(fun h => by first | exact False.elim h | exact absurd trivial h | (exfalso; omega) | exact absurd rfl h | cases h), fun _ => ?_⟩
        simp (disch := first | (simp only [dd, dr]; done) | omega) only [W_117, kCh, eC, I_lt, I_le, I_inj, inB_I, tc_I, Int.toNat_natCast, fkt, rf1, rf0, cq, Nat.reduceAdd, Nat.reduceEqDiff, Int.reduceToNat, eq_self, true_and, and_true, true_or, or_true, bI_0, bI_1, mm, rAm, mF_sF, mR_sR, false_and, and_false, if_false, if_true, false_or, or_false, not_true_eq_false, not_false_eq_true, and_self]
        refine ⟨fun hu => ?_, fun hu => ?_⟩
        · simp (disch := first | (simp only [dd, dr]; done) | omega) only [W_117, I_lt, I_le, I_inj, inB_I, tc_I, Int.toNat_natCast, fkt, rf1, rf0, cq, Nat.reduceAdd, Nat.reduceEqDiff, Int.reduceToNat, eq_self, true_and, and_true, true_or, or_true, bI_0, bI_1, mm, rAm, mF_sF, mR_sR, false_and, and_false, if_false, if_true, false_or, or_false, not_true_eq_false, not_false_eq_true, and_self]
          rw [show ((c : Int) + 1) = ((c + 1 : Nat) : Int) by omega]
          refine ih2 (c + 1) M5 la5 (by omega) F5 P5 D5 (fun b' hb' => ?_) (fun b' hb' => hl2 b' (by omega))
          by_cases e : b' = c
          · subst e; rw [hu]; exact hl2 b' (by omega)
          · exact hl1 b' (by omega)
        · have hu' : chg c = true := by cases h : chg c with | true => rfl | false => exact absurd h hu
          have rn : Rw M5 (p + 2 + c) (im c) := ⟨by rw [F5.f1.2.1]; exact (him c (by omega) hu').1, fun i hi => by rw [F5.2.2.2.2 _ _ (by omega)]; exact (him c (by omega) hu').2 i hi⟩
          simp (disch := first | (simp only [dd, dr]; done) | omega) only [W_117, k45, k22, e1X, e2X, eQ1, eQ2, I_lt, I_le, I_inj, inB_I, tc_I, Int.toNat_natCast, fkt, rf1, rf0, cq, Nat.reduceAdd, Nat.reduceEqDiff, Int.reduceToNat, eq_self, true_and, and_true, true_or, or_true, bI_0, bI_1, mm, rAm, mF_sF, mR_sR, false_and, and_false, if_false, if_true, false_or, or_false, not_true_eq_false, not_false_eq_true, and_self]
          refine cr_27 (by omega) (c_copyR rn kX2 (by omega) (fun M6 F6 r6 o6 => ?_))
          simp (disch := first | (simp only [dd, dr]; done) | omega) only [W_117, I_lt, I_le, I_inj, inB_I, tc_I, Int.toNat_natCast, fkt, rf1, rf0, cq, Nat.reduceAdd, Nat.reduceEqDiff, Int.reduceToNat, eq_self, true_and, and_true, true_or, or_true, bI_0, bI_1, mm, rAm, mF_sF, mR_sR, false_and, and_false, if_false, if_true, false_or, or_false, not_true_eq_false, not_false_eq_true, and_self]
          rw [show ((c : Int) + 1) = ((c + 1 : Nat) : Int) by omega]
          have De6 : De p J M5 M6 := ⟨F6.1, F6.2.2.1, F6.2.2.2.1, fun f' a _ => F6.f1.2.2.1 f' a, fun a i ha => o6 a i (by omega)⟩
          refine ih2 (c + 1) M6 _ (by omega) (F5.trans De6) (P5.ro F6) (D5.last hJ.2.1 F6 r6 (by omega) o6) (fun b' hb' => ?_) (fun b' hb' => ?_)
          · by_cases e : b' = c
            · subst e; rw [fu_s, hu']; rfl
            · rw [fu_n _ _ e]; exact hl1 b' (by omega)
          · rw [fu_n _ _ (by omega)]; exact hl2 b' (by omega)
  | succ n' ih =>
    intro b M2 sg2 jr2 l hb hw F2 P2 D2 Jx2
    have k42 := P2.2.2.2.2.1.1
    have k28 := P2.2.2.2.2.1.2.2.2.2.2.2
    have kCh := P2.2.2.2.1.1
    have e1 := P2.2.1
    have e1X := e1.1
    obtain ⟨eQ1, kX1⟩ := e1.2.1 b (by omega)
    have eC : mA M2 (p + 195) b = I (bI (chg b)) := by rw [F2.2.2.2.2 _ _ (by omega)]; exact hch b (by omega)
    have hle := cn_all chg (a := b + 1) (b := m) (by omega)
    have hlen := cl_len chg b
    simp (disch := first | (simp only [dd, dr]; done) | omega) only [w_117_11, W_117, k42, k28, I_lt, I_le, I_inj, inB_I, tc_I, Int.toNat_natCast, fkt, rf1, rf0, cq, Nat.reduceAdd, Nat.reduceEqDiff, Int.reduceToNat, eq_self, true_and, and_true, true_or, or_true, bI_0, bI_1, mm, rAm, mF_sF, mR_sR, false_and, and_false, if_false, if_true, false_or, or_false, not_true_eq_false, not_false_eq_true, and_self]
    refine ⟨(fun h => by first | exact False.elim h | exact absurd trivial h | (exfalso; omega) | exact absurd rfl h | cases h), fun _ => ?_⟩
    simp (disch := first | (simp only [dd, dr]; done) | omega) only [W_117, I_lt, I_le, I_inj, inB_I, tc_I, Int.toNat_natCast, fkt, rf1, rf0, cq, Nat.reduceAdd, Nat.reduceEqDiff, Int.reduceToNat, eq_self, true_and, and_true, true_or, or_true, bI_0, bI_1, mm, rAm, mF_sF, mR_sR, false_and, and_false, if_false, if_true, false_or, or_false, not_true_eq_false, not_false_eq_true, and_self]
    refine ⟨(fun h => by first | exact False.elim h | exact absurd trivial h | (exfalso; omega) | exact absurd rfl h | cases h), fun _ => ?_⟩
    simp (disch := first | (simp only [dd, dr]; done) | omega) only [W_117, kCh, eC, I_lt, I_le, I_inj, inB_I, tc_I, Int.toNat_natCast, fkt, rf1, rf0, cq, Nat.reduceAdd, Nat.reduceEqDiff, Int.reduceToNat, eq_self, true_and, and_true, true_or, or_true, bI_0, bI_1, mm, rAm, mF_sF, mR_sR, false_and, and_false, if_false, if_true, false_or, or_false, not_true_eq_false, not_false_eq_true, and_self]
    refine ⟨fun hu => ?_, fun hu => ?_⟩
    · have ecn : cn chg (b + 1) = cn chg b := by rw [cn, hu]; simp
      have ecl : cl chg (b + 1) = cl chg b := by rw [cl, hu]; simp
      simp (disch := first | (simp only [dd, dr]; done) | omega) only [W_117, I_lt, I_le, I_inj, inB_I, tc_I, Int.toNat_natCast, fkt, rf1, rf0, cq, Nat.reduceAdd, Nat.reduceEqDiff, Int.reduceToNat, eq_self, true_and, and_true, true_or, or_true, bI_0, bI_1, mm, rAm, mF_sF, mR_sR, false_and, and_false, if_false, if_true, false_or, or_false, not_true_eq_false, not_false_eq_true, and_self]
      rw [show ((b : Int) + 1) = ((b + 1 : Nat) : Int) by omega]
      exact ih (b + 1) M2 sg2 jr2 l (by omega) (by rw [ecn]; exact hw) F2 P2 (by rw [ecn]; exact D2) (by rw [ecl]; exact Jx2)
    · have hu' : chg b = true := by cases h : chg b with | true => rfl | false => exact absurd h hu
      have ecn : cn chg (b + 1) = cn chg b + 1 := by rw [cn, hu']; simp
      have ecl : cl chg (b + 1) = cl chg b ++ [b] := by rw [cl, hu']; simp
      have wE := wn_one hw
      have rn : Rw M2 (p + 2 + b) (im b) := ⟨by rw [F2.f1.2.1]; exact (him b (by omega) hu').1, fun i hi => by rw [F2.2.2.2.2 _ _ (by omega)]; exact (him b (by omega) hu').2 i hi⟩
      simp (disch := first | (simp only [dd, dr]; done) | omega) only [W_117, k42, e1X, eQ1, I_lt, I_le, I_inj, inB_I, tc_I, Int.toNat_natCast, fkt, rf1, rf0, cq, Nat.reduceAdd, Nat.reduceEqDiff, Int.reduceToNat, eq_self, true_and, and_true, true_or, or_true, bI_0, bI_1, mm, rAm, mF_sF, mR_sR, false_and, and_false, if_false, if_true, false_or, or_false, not_true_eq_false, not_false_eq_true, and_self]
      refine cr_118 (by omega) (n_logR (by omega) P2 D2 (by omega) (by omega) rn (by omega) (fun h0 M3 F3 D3 o3 => ?_) (fun h0 M3 F3 D3 o3 => ?_))
      · rw [if_pos h0] at wE
        have wA : wn lf (cn chg m + 2) = (cn chg b + 1, -1, true) := by
          have := wn_bad (b := cn chg m - cn chg b) wE
          rw [show cn chg b + 1 + 1 + (cn chg m - cn chg b) = cn chg m + 2 by omega] at this; exact this
        have P3 := P2.de F3
        have k43 := P3.2.2.2.2.1.1
        have k283 := P3.2.2.2.2.1.2.2.2.2.2.2
        have fin := bad _ M3 _ sg2 jr2 wA (F2.trans F3) P3 D3 (by omega) (fun i hi => Jx2.1 i hi) (fun i h1 h2 => by
          by_cases e : i = full
          · rw [e, Jx2.2.1]; omega
          · have hx : (cl chg b)[i - full - 1]? = some (cl chg b)[i - full - 1] := List.getElem?_eq_getElem (by omega)
            have := (Jx2.2.2 _ _ hx).1
            rw [show full + 1 + (i - full - 1) = i by omega] at this
            rw [this]; omega)
        simp (disch := first | (simp only [dd, dr]; done) | omega) only [W_117, I_lt, I_le, I_inj, inB_I, tc_I, Int.toNat_natCast, fkt, rf1, rf0, cq, Nat.reduceAdd, Nat.reduceEqDiff, Int.reduceToNat, eq_self, true_and, and_true, true_or, or_true, bI_0, bI_1, mm, rAm, mF_sF, mR_sR, false_and, and_false, if_false, if_true, false_or, or_false, not_true_eq_false, not_false_eq_true, and_self]
        refine ⟨fun _ => ?_, (fun h => by first | exact False.elim h | exact absurd trivial h | (exfalso; omega) | exact absurd rfl h | cases h)⟩
        simp (disch := first | (simp only [dd, dr]; done) | omega) only [W_117, I_lt, I_le, I_inj, inB_I, tc_I, Int.toNat_natCast, fkt, rf1, rf0, cq, Nat.reduceAdd, Nat.reduceEqDiff, Int.reduceToNat, eq_self, true_and, and_true, true_or, or_true, bI_0, bI_1, mm, rAm, mF_sF, mR_sR, false_and, and_false, if_false, if_true, false_or, or_false, not_true_eq_false, not_false_eq_true, and_self]
        simp (disch := first | (simp only [dd, dr]; done) | omega) only [w_117_11, W_117, k43, k283, I_lt, I_le, I_inj, inB_I, tc_I, Int.toNat_natCast, fkt, rf1, rf0, cq, Nat.reduceAdd, Nat.reduceEqDiff, Int.reduceToNat, eq_self, true_and, and_true, true_or, or_true, bI_0, bI_1, mm, rAm, mF_sF, mR_sR, false_and, and_false, if_false, if_true, false_or, or_false, not_true_eq_false, not_false_eq_true, and_self]
        refine ⟨fun _ => ?_, fun _ => ?_⟩
        · simp (disch := first | (simp only [dd, dr]; done) | omega) only [W_117, I_lt, I_le, I_inj, inB_I, tc_I, Int.toNat_natCast, fkt, rf1, rf0, cq, Nat.reduceAdd, Nat.reduceEqDiff, Int.reduceToNat, eq_self, true_and, and_true, true_or, or_true, bI_0, bI_1, mm, rAm, mF_sF, mR_sR, false_and, and_false, if_false, if_true, false_or, or_false, not_true_eq_false, not_false_eq_true, and_self]
          refine ⟨fun _ => ?_, (fun h => by first | exact False.elim h | exact absurd trivial h | (exfalso; omega) | exact absurd rfl h | cases h)⟩
          simp (disch := first | (simp only [dd, dr]; done) | omega) only [W_117, I_lt, I_le, I_inj, inB_I, tc_I, Int.toNat_natCast, fkt, rf1, rf0, cq, Nat.reduceAdd, Nat.reduceEqDiff, Int.reduceToNat, eq_self, true_and, and_true, true_or, or_true, bI_0, bI_1, mm, rAm, mF_sF, mR_sR, false_and, and_false, if_false, if_true, false_or, or_false, not_true_eq_false, not_false_eq_true, and_self]
          exact fin
        · simp (disch := first | (simp only [dd, dr]; done) | omega) only [W_117, I_lt, I_le, I_inj, inB_I, tc_I, Int.toNat_natCast, fkt, rf1, rf0, cq, Nat.reduceAdd, Nat.reduceEqDiff, Int.reduceToNat, eq_self, true_and, and_true, true_or, or_true, bI_0, bI_1, mm, rAm, mF_sF, mR_sR, false_and, and_false, if_false, if_true, false_or, or_false, not_true_eq_false, not_false_eq_true, and_self]
          refine ⟨fun _ => ?_, (fun h => by first | exact False.elim h | exact absurd trivial h | (exfalso; omega) | exact absurd rfl h | cases h)⟩
          simp (disch := first | (simp only [dd, dr]; done) | omega) only [W_117, I_lt, I_le, I_inj, inB_I, tc_I, Int.toNat_natCast, fkt, rf1, rf0, cq, Nat.reduceAdd, Nat.reduceEqDiff, Int.reduceToNat, eq_self, true_and, and_true, true_or, or_true, bI_0, bI_1, mm, rAm, mF_sF, mR_sR, false_and, and_false, if_false, if_true, false_or, or_false, not_true_eq_false, not_false_eq_true, and_self]
          refine ⟨fun _ => ?_, (fun h => by first | exact False.elim h | exact absurd trivial h | (exfalso; omega) | exact absurd rfl h | cases h)⟩
          simp (disch := first | (simp only [dd, dr]; done) | omega) only [W_117, I_lt, I_le, I_inj, inB_I, tc_I, Int.toNat_natCast, fkt, rf1, rf0, cq, Nat.reduceAdd, Nat.reduceEqDiff, Int.reduceToNat, eq_self, true_and, and_true, true_or, or_true, bI_0, bI_1, mm, rAm, mF_sF, mR_sR, false_and, and_false, if_false, if_true, false_or, or_false, not_true_eq_false, not_false_eq_true, and_self]
          exact fin
      · rw [if_neg h0] at wE
        simp (disch := first | (simp only [dd, dr]; done) | omega) only [W_117, I_lt, I_le, I_inj, inB_I, tc_I, Int.toNat_natCast, fkt, rf1, rf0, cq, Nat.reduceAdd, Nat.reduceEqDiff, Int.reduceToNat, eq_self, true_and, and_true, true_or, or_true, bI_0, bI_1, mm, rAm, mF_sF, mR_sR, false_and, and_false, if_false, if_true, false_or, or_false, not_true_eq_false, not_false_eq_true, and_self]
        refine ⟨(fun h => by first | exact False.elim h | exact absurd trivial h | (exfalso; omega) | exact absurd rfl h | cases h), fun _ => ?_⟩
        simp (disch := first | (simp only [dd, dr]; done) | omega) only [W_117, I_lt, I_le, I_inj, inB_I, tc_I, Int.toNat_natCast, fkt, rf1, rf0, cq, Nat.reduceAdd, Nat.reduceEqDiff, Int.reduceToNat, eq_self, true_and, and_true, true_or, or_true, bI_0, bI_1, mm, rAm, mF_sF, mR_sR, false_and, and_false, if_false, if_true, false_or, or_false, not_true_eq_false, not_false_eq_true, and_self]
        rw [show ((b : Int) + 1) = ((b + 1 : Nat) : Int) by omega]
        rw [show wr + ((cn chg b + 1 : Nat) : Int) + 1 = wr + ((cn chg b + 1 + 1 : Nat) : Int) by omega] at D3
        refine ih (b + 1) M3 _ _ (dn l) (by omega) (by rw [ecn]; exact wE) (F2.trans F3) (P2.de F3) (by rw [ecn]; exact D3) ⟨fun i hi => ?_, ?_, fun i x hx => ?_⟩
        · simp only [show ¬ i = full + cn chg b + 1 by omega, if_false]
          rw [fu_n _ _ (by omega)]; exact Jx2.1 i hi
        · simp only [show ¬ full = full + cn chg b + 1 by omega, if_false]; exact Jx2.2.1
        · rw [ecl] at hx
          by_cases e : i < (cl chg b).length
          · rw [List.getElem?_append_left e] at hx
            simp only [show ¬ full + 1 + i = full + cn chg b + 1 by omega, if_false]
            rw [fu_n _ _ (by omega)]; exact Jx2.2.2 i x hx
          · rw [List.getElem?_append_right (by omega)] at hx
            have hi : i = cn chg b := by
              have := (List.getElem?_eq_some_iff.mp hx).1
              simp at this; omega
            rw [hi, show cn chg b - (cl chg b).length = 0 by omega] at hx
            have hxb : b = x := by simpa using hx
            rw [hi, show full + 1 + cn chg b = full + cn chg b + 1 by omega, fu_s, ← hxb]
            simp
end DM
