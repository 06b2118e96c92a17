/-! ===== THE COMPONENT: the device goes over its journal ===== -/
/-- from k on groups of blocks stand in the journal, up to k' -/
def Enc (sg : Nat → Int) : Nat → List (List Nat) → Nat → Prop
  | k, [], k' => k = k'
  | k, g :: Gs, k' => sg k = -2 ∧ (∀ (i b : Nat), g[i]? = some b → sg (k + 1 + i) = (b : Int)) ∧ sg (k + 1 + g.length) = -3 ∧ Enc sg (k + g.length + 2) Gs k'
theorem Enc.le {sg : Nat → Int} : ∀ {Gs : List (List Nat)} {k k' : Nat}, Enc sg k Gs k' → k ≤ k'
  | [], k, k', h => by have : k = k' := h; omega
  | g :: Gs, k, k', h => by have := Enc.le h.2.2.2; omega
/-- rows of a group are laid over others; of all groups -/
def ovg (jr : Nat → Nat → Nat) : List Nat → Nat → (Nat → Nat → Nat) → (Nat → Nat → Nat)
  | [], _, la => la
  | b :: g, k, la => ovg jr g (k + 1) (fu la b (jr k))
def ovl (jr : Nat → Nat → Nat) : List (List Nat) → Nat → (Nat → Nat → Nat) → (Nat → Nat → Nat)
  | [], _, la => la
  | g :: Gs, k, la => ovl jr Gs (k + g.length + 2) (ovg jr g (k + 1) la)
def lgs (lg : Nat → Bool) (g : List Nat) : Nat → Bool := fun b => lg b || decide (b ∈ g)
section DR2
variable {d p m J : Nat} {M : Mem} {Q : Outcome → Mem → Prop} {wr lf cm : Int} {off : Bool} {full : Nat} {sg : Nat → Int} {jr hm la : Nat → Nat → Nat} {lays : Bool}
/-- the state while the journal is gone over -/
def Dz (M0 M : Mem) (p m J : Nat) (wr lf : Int) (off : Bool) (cm : Int) (full : Nat) (sg : Nat → Int) (jr hm la : Nat → Nat → Nat) (lg : Nat → Bool) : Prop :=
  PK M p m J ∧ DevS M p m J wr lf off cm full sg jr hm la ∧ (∀ b, b < m → mA M (p + 400) b = I (bI (lg b))) ∧ De p J M0 M
theorem Dz.mark {M0 : Mem} {lg : Nat → Bool} (h : Dz M0 M p m J wr lf off cm full sg jr hm la lg) (b : Nat) : Dz M0 (sA M (p + 400) b (I 1)) p m J wr lf off cm full sg jr hm la (fu lg b true) := by
  obtain ⟨P, ⟨a, b1, b2, b3, b4⟩, c, F⟩ := h
  have k400 := P.2.2.2.2.2.2.2.1
  have kS := P.2.2.2.2.2.2.2.2.2.1
  have oR : ∀ w g, Rw M w g → Rw (sA M (p + 400) b (I 1)) w g := fun w g hw => ⟨hw.1, fun i hi => by rw [mA_sA, if_neg (fun e => by have := hw.1; rw [e.1, k400] at this; cases this)]; exact hw.2 i hi⟩
  refine ⟨P, ⟨a, fun i hi => ?_, fun i hi h0 => oR _ _ (b2 i hi h0), fun b' hb' => oR _ _ (b3 b' hb'), fun b' hb' => oR _ _ (b4 b' hb')⟩, fun b' hb' => ?_, F.trans (De.sA M ⟨by omega, by omega⟩ _)⟩
  · rw [mA_sA, if_neg (fun e => by omega)]; exact b1 i hi
  · rw [mA_sA]
    by_cases e : b' = b
    · rw [if_pos ⟨rfl, e⟩, e, fu_s]; rfl
    · rw [if_neg (fun hh => e hh.2), fu_n _ _ e]; exact c b' hb'
theorem Dz.lay {M0 M' : Mem} {lg : Nat → Bool} (h : Dz M0 M p m J wr lf off cm full sg jr hm la lg) {b i : Nat} (hb : b < m) (F : Ro M M') (r : Rw M' (p + 304 + b) (jr i)) (o : ∀ z j, z ≠ p + 304 + b → mA M' z j = mA M z j) : Dz M0 M' p m J wr lf off cm full sg jr hm (fu la b (jr i)) lg := by
  obtain ⟨P, ⟨⟨a1, a2, a3, a4, a5, a6⟩, b1, b2, b3, b4⟩, c, D⟩ := h
  have hJ := P.2.2.2.2.2.2.2.2.2.2
  have f := F.f1
  have oR : ∀ w g, Rw M w g → w ≠ p + 304 + b → Rw M' w g := fun w g hw hne => ⟨by rw [f.2.1]; exact hw.1, fun i hi => by rw [o w i hne]; exact hw.2 i hi⟩
  refine ⟨P.ro F, ⟨⟨by rw [f.2.2.1]; exact a1, by rw [f.2.2.1]; exact a2, by rw [f.2.2.1]; exact a3, by rw [f.2.2.1]; exact a4, by rw [f.2.2.1]; exact a5, a6⟩, fun i hi => by rw [o _ _ (by omega)]; exact b1 i hi, fun i hi h0 => oR _ _ (b2 i hi h0) (by omega), fun b' hb' => oR _ _ (b3 b' hb') (by omega), fun b' hb' => ?_⟩, fun b' hb' => by rw [o _ _ (by omega)]; exact c b' hb', D.trans ⟨F.1, F.2.2.1, F.2.2.2.1, fun f' a _ => f.2.2.1 f' a, fun a i ha => o a i (by omega)⟩⟩
  by_cases e : b' = b
  · subst e; rw [fu_s]; exact r
  · rw [fu_n _ _ e]; exact oR _ _ (b4 b' hb') (by omega)
theorem lgs_nil (lg : Nat → Bool) : lgs lg [] = lg := by funext b; unfold lgs; simp
theorem lgs_cons (lg : Nat → Bool) (b : Nat) (g : List Nat) : lgs (fu lg b true) g = lgs lg (b :: g) := by
  funext x
  unfold lgs fu
  by_cases e : x = b
  · simp [e]
  · simp [e]
set_option maxHeartbeats 8000000 in
theorem c_dread (hd : 2 ≤ d) (P : PK M p m J) (h : DevS M p m J wr lf off cm full sg jr hm la) {Gs : List (List Nat)} {k' : Nat} (hE : Enc sg 0 Gs k') (hk' : k' ≤ full) (ht : ∀ i, k' ≤ i → i < full → sg i ≠ -3) (hG : ∀ g ∈ Gs, ∀ b ∈ g, b < m)
    (hQ : ∀ M', Dz M M' p m J wr lf off cm full sg jr hm (if lays = true then ovl jr Gs 0 la else la) (fun b => decide (b ∈ Gs.flatten)) → Q (.returned none) M') : Wp d 115 0 [some (.ref (p + 205)), some (.int (I (bI lays))), none, none, none] [] M Q := by
  have hJ := P.2.2.2.2.2.2.2.2.2.2
  have hfJ := h.1.2.2.2.2.2.1
  -- the rest of the journal, where nothing is committed
  have tail : ∀ n' (k fr0 : Nat) (M2 : Mem) (la2 : Nat → Nat → Nat) (lg : Nat → Bool) (v4 : Option Value), lo v4 = false → k + n' = full → k' ≤ k → Dz M M2 p m J wr lf off cm full sg jr hm la2 lg → (∀ M', Dz M M' p m J wr lf off cm full sg jr hm la2 lg → Q (.returned none) M') → Wp d 115 27 [some (.ref (p + 205)), some (.int (I (bI lays))), some (.int (I (fr0 : Nat))), some (.int (I (k : Nat))), v4] [] M2 Q := by
    intro n'
    induction n' with
    | zero =>
      intro k fr0 M2 la2 lg v4 hv4 hk hkk Z hq
      have k4 := Z.1.2.2.2.2.1.1
      have e20 := Z.2.1.1.2.2.2.2.1
      simp (disch := first | (simp only [dd, dr]; done) | omega) only [w_115_27, W_115, k4, e20, I_lt, I_le, I_inj, inB_I, tc_I, Int.toNat_natCast, fkt, rf1, rf0, cq, Nat.reduceAdd, Nat.reduceEqDiff, Int.reduceToNat, eq_self, true_and, and_true, true_or, or_true, bI_0, bI_1, mm, rAm, mF_sF, mR_sR, false_and, and_false, if_false, if_true, false_or, or_false, not_true_eq_false, not_false_eq_true, and_self]
      refine ⟨fun _ => ?_, (fun h => by first | exact False.elim h | exact absurd trivial h | (exfalso; omega) | exact absurd rfl h | cases h)⟩
      simp (disch := first | (simp only [dd, dr]; done) | omega) only [W_115, I_lt, I_le, I_inj, inB_I, tc_I, Int.toNat_natCast, fkt, rf1, rf0, cq, Nat.reduceAdd, Nat.reduceEqDiff, Int.reduceToNat, eq_self, true_and, and_true, true_or, or_true, bI_0, bI_1, mm, rAm, mF_sF, mR_sR, false_and, and_false, if_false, if_true, false_or, or_false, not_true_eq_false, not_false_eq_true, and_self]
      exact hq M2 Z
    | succ n' ih =>
      intro k fr0 M2 la2 lg v4 hv4 hk hkk Z hq
      have k4 := Z.1.2.2.2.2.1.1
      have k27 := Z.1.2.2.2.2.1.2.2.2.2.2.1
      have kS := Z.1.2.2.2.2.2.2.2.2.2.1
      have e20 := Z.2.1.1.2.2.2.2.1
      obtain ⟨es, s1, s2⟩ := Z.2.1.2.1 k (by omega)
      have hne := ht k hkk (by omega)
      have go : ∀ fr1 : Nat, Wp d 115 118 [some (.ref (p + 205)), some (.int (I (bI lays))), some (.int (I (fr1 : Nat))), some (.int (I (k : Nat))), v4] [] M2 Q := by
        intro fr1
        simp (disch := first | (simp only [dd, dr]; done) | omega) only [W_115, I_lt, I_le, I_inj, inB_I, tc_I, Int.toNat_natCast, fkt, rf1, rf0, cq, Nat.reduceAdd, Nat.reduceEqDiff, Int.reduceToNat, eq_self, true_and, and_true, true_or, or_true, bI_0, bI_1, mm, rAm, mF_sF, mR_sR, false_and, and_false, if_false, if_true, false_or, or_false, not_true_eq_false, not_false_eq_true, and_self]
        rw [show ((k : Int) + 1) = ((k + 1 : Nat) : Int) by omega]
        exact ih (k + 1) fr1 M2 la2 lg v4 hv4 (by omega) (by omega) Z hq
      simp (disch := first | (simp only [dd, dr]; done) | omega) only [w_115_27, W_115, k4, e20, I_lt, I_le, I_inj, inB_I, tc_I, Int.toNat_natCast, fkt, rf1, rf0, cq, Nat.reduceAdd, Nat.reduceEqDiff, Int.reduceToNat, eq_self, true_and, and_true, true_or, or_true, bI_0, bI_1, mm, rAm, mF_sF, mR_sR, false_and, and_false, if_false, if_true, false_or, or_false, not_true_eq_false, not_false_eq_true, and_self]
      refine ⟨(fun h => by first | exact False.elim h | exact absurd trivial h | (exfalso; omega) | exact absurd rfl h | cases h), fun _ => ?_⟩
      simp (disch := first | (simp only [dd, dr]; done) | omega) only [r_115_35, r_115_36, r_115_39, r_115_40, r_115_41, r_115_43, k4, k27, kS, es, I_lt, I_le, I_inj, inB_I, tc_I, Int.toNat_natCast, fkt, rf1, rf0, cq, Nat.reduceAdd, Nat.reduceEqDiff, Int.reduceToNat, eq_self, true_and, and_true, true_or, or_true, bI_0, bI_1, mm, rAm, mF_sF, mR_sR, false_and, and_false, if_false, if_true, false_or, or_false, not_true_eq_false, not_false_eq_true, and_self]
      refine ⟨fun h2 => ?_, fun h2 => ?_⟩
      · simp (disch := first | (simp only [dd, dr]; done) | omega) only [r_115_51, r_115_52, r_115_55, r_115_56, r_115_57, r_115_59, k4, k27, kS, es, I_lt, I_le, I_inj, inB_I, tc_I, Int.toNat_natCast, fkt, rf1, rf0, cq, Nat.reduceAdd, Nat.reduceEqDiff, Int.reduceToNat, eq_self, true_and, and_true, true_or, or_true, bI_0, bI_1, mm, rAm, mF_sF, mR_sR, false_and, and_false, if_false, if_true, false_or, or_false, not_true_eq_false, not_false_eq_true, and_self]
        exact ⟨fun _ => go fr0, fun h3 => absurd (Decidable.not_not.mp h3) hne⟩
      · simp (disch := first | (simp only [dd, dr]; done) | omega) only [r_115_46, r_115_47, r_115_48, I_lt, I_le, I_inj, inB_I, tc_I, Int.toNat_natCast, fkt, rf1, rf0, cq, Nat.reduceAdd, Nat.reduceEqDiff, Int.reduceToNat, eq_self, true_and, and_true, true_or, or_true, bI_0, bI_1, mm, rAm, mF_sF, mR_sR, false_and, and_false, if_false, if_true, false_or, or_false, not_true_eq_false, not_false_eq_true, and_self]
        exact go k
  -- a group
  have group : ∀ (g : List Nat) (k : Nat) (M2 : Mem) (la2 : Nat → Nat → Nat) (lg : Nat → Bool) (v4 : Option Value) (fr0 : Nat), lo v4 = false → k + g.length + 2 ≤ full → sg k = -2 → (∀ (i b : Nat), g[i]? = some b → sg (k + 1 + i) = (b : Int)) → sg (k + 1 + g.length) = -3 → (∀ b ∈ g, b < m) → Dz M M2 p m J wr lf off cm full sg jr hm la2 lg → (∀ M3 fr1 v4', lo v4' = false → Dz M M3 p m J wr lf off cm full sg jr hm (if lays = true then ovg jr g (k + 1) la2 else la2) (lgs lg g) → Wp d 115 27 [some (.ref (p + 205)), some (.int (I (bI lays))), some (.int (I (fr1 : Nat))), some (.int (I ((k + g.length + 2 : Nat) : Int))), v4'] [] M3 Q) → Wp d 115 27 [some (.ref (p + 205)), some (.int (I (bI lays))), some (.int (I (fr0 : Nat))), some (.int (I (k : Nat))), v4] [] M2 Q := by
    intro g k M2 la2 lg v4 fr0 hv4 hkl hb hg he hgm Z hq
    have k4 := Z.1.2.2.2.2.1.1
    have k27 := Z.1.2.2.2.2.1.2.2.2.2.2.1
    have kS := Z.1.2.2.2.2.2.2.2.2.2.1
    have e20 := Z.2.1.1.2.2.2.2.1
    have es := (Z.2.1.2.1 k (by omega)).1
    rw [hb] at es
    -- over the rows of the group
    have skip : ∀ n' (j : Nat), j + n' = g.length → Wp d 115 27 [some (.ref (p + 205)), some (.int (I (bI lays))), some (.int (I (k : Nat))), some (.int (I ((k + 1 + j : Nat) : Int))), v4] [] M2 Q := by
      intro n'
      induction n' with
      | succ n' ih =>
        intro j hj
        have hgj : g[j]? = some g[j] := List.getElem?_eq_getElem (by omega)
        have sj := hg j _ hgj
        have esj := (Z.2.1.2.1 (k + 1 + j) (by omega)).1
        rw [sj] at esj
        have hgm' := hgm _ (List.getElem_mem (show j < g.length by omega))
        simp (disch := first | (simp only [dd, dr]; done) | omega) only [w_115_27, W_115, k4, e20, I_lt, I_le, I_inj, inB_I, tc_I, Int.toNat_natCast, fkt, rf1, rf0, cq, Nat.reduceAdd, Nat.reduceEqDiff, Int.reduceToNat, eq_self, true_and, and_true, true_or, or_true, bI_0, bI_1, mm, rAm, mF_sF, mR_sR, false_and, and_false, if_false, if_true, false_or, or_false, not_true_eq_false, not_false_eq_true, and_self]
        refine ⟨(fun h => by first | exact False.elim h | exact absurd trivial h | (exfalso; omega) | exact absurd rfl h | cases h), fun _ => ?_⟩
        simp (disch := first | (simp only [dd, dr]; done) | omega) only [W_115, k4, k27, kS, esj, I_lt, I_le, I_inj, inB_I, tc_I, Int.toNat_natCast, fkt, rf1, rf0, cq, Nat.reduceAdd, Nat.reduceEqDiff, Int.reduceToNat, eq_self, true_and, and_true, true_or, or_true, bI_0, bI_1, mm, rAm, mF_sF, mR_sR, false_and, and_false, if_false, if_true, false_or, or_false, not_true_eq_false, not_false_eq_true, and_self]
        refine ⟨fun _ => ?_, (fun h => by first | exact False.elim h | exact absurd trivial h | (exfalso; omega) | exact absurd rfl h | cases h)⟩
        simp (disch := first | (simp only [dd, dr]; done) | omega) only [W_115, k4, k27, kS, esj, I_lt, I_le, I_inj, inB_I, tc_I, Int.toNat_natCast, fkt, rf1, rf0, cq, Nat.reduceAdd, Nat.reduceEqDiff, Int.reduceToNat, eq_self, true_and, and_true, true_or, or_true, bI_0, bI_1, mm, rAm, mF_sF, mR_sR, false_and, and_false, if_false, if_true, false_or, or_false, not_true_eq_false, not_false_eq_true, and_self]
        refine ⟨fun _ => ?_, (fun h => by first | exact False.elim h | exact absurd trivial h | (exfalso; omega) | exact absurd rfl h | cases h)⟩
        simp (disch := first | (simp only [dd, dr]; done) | omega) only [W_115, I_lt, I_le, I_inj, inB_I, tc_I, Int.toNat_natCast, fkt, rf1, rf0, cq, Nat.reduceAdd, Nat.reduceEqDiff, Int.reduceToNat, eq_self, true_and, and_true, true_or, or_true, bI_0, bI_1, mm, rAm, mF_sF, mR_sR, false_and, and_false, if_false, if_true, false_or, or_false, not_true_eq_false, not_false_eq_true, and_self]
        rw [show (((k + 1 + j : Nat) : Int) + 1) = ((k + 1 + (j + 1) : Nat) : Int) by omega]
        exact ih (j + 1) (by omega)
      | zero =>
        intro j hj
        have : j = g.length := by omega
        subst this
        have ese := (Z.2.1.2.1 (k + 1 + g.length) (by omega)).1
        rw [he] at ese
        -- the end: all rows of the group count
        have mark : ∀ (g2 : List Nat) (j2 : Nat) (M3 : Mem) (la3 : Nat → Nat → Nat) (lg3 : Nat → Bool), j2 ≤ g.length → g.drop j2 = g2 → Dz M M3 p m J wr lf off cm full sg jr hm la3 lg3 → (∀ M4, Dz M M4 p m J wr lf off cm full sg jr hm (if lays = true then ovg jr g2 (k + 1 + j2) la3 else la3) (lgs lg3 g2) → Wp d 115 118 [some (.ref (p + 205)), some (.int (I (bI lays))), some (.int (I (k : Nat))), some (.int (I ((k + 1 + g.length : Nat) : Int))), some (.int (I ((k + 1 + g.length : Nat) : Int)))] [] M4 Q) → Wp d 115 67 [some (.ref (p + 205)), some (.int (I (bI lays))), some (.int (I (k : Nat))), some (.int (I ((k + 1 + g.length : Nat) : Int))), some (.int (I ((k + 1 + j2 : Nat) : Int)))] [] M3 Q := by
          intro g2
          induction g2 with
          | nil =>
            intro j2 M3 la3 lg3 hj2 hdr Z3 hq3
            have hj3 : j2 = g.length := by
              have := congrArg List.length hdr
              rw [List.length_drop] at this; simp at this; omega
            subst hj3
            simp (disch := first | (simp only [dd, dr]; done) | omega) only [w_115_67, r_115_67, r_115_69, r_115_70, I_lt, I_le, I_inj, inB_I, tc_I, Int.toNat_natCast, fkt, rf1, rf0, cq, Nat.reduceAdd, Nat.reduceEqDiff, Int.reduceToNat, eq_self, true_and, and_true, true_or, or_true, bI_0, bI_1, mm, rAm, mF_sF, mR_sR, false_and, and_false, if_false, if_true, false_or, or_false, not_true_eq_false, not_false_eq_true, and_self]
            refine ⟨fun _ => ?_, (fun h => by first | exact False.elim h | exact absurd trivial h | (exfalso; omega) | exact absurd rfl h | cases h)⟩
            refine hq3 M3 ?_
            rw [lgs_nil]
            have : (if lays = true then ovg jr [] (k + 1 + g.length) la3 else la3) = la3 := by cases lays <;> rfl
            rw [this]; exact Z3
          | cons b g2 ih2 =>
            intro j2 M3 la3 lg3 hj2 hdr Z3 hq3
            have hjl : j2 < g.length := by
              have := congrArg List.length hdr
              rw [List.length_drop] at this; simp at this; omega
            have hgj : g[j2]? = some b := by
              have := congrArg (fun l => l[0]?) hdr
              simp only [List.getElem?_drop] at this
              simpa using this
            have hdr2 : g.drop (j2 + 1) = g2 := by
              rw [← List.drop_drop, hdr]; rfl
            have hbm := hgm b (List.mem_of_getElem? hgj)
            have sj := hg j2 b hgj
            have esj := (Z3.2.1.2.1 (k + 1 + j2) (by omega)).1
            rw [sj] at esj
            have kD := Z3.1.2.2.2.2.1.1
            have k24 := Z3.1.2.2.2.2.1.2.2.2.1
            have k27' := Z3.1.2.2.2.2.1.2.2.2.2.2.1
            have kS' := Z3.1.2.2.2.2.2.2.2.2.2.1
            have k400 := Z3.1.2.2.2.2.2.2.2.1
            have e1 : nrw 2 (I 1) = I 1 := by decide
            have Z4 := Z3.mark b
            have esj4 : mA (sA M3 (p + 400) b (I 1)) (p + 402 + J) (k + 1 + j2) = I ((b : Nat) : Int) := by rw [mA_sA, if_neg (fun e => by omega)]; exact esj
            have rj : Rw (sA M3 (p + 400) b (I 1)) (p + 402 + (k + 1 + j2)) (jr (k + 1 + j2)) := Z4.2.1.2.2.1 (k + 1 + j2) (by omega) (by rw [sj]; omega)
            simp (disch := first | (simp only [dd, dr]; done) | omega) only [w_115_67, W_115, kD, k24, k27', kS', k400, esj, e1, I_lt, I_le, I_inj, inB_I, tc_I, Int.toNat_natCast, fkt, rf1, rf0, cq, Nat.reduceAdd, Nat.reduceEqDiff, Int.reduceToNat, eq_self, true_and, and_true, true_or, or_true, bI_0, bI_1, mm, rAm, mF_sF, mR_sR, false_and, and_false, if_false, if_true, false_or, or_false, not_true_eq_false, not_false_eq_true, and_self]
            refine ⟨(fun h => by first | exact False.elim h | exact absurd trivial h | (exfalso; omega) | exact absurd rfl h | cases h), fun _ => ?_⟩
            simp (disch := first | (simp only [dd, dr]; done) | omega) only [W_115, kD, k24, k27', kS', k400, esj, e1, I_lt, I_le, I_inj, inB_I, tc_I, Int.toNat_natCast, fkt, rf1, rf0, cq, Nat.reduceAdd, Nat.reduceEqDiff, Int.reduceToNat, eq_self, true_and, and_true, true_or, or_true, bI_0, bI_1, mm, rAm, mF_sF, mR_sR, false_and, and_false, if_false, if_true, false_or, or_false, not_true_eq_false, not_false_eq_true, and_self]
            refine ⟨fun hl => ?_, fun hl => ?_⟩
            · simp (disch := first | (simp only [dd, dr]; done) | omega) only [W_115, I_lt, I_le, I_inj, inB_I, tc_I, Int.toNat_natCast, fkt, rf1, rf0, cq, Nat.reduceAdd, Nat.reduceEqDiff, Int.reduceToNat, eq_self, true_and, and_true, true_or, or_true, bI_0, bI_1, mm, rAm, mF_sF, mR_sR, false_and, and_false, if_false, if_true, false_or, or_false, not_true_eq_false, not_false_eq_true, and_self]
              rw [show (((k + 1 + j2 : Nat) : Int) + 1) = ((k + 1 + (j2 + 1) : Nat) : Int) by omega]
              refine ih2 (j2 + 1) _ la3 _ (by omega) hdr2 Z4 (fun M4 Z5 => hq3 M4 ?_)
              rw [hl] at Z5 ⊢
              rw [lgs_cons] at Z5
              exact Z5
            · have hl' : lays = true := by cases h : lays with | true => rfl | false => exact absurd h hl
              obtain ⟨kRw, rowsJ⟩ := Z4.1.2.2.2.2.2.2.2.2.1
              obtain ⟨eQj, kXj⟩ := rowsJ (k + 1 + j2) (by omega)
              have k26 := Z4.1.2.2.2.2.1.2.2.2.2.1
              have k22 := Z4.1.2.2.2.2.1.2.2.1
              have e2 := Z4.1.2.2.2.2.2.2.1
              have e2X := e2.1
              obtain ⟨eQ2, kX2⟩ := e2.2.1 b (by omega)
              simp (disch := first | (simp only [dd, dr]; done) | omega) only [W_115, kD, k22, k26, k27', kS', kRw, e2X, eQj, eQ2, esj4, I_lt, I_le, I_inj, inB_I, tc_I, Int.toNat_natCast, fkt, rf1, rf0, cq, Nat.reduceAdd, Nat.reduceEqDiff, Int.reduceToNat, eq_self, true_and, and_true, true_or, or_true, bI_0, bI_1, mm, rAm, mF_sF, mR_sR, false_and, and_false, if_false, if_true, false_or, or_false, not_true_eq_false, not_false_eq_true, and_self]
              refine cr_27 (by omega) (c_copyR rj kX2 (by omega) (fun M5 F5 r5 o5 => ?_))
              simp (disch := first | (simp only [dd, dr]; done) | omega) only [W_115, I_lt, I_le, I_inj, inB_I, tc_I, Int.toNat_natCast, fkt, rf1, rf0, cq, Nat.reduceAdd, Nat.reduceEqDiff, Int.reduceToNat, eq_self, true_and, and_true, true_or, or_true, bI_0, bI_1, mm, rAm, mF_sF, mR_sR, false_and, and_false, if_false, if_true, false_or, or_false, not_true_eq_false, not_false_eq_true, and_self]
              rw [show (((k + 1 + j2 : Nat) : Int) + 1) = ((k + 1 + (j2 + 1) : Nat) : Int) by omega]
              refine ih2 (j2 + 1) M5 _ _ (by omega) hdr2 (Z4.lay hbm F5 r5 o5) (fun M6 Z6 => hq3 M6 ?_)
              rw [hl', if_pos rfl] at Z6 ⊢
              rw [lgs_cons] at Z6
              exact Z6
        simp (disch := first | (simp only [dd, dr]; done) | omega) only [w_115_27, W_115, k4, e20, I_lt, I_le, I_inj, inB_I, tc_I, Int.toNat_natCast, fkt, rf1, rf0, cq, Nat.reduceAdd, Nat.reduceEqDiff, Int.reduceToNat, eq_self, true_and, and_true, true_or, or_true, bI_0, bI_1, mm, rAm, mF_sF, mR_sR, false_and, and_false, if_false, if_true, false_or, or_false, not_true_eq_false, not_false_eq_true, and_self]
        refine ⟨(fun h => by first | exact False.elim h | exact absurd trivial h | (exfalso; omega) | exact absurd rfl h | cases h), fun _ => ?_⟩
        simp (disch := first | (simp only [dd, dr]; done) | omega) only [W_115, k4, k27, kS, ese, I_lt, I_le, I_inj, inB_I, tc_I, Int.toNat_natCast, fkt, rf1, rf0, cq, Nat.reduceAdd, Nat.reduceEqDiff, Int.reduceToNat, eq_self, true_and, and_true, true_or, or_true, bI_0, bI_1, mm, rAm, mF_sF, mR_sR, false_and, and_false, if_false, if_true, false_or, or_false, not_true_eq_false, not_false_eq_true, and_self]
        refine ⟨fun _ => ?_, (fun h => by first | exact False.elim h | exact absurd trivial h | (exfalso; omega) | exact absurd rfl h | cases h)⟩
        simp (disch := first | (simp only [dd, dr]; done) | omega) only [W_115, k4, k27, kS, ese, I_lt, I_le, I_inj, inB_I, tc_I, Int.toNat_natCast, fkt, rf1, rf0, cq, Nat.reduceAdd, Nat.reduceEqDiff, Int.reduceToNat, eq_self, true_and, and_true, true_or, or_true, bI_0, bI_1, mm, rAm, mF_sF, mR_sR, false_and, and_false, if_false, if_true, false_or, or_false, not_true_eq_false, not_false_eq_true, and_self]
        refine ⟨(fun h => by first | exact False.elim h | exact absurd trivial h | (exfalso; omega) | exact absurd rfl h | cases h), fun _ => ?_⟩
        simp (disch := first | (simp only [dd, dr]; done) | omega) only [W_115, I_lt, I_le, I_inj, inB_I, tc_I, Int.toNat_natCast, fkt, rf1, rf0, cq, Nat.reduceAdd, Nat.reduceEqDiff, Int.reduceToNat, eq_self, true_and, and_true, true_or, or_true, bI_0, bI_1, mm, rAm, mF_sF, mR_sR, false_and, and_false, if_false, if_true, false_or, or_false, not_true_eq_false, not_false_eq_true, and_self]
        rw [show ((k : Int) + 1) = ((k + 1 + 0 : Nat) : Int) by omega]
        refine mark g 0 M2 la2 lg (by omega) rfl Z (fun M4 Z4 => ?_)
        simp (disch := first | (simp only [dd, dr]; done) | omega) only [W_115, I_lt, I_le, I_inj, inB_I, tc_I, Int.toNat_natCast, fkt, rf1, rf0, cq, Nat.reduceAdd, Nat.reduceEqDiff, Int.reduceToNat, eq_self, true_and, and_true, true_or, or_true, bI_0, bI_1, mm, rAm, mF_sF, mR_sR, false_and, and_false, if_false, if_true, false_or, or_false, not_true_eq_false, not_false_eq_true, and_self]
        rw [show (((k + 1 + g.length : Nat) : Int) + 1) = ((k + g.length + 2 : Nat) : Int) by omega]
        exact hq M4 k _ rfl Z4
    simp (disch := first | (simp only [dd, dr]; done) | omega) only [w_115_27, W_115, k4, e20, I_lt, I_le, I_inj, inB_I, tc_I, Int.toNat_natCast, fkt, rf1, rf0, cq, Nat.reduceAdd, Nat.reduceEqDiff, Int.reduceToNat, eq_self, true_and, and_true, true_or, or_true, bI_0, bI_1, mm, rAm, mF_sF, mR_sR, false_and, and_false, if_false, if_true, false_or, or_false, not_true_eq_false, not_false_eq_true, and_self]
    refine ⟨(fun h => by first | exact False.elim h | exact absurd trivial h | (exfalso; omega) | exact absurd rfl h | cases h), fun _ => ?_⟩
    simp (disch := first | (simp only [dd, dr]; done) | omega) only [W_115, k4, k27, kS, es, I_lt, I_le, I_inj, inB_I, tc_I, Int.toNat_natCast, fkt, rf1, rf0, cq, Nat.reduceAdd, Nat.reduceEqDiff, Int.reduceToNat, eq_self, true_and, and_true, true_or, or_true, bI_0, bI_1, mm, rAm, mF_sF, mR_sR, false_and, and_false, if_false, if_true, false_or, or_false, not_true_eq_false, not_false_eq_true, and_self]
    refine ⟨(fun h => by first | exact False.elim h | exact absurd trivial h | (exfalso; omega) | exact absurd rfl h | cases h), fun _ => ?_⟩
    simp (disch := first | (simp only [dd, dr]; done) | omega) only [W_115, I_lt, I_le, I_inj, inB_I, tc_I, Int.toNat_natCast, fkt, rf1, rf0, cq, Nat.reduceAdd, Nat.reduceEqDiff, Int.reduceToNat, eq_self, true_and, and_true, true_or, or_true, bI_0, bI_1, mm, rAm, mF_sF, mR_sR, false_and, and_false, if_false, if_true, false_or, or_false, not_true_eq_false, not_false_eq_true, and_self]
    rw [show ((k : Int) + 1) = ((k + 1 + 0 : Nat) : Int) by omega]
    exact skip g.length 0 (by omega)
  -- all groups
  have all : ∀ (G2 : List (List Nat)) (k : Nat) (M2 : Mem) (la2 : Nat → Nat → Nat) (lg : Nat → Bool) (v4 : Option Value) (fr0 : Nat), lo v4 = false → Enc sg k G2 k' → (∀ g ∈ G2, ∀ b ∈ g, b < m) → Dz M M2 p m J wr lf off cm full sg jr hm la2 lg → (∀ M', Dz M M' p m J wr lf off cm full sg jr hm (if lays = true then ovl jr G2 k la2 else la2) (fun b => lg b || decide (b ∈ G2.flatten)) → Q (.returned none) M') → Wp d 115 27 [some (.ref (p + 205)), some (.int (I (bI lays))), some (.int (I (fr0 : Nat))), some (.int (I (k : Nat))), v4] [] M2 Q := by
    intro G2
    induction G2 with
    | nil =>
      intro k M2 la2 lg v4 fr0 hv4 hE2 _ Z hq
      have hkk : k = k' := hE2
      refine tail (full - k) k fr0 M2 la2 lg v4 hv4 (by omega) (by omega) Z (fun M' Z' => hq M' ?_)
      have e1 : (if lays = true then ovl jr [] k la2 else la2) = la2 := by cases lays <;> rfl
      have e2 : (fun b => lg b || decide (b ∈ ([] : List (List Nat)).flatten)) = lg := by funext b; simp
      rw [e1, e2]; exact Z'
    | cons g G2 ihG =>
      intro k M2 la2 lg v4 fr0 hv4 hE2 hG2 Z hq
      obtain ⟨h1, h2, h3, h4⟩ := hE2
      have hle := Enc.le h4
      refine group g k M2 la2 lg v4 fr0 hv4 (by omega) h1 h2 h3 (hG2 g (List.mem_cons_self ..)) Z (fun M3 fr1 v4' hv4' Z3 => ?_)
      refine ihG (k + g.length + 2) M3 _ _ v4' fr1 hv4' h4 (fun g' hg' => hG2 g' (List.mem_cons_of_mem _ hg')) Z3 (fun M' Z' => hq M' ?_)
      have e1 : (if lays = true then ovl jr G2 (k + g.length + 2) (if lays = true then ovg jr g (k + 1) la2 else la2) else (if lays = true then ovg jr g (k + 1) la2 else la2)) = (if lays = true then ovl jr (g :: G2) k la2 else la2) := by cases lays <;> rfl
      have e2 : (fun b => lgs lg g b || decide (b ∈ G2.flatten)) = (fun b => lg b || decide (b ∈ (g :: G2).flatten)) := by
        funext b
        unfold lgs
        rw [List.flatten_cons]
        by_cases c1 : b ∈ g <;> by_cases c2 : b ∈ G2.flatten <;> simp [c1, c2]
      rw [e1, e2] at Z'; exact Z'
  -- nothing is marked at first
  simp (disch := first | (simp only [dd, dr]; done) | omega) only [W_115, I_lt, I_le, I_inj, inB_I, tc_I, Int.toNat_natCast, fkt, rf1, rf0, cq, Nat.reduceAdd, Nat.reduceEqDiff, Int.reduceToNat, eq_self, true_and, and_true, true_or, or_true, bI_0, bI_1, mm, rAm, mF_sF, mR_sR, false_and, and_false, if_false, if_true, false_or, or_false, not_true_eq_false, not_false_eq_true, and_self]
  suffices H : ∀ n' (b : Nat) (M2 : Mem), b + n' = m → PK M2 p m J → DevS M2 p m J wr lf off cm full sg jr hm la → De p J M M2 → (∀ b', b' < b → mA M2 (p + 400) b' = I 0) → Wp d 115 2 [some (.ref (p + 205)), some (.int (I (bI lays))), some (.int (I (b : Nat))), none, none] [] M2 Q from H m 0 M (by omega) P h (De.refl _ _ _) (fun b' hb' => by omega)
  intro n'
  induction n' with
  | zero =>
    intro b M2 hb P2 D2 F2 h0
    have k4 := P2.2.2.2.2.1.1
    have k28 := P2.2.2.2.2.1.2.2.2.2.2.2
    simp (disch := first | (simp only [dd, dr]; done) | omega) only [w_115_2, W_115, k4, k28, I_lt, I_le, I_inj, inB_I, tc_I, Int.toNat_natCast, fkt, rf1, rf0, cq, Nat.reduceAdd, Nat.reduceEqDiff, Int.reduceToNat, eq_self, true_and, and_true, true_or, or_true, bI_0, bI_1, mm, rAm, mF_sF, mR_sR, false_and, and_false, if_false, if_true, false_or, or_false, not_true_eq_false, not_false_eq_true, and_self]
    refine ⟨fun _ => ?_, (fun h => by first | exact False.elim h | exact absurd trivial h | (exfalso; omega) | exact absurd rfl h | cases h)⟩
    simp (disch := first | (simp only [dd, dr]; done) | omega) only [W_115, I_lt, I_le, I_inj, inB_I, tc_I, Int.toNat_natCast, fkt, rf1, rf0, cq, Nat.reduceAdd, Nat.reduceEqDiff, Int.reduceToNat, eq_self, true_and, and_true, true_or, or_true, bI_0, bI_1, mm, rAm, mF_sF, mR_sR, false_and, and_false, if_false, if_true, false_or, or_false, not_true_eq_false, not_false_eq_true, and_self]
    refine all Gs 0 M2 la (fun _ => false) none 0 rfl hE hG ⟨P2, D2, fun b' hb' => by rw [h0 b' (by omega)]; rfl, F2⟩ (fun M' Z' => hQ M' ?_)
    have e2 : (fun b => (false || decide (b ∈ Gs.flatten))) = (fun b => decide (b ∈ Gs.flatten)) := by funext b; simp
    rw [e2] at Z'; exact Z'
  | succ n' ih =>
    intro b M2 hb P2 D2 F2 h0
    have k4 := P2.2.2.2.2.1.1
    have k28 := P2.2.2.2.2.1.2.2.2.2.2.2
    have k24 := P2.2.2.2.2.1.2.2.2.1
    have k400 := P2.2.2.2.2.2.2.2.1
    have e0 : nrw 2 (I 0) = I 0 := by decide
    simp (disch := first | (simp only [dd, dr]; done) | omega) only [w_115_2, W_115, k4, k28, I_lt, I_le, I_inj, inB_I, tc_I, Int.toNat_natCast, fkt, rf1, rf0, cq, Nat.reduceAdd, Nat.reduceEqDiff, Int.reduceToNat, eq_self, true_and, and_true, true_or, or_true, bI_0, bI_1, mm, rAm, mF_sF, mR_sR, false_and, and_false, if_false, if_true, false_or, or_false, not_true_eq_false, not_false_eq_true, and_self]
    refine ⟨(fun h => by first | exact False.elim h | exact absurd trivial h | (exfalso; omega) | exact absurd rfl h | cases h), fun _ => ?_⟩
    simp (disch := first | (simp only [dd, dr]; done) | omega) only [W_115, k4, k24, k400, e0, I_lt, I_le, I_inj, inB_I, tc_I, Int.toNat_natCast, fkt, rf1, rf0, cq, Nat.reduceAdd, Nat.reduceEqDiff, Int.reduceToNat, eq_self, true_and, and_true, true_or, or_true, bI_0, bI_1, mm, rAm, mF_sF, mR_sR, false_and, and_false, if_false, if_true, false_or, or_false, not_true_eq_false, not_false_eq_true, and_self]
    rw [show ((b : Int) + 1) = ((b + 1 : Nat) : Int) by omega]
    have oR : ∀ w g, Rw M2 w g → Rw (sA M2 (p + 400) b (I 0)) w g := fun w g hw => ⟨hw.1, fun i hi => by rw [mA_sA, if_neg (fun e => by have := hw.1; rw [e.1, k400] at this; cases this)]; exact hw.2 i hi⟩
    obtain ⟨a, b1, b2, b3, b4⟩ := D2
    refine ih (b + 1) _ (by omega) P2 ⟨a, fun i hi => ?_, fun i hi h0 => oR _ _ (b2 i hi h0), fun b' hb' => oR _ _ (b3 b' hb'), fun b' hb' => oR _ _ (b4 b' hb')⟩ (F2.trans (De.sA M2 ⟨by omega, by omega⟩ _)) (fun b' hb' => ?_)
    · rw [mA_sA, if_neg (fun e => by omega)]; exact b1 i hi
    · rw [mA_sA]
      by_cases e : b' = b
      · rw [if_pos ⟨rfl, e⟩]
      · rw [if_neg (fun hh => e hh.2)]; exact h0 b' (by omega)
end DR2
