/-! ===== THE MODEL: lookAt ===== -/
section MLk
variable {M : Mem} {Q : Outcome → Mem → Prop} {o : Nat} {f : Nat → Int} {b c w : Int → Int} {j : Nat → Bool} {sz tl : Nat → Nat}
theorem uI_uI (T : Tr) (x a : Nat) (L1 L2 L3 L4 : List Nat) : uI (uI (uI (uI T x L1) a L2) x L3) a L4 = uI (uI T x L3) a L4 := by
  unfold uI
  simp only []
  congr 3
  funext y
  unfold fu
  by_cases e1 : y = a <;> by_cases e2 : y = x <;> simp [e1, e2]
set_option maxHeartbeats 8000000 in
/-- all items of x go behind those of a: both loops -/
theorem t_allL (hK : MK M o) {d x a : Nat} {v1 v4 v5 : Option Value} (hd : 3 ≤ d) (h1 : lo v1 = false) (h4 : lo v4 = false) (h5 : lo v5 = false) (hx : x < 96) (ha : a < 96) (hxa : x ≠ a) : ∀ (l : List Nat) (T : Tr) (s : Int → Int), tI T x = l → MT s T sz tl → tC T x = [] → tC T a = [] → uz sz (tI T x) + uz sz (tI T a) ≤ 72 → (∀ s', MT s' (uI (uI T x []) a (tI T a ++ l)) sz tl → Frz s s' → Wp d 188 120 [some (.ref o), v1, some (.int (I (x : Nat))), some (.int (I (a : Nat))), v4, v5] [] (ms M o f s' b c w j) Q) →
    Wp d 188 87 [some (.ref o), v1, some (.int (I (x : Nat))), some (.int (I (a : Nat))), v4, v5] [] (ms M o f s b c w j) Q := by
  have hK' := hK
  obtain ⟨k0, k1, k2, k3, k4, k5, k6, k7, k8, k9, k10⟩ := hK
  intro l
  induction l with
  | nil =>
    intro T s hl m hcx hca hu hQ
    have hn : s (3852 + (x : Int)) = 0 := by have := m.2.2.1 x hx; rw [hcx, hl] at this; simpa using this
    simp (disch := first | (simp only [dd, dr]; done) | omega) only [w_188_87, W_188, msK, msR, msF, ms1, msS1, k0, k1, k6, hn, I_lt, I_le, I_inj, inB_I, tc_I, Int.toNat_natCast, fkt, rf1, rf0, cq, Nat.reduceAdd, Nat.reduceEqDiff, Int.reduceToNat, eq_self, true_and, and_true, true_or, or_true, bI_0, bI_1, mm, rAm, mF_sF, mR_sR, false_and, and_false, if_false, if_true, false_or, or_false, not_true_eq_false, not_false_eq_true, and_self]
    refine ⟨fun _ => ?_, fun h => absurd (show (0 : Int) ≤ 0 by omega) h⟩
    have := hQ s
    rw [List.append_nil, uI_id T x hl, uI_id T a rfl] at this
    exact this m (Frz.refl s)
  | cons k l ih =>
    intro T s hl m hcx hca hu hQ
    have hn : s (3852 + (x : Int)) = (l.length + 1 : Nat) := by have := m.2.2.1 x hx; rw [hcx, hl] at this; simpa using this
    have hn2 : s (3852 + (a : Int)) = ((tI T a).length : Nat) := by have := m.2.2.1 a ha; rw [hca] at this; simpa using this
    have hk : (tI T x)[0]? = some k := by rw [hl]; rfl
    have hlen := uz_len sz (tI T a)
    have hlen2 := uz_len sz (tI T x)
    rw [hl] at hlen2
    rw [List.length_cons] at hlen2
    rw [hl] at hu
    have hka : uz sz (k :: l) = 8 + sz k + uz sz l := rfl
    simp (disch := first | (simp only [dd, dr]; done) | omega) only [w_188_87, W_188, msK, msR, msF, ms1, msS1, k0, k1, k6, hn, I_lt, I_le, I_inj, inB_I, tc_I, Int.toNat_natCast, fkt, rf1, rf0, cq, Nat.reduceAdd, Nat.reduceEqDiff, Int.reduceToNat, eq_self, true_and, and_true, true_or, or_true, bI_0, bI_1, mm, rAm, mF_sF, mR_sR, false_and, and_false, if_false, if_true, false_or, or_false, not_true_eq_false, not_false_eq_true, and_self]
    refine ⟨fun h => absurd h (by omega), fun _ => ?_⟩
    simp (disch := first | (simp only [dd, dr]; done) | omega) only [W_188, msK, msR, msF, ms1, msS1, k0, k1, k6, hn2, I_lt, I_le, I_inj, inB_I, tc_I, Int.toNat_natCast, fkt, rf1, rf0, cq, Nat.reduceAdd, Nat.reduceEqDiff, Int.reduceToNat, eq_self, true_and, and_true, true_or, or_true, bI_0, bI_1, mm, rAm, mF_sF, mR_sR, false_and, and_false, if_false, if_true, false_or, or_false, not_true_eq_false, not_false_eq_true, and_self]
    refine ca_175 (by omega) (t_carry (k := 0) hK' (by omega) m hx ha hxa hcx hca hk (Nat.le_refl _) (by omega) ?_)
    intro s1 m1 fr1
    simp (disch := first | (simp only [dd, dr]; done) | omega) only [W_188, msK, msR, msF, ms1, msS1, k0, k1, k6, I_lt, I_le, I_inj, inB_I, tc_I, Int.toNat_natCast, fkt, rf1, rf0, cq, Nat.reduceAdd, Nat.reduceEqDiff, Int.reduceToNat, eq_self, true_and, and_true, true_or, or_true, bI_0, bI_1, mm, rAm, mF_sF, mR_sR, false_and, and_false, if_false, if_true, false_or, or_false, not_true_eq_false, not_false_eq_true, and_self]
    rw [hl, List.take_length, List.drop_length] at m1
    have t1 : tI (uI (uI T x (List.take 0 (k :: l) ++ List.drop (0 + 1) (k :: l))) a (tI T a ++ [k])) x = l := by simp only [ti]; rw [fu_n _ _ hxa, fu_s]; rfl
    have t2 : tI (uI (uI T x (List.take 0 (k :: l) ++ List.drop (0 + 1) (k :: l))) a (tI T a ++ [k])) a = tI T a ++ [k] := by simp only [ti]; rw [fu_s]
    refine ih _ s1 t1 m1 (by simp only [ti]; exact hcx) (by simp only [ti]; exact hca) (by rw [t1, t2, uz_app]; simp only [uz]; omega) (fun s' m' fr' => ?_)
    rw [t2, uI_uI, List.append_assoc] at m'
    exact hQ s' m' (fr1.trans fr')
set_option maxHeartbeats 8000000 in
theorem t_allR (hK : MK M o) {d x a : Nat} {v1 v3 v5 : Option Value} (hd : 3 ≤ d) (h1 : lo v1 = false) (h3 : lo v3 = false) (h5 : lo v5 = false) (hx : x < 96) (ha : a < 96) (hxa : x ≠ a) : ∀ (l : List Nat) (T : Tr) (s : Int → Int), tI T x = l → MT s T sz tl → tC T x = [] → tC T a = [] → uz sz (tI T x) + uz sz (tI T a) ≤ 72 → (∀ s', MT s' (uI (uI T x []) a (tI T a ++ l)) sz tl → Frz s s' → Wp d 188 185 [some (.ref o), v1, some (.int (I (a : Nat))), v3, some (.int (I (x : Nat))), v5] [] (ms M o f s' b c w j) Q) →
    Wp d 188 150 [some (.ref o), v1, some (.int (I (a : Nat))), v3, some (.int (I (x : Nat))), v5] [] (ms M o f s b c w j) Q := by
  have hK' := hK
  obtain ⟨k0, k1, k2, k3, k4, k5, k6, k7, k8, k9, k10⟩ := hK
  intro l
  induction l with
  | nil =>
    intro T s hl m hcx hca hu hQ
    have hn : s (3852 + (x : Int)) = 0 := by have := m.2.2.1 x hx; rw [hcx, hl] at this; simpa using this
    simp (disch := first | (simp only [dd, dr]; done) | omega) only [w_188_150, W_188, msK, msR, msF, ms1, msS1, k0, k1, k6, hn, I_lt, I_le, I_inj, inB_I, tc_I, Int.toNat_natCast, fkt, rf1, rf0, cq, Nat.reduceAdd, Nat.reduceEqDiff, Int.reduceToNat, eq_self, true_and, and_true, true_or, or_true, bI_0, bI_1, mm, rAm, mF_sF, mR_sR, false_and, and_false, if_false, if_true, false_or, or_false, not_true_eq_false, not_false_eq_true, and_self]
    refine ⟨fun _ => ?_, fun h => absurd (show (0 : Int) ≤ 0 by omega) h⟩
    have := hQ s
    rw [List.append_nil, uI_id T x hl, uI_id T a rfl] at this
    exact this m (Frz.refl s)
  | cons k l ih =>
    intro T s hl m hcx hca hu hQ
    have hn : s (3852 + (x : Int)) = (l.length + 1 : Nat) := by have := m.2.2.1 x hx; rw [hcx, hl] at this; simpa using this
    have hn2 : s (3852 + (a : Int)) = ((tI T a).length : Nat) := by have := m.2.2.1 a ha; rw [hca] at this; simpa using this
    have hk : (tI T x)[0]? = some k := by rw [hl]; rfl
    have hlen := uz_len sz (tI T a)
    have hlen2 := uz_len sz (tI T x)
    rw [hl] at hlen2
    rw [List.length_cons] at hlen2
    rw [hl] at hu
    have hka : uz sz (k :: l) = 8 + sz k + uz sz l := rfl
    simp (disch := first | (simp only [dd, dr]; done) | omega) only [w_188_150, W_188, msK, msR, msF, ms1, msS1, k0, k1, k6, hn, I_lt, I_le, I_inj, inB_I, tc_I, Int.toNat_natCast, fkt, rf1, rf0, cq, Nat.reduceAdd, Nat.reduceEqDiff, Int.reduceToNat, eq_self, true_and, and_true, true_or, or_true, bI_0, bI_1, mm, rAm, mF_sF, mR_sR, false_and, and_false, if_false, if_true, false_or, or_false, not_true_eq_false, not_false_eq_true, and_self]
    refine ⟨fun h => absurd h (by omega), fun _ => ?_⟩
    simp (disch := first | (simp only [dd, dr]; done) | omega) only [W_188, msK, msR, msF, ms1, msS1, k0, k1, k6, hn2, I_lt, I_le, I_inj, inB_I, tc_I, Int.toNat_natCast, fkt, rf1, rf0, cq, Nat.reduceAdd, Nat.reduceEqDiff, Int.reduceToNat, eq_self, true_and, and_true, true_or, or_true, bI_0, bI_1, mm, rAm, mF_sF, mR_sR, false_and, and_false, if_false, if_true, false_or, or_false, not_true_eq_false, not_false_eq_true, and_self]
    refine ca_175 (by omega) (t_carry (k := 0) hK' (by omega) m hx ha hxa hcx hca hk (Nat.le_refl _) (by omega) ?_)
    intro s1 m1 fr1
    simp (disch := first | (simp only [dd, dr]; done) | omega) only [W_188, msK, msR, msF, ms1, msS1, k0, k1, k6, I_lt, I_le, I_inj, inB_I, tc_I, Int.toNat_natCast, fkt, rf1, rf0, cq, Nat.reduceAdd, Nat.reduceEqDiff, Int.reduceToNat, eq_self, true_and, and_true, true_or, or_true, bI_0, bI_1, mm, rAm, mF_sF, mR_sR, false_and, and_false, if_false, if_true, false_or, or_false, not_true_eq_false, not_false_eq_true, and_self]
    rw [hl, List.take_length, List.drop_length] at m1
    have t1 : tI (uI (uI T x (List.take 0 (k :: l) ++ List.drop (0 + 1) (k :: l))) a (tI T a ++ [k])) x = l := by simp only [ti]; rw [fu_n _ _ hxa, fu_s]; rfl
    have t2 : tI (uI (uI T x (List.take 0 (k :: l) ++ List.drop (0 + 1) (k :: l))) a (tI T a ++ [k])) a = tI T a ++ [k] := by simp only [ti]; rw [fu_s]
    refine ih _ s1 t1 m1 (by simp only [ti]; exact hcx) (by simp only [ti]; exact hca) (by rw [t1, t2, uz_app]; simp only [uz]; omega) (fun s' m' fr' => ?_)
    rw [t2, uI_uI, List.append_assoc] at m'
    exact hQ s' m' (fr1.trans fr')
theorem uz_nil {sz : Nat → Nat} {l : List Nat} (h : l.length = 0) : l = [] := List.eq_nil_of_length_eq_zero h
set_option maxHeartbeats 8000000 in
theorem t_lookAt_loop (hK : MK M o) : ∀ (n d : Nat) (T T' : Tr) (s : Int → Int) (x : Nat) (v1 v3 v4 v5 : Option Value), 5 ≤ d → lo v1 = false → lo v3 = false → lo v4 = false → lo v5 = false → MT s T sz tl → lkA sz n T x = some T' → (∀ s', MT s' T' sz tl → Frz s s' → Q (.returned none) (ms M o f s' b c w j)) →
    Wp d 188 2 [some (.ref o), v1, some (.int (I (x : Nat))), v3, v4, v5] [] (ms M o f s b c w j) Q := by
  have hK' := hK
  obtain ⟨k0, k1, k2, k3, k4, k5, k6, k7, k8, k9, k10⟩ := hK
  intro n
  induction n with
  | zero => intro d T T' s x v1 v3 v4 v5 hd h1 h3 h4 h5 m hg; cases hg
  | succ n ih =>
    intro d T T' s x v1 v3 v4 v5 hd h1 h3 h4 h5 m hg hQ
    rw [lkA] at hg
    by_cases cond : x ∈ tW T 0 ∧ tH T x = 1 ∧ x < 96 ∧ tC T x = [] ∧ uz sz (tI T x) ≤ 120 ∧ okL sz T x (pv (tW T 0) x) = true ∧ okL sz T x (nx (tW T 0) x) = true ∧ (1 < (tW T 0).length ↔ tR T ≠ x)
    case neg => rw [if_neg cond] at hg; cases hg
    rw [if_pos cond] at hg
    obtain ⟨c1, c2, c3, c4, c5, c6, c7, c8⟩ := cond
    obtain ⟨r1, r2, r3, r4⟩ := m.2.2.2.2.2.2.1 0 (by omega)
    have hn : s (3852 + (x : Int)) = ((tI T x).length : Nat) := by have := m.2.2.1 x c3; rw [c4] at this; simpa using this
    have hlx := uz_len sz (tI T x)
    simp (disch := first | (simp only [dd, dr]; done) | omega) only [w_188_2, W_188, msK, msR, msF, ms1, msS1, k0, k1, k6, I_lt, I_le, I_inj, inB_I, tc_I, Int.toNat_natCast, fkt, rf1, rf0, cq, Nat.reduceAdd, Nat.reduceEqDiff, Int.reduceToNat, eq_self, true_and, and_true, true_or, or_true, bI_0, bI_1, mm, rAm, mF_sF, mR_sR, false_and, and_false, if_false, if_true, false_or, or_false, not_true_eq_false, not_false_eq_true, and_self]
    refine ca_170 (by omega) (t_beside (h := 0) hK' (by omega) m (.inr rfl) c3 (by omega) c2 c1 ?_)
    rw [if_neg (by omega)]
    simp (disch := first | (simp only [dd, dr]; done) | omega) only [W_188, msK, msR, msF, ms1, msS1, k0, k1, k6, I_lt, I_le, I_inj, inB_I, tc_I, Int.toNat_natCast, fkt, rf1, rf0, cq, Nat.reduceAdd, Nat.reduceEqDiff, Int.reduceToNat, eq_self, true_and, and_true, true_or, or_true, bI_0, bI_1, mm, rAm, mF_sF, mR_sR, false_and, and_false, if_false, if_true, false_or, or_false, not_true_eq_false, not_false_eq_true, and_self]
    refine ca_170 (by omega) (t_beside (h := 0) hK' (by omega) m (.inl rfl) c3 (by omega) c2 c1 ?_)
    rw [if_pos rfl]
    simp (disch := first | (simp only [dd, dr]; done) | omega) only [W_188, msK, msR, msF, ms1, msS1, k0, k1, k6, I_lt, I_le, I_inj, inB_I, tc_I, Int.toNat_natCast, fkt, rf1, rf0, cq, Nat.reduceAdd, Nat.reduceEqDiff, Int.reduceToNat, eq_self, true_and, and_true, true_or, or_true, bI_0, bI_1, mm, rAm, mF_sF, mR_sR, false_and, and_false, if_false, if_true, false_or, or_false, not_true_eq_false, not_false_eq_true, and_self]
    refine ca_173 (by omega) (t_used hK' m c3 c4 ?_)
    have eR : mA (ms M o f s b c w j) (o + 1) 13068 = I ((tW T 0).length : Nat) := by
      have := ms1 M o f s b c w j (z := 13068) (by omega)
      rw [← r1]; exact this
    simp (disch := first | (simp only [dd, dr]; done) | omega) only [W_188, msK, msR, msF, ms1, msS1, k0, k1, k6, hn, I_lt, I_le, I_inj, inB_I, tc_I, Int.toNat_natCast, fkt, rf1, rf0, cq, Nat.reduceAdd, Nat.reduceEqDiff, Int.reduceToNat, eq_self, true_and, and_true, true_or, or_true, bI_0, bI_1, mm, rAm, mF_sF, mR_sR, false_and, and_false, if_false, if_true, false_or, or_false, not_true_eq_false, not_false_eq_true, and_self]
    have nb : ∀ y, okL sz T x (some y) = true → y ≠ x ∧ y < 96 ∧ tC T y = [] ∧ uz sz (tI T y) ≤ 120 := fun y hy => of_decide_eq_true hy
    have go : ∀ (T1 : Tr) (s1 : Int → Int) (y : Nat) (u3 u4 u5 : Option Value), lo u3 = false → lo u4 = false → lo u5 = false → MT s1 T1 sz tl → Frz s s1 → lkA sz n T1 y = some T' → Wp d 188 2 [some (.ref o), v1, some (.int (I (y : Nat))), u3, u4, u5] [] (ms M o f s1 b c w j) Q :=
      fun T1 s1 y u3 u4 u5 g3 g4 g5 m1 fr1 hg1 => ih d T1 T' s1 y v1 u3 u4 u5 hd h1 g3 g4 g5 m1 hg1 (fun s' m' fr' => hQ s' m' (fr1.trans fr'))
    -- from 69 on
    have tail : ¬ (tI T x = [] ∧ 1 < (tW T 0).length) → Wp d 188 69 [some (.ref o), v1, some (.int (I (x : Nat))), some (.int (I (oI (pv (tW T 0) x)))), some (.int (I (oI (nx (tW T 0) x)))), some (.int (I (uz sz (tI T x) : Nat)))] [] (ms M o f s b c w j) Q := by
      intro hne
      rw [if_neg hne] at hg
      have tail2 : (pv (tW T 0) x).filter (fun a => decide (uz sz (tI T x) + uz sz (tI T a) ≤ 72)) = none → Wp d 188 130 [some (.ref o), v1, some (.int (I (x : Nat))), some (.int (I (oI (pv (tW T 0) x)))), some (.int (I (oI (nx (tW T 0) x)))), some (.int (I (uz sz (tI T x) : Nat)))] [] (ms M o f s b c w j) Q := by
        intro hp
        simp only [hp] at hg
        cases hq : nx (tW T 0) x with
        | none =>
          rw [hq] at hg
          simp only [Option.filter] at hg
          cases hg
          simp (disch := first | (simp only [dd, dr]; done) | omega) only [W_188, msK, msR, msF, ms1, msS1, k0, k1, k6, oI, I_lt, I_le, I_inj, inB_I, tc_I, Int.toNat_natCast, fkt, rf1, rf0, cq, Nat.reduceAdd, Nat.reduceEqDiff, Int.reduceToNat, eq_self, true_and, and_true, true_or, or_true, bI_0, bI_1, mm, rAm, mF_sF, mR_sR, false_and, and_false, if_false, if_true, false_or, or_false, not_true_eq_false, not_false_eq_true, and_self]
          refine ⟨fun _ => ?_, fun h => absurd trivial h⟩
          simp (disch := first | (simp only [dd, dr]; done) | omega) only [W_188, msK, msR, msF, ms1, msS1, k0, k1, k6, I_lt, I_le, I_inj, inB_I, tc_I, Int.toNat_natCast, fkt, rf1, rf0, cq, Nat.reduceAdd, Nat.reduceEqDiff, Int.reduceToNat, eq_self, true_and, and_true, true_or, or_true, bI_0, bI_1, mm, rAm, mF_sF, mR_sR, false_and, and_false, if_false, if_true, false_or, or_false, not_true_eq_false, not_false_eq_true, and_self]
          exact hQ s m (Frz.refl s)
        | some a =>
          rw [hq] at hg c7
          obtain ⟨g1, g2, g3, g4⟩ := nb a c7
          simp (disch := first | (simp only [dd, dr]; done) | omega) only [W_188, msK, msR, msF, ms1, msS1, k0, k1, k6, oI, I_lt, I_le, I_inj, inB_I, tc_I, Int.toNat_natCast, fkt, rf1, rf0, cq, Nat.reduceAdd, Nat.reduceEqDiff, Int.reduceToNat, eq_self, true_and, and_true, true_or, or_true, bI_0, bI_1, mm, rAm, mF_sF, mR_sR, false_and, and_false, if_false, if_true, false_or, or_false, not_true_eq_false, not_false_eq_true, and_self]
          refine ⟨fun h => absurd h (by omega), fun _ => ?_⟩
          simp (disch := first | (simp only [dd, dr]; done) | omega) only [W_188, msK, msR, msF, ms1, msS1, k0, k1, k6, I_lt, I_le, I_inj, inB_I, tc_I, Int.toNat_natCast, fkt, rf1, rf0, cq, Nat.reduceAdd, Nat.reduceEqDiff, Int.reduceToNat, eq_self, true_and, and_true, true_or, or_true, bI_0, bI_1, mm, rAm, mF_sF, mR_sR, false_and, and_false, if_false, if_true, false_or, or_false, not_true_eq_false, not_false_eq_true, and_self]
          refine ca_173 (by omega) (t_used hK' m g2 g3 ?_)
          simp (disch := first | (simp only [dd, dr]; done) | omega) only [W_188, msK, msR, msF, ms1, msS1, k0, k1, k6, I_lt, I_le, I_inj, inB_I, tc_I, Int.toNat_natCast, fkt, rf1, rf0, cq, Nat.reduceAdd, Nat.reduceEqDiff, Int.reduceToNat, eq_self, true_and, and_true, true_or, or_true, bI_0, bI_1, mm, rAm, mF_sF, mR_sR, false_and, and_false, if_false, if_true, false_or, or_false, not_true_eq_false, not_false_eq_true, and_self]
          refine ⟨fun h => ?_, fun h => ?_⟩
          · rw [Option.filter_some, if_neg (by simp; omega)] at hg
            cases hg
            simp (disch := first | (simp only [dd, dr]; done) | omega) only [W_188, msK, msR, msF, ms1, msS1, k0, k1, k6, I_lt, I_le, I_inj, inB_I, tc_I, Int.toNat_natCast, fkt, rf1, rf0, cq, Nat.reduceAdd, Nat.reduceEqDiff, Int.reduceToNat, eq_self, true_and, and_true, true_or, or_true, bI_0, bI_1, mm, rAm, mF_sF, mR_sR, false_and, and_false, if_false, if_true, false_or, or_false, not_true_eq_false, not_false_eq_true, and_self]
            exact hQ s m (Frz.refl s)
          · rw [Option.filter_some, if_pos (by simp; omega)] at hg
            simp only [] at hg
            cases hgn : gn 8 (uI (uI T a []) x (tI T x ++ tI T a)) a with
            | none => rw [hgn] at hg; cases hg
            | some T1 =>
              rw [hgn] at hg
              refine t_allR hK' (by omega) h1 rfl rfl g2 c3 g1 (tI T a) T s rfl m g3 c4 (by omega) (fun s1 m1 fr1 => ?_)
              simp (disch := first | (simp only [dd, dr]; done) | omega) only [W_188, msK, msR, msF, ms1, msS1, k0, k1, k6, I_lt, I_le, I_inj, inB_I, tc_I, Int.toNat_natCast, fkt, rf1, rf0, cq, Nat.reduceAdd, Nat.reduceEqDiff, Int.reduceToNat, eq_self, true_and, and_true, true_or, or_true, bI_0, bI_1, mm, rAm, mF_sF, mR_sR, false_and, and_false, if_false, if_true, false_or, or_false, not_true_eq_false, not_false_eq_true, and_self]
              refine ca_189 (by omega) (t_gone hK' (by omega) g2 m1 (by simp only [ti]; rw [fu_n _ _ g1, fu_s]) (by simp only [ti]; exact g3) hgn (fun s2 m2 fr2 => ?_))
              simp (disch := first | (simp only [dd, dr]; done) | omega) only [W_188, msK, msR, msF, ms1, msS1, k0, k1, k6, I_lt, I_le, I_inj, inB_I, tc_I, Int.toNat_natCast, fkt, rf1, rf0, cq, Nat.reduceAdd, Nat.reduceEqDiff, Int.reduceToNat, eq_self, true_and, and_true, true_or, or_true, bI_0, bI_1, mm, rAm, mF_sF, mR_sR, false_and, and_false, if_false, if_true, false_or, or_false, not_true_eq_false, not_false_eq_true, and_self]
              exact go T1 s2 x _ _ _ rfl rfl rfl m2 (fr1.trans fr2) hg
      cases hq : pv (tW T 0) x with
      | none =>
        have := tail2 (by rw [hq]; rfl)
        rw [hq] at this
        simp (disch := first | (simp only [dd, dr]; done) | omega) only [W_188, msK, msR, msF, ms1, msS1, k0, k1, k6, oI, I_lt, I_le, I_inj, inB_I, tc_I, Int.toNat_natCast, fkt, rf1, rf0, cq, Nat.reduceAdd, Nat.reduceEqDiff, Int.reduceToNat, eq_self, true_and, and_true, true_or, or_true, bI_0, bI_1, mm, rAm, mF_sF, mR_sR, false_and, and_false, if_false, if_true, false_or, or_false, not_true_eq_false, not_false_eq_true, and_self]
        refine ⟨fun _ => this, fun h => absurd trivial h⟩
      | some a =>
        rw [hq] at hg c6
        obtain ⟨g1, g2, g3, g4⟩ := nb a c6
        rw [hq] at tail2
        simp (disch := first | (simp only [dd, dr]; done) | omega) only [W_188, msK, msR, msF, ms1, msS1, k0, k1, k6, oI, I_lt, I_le, I_inj, inB_I, tc_I, Int.toNat_natCast, fkt, rf1, rf0, cq, Nat.reduceAdd, Nat.reduceEqDiff, Int.reduceToNat, eq_self, true_and, and_true, true_or, or_true, bI_0, bI_1, mm, rAm, mF_sF, mR_sR, false_and, and_false, if_false, if_true, false_or, or_false, not_true_eq_false, not_false_eq_true, and_self]
        refine ⟨fun h => absurd h (by omega), fun _ => ?_⟩
        simp (disch := first | (simp only [dd, dr]; done) | omega) only [W_188, msK, msR, msF, ms1, msS1, k0, k1, k6, I_lt, I_le, I_inj, inB_I, tc_I, Int.toNat_natCast, fkt, rf1, rf0, cq, Nat.reduceAdd, Nat.reduceEqDiff, Int.reduceToNat, eq_self, true_and, and_true, true_or, or_true, bI_0, bI_1, mm, rAm, mF_sF, mR_sR, false_and, and_false, if_false, if_true, false_or, or_false, not_true_eq_false, not_false_eq_true, and_self]
        refine ca_173 (by omega) (t_used hK' m g2 g3 ?_)
        simp (disch := first | (simp only [dd, dr]; done) | omega) only [W_188, msK, msR, msF, ms1, msS1, k0, k1, k6, I_lt, I_le, I_inj, inB_I, tc_I, Int.toNat_natCast, fkt, rf1, rf0, cq, Nat.reduceAdd, Nat.reduceEqDiff, Int.reduceToNat, eq_self, true_and, and_true, true_or, or_true, bI_0, bI_1, mm, rAm, mF_sF, mR_sR, false_and, and_false, if_false, if_true, false_or, or_false, not_true_eq_false, not_false_eq_true, and_self]
        refine ⟨fun h => ?_, fun h => ?_⟩
        · exact tail2 (by rw [Option.filter_some, if_neg (by simp; omega)])
        · rw [Option.filter_some, if_pos (by simp; omega)] at hg
          simp only [] at hg
          cases hgn : gn 8 (uI (uI T x []) a (tI T a ++ tI T x)) x with
          | none => rw [hgn] at hg; cases hg
          | some T1 =>
            rw [hgn] at hg
            refine t_allL hK' (by omega) h1 rfl rfl c3 g2 (Ne.symm g1) (tI T x) T s rfl m c4 g3 (by omega) (fun s1 m1 fr1 => ?_)
            simp (disch := first | (simp only [dd, dr]; done) | omega) only [W_188, msK, msR, msF, ms1, msS1, k0, k1, k6, I_lt, I_le, I_inj, inB_I, tc_I, Int.toNat_natCast, fkt, rf1, rf0, cq, Nat.reduceAdd, Nat.reduceEqDiff, Int.reduceToNat, eq_self, true_and, and_true, true_or, or_true, bI_0, bI_1, mm, rAm, mF_sF, mR_sR, false_and, and_false, if_false, if_true, false_or, or_false, not_true_eq_false, not_false_eq_true, and_self]
            refine ca_189 (by omega) (t_gone hK' (by omega) c3 m1 (by simp only [ti]; rw [fu_n _ _ (Ne.symm g1), fu_s]) (by simp only [ti]; exact c4) hgn (fun s2 m2 fr2 => ?_))
            simp (disch := first | (simp only [dd, dr]; done) | omega) only [W_188, msK, msR, msF, ms1, msS1, k0, k1, k6, I_lt, I_le, I_inj, inB_I, tc_I, Int.toNat_natCast, fkt, rf1, rf0, cq, Nat.reduceAdd, Nat.reduceEqDiff, Int.reduceToNat, eq_self, true_and, and_true, true_or, or_true, bI_0, bI_1, mm, rAm, mF_sF, mR_sR, false_and, and_false, if_false, if_true, false_or, or_false, not_true_eq_false, not_false_eq_true, and_self]
            exact go T1 s2 a _ _ _ rfl rfl rfl m2 (fr1.trans fr2) hg
    refine ⟨fun h => tail (fun h2 => ?_), fun h => ?_⟩
    · rw [h2.1] at h; exact h rfl
    · have hnil : tI T x = [] := List.eq_nil_of_length_eq_zero (by
        have := Decidable.not_not.mp h
        omega)
      simp (disch := first | (simp only [dd, dr]; done) | omega) only [W_188, msK, msR, msF, ms1, msS1, k0, k1, k6, eR, I_lt, I_le, I_inj, inB_I, tc_I, Int.toNat_natCast, fkt, rf1, rf0, cq, Nat.reduceAdd, Nat.reduceEqDiff, Int.reduceToNat, eq_self, true_and, and_true, true_or, or_true, bI_0, bI_1, mm, rAm, mF_sF, mR_sR, false_and, and_false, if_false, if_true, false_or, or_false, not_true_eq_false, not_false_eq_true, and_self]
      refine ⟨fun h => tail (fun h2 => absurd h2.2 (by omega)), fun h => ?_⟩
      rw [if_pos ⟨hnil, by omega⟩] at hg
      cases hgn : gn 8 T x with
      | none => simp only [hgn] at hg; cases hg
      | some T1 =>
        simp (disch := first | (simp only [dd, dr]; done) | omega) only [W_188, msK, msR, msF, ms1, msS1, k0, k1, k6, I_lt, I_le, I_inj, inB_I, tc_I, Int.toNat_natCast, fkt, rf1, rf0, cq, Nat.reduceAdd, Nat.reduceEqDiff, Int.reduceToNat, eq_self, true_and, and_true, true_or, or_true, bI_0, bI_1, mm, rAm, mF_sF, mR_sR, false_and, and_false, if_false, if_true, false_or, or_false, not_true_eq_false, not_false_eq_true, and_self]
        refine ca_189 (by omega) (t_gone hK' (by omega) c3 m hnil c4 hgn (fun s2 m2 fr2 => ?_))
        cases hq : pv (tW T 0) x with
        | some a =>
          simp only [hgn, hq] at hg
          rw [hq] at c6
          obtain ⟨g1, g2, g3, g4⟩ := nb a c6
          simp (disch := first | (simp only [dd, dr]; done) | omega) only [W_188, msK, msR, msF, ms1, msS1, k0, k1, k6, oI, I_lt, I_le, I_inj, inB_I, tc_I, Int.toNat_natCast, fkt, rf1, rf0, cq, Nat.reduceAdd, Nat.reduceEqDiff, Int.reduceToNat, eq_self, true_and, and_true, true_or, or_true, bI_0, bI_1, mm, rAm, mF_sF, mR_sR, false_and, and_false, if_false, if_true, false_or, or_false, not_true_eq_false, not_false_eq_true, and_self]
          refine ⟨fun h => absurd h (by omega), fun _ => ?_⟩
          simp (disch := first | (simp only [dd, dr]; done) | omega) only [W_188, msK, msR, msF, ms1, msS1, k0, k1, k6, I_lt, I_le, I_inj, inB_I, tc_I, Int.toNat_natCast, fkt, rf1, rf0, cq, Nat.reduceAdd, Nat.reduceEqDiff, Int.reduceToNat, eq_self, true_and, and_true, true_or, or_true, bI_0, bI_1, mm, rAm, mF_sF, mR_sR, false_and, and_false, if_false, if_true, false_or, or_false, not_true_eq_false, not_false_eq_true, and_self]
          exact go T1 s2 a _ _ _ rfl rfl rfl m2 fr2 hg
        | none =>
          cases hq2 : nx (tW T 0) x with
          | none => simp only [hgn, hq, hq2] at hg; cases hg
          | some a =>
            simp only [hgn, hq, hq2] at hg
            rw [hq2] at c7
            obtain ⟨g1, g2, g3, g4⟩ := nb a c7
            simp (disch := first | (simp only [dd, dr]; done) | omega) only [W_188, msK, msR, msF, ms1, msS1, k0, k1, k6, oI, I_lt, I_le, I_inj, inB_I, tc_I, Int.toNat_natCast, fkt, rf1, rf0, cq, Nat.reduceAdd, Nat.reduceEqDiff, Int.reduceToNat, eq_self, true_and, and_true, true_or, or_true, bI_0, bI_1, mm, rAm, mF_sF, mR_sR, false_and, and_false, if_false, if_true, false_or, or_false, not_true_eq_false, not_false_eq_true, and_self]
            refine ⟨fun _ => ?_, fun h => absurd trivial h⟩
            simp (disch := first | (simp only [dd, dr]; done) | omega) only [W_188, msK, msR, msF, ms1, msS1, k0, k1, k6, I_lt, I_le, I_inj, inB_I, tc_I, Int.toNat_natCast, fkt, rf1, rf0, cq, Nat.reduceAdd, Nat.reduceEqDiff, Int.reduceToNat, eq_self, true_and, and_true, true_or, or_true, bI_0, bI_1, mm, rAm, mF_sF, mR_sR, false_and, and_false, if_false, if_true, false_or, or_false, not_true_eq_false, not_false_eq_true, and_self]
            exact go T1 s2 a _ _ _ rfl rfl rfl m2 fr2 hg
theorem t_lookAt (hK : MK M o) {n d : Nat} {T T' : Tr} {s : Int → Int} {x : Nat} (hd : 5 ≤ d) (m : MT s T sz tl) (hg : lkA sz n T x = some T') (hQ : ∀ s', MT s' T' sz tl → Frz s s' → Q (.returned none) (ms M o f s' b c w j)) :
    Wp d 188 0 [some (.ref o), some (.int (I (x : Nat))), none, none, none, none] [] (ms M o f s b c w j) Q := by
  simp (disch := first | (simp only [dd, dr]; done) | omega) only [W_188, I_lt, I_le, I_inj, inB_I, tc_I, Int.toNat_natCast, fkt, rf1, rf0, cq, Nat.reduceAdd, Nat.reduceEqDiff, Int.reduceToNat, eq_self, true_and, and_true, true_or, or_true, bI_0, bI_1, mm, rAm, mF_sF, mR_sR, false_and, and_false, if_false, if_true, false_or, or_false, not_true_eq_false, not_false_eq_true, and_self]
  exact t_lookAt_loop hK n d T T' s x _ _ _ _ hd rfl rfl rfl rfl m hg hQ
end MLk
