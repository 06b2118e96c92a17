/-! ===== THE COMPONENT: join ===== -/
section CJ
variable {t r m : Nat} {A : Ad} {py : Nat → List Nat}
theorem n_belong {d : Nat} {M : Mem} {T : Tr} {e : Option Nat} {Q : Outcome → Mem → Prop} (R : RM M t r m A T py e) (hd : 1 ≤ d) {x a qx qa : Nat} (hqx : A.1 x = some qx) (hqa : A.1 a = some qa) (hx : tH T x = 1) (ha : tH T a = 1) (hQ : Q (.returned (some (.int (I (bI (decide (us py (tI T x) + us py (tI T a) ≤ 72))))))) M) : Wp d 105 0 [some (.ref qx), some (.ref qa)] [] M Q := by
  obtain ⟨q1, g1, Lx, bx⟩ := R.2.2.1 x hx
  rw [hqx] at g1; cases g1
  obtain ⟨q2, g2, La', ba⟩ := R.2.2.1 a ha
  rw [hqa] at g2; cases g2
  have kx := Lx.1.1
  have ka := La'.1.1
  have b1 : us py (tI T x) ≤ 1000 := by have h1 := Lx.2.2.2.1; have h2 := Lx.2.2.2.2.1; unfold us; omega
  have b2 : us py (tI T a) ≤ 1000 := by have h1 := La'.2.2.2.1; have h2 := La'.2.2.2.2.1; unfold us; omega
  simp (disch := first | (simp only [dd, dr]; done) | omega) only [W_105, kx, I_lt, I_le, I_inj, inB_I, tc_I, Int.toNat_natCast, fkt, rf1, rf0, cq, Nat.reduceAdd, Nat.reduceEqDiff, Int.reduceToNat, eq_self, true_and, and_true, true_or, or_true, bI_0, bI_1, mm, rAm, mF_sF, mR_sR, false_and, and_false, if_false, if_true, false_or, or_false, not_true_eq_false, not_false_eq_true, and_self]
  refine ca_129 (by omega) (l_used Lx ?_)
  simp (disch := first | (simp only [dd, dr]; done) | omega) only [W_105, ka, I_lt, I_le, I_inj, inB_I, tc_I, Int.toNat_natCast, fkt, rf1, rf0, cq, Nat.reduceAdd, Nat.reduceEqDiff, Int.reduceToNat, eq_self, true_and, and_true, true_or, or_true, bI_0, bI_1, mm, rAm, mF_sF, mR_sR, false_and, and_false, if_false, if_true, false_or, or_false, not_true_eq_false, not_false_eq_true, and_self]
  refine ca_129 (by omega) (l_used La' ?_)
  simp (disch := first | (simp only [dd, dr]; done) | omega) only [W_105, I_lt, I_le, I_inj, inB_I, tc_I, Int.toNat_natCast, fkt, rf1, rf0, cq, Nat.reduceAdd, Nat.reduceEqDiff, Int.reduceToNat, eq_self, true_and, and_true, true_or, or_true, bI_0, bI_1, mm, rAm, mF_sF, mR_sR, false_and, and_false, if_false, if_true, false_or, or_false, not_true_eq_false, not_false_eq_true, and_self]
  refine ⟨fun h => ?_, fun h => ?_⟩
  · simp (disch := first | (simp only [dd, dr]; done) | omega) only [W_105, I_lt, I_le, I_inj, inB_I, tc_I, Int.toNat_natCast, fkt, rf1, rf0, cq, Nat.reduceAdd, Nat.reduceEqDiff, Int.reduceToNat, eq_self, true_and, and_true, true_or, or_true, bI_0, bI_1, mm, rAm, mF_sF, mR_sR, false_and, and_false, if_false, if_true, false_or, or_false, not_true_eq_false, not_false_eq_true, and_self]
    rw [decide_eq_false (by omega)] at hQ; exact hQ
  · simp (disch := first | (simp only [dd, dr]; done) | omega) only [W_105, I_lt, I_le, I_inj, inB_I, tc_I, Int.toNat_natCast, fkt, rf1, rf0, cq, Nat.reduceAdd, Nat.reduceEqDiff, Int.reduceToNat, eq_self, true_and, and_true, true_or, or_true, bI_0, bI_1, mm, rAm, mF_sF, mR_sR, false_and, and_false, if_false, if_true, false_or, or_false, not_true_eq_false, not_false_eq_true, and_self]
    rw [decide_eq_true (by omega)] at hQ; exact hQ
set_option maxHeartbeats 8000000 in
theorem n_allL {d : Nat} {Q : Outcome → Mem → Prop} (hd : 4 ≤ d) {x a qx qa : Nat} {v1 v4 : Option Value} (h1 : lo v1 = false) (h4 : lo v4 = false) (hqx : A.1 x = some qx) (hqa : A.1 a = some qa) (hxa : x ≠ a) : ∀ (l : List Nat) (T : Tr) (M : Mem), tI T x = l → RM M t r m A T py none → tH T x = 1 → tH T a = 1 → us py (tI T x) + us py (tI T a) ≤ 72 → (∀ M', RM M' t r m A (uI (uI T x []) a (tI T a ++ l)) py none → Fr t r A A 0 M M' → Wp d 103 85 [some (.ref t), v1, some (.ref qx), some (.ref qa), v4] [] M' Q) →
    Wp d 103 65 [some (.ref t), v1, some (.ref qx), some (.ref qa), v4] [] M Q := by
  intro l
  induction l with
  | nil =>
    intro T M hl R hx ha hu hQ
    obtain ⟨q1, g1, Lx, bx⟩ := R.2.2.1 x hx
    rw [hqx] at g1; cases g1
    have kx := Lx.1.1
    have hmx : mF M 37 qx = I 0 := by have := Lx.2.1; rw [hl] at this; exact this
    simp (disch := first | (simp only [dd, dr]; done) | omega) only [w_103_65, W_103, kx, hmx, I_lt, I_le, I_inj, inB_I, tc_I, Int.toNat_natCast, fkt, rf1, rf0, cq, Nat.reduceAdd, Nat.reduceEqDiff, Int.reduceToNat, eq_self, true_and, and_true, true_or, or_true, bI_0, bI_1, mm, rAm, mF_sF, mR_sR, false_and, and_false, if_false, if_true, false_or, or_false, not_true_eq_false, not_false_eq_true, and_self]
    refine ⟨fun _ => ?_, (fun h => by first | exact False.elim h | exact absurd trivial h | (exfalso; omega))⟩
    have := hQ M
    rw [List.append_nil, uI_id T x hl, uI_id T a rfl] at this
    exact this R (Fr.refl t r A M)
  | cons k l ih =>
    intro T M hl R hx ha hu hQ
    obtain ⟨q1, g1, Lx, bx⟩ := R.2.2.1 x hx
    rw [hqx] at g1; cases g1
    obtain ⟨q2, g2, La', ba⟩ := R.2.2.1 a ha
    rw [hqa] at g2; cases g2
    have kx := Lx.1.1
    have ka := La'.1.1
    have hmx : mF M 37 qx = I ((l.length + 1 : Nat) : Int) := by have := Lx.2.1; rw [hl] at this; exact this
    have h24 : l.length + 1 ≤ 24 := by have := Lx.2.2.2.1; rw [hl] at this; exact this
    have hma := La'.2.1
    have hk : (tI T x)[0]? = some k := by rw [hl]; rfl
    rw [hl, us_uz, us_uz] at hu
    have hka : uz (fun k => (py k).length) (k :: l) = 8 + (py k).length + uz (fun k => (py k).length) l := rfl
    simp (disch := first | (simp only [dd, dr]; done) | omega) only [w_103_65, W_103, kx, hmx, I_lt, I_le, I_inj, inB_I, tc_I, Int.toNat_natCast, fkt, rf1, rf0, cq, Nat.reduceAdd, Nat.reduceEqDiff, Int.reduceToNat, eq_self, true_and, and_true, true_or, or_true, bI_0, bI_1, mm, rAm, mF_sF, mR_sR, false_and, and_false, if_false, if_true, false_or, or_false, not_true_eq_false, not_false_eq_true, and_self]
    refine ⟨(fun h => by first | exact False.elim h | exact absurd trivial h | (exfalso; omega)), fun _ => ?_⟩
    simp (disch := first | (simp only [dd, dr]; done) | omega) only [W_103, kx, ka, hma, I_lt, I_le, I_inj, inB_I, tc_I, Int.toNat_natCast, fkt, rf1, rf0, cq, Nat.reduceAdd, Nat.reduceEqDiff, Int.reduceToNat, eq_self, true_and, and_true, true_or, or_true, bI_0, bI_1, mm, rAm, mF_sF, mR_sR, false_and, and_false, if_false, if_true, false_or, or_false, not_true_eq_false, not_false_eq_true, and_self]
    refine cr_132 (by omega) (n_give (k := 0) R (by omega) hqx hqa hx ha hxa hk (Nat.le_refl _) (by rw [us_uz]; omega) (fun M1 R1 F1 => ?_))
    simp (disch := first | (simp only [dd, dr]; done) | omega) only [W_103, I_lt, I_le, I_inj, inB_I, tc_I, Int.toNat_natCast, fkt, rf1, rf0, cq, Nat.reduceAdd, Nat.reduceEqDiff, Int.reduceToNat, eq_self, true_and, and_true, true_or, or_true, bI_0, bI_1, mm, rAm, mF_sF, mR_sR, false_and, and_false, if_false, if_true, false_or, or_false, not_true_eq_false, not_false_eq_true, and_self]
    rw [hl, List.take_length, List.drop_length] at R1
    have t1 : tI (uI (uI T x (List.take 0 (k :: l) ++ List.drop (0 + 1) (k :: l))) a (tI T a ++ [k])) x = l := by simp only [ti]; rw [fu_n _ _ hxa, fu_s]; rfl
    have t2 : tI (uI (uI T x (List.take 0 (k :: l) ++ List.drop (0 + 1) (k :: l))) a (tI T a ++ [k])) a = tI T a ++ [k] := by simp only [ti]; rw [fu_s]
    refine ih _ M1 t1 R1 (by simp only [ti]; exact hx) (by simp only [ti]; exact ha) (by rw [t1, t2, us_uz, us_uz, uz_app]; simp only [uz]; omega) (fun M' R' F' => ?_)
    rw [t2, uI_uI, List.append_assoc] at R'
    exact hQ M' R' (F1.trans F')
set_option maxHeartbeats 8000000 in
theorem n_allR {d : Nat} {Q : Outcome → Mem → Prop} (hd : 4 ≤ d) {x a qx qa : Nat} {v1 v3 : Option Value} (h1 : lo v1 = false) (h3 : lo v3 = false) (hqx : A.1 x = some qx) (hqa : A.1 a = some qa) (hxa : x ≠ a) : ∀ (l : List Nat) (T : Tr) (M : Mem), tI T x = l → RM M t r m A T py none → tH T x = 1 → tH T a = 1 → us py (tI T x) + us py (tI T a) ≤ 72 → (∀ M', RM M' t r m A (uI (uI T x []) a (tI T a ++ l)) py none → Fr t r A A 0 M M' → Wp d 103 126 [some (.ref t), v1, some (.ref qa), v3, some (.ref qx)] [] M' Q) →
    Wp d 103 104 [some (.ref t), v1, some (.ref qa), v3, some (.ref qx)] [] M Q := by
  intro l
  induction l with
  | nil =>
    intro T M hl R hx ha hu hQ
    obtain ⟨q1, g1, Lx, bx⟩ := R.2.2.1 x hx
    rw [hqx] at g1; cases g1
    have kx := Lx.1.1
    have hmx : mF M 37 qx = I 0 := by have := Lx.2.1; rw [hl] at this; exact this
    simp (disch := first | (simp only [dd, dr]; done) | omega) only [w_103_104, W_103, kx, hmx, I_lt, I_le, I_inj, inB_I, tc_I, Int.toNat_natCast, fkt, rf1, rf0, cq, Nat.reduceAdd, Nat.reduceEqDiff, Int.reduceToNat, eq_self, true_and, and_true, true_or, or_true, bI_0, bI_1, mm, rAm, mF_sF, mR_sR, false_and, and_false, if_false, if_true, false_or, or_false, not_true_eq_false, not_false_eq_true, and_self]
    refine ⟨fun _ => ?_, (fun h => by first | exact False.elim h | exact absurd trivial h | (exfalso; omega))⟩
    have := hQ M
    rw [List.append_nil, uI_id T x hl, uI_id T a rfl] at this
    exact this R (Fr.refl t r A M)
  | cons k l ih =>
    intro T M hl R hx ha hu hQ
    obtain ⟨q1, g1, Lx, bx⟩ := R.2.2.1 x hx
    rw [hqx] at g1; cases g1
    obtain ⟨q2, g2, La', ba⟩ := R.2.2.1 a ha
    rw [hqa] at g2; cases g2
    have kx := Lx.1.1
    have ka := La'.1.1
    have hmx : mF M 37 qx = I ((l.length + 1 : Nat) : Int) := by have := Lx.2.1; rw [hl] at this; exact this
    have h24 : l.length + 1 ≤ 24 := by have := Lx.2.2.2.1; rw [hl] at this; exact this
    have hma := La'.2.1
    have hk : (tI T x)[0]? = some k := by rw [hl]; rfl
    rw [hl, us_uz, us_uz] at hu
    have hka : uz (fun k => (py k).length) (k :: l) = 8 + (py k).length + uz (fun k => (py k).length) l := rfl
    simp (disch := first | (simp only [dd, dr]; done) | omega) only [w_103_104, W_103, kx, hmx, I_lt, I_le, I_inj, inB_I, tc_I, Int.toNat_natCast, fkt, rf1, rf0, cq, Nat.reduceAdd, Nat.reduceEqDiff, Int.reduceToNat, eq_self, true_and, and_true, true_or, or_true, bI_0, bI_1, mm, rAm, mF_sF, mR_sR, false_and, and_false, if_false, if_true, false_or, or_false, not_true_eq_false, not_false_eq_true, and_self]
    refine ⟨(fun h => by first | exact False.elim h | exact absurd trivial h | (exfalso; omega)), fun _ => ?_⟩
    simp (disch := first | (simp only [dd, dr]; done) | omega) only [W_103, kx, ka, hma, I_lt, I_le, I_inj, inB_I, tc_I, Int.toNat_natCast, fkt, rf1, rf0, cq, Nat.reduceAdd, Nat.reduceEqDiff, Int.reduceToNat, eq_self, true_and, and_true, true_or, or_true, bI_0, bI_1, mm, rAm, mF_sF, mR_sR, false_and, and_false, if_false, if_true, false_or, or_false, not_true_eq_false, not_false_eq_true, and_self]
    refine cr_132 (by omega) (n_give (k := 0) R (by omega) hqx hqa hx ha hxa hk (Nat.le_refl _) (by rw [us_uz]; omega) (fun M1 R1 F1 => ?_))
    simp (disch := first | (simp only [dd, dr]; done) | omega) only [W_103, I_lt, I_le, I_inj, inB_I, tc_I, Int.toNat_natCast, fkt, rf1, rf0, cq, Nat.reduceAdd, Nat.reduceEqDiff, Int.reduceToNat, eq_self, true_and, and_true, true_or, or_true, bI_0, bI_1, mm, rAm, mF_sF, mR_sR, false_and, and_false, if_false, if_true, false_or, or_false, not_true_eq_false, not_false_eq_true, and_self]
    rw [hl, List.take_length, List.drop_length] at R1
    have t1 : tI (uI (uI T x (List.take 0 (k :: l) ++ List.drop (0 + 1) (k :: l))) a (tI T a ++ [k])) x = l := by simp only [ti]; rw [fu_n _ _ hxa, fu_s]; rfl
    have t2 : tI (uI (uI T x (List.take 0 (k :: l) ++ List.drop (0 + 1) (k :: l))) a (tI T a ++ [k])) a = tI T a ++ [k] := by simp only [ti]; rw [fu_s]
    refine ih _ M1 t1 R1 (by simp only [ti]; exact hx) (by simp only [ti]; exact ha) (by rw [t1, t2, us_uz, us_uz, uz_app]; simp only [uz]; omega) (fun M' R' F' => ?_)
    rw [t2, uI_uI, List.append_assoc] at R'
    exact hQ M' R' (F1.trans F')
theorem nbn {f : Nat → Option Nat} : (none : Option Nat).bind f = none := rfl
theorem dec_f {p : Prop} [Decidable p] (h : ¬ decide p = false) : p := by
  by_cases e : p
  · exact e
  · exact absurd (decide_eq_false e) h
set_option maxHeartbeats 16000000 in
theorem n_join_loop : ∀ (n d : Nat) (T T' : Tr) (x qx : Nat) (M : Mem) (v1 v3 v4 : Option Value) (Q : Outcome → Mem → Prop), 16 ≤ d → lo v1 = false → lo v3 = false → lo v4 = false → RM M t r m A T py none → SW T → A.1 x = some qx → lkA (fun k => (py k).length) n T x = some T' → (∀ M', RM M' t r m A T' py none → SW T' → Fr t r A A 0 M M' → Q (.returned none) M') →
    Wp d 103 2 [some (.ref t), v1, some (.ref qx), v3, v4] [] M Q := by
  intro n
  induction n with
  | zero => intro d T T' x qx M v1 v3 v4 Q hd h1 h3 h4 R S hqx hg; cases hg
  | succ n ih =>
    intro d T T' x qx M v1 v3 v4 Q hd h1 h3 h4 R S hqx hg hQ
    rw [lkA] at hg
    by_cases cond : x ∈ tW T 0 ∧ tH T x = 1 ∧ x < 96 ∧ tC T x = [] ∧ uz (fun k => (py k).length) (tI T x) ≤ 120 ∧ okL (fun k => (py k).length) T x (pv (tW T 0) x) = true ∧ okL (fun k => (py k).length) T x (nx (tW T 0) x) = true ∧ (1 < (tW T 0).length ↔ tR T ≠ x)
    case neg => rw [if_neg cond] at hg; cases hg
    rw [if_pos cond] at hg
    obtain ⟨c1, c2, c3, c4, c5, c6, c7, c8⟩ := cond
    have hq0 : na A 0 x = some qx := by unfold na; rw [if_pos rfl]; exact hqx
    have kx := (R.1.kind hq0).2.2.2.1 rfl
    obtain ⟨l30, l31⟩ := R.2.2.2.2.2.1 0 x qx c1 hq0
    obtain ⟨q1, g1, Lx, bx⟩ := R.2.2.1 x c2
    rw [hqx] at g1; cases g1
    have hmx := Lx.2.1
    have h24 := Lx.2.2.2.1
    have t0 := R.1.1.1
    have hNr : tH T (tR T) = (tN T - 1) + 1 := by have h1 := S.2.2.2.2.1; have h2 := S.2.2.2.2.2.2; omega
    obtain ⟨qr, hqr⟩ := R.node hNr
    have r18 : mR M 18 t = some qr := by rw [R.2.2.2.2.2.2]; exact hqr
    have root : qx = qr ↔ x = tR T := by
      constructor
      · intro e; subst e; exact (R.1.inj hq0 hqr).1
      · intro e
        have : tN T - 1 = 0 := by rw [← e, c2] at hNr; omega
        rw [this, ← e, hq0] at hqr; exact Option.some.inj hqr
    have nb : ∀ y, (pv (tW T 0) x = some y ∨ nx (tW T 0) x = some y) → ∃ qy, A.1 y = some qy ∧ tH T y = 1 ∧ kO M qy = 5 ∧ y ≠ x := by
      intro y hy
      have hym : y ∈ tW T 0 := by rcases hy with h | h; exact pv_mem h; exact nx_mem h
      have hyH := (S.1 0 y hym).1
      obtain ⟨qy, hqy⟩ := R.node hyH
      refine ⟨qy, by unfold na at hqy; rw [if_pos rfl] at hqy; exact hqy, hyH, (R.1.kind hqy).2.2.2.1 rfl, ?_⟩
      rcases hy with h | h
      · exact pv_ne (S.2.1 0) c1 h
      · exact nx_ne (S.2.1 0) c1 h
    have go : ∀ (T1 : Tr) (M1 : Mem) (y qy : Nat) (u3 u4 : Option Value), lo u3 = false → lo u4 = false → A.1 y = some qy → RM M1 t r m A T1 py none → SW T1 → Fr t r A A 0 M M1 → lkA (fun k => (py k).length) n T1 y = some T' → Wp d 103 2 [some (.ref t), v1, some (.ref qy), u3, u4] [] M1 Q :=
      fun T1 M1 y qy u3 u4 g3 g4 hqy R1 S1 F1 hg1 => ih d T1 T' y qy M1 v1 u3 u4 Q hd h1 g3 g4 R1 S1 hqy hg1 (fun M' R' S' F' => hQ M' R' S' (F1.trans F'))
    -- neighbours, as references
    have main : ∀ (oa ob : Option Nat), mR M 30 qx = oa → mR M 31 qx = ob → (∀ q, oa = some q → kO M q = 5) → (∀ q, ob = some q → kO M q = 5) → Wp d 103 23 [some (.ref t), v1, some (.ref qx), some (va_rf oa), some (va_rf ob)] [] M Q → Wp d 103 2 [some (.ref t), v1, some (.ref qx), v3, v4] [] M Q := by
      intro oa ob e1 e2 k1 k2 hw
      cases oa with
      | none =>
        cases ob with
        | none =>
          simp (disch := first | (simp only [dd, dr]; done) | omega) only [w_103_2, r_103_2, r_103_2_1, r_103_3, r_103_3_1, r_103_6, r_103_6_1, r_103_7, r_103_10, r_103_10_1, r_103_13, r_103_13_1, r_103_14, r_103_14_1, r_103_15, r_103_18, r_103_18_1, r_103_21, r_103_21_1, kx, e1, e2, I_lt, I_le, I_inj, inB_I, tc_I, Int.toNat_natCast, fkt, rf1, rf0, cq, Nat.reduceAdd, Nat.reduceEqDiff, Int.reduceToNat, eq_self, true_and, and_true, true_or, or_true, bI_0, bI_1, mm, rAm, mF_sF, mR_sR, false_and, and_false, if_false, if_true, false_or, or_false, not_true_eq_false, not_false_eq_true, and_self]
          exact hw
        | some qb =>
          have kb := k2 qb rfl
          simp (disch := first | (simp only [dd, dr]; done) | omega) only [w_103_2, r_103_2, r_103_2_1, r_103_3, r_103_3_1, r_103_6, r_103_6_1, r_103_7, r_103_10, r_103_10_1, r_103_13, r_103_13_1, r_103_14, r_103_14_1, r_103_15, r_103_18, r_103_18_1, r_103_21, r_103_21_1, kx, e1, e2, kb, I_lt, I_le, I_inj, inB_I, tc_I, Int.toNat_natCast, fkt, rf1, rf0, cq, Nat.reduceAdd, Nat.reduceEqDiff, Int.reduceToNat, eq_self, true_and, and_true, true_or, or_true, bI_0, bI_1, mm, rAm, mF_sF, mR_sR, false_and, and_false, if_false, if_true, false_or, or_false, not_true_eq_false, not_false_eq_true, and_self]
          exact hw
      | some qa =>
        have ka := k1 qa rfl
        cases ob with
        | none =>
          simp (disch := first | (simp only [dd, dr]; done) | omega) only [w_103_2, r_103_2, r_103_2_1, r_103_3, r_103_3_1, r_103_6, r_103_6_1, r_103_7, r_103_10, r_103_10_1, r_103_13, r_103_13_1, r_103_14, r_103_14_1, r_103_15, r_103_18, r_103_18_1, r_103_21, r_103_21_1, kx, e1, e2, ka, I_lt, I_le, I_inj, inB_I, tc_I, Int.toNat_natCast, fkt, rf1, rf0, cq, Nat.reduceAdd, Nat.reduceEqDiff, Int.reduceToNat, eq_self, true_and, and_true, true_or, or_true, bI_0, bI_1, mm, rAm, mF_sF, mR_sR, false_and, and_false, if_false, if_true, false_or, or_false, not_true_eq_false, not_false_eq_true, and_self]
          exact hw
        | some qb =>
          have kb := k2 qb rfl
          simp (disch := first | (simp only [dd, dr]; done) | omega) only [w_103_2, r_103_2, r_103_2_1, r_103_3, r_103_3_1, r_103_6, r_103_6_1, r_103_7, r_103_10, r_103_10_1, r_103_13, r_103_13_1, r_103_14, r_103_14_1, r_103_15, r_103_18, r_103_18_1, r_103_21, r_103_21_1, kx, e1, e2, ka, kb, I_lt, I_le, I_inj, inB_I, tc_I, Int.toNat_natCast, fkt, rf1, rf0, cq, Nat.reduceAdd, Nat.reduceEqDiff, Int.reduceToNat, eq_self, true_and, and_true, true_or, or_true, bI_0, bI_1, mm, rAm, mF_sF, mR_sR, false_and, and_false, if_false, if_true, false_or, or_false, not_true_eq_false, not_false_eq_true, and_self]
          exact hw
    have kds : ∀ (o : Option Nat) q, o.bind (na A 0) = some q → kO M q = 5 := by
      intro o q ho
      cases o with
      | none => cases ho
      | some y => exact (R.1.kind (show na A 0 y = some q from ho)).2.2.2.1 rfl
    refine main _ _ l30 l31 (kds _) (kds _) ?_
    have blN : ∀ (v : Option Value) (r' : List Value) (pc : Nat) (ls : Lc) (o1 : Option Nat), Wp d 103 (pc + 3) ls (.int (I 0) :: r') M Q → Ca d 103 pc ls 105 [va_rf none, va_rf o1] r' M Q := by
      intro v r' pc ls o1 hw
      refine ca_105 (o0 := none) (o1 := o1) (by omega) ?_
      simp (disch := first | (simp only [dd, dr]; done) | omega) only [W_105, I_lt, I_le, I_inj, inB_I, tc_I, Int.toNat_natCast, fkt, rf1, rf0, cq, Nat.reduceAdd, Nat.reduceEqDiff, Int.reduceToNat, eq_self, true_and, and_true, true_or, or_true, bI_0, bI_1, mm, rAm, mF_sF, mR_sR, false_and, and_false, if_false, if_true, false_or, or_false, not_true_eq_false, not_false_eq_true, and_self]
      exact hw
    have blM : ∀ (r' : List Value) (pc : Nat) (ls : Lc) (q0 : Nat), Wp d 103 (pc + 3) ls (.int (I 0) :: r') M Q → Ca d 103 pc ls 105 [va_rf (some q0), va_rf none] r' M Q := by
      intro r' pc ls q0 hw
      refine ca_105 (o0 := some q0) (o1 := none) (by omega) ?_
      simp (disch := first | (simp only [dd, dr]; done) | omega) only [W_105, I_lt, I_le, I_inj, inB_I, tc_I, Int.toNat_natCast, fkt, rf1, rf0, cq, Nat.reduceAdd, Nat.reduceEqDiff, Int.reduceToNat, eq_self, true_and, and_true, true_or, or_true, bI_0, bI_1, mm, rAm, mF_sF, mR_sR, false_and, and_false, if_false, if_true, false_or, or_false, not_true_eq_false, not_false_eq_true, and_self]
      exact hw
    -- from 95 on
    have tail2 : ¬ (tI T x = [] ∧ 1 < (tW T 0).length) → (pv (tW T 0) x).filter (fun a => decide (uz (fun k => (py k).length) (tI T x) + uz (fun k => (py k).length) (tI T a) ≤ 72)) = none → ∀ (v3' : Option Value), lo v3' = false → Wp d 103 95 [some (.ref t), v1, some (.ref qx), v3', some (va_rf ((nx (tW T 0) x).bind (na A 0)))] [] M Q := by
      intro hne hp v3' hv3
      rw [if_neg hne] at hg
      simp only [hp] at hg
      have stop : some T = some T' → ∀ (v4' : Option Value), lo v4' = false → Wp d 103 135 [some (.ref t), v1, some (.ref qx), v3', v4'] [] M Q := by
        intro hT v4' hv4
        cases hT
        simp (disch := first | (simp only [dd, dr]; done) | omega) only [r_103_135, r_103_136, r_103_136_1, r_103_137, I_lt, I_le, I_inj, inB_I, tc_I, Int.toNat_natCast, fkt, rf1, rf0, cq, Nat.reduceAdd, Nat.reduceEqDiff, Int.reduceToNat, eq_self, true_and, and_true, true_or, or_true, bI_0, bI_1, mm, rAm, mF_sF, mR_sR, false_and, and_false, if_false, if_true, false_or, or_false, not_true_eq_false, not_false_eq_true, and_self]
        simp (disch := first | (simp only [dd, dr]; done) | omega) only [w_103_2, W_103, I_lt, I_le, I_inj, inB_I, tc_I, Int.toNat_natCast, fkt, rf1, rf0, cq, Nat.reduceAdd, Nat.reduceEqDiff, Int.reduceToNat, eq_self, true_and, and_true, true_or, or_true, bI_0, bI_1, mm, rAm, mF_sF, mR_sR, false_and, and_false, if_false, if_true, false_or, or_false, not_true_eq_false, not_false_eq_true, and_self]
        exact hQ M R S (Fr.refl t r A M)
      cases hq : nx (tW T 0) x with
      | none =>
        rw [hq] at hg
        simp only [Option.filter] at hg
        simp (disch := first | (simp only [dd, dr]; done) | omega) only [r_103_95, r_103_95_1, r_103_96, r_103_96_1, r_103_98, nbn, I_lt, I_le, I_inj, inB_I, tc_I, Int.toNat_natCast, fkt, rf1, rf0, cq, Nat.reduceAdd, Nat.reduceEqDiff, Int.reduceToNat, eq_self, true_and, and_true, true_or, or_true, bI_0, bI_1, mm, rAm, mF_sF, mR_sR, false_and, and_false, if_false, if_true, false_or, or_false, not_true_eq_false, not_false_eq_true, and_self]
        refine blM _ _ _ _ ?_
        simp (disch := first | (simp only [dd, dr]; done) | omega) only [r_103_101, I_lt, I_le, I_inj, inB_I, tc_I, Int.toNat_natCast, fkt, rf1, rf0, cq, Nat.reduceAdd, Nat.reduceEqDiff, Int.reduceToNat, eq_self, true_and, and_true, true_or, or_true, bI_0, bI_1, mm, rAm, mF_sF, mR_sR, false_and, and_false, if_false, if_true, false_or, or_false, not_true_eq_false, not_false_eq_true, and_self]
        refine ⟨fun _ => stop hg _ rfl, (fun h => by first | exact False.elim h | exact absurd trivial h | (exfalso; omega))⟩
      | some b =>
        obtain ⟨qb, hqb, hbH, kb, hbx⟩ := nb b (.inr hq)
        have hqb0 : na A 0 b = some qb := by unfold na; rw [if_pos rfl]; exact hqb
        rw [hq] at hg
        have ebd : (some b).bind (na A 0) = some qb := hqb0
        rw [ebd]
        simp (disch := first | (simp only [dd, dr]; done) | omega) only [r_103_95, r_103_95_1, r_103_96, r_103_96_1, r_103_98, I_lt, I_le, I_inj, inB_I, tc_I, Int.toNat_natCast, fkt, rf1, rf0, cq, Nat.reduceAdd, Nat.reduceEqDiff, Int.reduceToNat, eq_self, true_and, and_true, true_or, or_true, bI_0, bI_1, mm, rAm, mF_sF, mR_sR, false_and, and_false, if_false, if_true, false_or, or_false, not_true_eq_false, not_false_eq_true, and_self]
        refine ca_105 (o0 := some qx) (o1 := some qb) (by omega) (n_belong R (by omega) hqx hqb c2 hbH ?_)
        simp (disch := first | (simp only [dd, dr]; done) | omega) only [r_103_101, I_lt, I_le, I_inj, inB_I, tc_I, Int.toNat_natCast, fkt, rf1, rf0, cq, Nat.reduceAdd, Nat.reduceEqDiff, Int.reduceToNat, eq_self, true_and, and_true, true_or, or_true, bI_0, bI_1, mm, rAm, mF_sF, mR_sR, false_and, and_false, if_false, if_true, false_or, or_false, not_true_eq_false, not_false_eq_true, and_self]
        refine ⟨fun h => ?_, fun h => ?_⟩
        · have h' := of_decide_eq_false h
          rw [us_uz, us_uz] at h'
          rw [Option.filter_some, if_neg (by simp; omega)] at hg
          exact stop hg _ rfl
        · have h' := dec_f h
          rw [us_uz, us_uz] at h'
          rw [Option.filter_some, if_pos (by simp; omega)] at hg
          simp only [] at hg
          cases hgn : gn 8 (uI (uI T b []) x (tI T x ++ tI T b)) b with
          | none => rw [hgn] at hg; cases hg
          | some T1 =>
            rw [hgn] at hg
            refine n_allR (by omega) h1 hv3 hqb hqx hbx (tI T b) T M rfl R hbH c2 (by rw [us_uz, us_uz]; omega) (fun M1 R1 F1 => ?_)
            have t01 := R1.1.1.1
            simp (disch := first | (simp only [dd, dr]; done) | omega) only [r_103_126, r_103_127, r_103_127_1, r_103_129, t01, I_lt, I_le, I_inj, inB_I, tc_I, Int.toNat_natCast, fkt, rf1, rf0, cq, Nat.reduceAdd, Nat.reduceEqDiff, Int.reduceToNat, eq_self, true_and, and_true, true_or, or_true, bI_0, bI_1, mm, rAm, mF_sF, mR_sR, false_and, and_false, if_false, if_true, false_or, or_false, not_true_eq_false, not_false_eq_true, and_self]
            refine cr_104 (by omega) (n_gone 8 (d - 1) _ T1 b 0 qb M1 _ (by omega) R1 S (by simp only [ti]; exact hbH) hqb0 hgn (fun M2 R2 S2 F2 => ?_))
            simp (disch := first | (simp only [dd, dr]; done) | omega) only [r_103_132, r_103_137, I_lt, I_le, I_inj, inB_I, tc_I, Int.toNat_natCast, fkt, rf1, rf0, cq, Nat.reduceAdd, Nat.reduceEqDiff, Int.reduceToNat, eq_self, true_and, and_true, true_or, or_true, bI_0, bI_1, mm, rAm, mF_sF, mR_sR, false_and, and_false, if_false, if_true, false_or, or_false, not_true_eq_false, not_false_eq_true, and_self]
            exact go T1 M2 x qx _ _ hv3 rfl hqx R2 S2 (F1.trans F2) hg
    -- from 57 on
    have tail : ¬ (tI T x = [] ∧ 1 < (tW T 0).length) → Wp d 103 57 [some (.ref t), v1, some (.ref qx), some (va_rf ((pv (tW T 0) x).bind (na A 0))), some (va_rf ((nx (tW T 0) x).bind (na A 0)))] [] M Q := by
      intro hne
      have lo4 : lo (some (va_rf ((nx (tW T 0) x).bind (na A 0)))) = false := by cases (nx (tW T 0) x).bind (na A 0) <;> rfl
      have tail2' := tail2 hne
      cases hq : pv (tW T 0) x with
      | none =>
        have := tail2' (by rw [hq]; rfl) (some .null) rfl
        simp (disch := first | (simp only [dd, dr]; done) | omega) only [r_103_57, r_103_57_1, r_103_58, r_103_58_1, r_103_59, nbn, I_lt, I_le, I_inj, inB_I, tc_I, Int.toNat_natCast, fkt, rf1, rf0, cq, Nat.reduceAdd, Nat.reduceEqDiff, Int.reduceToNat, eq_self, true_and, and_true, true_or, or_true, bI_0, bI_1, mm, rAm, mF_sF, mR_sR, false_and, and_false, if_false, if_true, false_or, or_false, not_true_eq_false, not_false_eq_true, and_self]
        refine blN none _ _ _ (some qx) ?_
        simp (disch := first | (simp only [dd, dr]; done) | omega) only [r_103_62, I_lt, I_le, I_inj, inB_I, tc_I, Int.toNat_natCast, fkt, rf1, rf0, cq, Nat.reduceAdd, Nat.reduceEqDiff, Int.reduceToNat, eq_self, true_and, and_true, true_or, or_true, bI_0, bI_1, mm, rAm, mF_sF, mR_sR, false_and, and_false, if_false, if_true, false_or, or_false, not_true_eq_false, not_false_eq_true, and_self]
        refine ⟨fun _ => this, (fun h => by first | exact False.elim h | exact absurd trivial h | (exfalso; omega))⟩
      | some a =>
        obtain ⟨qa, hqa, haH, ka, hax⟩ := nb a (.inl hq)
        have hqa0 : na A 0 a = some qa := by unfold na; rw [if_pos rfl]; exact hqa
        have ebd : (some a).bind (na A 0) = some qa := hqa0
        rw [hq] at tail2'
        rw [if_neg hne, hq] at hg
        rw [ebd]
        simp (disch := first | (simp only [dd, dr]; done) | omega) only [r_103_57, r_103_57_1, r_103_58, r_103_58_1, r_103_59, I_lt, I_le, I_inj, inB_I, tc_I, Int.toNat_natCast, fkt, rf1, rf0, cq, Nat.reduceAdd, Nat.reduceEqDiff, Int.reduceToNat, eq_self, true_and, and_true, true_or, or_true, bI_0, bI_1, mm, rAm, mF_sF, mR_sR, false_and, and_false, if_false, if_true, false_or, or_false, not_true_eq_false, not_false_eq_true, and_self]
        refine ca_105 (o0 := some qa) (o1 := some qx) (by omega) (n_belong R (by omega) hqa hqx haH c2 ?_)
        simp (disch := first | (simp only [dd, dr]; done) | omega) only [r_103_62, I_lt, I_le, I_inj, inB_I, tc_I, Int.toNat_natCast, fkt, rf1, rf0, cq, Nat.reduceAdd, Nat.reduceEqDiff, Int.reduceToNat, eq_self, true_and, and_true, true_or, or_true, bI_0, bI_1, mm, rAm, mF_sF, mR_sR, false_and, and_false, if_false, if_true, false_or, or_false, not_true_eq_false, not_false_eq_true, and_self]
        refine ⟨fun h => ?_, fun h => ?_⟩
        · have h' := of_decide_eq_false h
          rw [us_uz, us_uz] at h'
          exact tail2' (by rw [Option.filter_some, if_neg (by simp; omega)]) _ rfl
        · have h' := dec_f h
          rw [us_uz, us_uz] at h'
          rw [Option.filter_some, if_pos (by simp; omega)] at hg
          simp only [] at hg
          cases hgn : gn 8 (uI (uI T x []) a (tI T a ++ tI T x)) x with
          | none => rw [hgn] at hg; cases hg
          | some T1 =>
            rw [hgn] at hg
            refine n_allL (by omega) h1 lo4 hqx hqa (Ne.symm hax) (tI T x) T M rfl R c2 haH (by rw [us_uz, us_uz]; omega) (fun M1 R1 F1 => ?_)
            have t01 := R1.1.1.1
            simp (disch := first | (simp only [dd, dr]; done) | omega) only [r_103_85, r_103_86, r_103_86_1, r_103_87, t01, I_lt, I_le, I_inj, inB_I, tc_I, Int.toNat_natCast, fkt, rf1, rf0, cq, Nat.reduceAdd, Nat.reduceEqDiff, Int.reduceToNat, eq_self, true_and, and_true, true_or, or_true, bI_0, bI_1, mm, rAm, mF_sF, mR_sR, false_and, and_false, if_false, if_true, false_or, or_false, not_true_eq_false, not_false_eq_true, and_self]
            refine cr_104 (by omega) (n_gone 8 (d - 1) _ T1 x 0 qx M1 _ (by omega) R1 S (by simp only [ti]; exact c2) hq0 hgn (fun M2 R2 S2 F2 => ?_))
            simp (disch := first | (simp only [dd, dr]; done) | omega) only [r_103_90, r_103_90_1, r_103_91, r_103_91_1, r_103_92, r_103_137, I_lt, I_le, I_inj, inB_I, tc_I, Int.toNat_natCast, fkt, rf1, rf0, cq, Nat.reduceAdd, Nat.reduceEqDiff, Int.reduceToNat, eq_self, true_and, and_true, true_or, or_true, bI_0, bI_1, mm, rAm, mF_sF, mR_sR, false_and, and_false, if_false, if_true, false_or, or_false, not_true_eq_false, not_false_eq_true, and_self]
            exact go T1 M2 a qa _ _ rfl lo4 hqa R2 S2 (F1.trans F2) hg
    simp (disch := first | (simp only [dd, dr]; done) | omega) only [r_103_23, r_103_23_1, r_103_24, r_103_27, kx, hmx, I_lt, I_le, I_inj, inB_I, tc_I, Int.toNat_natCast, fkt, rf1, rf0, cq, Nat.reduceAdd, Nat.reduceEqDiff, Int.reduceToNat, eq_self, true_and, and_true, true_or, or_true, bI_0, bI_1, mm, rAm, mF_sF, mR_sR, false_and, and_false, if_false, if_true, false_or, or_false, not_true_eq_false, not_false_eq_true, and_self]
    refine ⟨fun h => tail (fun h2 => ?_), fun h => ?_⟩
    · rw [h2.1] at h; exact h rfl
    have hnil : tI T x = [] := List.eq_nil_of_length_eq_zero (by
      have := Decidable.not_not.mp h
      omega)
    simp (disch := first | (simp only [dd, dr]; done) | omega) only [r_103_30, r_103_30_1, r_103_31, r_103_32, r_103_35, t0, r18, I_lt, I_le, I_inj, inB_I, tc_I, Int.toNat_natCast, fkt, rf1, rf0, cq, Nat.reduceAdd, Nat.reduceEqDiff, Int.reduceToNat, eq_self, true_and, and_true, true_or, or_true, bI_0, bI_1, mm, rAm, mF_sF, mR_sR, false_and, and_false, if_false, if_true, false_or, or_false, not_true_eq_false, not_false_eq_true, and_self]
    refine ⟨fun h => tail (fun h2 => ?_), fun h => ?_⟩
    · exact (c8.mp h2.2) (root.mp h).symm
    have hlen : 1 < (tW T 0).length := c8.mpr (fun e => h (root.mpr e.symm))
    rw [if_pos ⟨hnil, hlen⟩] at hg
    cases hgn : gn 8 T x with
    | none => simp only [hgn] at hg; cases hg
    | some T1 =>
      simp (disch := first | (simp only [dd, dr]; done) | omega) only [r_103_38, r_103_39, r_103_39_1, r_103_40, t0, I_lt, I_le, I_inj, inB_I, tc_I, Int.toNat_natCast, fkt, rf1, rf0, cq, Nat.reduceAdd, Nat.reduceEqDiff, Int.reduceToNat, eq_self, true_and, and_true, true_or, or_true, bI_0, bI_1, mm, rAm, mF_sF, mR_sR, false_and, and_false, if_false, if_true, false_or, or_false, not_true_eq_false, not_false_eq_true, and_self]
      refine cr_104 (by omega) (n_gone 8 (d - 1) T T1 x 0 qx M _ (by omega) R S c2 hq0 hgn (fun M2 R2 S2 F2 => ?_))
      cases hq : pv (tW T 0) x with
      | some a =>
        simp only [hgn, hq] at hg
        obtain ⟨qa, hqa, haH, ka, hax⟩ := nb a (.inl hq)
        have hqa0 : na A 0 a = some qa := by unfold na; rw [if_pos rfl]; exact hqa
        have ebd : (some a).bind (na A 0) = some qa := hqa0
        rw [ebd]
        simp (disch := first | (simp only [dd, dr]; done) | omega) only [r_103_43, r_103_43_1, r_103_44, r_103_44_1, r_103_47, r_103_47_1, r_103_48, r_103_53, r_103_53_1, r_103_54, r_103_137, I_lt, I_le, I_inj, inB_I, tc_I, Int.toNat_natCast, fkt, rf1, rf0, cq, Nat.reduceAdd, Nat.reduceEqDiff, Int.reduceToNat, eq_self, true_and, and_true, true_or, or_true, bI_0, bI_1, mm, rAm, mF_sF, mR_sR, false_and, and_false, if_false, if_true, false_or, or_false, not_true_eq_false, not_false_eq_true, and_self]
        exact go T1 M2 a qa _ _ rfl (by cases (nx (tW T 0) x).bind (na A 0) <;> rfl) hqa R2 S2 F2 hg
      | none =>
        cases hq2 : nx (tW T 0) x with
        | none => simp only [hgn, hq, hq2] at hg; cases hg
        | some b =>
          simp only [hgn, hq, hq2] at hg
          obtain ⟨qb, hqb, hbH, kb, hbx⟩ := nb b (.inr hq2)
          have hqb0 : na A 0 b = some qb := by unfold na; rw [if_pos rfl]; exact hqb
          have ebd : (some b).bind (na A 0) = some qb := hqb0
          rw [ebd]
          simp (disch := first | (simp only [dd, dr]; done) | omega) only [r_103_43, r_103_43_1, r_103_44, r_103_44_1, r_103_51, r_103_51_1, r_103_53, r_103_53_1, r_103_54, r_103_137, nbn, I_lt, I_le, I_inj, inB_I, tc_I, Int.toNat_natCast, fkt, rf1, rf0, cq, Nat.reduceAdd, Nat.reduceEqDiff, Int.reduceToNat, eq_self, true_and, and_true, true_or, or_true, bI_0, bI_1, mm, rAm, mF_sF, mR_sR, false_and, and_false, if_false, if_true, false_or, or_false, not_true_eq_false, not_false_eq_true, and_self]
          exact go T1 M2 b qb _ _ rfl rfl hqb R2 S2 F2 hg
theorem n_join {n d : Nat} {T T' : Tr} {x qx : Nat} {M : Mem} {Q : Outcome → Mem → Prop} (hd : 16 ≤ d) (R : RM M t r m A T py none) (S : SW T) (hqx : A.1 x = some qx) (hg : lkA (fun k => (py k).length) n T x = some T') (hQ : ∀ M', RM M' t r m A T' py none → SW T' → Fr t r A A 0 M M' → Q (.returned none) M') : Wp d 103 0 [some (.ref t), some (.ref qx), none, none, none] [] M Q := by
  simp (disch := first | (simp only [dd, dr]; done) | omega) only [r_103_0, r_103_0_1, r_103_1, r_103_1_1, I_lt, I_le, I_inj, inB_I, tc_I, Int.toNat_natCast, fkt, rf1, rf0, cq, Nat.reduceAdd, Nat.reduceEqDiff, Int.reduceToNat, eq_self, true_and, and_true, true_or, or_true, bI_0, bI_1, mm, rAm, mF_sF, mR_sR, false_and, and_false, if_false, if_true, false_or, or_false, not_true_eq_false, not_false_eq_true, and_self]
  exact n_join_loop n d T T' x qx M _ _ _ Q hd rfl rfl rfl R S hqx hg hQ
end CJ
