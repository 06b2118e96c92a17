/-! ===== THE COMPONENT: items go from leaf to leaf ===== -/
theorem us_uz (py : Nat → List Nat) : ∀ ks : List Nat, us py ks = uz (fun k => (py k).length) ks
  | [] => rfl
  | k :: ks => by
    have := us_uz py ks
    unfold us at this ⊢
    rw [uz, ← this, List.length_cons, List.flatMap_cons, List.length_append]; omega
theorem LfFr.symm {q : Nat} {M M' : Mem} (h : LfFr q M M') : LfFr q M' M := by
  obtain ⟨m, b, g1, g2, g3, rfl⟩ := h
  have := lf_id M q
  exact ⟨mF M 37 q, mF M 34 q, mA M (q + 1), mA M (q + 2), mA M (q + 3), by rw [lf_lf]; exact this.symm⟩
section CS
variable {d t r m : Nat} {M : Mem} {A : Ad} {T : Tr} {py : Nat → List Nat} {e : Option Nat} {Q : Outcome → Mem → Prop}
/-- an item goes from a leaf x to a leaf a -/
theorem n_give (R : RM M t r m A T py e) (hd : 2 ≤ d) {x a qx qa k i key : Nat} (hqx : A.1 x = some qx) (hqa : A.1 a = some qa) (hx : tH T x = 1) (ha : tH T a = 1) (hxa : x ≠ a) (hk : (tI T x)[k]? = some key) (hi : i ≤ (tI T a).length) (hu : us py (tI T a) + (8 + (py key).length) ≤ 180)
    (hQ : ∀ M', RM M' t r m A (uI (uI T x ((tI T x).take k ++ (tI T x).drop (k + 1))) a ((tI T a).take i ++ key :: (tI T a).drop i)) py e → Fr t r A A 0 M M' → Q (.returned none) M') : Wp d 132 0 [some (.ref qx), some (.int (I (k : Nat))), some (.ref qa), some (.int (I (i : Nat)))] [] M Q := by
  obtain ⟨q1, g1, Lx, bx⟩ := R.2.2.1 x hx
  rw [hqx] at g1; cases g1
  obtain ⟨q2, g2, La', ba⟩ := R.2.2.1 a ha
  rw [hqa] at g2; cases g2
  have hne : qx ≠ qa := by intro eq; subst eq; exact hxa (R.1.inj (h := 0) (h' := 0) (b := x) (b' := a) hqx hqa).1
  have far := Lx.1.far La'.1 hne
  have hkey := bx key (List.mem_of_getElem? hk)
  unfold us at hu
  refine l_give Lx hd La' far hk hkey hi (by omega) (by omega) (fun M1 M' F1 F2 L1 L2 => ?_)
  have L2' : LfIs M1 qa ((tI T a).take i ++ key :: (tI T a).drop i) py := L2.far F2.symm far
  have R1 := R.itm (b := a) hqa ha F1 L2' (fun y hy => by
    rcases List.mem_append.mp hy with h | h
    · exact ba y (List.mem_of_mem_take h)
    · rcases List.mem_cons.mp h with h | h
      · rw [h]; exact hkey
      · exact ba y (List.mem_of_mem_drop h)) (fun _ _ _ _ _ => rfl)
  have R2 := R1.itm (b := x) hqx (by simp only [ti]; exact hx) F2 L1 (fun y hy => by
    rcases List.mem_append.mp hy with h | h
    · exact bx y (List.mem_of_mem_take h)
    · exact bx y (List.mem_of_mem_drop h)) (fun _ _ _ _ _ => rfl)
  have eT : uI (uI T a ((tI T a).take i ++ key :: (tI T a).drop i)) x ((tI T x).take k ++ (tI T x).drop (k + 1)) = uI (uI T x ((tI T x).take k ++ (tI T x).drop (k + 1))) a ((tI T a).take i ++ key :: (tI T a).drop i) := by
    unfold uI
    simp only []
    rw [fu_comm _ _ _ (Ne.symm hxa)]
  rw [eT] at R2
  exact hQ M' R2 ((Fr.lf hqa F1).trans (Fr.lf hqx F2))
set_option maxHeartbeats 8000000 in
theorem n_left (hd : 4 ≤ d) {x a qx qa : Nat} {v3 v4 : Option Value} (h3 : lo v3 = false) (h4 : lo v4 = false) (hqx : A.1 x = some qx) (hqa : A.1 a = some qa) (hxa : x ≠ a) : ∀ (l : List Nat) (T : Tr) (M : Mem), tI T x = l → RM M t r m A T py e → tH T x = 1 → tH T a = 1 → us py (tI T a) ≤ 120 → us py (tI T x) ≤ 1000 → (∀ M', RM M' t r m A (uI (uI T x (mvL (fun k => (py k).length) l (tI T a)).1) a (mvL (fun k => (py k).length) l (tI T a)).2) py e → Fr t r A A 0 M M' → Wp d 100 44 [some (.ref t), some (.ref qx), some (.ref qa), v3, v4] [] M' Q) →
    Wp d 100 8 [some (.ref t), some (.ref qx), some (.ref qa), v3, v4] [] M Q := by
  intro l
  induction l with
  | nil =>
    intro T M hl R hx ha hua hux hQ
    obtain ⟨q1, g1, Lx, bx⟩ := R.2.2.1 x hx
    rw [hqx] at g1; cases g1
    have kx := Lx.1.1
    simp (disch := first | (simp only [dd, dr]; done) | omega) only [w_100_8, W_100, kx, I_lt, I_le, I_inj, inB_I, tc_I, Int.toNat_natCast, fkt, rf1, rf0, cq, Nat.reduceAdd, Nat.reduceEqDiff, Int.reduceToNat, eq_self, true_and, and_true, true_or, or_true, bI_0, bI_1, mm, rAm, mF_sF, mR_sR, false_and, and_false, if_false, if_true, false_or, or_false, not_true_eq_false, not_false_eq_true, and_self]
    refine ca_128 (by omega) (l_isOver Lx (by omega) ?_)
    simp (disch := first | (simp only [dd, dr]; done) | omega) only [W_100, I_lt, I_le, I_inj, inB_I, tc_I, Int.toNat_natCast, fkt, rf1, rf0, cq, Nat.reduceAdd, Nat.reduceEqDiff, Int.reduceToNat, eq_self, true_and, and_true, true_or, or_true, bI_0, bI_1, mm, rAm, mF_sF, mR_sR, false_and, and_false, if_false, if_true, false_or, or_false, not_true_eq_false, not_false_eq_true, and_self]
    have hno : ¬ (120 < us py (tI T x)) := by rw [hl]; unfold us; simp
    refine ⟨fun _ => ?_, fun h => absurd (decide_eq_false hno) h⟩
    have := hQ M
    rw [mvL, uI_id T x hl, uI_id T a rfl] at this
    exact this R (Fr.refl t r A M)
  | cons k l ih =>
    intro T M hl R hx ha hua hux hQ
    have stop : ¬ (120 < uz (fun k => (py k).length) (k :: l) ∧ uz (fun k => (py k).length) (tI T a) + (8 + (py k).length) ≤ 120) → Wp d 100 44 [some (.ref t), some (.ref qx), some (.ref qa), v3, v4] [] M Q := by
      intro hn
      have := hQ M
      rw [mvL, if_neg hn, uI_id T x hl, uI_id T a rfl] at this
      exact this R (Fr.refl t r A M)
    obtain ⟨q1, g1, Lx, bx⟩ := R.2.2.1 x hx
    rw [hqx] at g1; cases g1
    obtain ⟨q2, g2, La', ba⟩ := R.2.2.1 a ha
    rw [hqa] at g2; cases g2
    have kx := Lx.1.1
    have ka := La'.1.1
    have hk : (tI T x)[0]? = some k := by rw [hl]; rfl
    have uX := us_uz py (tI T x)
    have uA := us_uz py (tI T a)
    rw [hl] at uX hux
    have hka : uz (fun k => (py k).length) (k :: l) = 8 + (py k).length + uz (fun k => (py k).length) l := rfl
    simp (disch := first | (simp only [dd, dr]; done) | omega) only [w_100_8, W_100, kx, I_lt, I_le, I_inj, inB_I, tc_I, Int.toNat_natCast, fkt, rf1, rf0, cq, Nat.reduceAdd, Nat.reduceEqDiff, Int.reduceToNat, eq_self, true_and, and_true, true_or, or_true, bI_0, bI_1, mm, rAm, mF_sF, mR_sR, false_and, and_false, if_false, if_true, false_or, or_false, not_true_eq_false, not_false_eq_true, and_self]
    refine ca_128 (by omega) (l_isOver Lx (by omega) ?_)
    rw [hl]
    simp (disch := first | (simp only [dd, dr]; done) | omega) only [W_100, I_lt, I_le, I_inj, inB_I, tc_I, Int.toNat_natCast, fkt, rf1, rf0, cq, Nat.reduceAdd, Nat.reduceEqDiff, Int.reduceToNat, eq_self, true_and, and_true, true_or, or_true, bI_0, bI_1, mm, rAm, mF_sF, mR_sR, false_and, and_false, if_false, if_true, false_or, or_false, not_true_eq_false, not_false_eq_true, and_self]
    refine ⟨fun h => stop (fun hh => ?_), fun h => ?_⟩
    · have := of_decide_eq_false h; omega
    have h120 : 120 < us py (k :: l) := by
      by_cases e : 120 < us py (k :: l)
      · exact e
      · exact absurd (decide_eq_false e) h
    simp (disch := first | (simp only [dd, dr]; done) | omega) only [W_100, kx, ka, I_lt, I_le, I_inj, inB_I, tc_I, Int.toNat_natCast, fkt, rf1, rf0, cq, Nat.reduceAdd, Nat.reduceEqDiff, Int.reduceToNat, eq_self, true_and, and_true, true_or, or_true, bI_0, bI_1, mm, rAm, mF_sF, mR_sR, false_and, and_false, if_false, if_true, false_or, or_false, not_true_eq_false, not_false_eq_true, and_self]
    refine ca_130 (by omega) (l_cost (k := 0) Lx hk ?_)
    simp (disch := first | (simp only [dd, dr]; done) | omega) only [W_100, ka, I_lt, I_le, I_inj, inB_I, tc_I, Int.toNat_natCast, fkt, rf1, rf0, cq, Nat.reduceAdd, Nat.reduceEqDiff, Int.reduceToNat, eq_self, true_and, and_true, true_or, or_true, bI_0, bI_1, mm, rAm, mF_sF, mR_sR, false_and, and_false, if_false, if_true, false_or, or_false, not_true_eq_false, not_false_eq_true, and_self]
    refine ca_131 (by omega) (l_fits La' (by omega) (by omega) ?_)
    simp (disch := first | (simp only [dd, dr]; done) | omega) only [W_100, I_lt, I_le, I_inj, inB_I, tc_I, Int.toNat_natCast, fkt, rf1, rf0, cq, Nat.reduceAdd, Nat.reduceEqDiff, Int.reduceToNat, eq_self, true_and, and_true, true_or, or_true, bI_0, bI_1, mm, rAm, mF_sF, mR_sR, false_and, and_false, if_false, if_true, false_or, or_false, not_true_eq_false, not_false_eq_true, and_self]
    refine ⟨fun h => stop (fun hh => ?_), fun h => ?_⟩
    · have := of_decide_eq_false h; omega
    have hfit : us py (tI T a) + (8 + (py k).length) ≤ 120 := by
      by_cases e : us py (tI T a) + (8 + (py k).length) ≤ 120
      · exact e
      · exact absurd (decide_eq_false e) h
    have hmany := La'.2.1
    simp (disch := first | (simp only [dd, dr]; done) | omega) only [W_100, kx, ka, hmany, I_lt, I_le, I_inj, inB_I, tc_I, Int.toNat_natCast, fkt, rf1, rf0, cq, Nat.reduceAdd, Nat.reduceEqDiff, Int.reduceToNat, eq_self, true_and, and_true, true_or, or_true, bI_0, bI_1, mm, rAm, mF_sF, mR_sR, false_and, and_false, if_false, if_true, false_or, or_false, not_true_eq_false, not_false_eq_true, and_self]
    refine cr_132 (by omega) (n_give (k := 0) R (by omega) hqx hqa hx ha hxa hk (Nat.le_refl _) (by omega) (fun M1 R1 F1 => ?_))
    simp (disch := first | (simp only [dd, dr]; done) | omega) only [W_100, I_lt, I_le, I_inj, inB_I, tc_I, Int.toNat_natCast, fkt, rf1, rf0, cq, Nat.reduceAdd, Nat.reduceEqDiff, Int.reduceToNat, eq_self, true_and, and_true, true_or, or_true, bI_0, bI_1, mm, rAm, mF_sF, mR_sR, false_and, and_false, if_false, if_true, false_or, or_false, not_true_eq_false, not_false_eq_true, and_self]
    rw [hl, List.take_length, List.drop_length] at R1
    have t1 : tI (uI (uI T x (List.take 0 (k :: l) ++ List.drop (0 + 1) (k :: l))) a (tI T a ++ [k])) x = l := by simp only [ti]; rw [fu_n _ _ hxa, fu_s]; rfl
    have t2 : tI (uI (uI T x (List.take 0 (k :: l) ++ List.drop (0 + 1) (k :: l))) a (tI T a ++ [k])) a = tI T a ++ [k] := by simp only [ti]; rw [fu_s]
    refine ih _ M1 t1 R1 (by simp only [ti]; exact hx) (by simp only [ti]; exact ha) (by rw [t2, us_uz, uz_app]; simp only [uz]; omega) (by rw [t1, us_uz]; omega) (fun M' R' F' => ?_)
    have := hQ M'
    rw [mvL, if_pos (by omega)] at this
    rw [t2, uI_uI] at R'
    exact this R' (F1.trans F')
set_option maxHeartbeats 8000000 in
theorem n_right (hd : 4 ≤ d) {x a qx qa : Nat} {v2 v4 : Option Value} (h2 : lo v2 = false) (h4 : lo v4 = false) (hqx : A.1 x = some qx) (hqa : A.1 a = some qa) (hxa : x ≠ a) : ∀ (n : Nat) (T : Tr) (M : Mem), (tI T x).length ≤ n → RM M t r m A T py e → tH T x = 1 → tH T a = 1 → us py (tI T a) ≤ 120 → us py (tI T x) ≤ 1000 → (∀ M', RM M' t r m A (uI (uI T x (mvR (fun k => (py k).length) n (tI T x) (tI T a)).1) a (mvR (fun k => (py k).length) n (tI T x) (tI T a)).2) py e → Fr t r A A 0 M M' → Wp d 100 95 [some (.ref t), some (.ref qx), v2, some (.ref qa), v4] [] M' Q) →
    Wp d 100 52 [some (.ref t), some (.ref qx), v2, some (.ref qa), v4] [] M Q := by
  intro n
  induction n with
  | zero =>
    intro T M hl R hx ha hua hux hQ
    have hl0 : tI T x = [] := List.eq_nil_of_length_eq_zero (by omega)
    obtain ⟨q1, g1, Lx, bx⟩ := R.2.2.1 x hx
    rw [hqx] at g1; cases g1
    have kx := Lx.1.1
    simp (disch := first | (simp only [dd, dr]; done) | omega) only [w_100_52, W_100, kx, I_lt, I_le, I_inj, inB_I, tc_I, Int.toNat_natCast, fkt, rf1, rf0, cq, Nat.reduceAdd, Nat.reduceEqDiff, Int.reduceToNat, eq_self, true_and, and_true, true_or, or_true, bI_0, bI_1, mm, rAm, mF_sF, mR_sR, false_and, and_false, if_false, if_true, false_or, or_false, not_true_eq_false, not_false_eq_true, and_self]
    refine ca_128 (by omega) (l_isOver Lx (by omega) ?_)
    simp (disch := first | (simp only [dd, dr]; done) | omega) only [W_100, I_lt, I_le, I_inj, inB_I, tc_I, Int.toNat_natCast, fkt, rf1, rf0, cq, Nat.reduceAdd, Nat.reduceEqDiff, Int.reduceToNat, eq_self, true_and, and_true, true_or, or_true, bI_0, bI_1, mm, rAm, mF_sF, mR_sR, false_and, and_false, if_false, if_true, false_or, or_false, not_true_eq_false, not_false_eq_true, and_self]
    have hno : ¬ (120 < us py (tI T x)) := by rw [hl0]; unfold us; simp
    refine ⟨fun _ => ?_, fun h => absurd (decide_eq_false hno) h⟩
    have := hQ M
    rw [mvR, uI_id T x rfl, uI_id T a rfl] at this
    exact this R (Fr.refl t r A M)
  | succ n ih =>
    intro T M hl R hx ha hua hux hQ
    obtain ⟨q1, g1, Lx, bx⟩ := R.2.2.1 x hx
    rw [hqx] at g1; cases g1
    obtain ⟨q2, g2, La', ba⟩ := R.2.2.1 a ha
    rw [hqa] at g2; cases g2
    have kx := Lx.1.1
    have ka := La'.1.1
    have uX := us_uz py (tI T x)
    have uA := us_uz py (tI T a)
    cases hk : (tI T x)[(tI T x).length - 1]? with
    | none =>
      have hl0 : tI T x = [] := by
        rw [List.getElem?_eq_none_iff] at hk
        exact List.eq_nil_of_length_eq_zero (by omega)
      simp (disch := first | (simp only [dd, dr]; done) | omega) only [w_100_52, W_100, kx, I_lt, I_le, I_inj, inB_I, tc_I, Int.toNat_natCast, fkt, rf1, rf0, cq, Nat.reduceAdd, Nat.reduceEqDiff, Int.reduceToNat, eq_self, true_and, and_true, true_or, or_true, bI_0, bI_1, mm, rAm, mF_sF, mR_sR, false_and, and_false, if_false, if_true, false_or, or_false, not_true_eq_false, not_false_eq_true, and_self]
      refine ca_128 (by omega) (l_isOver Lx (by omega) ?_)
      simp (disch := first | (simp only [dd, dr]; done) | omega) only [W_100, I_lt, I_le, I_inj, inB_I, tc_I, Int.toNat_natCast, fkt, rf1, rf0, cq, Nat.reduceAdd, Nat.reduceEqDiff, Int.reduceToNat, eq_self, true_and, and_true, true_or, or_true, bI_0, bI_1, mm, rAm, mF_sF, mR_sR, false_and, and_false, if_false, if_true, false_or, or_false, not_true_eq_false, not_false_eq_true, and_self]
      have hno : ¬ (120 < us py (tI T x)) := by rw [hl0]; unfold us; simp
      refine ⟨fun _ => ?_, fun h => absurd (decide_eq_false hno) h⟩
      have := hQ M
      simp only [mvR, hk] at this
      rw [uI_id T x rfl, uI_id T a rfl] at this
      exact this R (Fr.refl t r A M)
    | some k =>
      obtain ⟨hsp, hpos⟩ := last_split hk
      have stop : ¬ (120 < uz (fun k => (py k).length) (tI T x) ∧ uz (fun k => (py k).length) (tI T a) + (8 + (py k).length) ≤ 120) → Wp d 100 95 [some (.ref t), some (.ref qx), v2, some (.ref qa), v4] [] M Q := by
        intro hn
        have := hQ M
        simp only [mvR, hk] at this
        rw [if_neg hn, uI_id T x rfl, uI_id T a rfl] at this
        exact this R (Fr.refl t r A M)
      have hux2 : uz (fun k => (py k).length) (tI T x) = uz (fun k => (py k).length) ((tI T x).take ((tI T x).length - 1)) + (8 + (py k).length) := by
        have := congrArg (uz (fun k => (py k).length)) hsp
        rw [uz_app] at this
        simpa [uz] using this
      have hmx := Lx.2.1
      have h24 := Lx.2.2.2.1
      simp (disch := first | (simp only [dd, dr]; done) | omega) only [w_100_52, W_100, kx, I_lt, I_le, I_inj, inB_I, tc_I, Int.toNat_natCast, fkt, rf1, rf0, cq, Nat.reduceAdd, Nat.reduceEqDiff, Int.reduceToNat, eq_self, true_and, and_true, true_or, or_true, bI_0, bI_1, mm, rAm, mF_sF, mR_sR, false_and, and_false, if_false, if_true, false_or, or_false, not_true_eq_false, not_false_eq_true, and_self]
      refine ca_128 (by omega) (l_isOver Lx (by omega) ?_)
      simp (disch := first | (simp only [dd, dr]; done) | omega) only [W_100, I_lt, I_le, I_inj, inB_I, tc_I, Int.toNat_natCast, fkt, rf1, rf0, cq, Nat.reduceAdd, Nat.reduceEqDiff, Int.reduceToNat, eq_self, true_and, and_true, true_or, or_true, bI_0, bI_1, mm, rAm, mF_sF, mR_sR, false_and, and_false, if_false, if_true, false_or, or_false, not_true_eq_false, not_false_eq_true, and_self]
      refine ⟨fun h => stop (fun hh => ?_), fun h => ?_⟩
      · have := of_decide_eq_false h; omega
      have h120 : 120 < us py (tI T x) := by
        by_cases e : 120 < us py (tI T x)
        · exact e
        · exact absurd (decide_eq_false e) h
      simp (disch := first | (simp only [dd, dr]; done) | omega) only [W_100, kx, ka, hmx, I_lt, I_le, I_inj, inB_I, tc_I, Int.toNat_natCast, fkt, rf1, rf0, cq, Nat.reduceAdd, Nat.reduceEqDiff, Int.reduceToNat, eq_self, true_and, and_true, true_or, or_true, bI_0, bI_1, mm, rAm, mF_sF, mR_sR, false_and, and_false, if_false, if_true, false_or, or_false, not_true_eq_false, not_false_eq_true, and_self]
      rw [show (((tI T x).length : Int) - 1) = (((tI T x).length - 1 : Nat) : Int) by omega]
      refine ca_130 (by omega) (l_cost Lx hk ?_)
      simp (disch := first | (simp only [dd, dr]; done) | omega) only [W_100, ka, I_lt, I_le, I_inj, inB_I, tc_I, Int.toNat_natCast, fkt, rf1, rf0, cq, Nat.reduceAdd, Nat.reduceEqDiff, Int.reduceToNat, eq_self, true_and, and_true, true_or, or_true, bI_0, bI_1, mm, rAm, mF_sF, mR_sR, false_and, and_false, if_false, if_true, false_or, or_false, not_true_eq_false, not_false_eq_true, and_self]
      refine ca_131 (by omega) (l_fits La' (by omega) (by omega) ?_)
      simp (disch := first | (simp only [dd, dr]; done) | omega) only [W_100, I_lt, I_le, I_inj, inB_I, tc_I, Int.toNat_natCast, fkt, rf1, rf0, cq, Nat.reduceAdd, Nat.reduceEqDiff, Int.reduceToNat, eq_self, true_and, and_true, true_or, or_true, bI_0, bI_1, mm, rAm, mF_sF, mR_sR, false_and, and_false, if_false, if_true, false_or, or_false, not_true_eq_false, not_false_eq_true, and_self]
      refine ⟨fun h => stop (fun hh => ?_), fun h => ?_⟩
      · have := of_decide_eq_false h; omega
      have hfit : us py (tI T a) + (8 + (py k).length) ≤ 120 := by
        by_cases e : us py (tI T a) + (8 + (py k).length) ≤ 120
        · exact e
        · exact absurd (decide_eq_false e) h
      simp (disch := first | (simp only [dd, dr]; done) | omega) only [W_100, kx, ka, hmx, I_lt, I_le, I_inj, inB_I, tc_I, Int.toNat_natCast, fkt, rf1, rf0, cq, Nat.reduceAdd, Nat.reduceEqDiff, Int.reduceToNat, eq_self, true_and, and_true, true_or, or_true, bI_0, bI_1, mm, rAm, mF_sF, mR_sR, false_and, and_false, if_false, if_true, false_or, or_false, not_true_eq_false, not_false_eq_true, and_self]
      rw [show (((tI T x).length : Int) - 1) = (((tI T x).length - 1 : Nat) : Int) by omega]
      refine cr_132 (by omega) (n_give (i := 0) R (by omega) hqx hqa hx ha hxa hk (Nat.zero_le _) (by omega) (fun M1 R1 F1 => ?_))
      simp (disch := first | (simp only [dd, dr]; done) | omega) only [W_100, I_lt, I_le, I_inj, inB_I, tc_I, Int.toNat_natCast, fkt, rf1, rf0, cq, Nat.reduceAdd, Nat.reduceEqDiff, Int.reduceToNat, eq_self, true_and, and_true, true_or, or_true, bI_0, bI_1, mm, rAm, mF_sF, mR_sR, false_and, and_false, if_false, if_true, false_or, or_false, not_true_eq_false, not_false_eq_true, and_self]
      rw [show (tI T x).length - 1 + 1 = (tI T x).length by omega, List.drop_length, List.append_nil, List.take_zero, List.nil_append, List.drop_zero] at R1
      have t1 : tI (uI (uI T x ((tI T x).take ((tI T x).length - 1))) a (k :: tI T a)) x = (tI T x).take ((tI T x).length - 1) := by simp only [ti]; rw [fu_n _ _ hxa, fu_s]
      have t2 : tI (uI (uI T x ((tI T x).take ((tI T x).length - 1))) a (k :: tI T a)) a = k :: tI T a := by simp only [ti]; rw [fu_s]
      refine ih _ M1 (by rw [t1, List.length_take]; omega) R1 (by simp only [ti]; exact hx) (by simp only [ti]; exact ha) (by rw [t2, us_uz, uz]; omega) (by rw [t1, us_uz]; omega) (fun M' R' F' => ?_)
      have := hQ M'
      simp only [mvR, hk] at this
      rw [if_pos (by omega)] at this
      rw [t1, t2, uI_uI] at R'
      exact this R' (F1.trans F')
set_option maxHeartbeats 8000000 in
theorem n_fresh (hd : 4 ≤ d) {x a qx qa : Nat} {v2 v3 : Option Value} (h2 : lo v2 = false) (h3 : lo v3 = false) (hqx : A.1 x = some qx) (hqa : A.1 a = some qa) (hxa : x ≠ a) : ∀ (n : Nat) (T : Tr) (M : Mem), (tI T x).length ≤ n → RM M t r m A T py e → tH T x = 1 → tH T a = 1 → us py (tI T x) + us py (tI T a) ≤ 180 → (∀ M', RM M' t r m A (uI (uI T x (mvF (fun k => (py k).length) n (tI T x) (tI T a)).1) a (mvF (fun k => (py k).length) n (tI T x) (tI T a)).2) py e → Fr t r A A 0 M M' → Wp d 100 144 [some (.ref t), some (.ref qx), v2, v3, some (.ref qa)] [] M' Q) →
    Wp d 100 121 [some (.ref t), some (.ref qx), v2, v3, some (.ref qa)] [] M Q := by
  intro n
  induction n with
  | zero =>
    intro T M hl R hx ha hua hQ
    have hl0 : tI T x = [] := List.eq_nil_of_length_eq_zero (by omega)
    obtain ⟨q1, g1, Lx, bx⟩ := R.2.2.1 x hx
    rw [hqx] at g1; cases g1
    have kx := Lx.1.1
    simp (disch := first | (simp only [dd, dr]; done) | omega) only [w_100_121, W_100, kx, I_lt, I_le, I_inj, inB_I, tc_I, Int.toNat_natCast, fkt, rf1, rf0, cq, Nat.reduceAdd, Nat.reduceEqDiff, Int.reduceToNat, eq_self, true_and, and_true, true_or, or_true, bI_0, bI_1, mm, rAm, mF_sF, mR_sR, false_and, and_false, if_false, if_true, false_or, or_false, not_true_eq_false, not_false_eq_true, and_self]
    refine ca_128 (by omega) (l_isOver Lx (by omega) ?_)
    simp (disch := first | (simp only [dd, dr]; done) | omega) only [W_100, I_lt, I_le, I_inj, inB_I, tc_I, Int.toNat_natCast, fkt, rf1, rf0, cq, Nat.reduceAdd, Nat.reduceEqDiff, Int.reduceToNat, eq_self, true_and, and_true, true_or, or_true, bI_0, bI_1, mm, rAm, mF_sF, mR_sR, false_and, and_false, if_false, if_true, false_or, or_false, not_true_eq_false, not_false_eq_true, and_self]
    have hno : ¬ (120 < us py (tI T x)) := by rw [hl0]; unfold us; simp
    refine ⟨fun _ => ?_, fun h => absurd (decide_eq_false hno) h⟩
    have := hQ M
    rw [mvF, uI_id T x rfl, uI_id T a rfl] at this
    exact this R (Fr.refl t r A M)
  | succ n ih =>
    intro T M hl R hx ha hua hQ
    obtain ⟨q1, g1, Lx, bx⟩ := R.2.2.1 x hx
    rw [hqx] at g1; cases g1
    obtain ⟨q2, g2, La', ba⟩ := R.2.2.1 a ha
    rw [hqa] at g2; cases g2
    have kx := Lx.1.1
    have ka := La'.1.1
    have uX := us_uz py (tI T x)
    have uA := us_uz py (tI T a)
    cases hk : (tI T x)[(tI T x).length - 1]? with
    | none =>
      have hl0 : tI T x = [] := by
        rw [List.getElem?_eq_none_iff] at hk
        exact List.eq_nil_of_length_eq_zero (by omega)
      simp (disch := first | (simp only [dd, dr]; done) | omega) only [w_100_121, W_100, kx, I_lt, I_le, I_inj, inB_I, tc_I, Int.toNat_natCast, fkt, rf1, rf0, cq, Nat.reduceAdd, Nat.reduceEqDiff, Int.reduceToNat, eq_self, true_and, and_true, true_or, or_true, bI_0, bI_1, mm, rAm, mF_sF, mR_sR, false_and, and_false, if_false, if_true, false_or, or_false, not_true_eq_false, not_false_eq_true, and_self]
      refine ca_128 (by omega) (l_isOver Lx (by omega) ?_)
      simp (disch := first | (simp only [dd, dr]; done) | omega) only [W_100, I_lt, I_le, I_inj, inB_I, tc_I, Int.toNat_natCast, fkt, rf1, rf0, cq, Nat.reduceAdd, Nat.reduceEqDiff, Int.reduceToNat, eq_self, true_and, and_true, true_or, or_true, bI_0, bI_1, mm, rAm, mF_sF, mR_sR, false_and, and_false, if_false, if_true, false_or, or_false, not_true_eq_false, not_false_eq_true, and_self]
      have hno : ¬ (120 < us py (tI T x)) := by rw [hl0]; unfold us; simp
      refine ⟨fun _ => ?_, fun h => absurd (decide_eq_false hno) h⟩
      have := hQ M
      simp only [mvF, hk] at this
      rw [uI_id T x rfl, uI_id T a rfl] at this
      exact this R (Fr.refl t r A M)
    | some k =>
      obtain ⟨hsp, hpos⟩ := last_split hk
      have hux2 : uz (fun k => (py k).length) (tI T x) = uz (fun k => (py k).length) ((tI T x).take ((tI T x).length - 1)) + (8 + (py k).length) := by
        have := congrArg (uz (fun k => (py k).length)) hsp
        rw [uz_app] at this
        simpa [uz] using this
      have hmx := Lx.2.1
      have h24 := Lx.2.2.2.1
      simp (disch := first | (simp only [dd, dr]; done) | omega) only [w_100_121, W_100, kx, I_lt, I_le, I_inj, inB_I, tc_I, Int.toNat_natCast, fkt, rf1, rf0, cq, Nat.reduceAdd, Nat.reduceEqDiff, Int.reduceToNat, eq_self, true_and, and_true, true_or, or_true, bI_0, bI_1, mm, rAm, mF_sF, mR_sR, false_and, and_false, if_false, if_true, false_or, or_false, not_true_eq_false, not_false_eq_true, and_self]
      refine ca_128 (by omega) (l_isOver Lx (by omega) ?_)
      simp (disch := first | (simp only [dd, dr]; done) | omega) only [W_100, I_lt, I_le, I_inj, inB_I, tc_I, Int.toNat_natCast, fkt, rf1, rf0, cq, Nat.reduceAdd, Nat.reduceEqDiff, Int.reduceToNat, eq_self, true_and, and_true, true_or, or_true, bI_0, bI_1, mm, rAm, mF_sF, mR_sR, false_and, and_false, if_false, if_true, false_or, or_false, not_true_eq_false, not_false_eq_true, and_self]
      refine ⟨fun h => ?_, fun h => ?_⟩
      · have h' := of_decide_eq_false h
        have := hQ M
        simp only [mvF, hk] at this
        rw [if_neg (by omega), uI_id T x rfl, uI_id T a rfl] at this
        exact this R (Fr.refl t r A M)
      have h120 : 120 < us py (tI T x) := by
        by_cases e : 120 < us py (tI T x)
        · exact e
        · exact absurd (decide_eq_false e) h
      simp (disch := first | (simp only [dd, dr]; done) | omega) only [W_100, kx, ka, hmx, I_lt, I_le, I_inj, inB_I, tc_I, Int.toNat_natCast, fkt, rf1, rf0, cq, Nat.reduceAdd, Nat.reduceEqDiff, Int.reduceToNat, eq_self, true_and, and_true, true_or, or_true, bI_0, bI_1, mm, rAm, mF_sF, mR_sR, false_and, and_false, if_false, if_true, false_or, or_false, not_true_eq_false, not_false_eq_true, and_self]
      rw [show (((tI T x).length : Int) - 1) = (((tI T x).length - 1 : Nat) : Int) by omega]
      refine cr_132 (by omega) (n_give (i := 0) R (by omega) hqx hqa hx ha hxa hk (Nat.zero_le _) (by omega) (fun M1 R1 F1 => ?_))
      simp (disch := first | (simp only [dd, dr]; done) | omega) only [W_100, I_lt, I_le, I_inj, inB_I, tc_I, Int.toNat_natCast, fkt, rf1, rf0, cq, Nat.reduceAdd, Nat.reduceEqDiff, Int.reduceToNat, eq_self, true_and, and_true, true_or, or_true, bI_0, bI_1, mm, rAm, mF_sF, mR_sR, false_and, and_false, if_false, if_true, false_or, or_false, not_true_eq_false, not_false_eq_true, and_self]
      rw [show (tI T x).length - 1 + 1 = (tI T x).length by omega, List.drop_length, List.append_nil, List.take_zero, List.nil_append, List.drop_zero] at R1
      have t1 : tI (uI (uI T x ((tI T x).take ((tI T x).length - 1))) a (k :: tI T a)) x = (tI T x).take ((tI T x).length - 1) := by simp only [ti]; rw [fu_n _ _ hxa, fu_s]
      have t2 : tI (uI (uI T x ((tI T x).take ((tI T x).length - 1))) a (k :: tI T a)) a = k :: tI T a := by simp only [ti]; rw [fu_s]
      refine ih _ M1 (by rw [t1, List.length_take]; omega) R1 (by simp only [ti]; exact hx) (by simp only [ti]; exact ha) (by rw [t1, t2, us_uz, us_uz, uz]; omega) (fun M' R' F' => ?_)
      have := hQ M'
      simp only [mvF, hk] at this
      rw [if_pos (by omega)] at this
      rw [t1, t2, uI_uI] at R'
      exact this R' (F1.trans F')
end CS
