/-! ===== THE COMPONENT: the first node of a height; over all leaves; isWithin ===== -/
section Wlk
variable {d p m J t r : Nat} {M M' : Mem} {A A' : Ad} {T T' : Tr} {X X' : Ob} {Q : Outcome → Mem → Prop} {ok : Bool} {dt : Nat → Nat → Nat} {py : Nat → List Nat} {sz : Nat → Nat}
theorem Sh.head (S : Sh T (tW T)) (C : Ct T none) {h x : Nat} {l : List Nat} (hx : tW T (h + 1) = x :: l) : ∃ c cs l', tC T x = c :: cs ∧ tW T h = c :: l' := by
  have hN : h + 1 < tN T := by
    apply Classical.byContradiction
    intro hn
    have := S.2.2.2.2.2.2.2.1.2.2.2 (h + 1) (by omega)
    rw [hx] at this; cases this
  have h2 := S.2.2.2.2.2.2.1 h hN
  have h3 := (C h x (by rw [hx]; exact List.mem_cons_self ..) (by simp)).1
  cases hc : tC T x with
  | nil => rw [hc] at h3; simp at h3
  | cons c cs =>
    rw [hx, List.flatMap_cons, hc] at h2
    exact ⟨c, cs, _, rfl, h2.symm⟩
set_option maxHeartbeats 1000000 in
theorem n_firstOf (hd : 1 ≤ d) (R : RM M t r m A T py none) (W : Wf m sz T) {z : Int} (z0 : 0 ≤ z) (z1 : z < 2147483648) (hQ1 : ∀ (h a q : Nat) (l : List Nat), z = h → tW T h = a :: l → na A h a = some q → Q (.returned (some (.ref q))) M) (hQ2 : (tN T : Int) ≤ z → Q (.returned (some .null)) M) : Wp d 111 0 [some (.ref t), some (.int (I z)), none] [] M Q := by
  have k0 := R.1.1.1
  have S := W.1
  have hr := S.2.2.2.2.2.2.2.1
  have hroot : tR T ∈ tW T (tN T - 1) := by rw [hr.1]; exact List.mem_cons_self ..
  have hN8 : tN T ≤ 1000 := by
    have h96 := (S.1 _ _ hroot).1
    apply Classical.byContradiction
    intro hn
    have : ∀ h, h < tN T → h + 1 ≤ tN T → (tW T (tN T - 1 - h)).length ≥ h + 1 := by
      intro h
      induction h with
      | zero => intro _ _; rw [Nat.sub_zero, hr.1]; simp
      | succ h ih =>
        intro h1 h2
        have i1 := ih (by omega) (by omega)
        have i2 := S.2.2.2.2.2.2.1 (tN T - 1 - (h + 1)) (by omega)
        rw [← i2, show tN T - 1 - (h + 1) + 1 = tN T - 1 - h by omega]
        have : ∀ l : List Nat, (∀ x ∈ l, 2 ≤ (tC T x).length) → 1 ≤ l.length → l.length + 1 ≤ (l.flatMap (tC T)).length := by
          intro l
          induction l with
          | nil => intro _ h; simp at h
          | cons a l il =>
            intro ha _
            rw [List.flatMap_cons, List.length_append, List.length_cons]
            have := ha a (List.mem_cons_self ..)
            cases l with
            | nil => simp; omega
            | cons b l => have := il (fun x hx => ha x (List.mem_cons_of_mem _ hx)) (by simp); simp at this ⊢; omega
        have := this _ (fun x hx => (W.2.1 (tN T - 1 - (h + 1)) x (by rw [show tN T - 1 - (h + 1) + 1 = tN T - 1 - h by omega]; exact hx) (by simp)).1) (by omega)
        omega
    have h1 := this (tN T - 1) (by omega) (by omega)
    have h2 := S.row_le (tN T - 1 - (tN T - 1))
    omega
  have SWT : SW T := S.sw
  obtain ⟨qr, hqr⟩ := R.row SWT hroot
  have e18 : mR M 18 t = some qr := R.2.2.2.2.2.2.trans hqr
  simp (disch := first | (simp only [dd, dr]; done) | omega) only [W_111, k0, e18, I_lt, I_le, I_inj, inB_I, tc_I, Int.toNat_natCast, fkt, rf1, rf0, cq, Nat.reduceAdd, Nat.reduceEqDiff, Int.reduceToNat, eq_self, true_and, and_true, true_or, or_true, bI_0, bI_1, mm, rAm, mF_sF, mR_sR, false_and, and_false, if_false, if_true, false_or, or_false, not_true_eq_false, not_false_eq_true, and_self]
  suffices H : ∀ (k x q : Nat) (l : List Nat), tW T k = x :: l → na A k x = some q → (z ≤ k ∨ (k : Int) = tN T - 1) → k < tN T → Wp d 111 5 [some (.ref t), some (.int (I z)), some (.ref q)] [] M Q from H (tN T - 1) (tR T) qr [] hr.1 hqr (.inr (by omega)) (by omega)
  intro k
  induction k with
  | zero =>
    intro x q l hx hq hz hk
    have hH := (S.1 0 x (by rw [hx]; exact List.mem_cons_self ..)).2.1
    simp (disch := first | (simp only [dd, dr]; done) | omega) only [w_111_5, W_111, I_lt, I_le, I_inj, inB_I, tc_I, Int.toNat_natCast, fkt, rf1, rf0, cq, Nat.reduceAdd, Nat.reduceEqDiff, Int.reduceToNat, eq_self, true_and, and_true, true_or, or_true, bI_0, bI_1, mm, rAm, mF_sF, mR_sR, false_and, and_false, if_false, if_true, false_or, or_false, not_true_eq_false, not_false_eq_true, and_self]
    refine n_height R (by omega) hH hq ?_
    simp (disch := first | (simp only [dd, dr]; done) | omega) only [W_111, I_lt, I_le, I_inj, inB_I, tc_I, Int.toNat_natCast, fkt, rf1, rf0, cq, Nat.reduceAdd, Nat.reduceEqDiff, Int.reduceToNat, eq_self, true_and, and_true, true_or, or_true, bI_0, bI_1, mm, rAm, mF_sF, mR_sR, false_and, and_false, if_false, if_true, false_or, or_false, not_true_eq_false, not_false_eq_true, and_self]
    refine ⟨fun _ => ?_, (fun h => by first | exact False.elim h | exact absurd trivial h | (exfalso; omega) | exact absurd rfl h | cases h)⟩
    simp (disch := first | (simp only [dd, dr]; done) | omega) only [W_111, I_lt, I_le, I_inj, inB_I, tc_I, Int.toNat_natCast, fkt, rf1, rf0, cq, Nat.reduceAdd, Nat.reduceEqDiff, Int.reduceToNat, eq_self, true_and, and_true, true_or, or_true, bI_0, bI_1, mm, rAm, mF_sF, mR_sR, false_and, and_false, if_false, if_true, false_or, or_false, not_true_eq_false, not_false_eq_true, and_self]
    refine n_height R (by omega) hH hq ?_
    simp (disch := first | (simp only [dd, dr]; done) | omega) only [W_111, I_lt, I_le, I_inj, inB_I, tc_I, Int.toNat_natCast, fkt, rf1, rf0, cq, Nat.reduceAdd, Nat.reduceEqDiff, Int.reduceToNat, eq_self, true_and, and_true, true_or, or_true, bI_0, bI_1, mm, rAm, mF_sF, mR_sR, false_and, and_false, if_false, if_true, false_or, or_false, not_true_eq_false, not_false_eq_true, and_self]
    refine ⟨fun h => ?_, fun h => ?_⟩
    · simp (disch := first | (simp only [dd, dr]; done) | omega) only [W_111, I_lt, I_le, I_inj, inB_I, tc_I, Int.toNat_natCast, fkt, rf1, rf0, cq, Nat.reduceAdd, Nat.reduceEqDiff, Int.reduceToNat, eq_self, true_and, and_true, true_or, or_true, bI_0, bI_1, mm, rAm, mF_sF, mR_sR, false_and, and_false, if_false, if_true, false_or, or_false, not_true_eq_false, not_false_eq_true, and_self]
      exact hQ2 (by omega)
    · simp (disch := first | (simp only [dd, dr]; done) | omega) only [W_111, I_lt, I_le, I_inj, inB_I, tc_I, Int.toNat_natCast, fkt, rf1, rf0, cq, Nat.reduceAdd, Nat.reduceEqDiff, Int.reduceToNat, eq_self, true_and, and_true, true_or, or_true, bI_0, bI_1, mm, rAm, mF_sF, mR_sR, false_and, and_false, if_false, if_true, false_or, or_false, not_true_eq_false, not_false_eq_true, and_self]
      exact hQ1 0 x q l (by omega) hx hq
  | succ k ih =>
    intro x q l hx hq hz hk
    have hH := (S.1 _ x (by rw [hx]; exact List.mem_cons_self ..)).2.1
    simp (disch := first | (simp only [dd, dr]; done) | omega) only [w_111_5, W_111, I_lt, I_le, I_inj, inB_I, tc_I, Int.toNat_natCast, fkt, rf1, rf0, cq, Nat.reduceAdd, Nat.reduceEqDiff, Int.reduceToNat, eq_self, true_and, and_true, true_or, or_true, bI_0, bI_1, mm, rAm, mF_sF, mR_sR, false_and, and_false, if_false, if_true, false_or, or_false, not_true_eq_false, not_false_eq_true, and_self]
    refine n_height R (by omega) hH hq ?_
    simp (disch := first | (simp only [dd, dr]; done) | omega) only [W_111, I_lt, I_le, I_inj, inB_I, tc_I, Int.toNat_natCast, fkt, rf1, rf0, cq, Nat.reduceAdd, Nat.reduceEqDiff, Int.reduceToNat, eq_self, true_and, and_true, true_or, or_true, bI_0, bI_1, mm, rAm, mF_sF, mR_sR, false_and, and_false, if_false, if_true, false_or, or_false, not_true_eq_false, not_false_eq_true, and_self]
    refine ⟨fun h => ?_, fun h => ?_⟩
    · simp (disch := first | (simp only [dd, dr]; done) | omega) only [W_111, I_lt, I_le, I_inj, inB_I, tc_I, Int.toNat_natCast, fkt, rf1, rf0, cq, Nat.reduceAdd, Nat.reduceEqDiff, Int.reduceToNat, eq_self, true_and, and_true, true_or, or_true, bI_0, bI_1, mm, rAm, mF_sF, mR_sR, false_and, and_false, if_false, if_true, false_or, or_false, not_true_eq_false, not_false_eq_true, and_self]
      refine n_height R (by omega) hH hq ?_
      simp (disch := first | (simp only [dd, dr]; done) | omega) only [W_111, I_lt, I_le, I_inj, inB_I, tc_I, Int.toNat_natCast, fkt, rf1, rf0, cq, Nat.reduceAdd, Nat.reduceEqDiff, Int.reduceToNat, eq_self, true_and, and_true, true_or, or_true, bI_0, bI_1, mm, rAm, mF_sF, mR_sR, false_and, and_false, if_false, if_true, false_or, or_false, not_true_eq_false, not_false_eq_true, and_self]
      refine ⟨fun h => ?_, fun h => ?_⟩
      · simp (disch := first | (simp only [dd, dr]; done) | omega) only [W_111, I_lt, I_le, I_inj, inB_I, tc_I, Int.toNat_natCast, fkt, rf1, rf0, cq, Nat.reduceAdd, Nat.reduceEqDiff, Int.reduceToNat, eq_self, true_and, and_true, true_or, or_true, bI_0, bI_1, mm, rAm, mF_sF, mR_sR, false_and, and_false, if_false, if_true, false_or, or_false, not_true_eq_false, not_false_eq_true, and_self]
        exact hQ2 (by omega)
      · simp (disch := first | (simp only [dd, dr]; done) | omega) only [W_111, I_lt, I_le, I_inj, inB_I, tc_I, Int.toNat_natCast, fkt, rf1, rf0, cq, Nat.reduceAdd, Nat.reduceEqDiff, Int.reduceToNat, eq_self, true_and, and_true, true_or, or_true, bI_0, bI_1, mm, rAm, mF_sF, mR_sR, false_and, and_false, if_false, if_true, false_or, or_false, not_true_eq_false, not_false_eq_true, and_self]
        exact hQ1 (k + 1) x q l (by omega) hx hq
    · obtain ⟨q', a1, ⟨a2, a3, a4, a5, a6⟩, _⟩ := R.2.2.2.1 k x hH
      have hq2 : A.2 x = some q := hq
      rw [a1] at hq2
      obtain rfl := Option.some.inj hq2
      obtain ⟨c, cs, l', c1, c2⟩ := S.head W.2.1 hx
      obtain ⟨qc, hqc⟩ := R.row SWT (show c ∈ tW T k by rw [c2]; exact List.mem_cons_self ..)
      have k6 := a2.1
      have k39 := a2.2.1
      have kx := a2.2.2
      have hc0 := a5 0 qc (by rw [c1, List.map_cons, nd_of hqc]; rfl)
      simp (disch := first | (simp only [dd, dr]; done) | omega) only [W_111, k6, k39, kx, hc0, I_lt, I_le, I_inj, inB_I, tc_I, Int.toNat_natCast, fkt, rf1, rf0, cq, Nat.reduceAdd, Nat.reduceEqDiff, Int.reduceToNat, eq_self, true_and, and_true, true_or, or_true, bI_0, bI_1, mm, rAm, mF_sF, mR_sR, false_and, and_false, if_false, if_true, false_or, or_false, not_true_eq_false, not_false_eq_true, and_self]
      refine ⟨fun h' => absurd h' (by decide), fun h' => ?_⟩
      simp (disch := first | (simp only [dd, dr]; done) | omega) only [W_111, k6, k39, kx, hc0, I_lt, I_le, I_inj, inB_I, tc_I, Int.toNat_natCast, fkt, rf1, rf0, cq, Nat.reduceAdd, Nat.reduceEqDiff, Int.reduceToNat, eq_self, true_and, and_true, true_or, or_true, bI_0, bI_1, mm, rAm, mF_sF, mR_sR, false_and, and_false, if_false, if_true, false_or, or_false, not_true_eq_false, not_false_eq_true, and_self]
      refine ih c qc l' c2 hqc ?_ (by omega)
      exact .inl (by omega)
theorem n_firstLeaf (hd : 2 ≤ d) (R : RM M t r m A T py none) (W : Wf m sz T) (hQ : ∀ (a q : Nat) (l : List Nat), tW T 0 = a :: l → A.1 a = some q → Q (.returned (some (.ref q))) M) : Wp d 110 0 [some (.ref t)] [] M Q := by
  have k0 := R.1.1.1
  simp (disch := first | (simp only [dd, dr]; done) | omega) only [W_110, k0, I_lt, I_le, I_inj, inB_I, tc_I, Int.toNat_natCast, fkt, rf1, rf0, cq, Nat.reduceAdd, Nat.reduceEqDiff, Int.reduceToNat, eq_self, true_and, and_true, true_or, or_true, bI_0, bI_1, mm, rAm, mF_sF, mR_sR, false_and, and_false, if_false, if_true, false_or, or_false, not_true_eq_false, not_false_eq_true, and_self]
  refine ca_111 (by omega) (n_firstOf (z := 0) (by omega) R W (by omega) (by omega) (fun h a q l hz hl hq => ?_) (fun h => ?_))
  · obtain rfl : h = 0 := by omega
    have k5 := (R.1.kind hq).2.2.2.1 rfl
    simp (disch := first | (simp only [dd, dr]; done) | omega) only [W_110, k5, I_lt, I_le, I_inj, inB_I, tc_I, Int.toNat_natCast, fkt, rf1, rf0, cq, Nat.reduceAdd, Nat.reduceEqDiff, Int.reduceToNat, eq_self, true_and, and_true, true_or, or_true, bI_0, bI_1, mm, rAm, mF_sF, mR_sR, false_and, and_false, if_false, if_true, false_or, or_false, not_true_eq_false, not_false_eq_true, and_self]
    exact hQ a q l hl hq
  · have := W.1.2.2.2.2.2.2.2.1.2.2.1
    omega
/-- the next one in a row -/
theorem nx_ix {l : List Nat} (hn : l.Nodup) {i x : Nat} (h : l[i]? = some x) : nx l x = l[i + 1]? ∧ ix x l = i := by
  have hi := (List.getElem?_eq_some_iff.mp h).1
  have hx := List.mem_of_getElem? h
  have h1 := (ix_at hx).1
  have h2 := (List.getElem?_eq_some_iff.mp h1).1
  have e : ix x l = i := (List.getElem?_inj h2 hn).mp (h1.trans h.symm)
  exact ⟨by unfold nx; rw [e], e⟩
/-- the leaf at a place of the row, and the next -/
theorem RM.lf (R : RM M t r m A T py none) (W : Wf m sz T) {i x : Nat} (h : (tW T 0)[i]? = some x) : ∃ q, A.1 x = some q ∧ LfIs M q (tI T x) py ∧ (∀ k ∈ tI T x, k < 1000000) ∧ mF M 32 q = I (x : Nat) ∧ mR M 31 q = ((tW T 0)[i + 1]?).bind A.1 ∧ ∀ y, (tW T 0)[i + 1]? = some y → ∃ q', A.1 y = some q' := by
  have hm := List.mem_of_getElem? h
  obtain ⟨q, a1, a2, a3⟩ := R.2.2.1 x (W.1.1 0 x hm).2.1
  have a4 := R.2.2.2.2.2.1 0 x q hm a1
  refine ⟨q, a1, a2, a3, (R.1.2.2.1 x q a1).2.2, ?_, fun y hy => ?_⟩
  · rw [a4.2, (nx_ix (W.1.2.1 0) h).1]; rfl
  · obtain ⟨q', b1, _⟩ := R.2.2.1 y (W.1.1 0 y (List.mem_of_getElem? hy)).2.1
    exact ⟨q', b1⟩
/-- the first entry that tells an object: its directory -/
def fpL (X : Ob) (o : Nat) : List Nat → Int
  | [] => -1
  | k :: l => if k / 1024 % 4 = 1 ∧ oE X k = o then ((k / 4096 : Nat) : Int) else fpL X o l
theorem drop_get {l : List Nat} {i x : Nat} (h : l[i]? = some x) : l.drop i = x :: l.drop (i + 1) := by
  obtain ⟨h1, h2⟩ := List.getElem?_eq_some_iff.mp h
  rw [List.drop_eq_getElem_cons h1, h2]
theorem ent_py (O : ∀ k ∈ its T, k / 1024 % 4 = 1 → k % 1024 < 1000) {k : Nat} (hk : k ∈ its T) (h : k / 1024 % 4 = 1) : pyO X k = [oE X k, 0, 0] := by
  have := O k hk h
  unfold pyO
  rw [if_neg (by omega), if_neg (by omega), if_neg (by omega)]
set_option maxHeartbeats 2000000 in
theorem n_parentOf (hd : 3 ≤ d) (C : CX M p m J A T X) (O : OK2 T X) {o : Nat} (ho : o < 256) (hQ : Q (.returned (some (.int (I (fpL X o (its T)))))) M) : Wp d 60 0 [some (.ref p), some (.int (I (o : Nat))), none, none] [] M Q := by
  have k0 := C.1.1.1
  have k9 := C.1.1.2.2.2.2.2.2.2.2.1
  have kt := C.2.1.1.1.1
  have R := C.2.1
  have W := C.2.2.1.1
  simp (disch := first | (simp only [dd, dr]; done) | omega) only [W_60, k0, k9, kt, I_lt, I_le, I_inj, inB_I, tc_I, Int.toNat_natCast, fkt, rf1, rf0, cq, Nat.reduceAdd, Nat.reduceEqDiff, Int.reduceToNat, eq_self, true_and, and_true, true_or, or_true, bI_0, bI_1, mm, rAm, mF_sF, mR_sR, false_and, and_false, if_false, if_true, false_or, or_false, not_true_eq_false, not_false_eq_true, and_self]
  refine ca_110 (by omega) (n_firstLeaf (by omega) R W (fun a q l hl hq => ?_))
  simp (disch := first | (simp only [dd, dr]; done) | omega) only [W_60, I_lt, I_le, I_inj, inB_I, tc_I, Int.toNat_natCast, fkt, rf1, rf0, cq, Nat.reduceAdd, Nat.reduceEqDiff, Int.reduceToNat, eq_self, true_and, and_true, true_or, or_true, bI_0, bI_1, mm, rAm, mF_sF, mR_sR, false_and, and_false, if_false, if_true, false_or, or_false, not_true_eq_false, not_false_eq_true, and_self]
  suffices H : ∀ n i q x, i + n = (tW T 0).length → (tW T 0)[i]? = some x → A.1 x = some q → fpL X o (its T) = fpL X o (((tW T 0).drop i).flatMap (tI T)) → Wp d 60 8 [some (.ref p), some (.int (I (o : Nat))), some (.ref q), none] [] M Q ∧ ∀ v, Wp d 60 8 [some (.ref p), some (.int (I (o : Nat))), some (.ref q), some (.int v)] [] M Q by
    exact (H (tW T 0).length 0 q a (by omega) (by rw [hl]; rfl) hq rfl).1
  intro n
  induction n with
  | zero => intro i q x hi hx; have := (List.getElem?_eq_some_iff.mp hx).1; omega
  | succ n ih =>
    intro i q x hi hx hq hf
    obtain ⟨q', a1, hL, a3, a4, a5, a6⟩ := R.lf W hx
    rw [hq] at a1
    obtain rfl := Option.some.inj a1
    rw [drop_get hx, List.flatMap_cons] at hf
    have hm : ∀ k ∈ tI T x, k ∈ its T := fun k hk => W.mem hk
    have h5 := hL.1.1
    have h36 := hL.1.2.1
    have h35 := hL.1.2.2.2.1
    have hx1 := hL.1.2.2.2.2.1
    have hx3 := hL.1.2.2.2.2.2.2
    have e37 := hL.2.1
    have h24 := hL.2.2.2.1
    have H2 : ∀ n2 k, k + n2 = (tI T x).length → fpL X o (its T) = fpL X o ((tI T x).drop k ++ ((tW T 0).drop (i + 1)).flatMap (tI T)) → Wp d 60 14 [some (.ref p), some (.int (I (o : Nat))), some (.ref q), some (.int (I (k : Nat)))] [] M Q := by
      intro n2
      induction n2 with
      | zero =>
        intro k hk hf2
        rw [List.drop_eq_nil_of_le (by omega), List.nil_append] at hf2
        simp (disch := first | (simp only [dd, dr]; done) | omega) only [w_60_14, W_60, h5, e37, I_lt, I_le, I_inj, inB_I, tc_I, Int.toNat_natCast, fkt, rf1, rf0, cq, Nat.reduceAdd, Nat.reduceEqDiff, Int.reduceToNat, eq_self, true_and, and_true, true_or, or_true, bI_0, bI_1, mm, rAm, mF_sF, mR_sR, false_and, and_false, if_false, if_true, false_or, or_false, not_true_eq_false, not_false_eq_true, and_self]
        refine ⟨fun _ => ?_, (fun h => by first | exact False.elim h | exact absurd trivial h | (exfalso; omega) | exact absurd rfl h | cases h)⟩
        simp (disch := first | (simp only [dd, dr]; done) | omega) only [W_60, h5, a5, I_lt, I_le, I_inj, inB_I, tc_I, Int.toNat_natCast, fkt, rf1, rf0, cq, Nat.reduceAdd, Nat.reduceEqDiff, Int.reduceToNat, eq_self, true_and, and_true, true_or, or_true, bI_0, bI_1, mm, rAm, mF_sF, mR_sR, false_and, and_false, if_false, if_true, false_or, or_false, not_true_eq_false, not_false_eq_true, and_self]
        cases hy : (tW T 0)[i + 1]? with
        | none =>
          simp only [Option.bind_none]
          rw [List.drop_eq_nil_of_le (List.getElem?_eq_none_iff.mp hy)] at hf2
          rw [hf2] at hQ
          simp (disch := first | (simp only [dd, dr]; done) | omega) only [w_60_8, W_60, I_lt, I_le, I_inj, inB_I, tc_I, Int.toNat_natCast, fkt, rf1, rf0, cq, Nat.reduceAdd, Nat.reduceEqDiff, Int.reduceToNat, eq_self, true_and, and_true, true_or, or_true, bI_0, bI_1, mm, rAm, mF_sF, mR_sR, false_and, and_false, if_false, if_true, false_or, or_false, not_true_eq_false, not_false_eq_true, and_self]
          exact hQ
        | some y =>
          obtain ⟨qy, hqy⟩ := a6 y hy
          have k5y := (R.1.2.2.1 y qy hqy).2.1.1
          simp only [Option.bind_some, hqy]
          simp (disch := first | (simp only [dd, dr]; done) | omega) only [W_60, k5y, I_lt, I_le, I_inj, inB_I, tc_I, Int.toNat_natCast, fkt, rf1, rf0, cq, Nat.reduceAdd, Nat.reduceEqDiff, Int.reduceToNat, eq_self, true_and, and_true, true_or, or_true, bI_0, bI_1, mm, rAm, mF_sF, mR_sR, false_and, and_false, if_false, if_true, false_or, or_false, not_true_eq_false, not_false_eq_true, and_self]
          exact (ih (i + 1) qy y (by omega) hy hqy hf2).2 _
      | succ n2 ih2 =>
        intro k hk hf2
        have hkx : (tI T x)[k]? = some (tI T x)[k] := List.getElem?_eq_getElem (by omega)
        generalize (tI T x)[k] = key at hkx
        have hkm := hm key (List.mem_of_getElem? hkx)
        have hk1 := a3 key (List.mem_of_getElem? hkx)
        rw [drop_get hkx, List.cons_append, fpL] at hf2
        have eK := (hL.2.2.2.2.2.1 k key hkx).1
        simp (disch := first | (simp only [dd, dr]; done) | omega) only [w_60_14, W_60, h5, e37, I_lt, I_le, I_inj, inB_I, tc_I, Int.toNat_natCast, fkt, rf1, rf0, cq, Nat.reduceAdd, Nat.reduceEqDiff, Int.reduceToNat, eq_self, true_and, and_true, true_or, or_true, bI_0, bI_1, mm, rAm, mF_sF, mR_sR, false_and, and_false, if_false, if_true, false_or, or_false, not_true_eq_false, not_false_eq_true, and_self]
        refine ⟨(fun h => by first | exact False.elim h | exact absurd trivial h | (exfalso; omega) | exact absurd rfl h | cases h), fun _ => ?_⟩
        simp (disch := first | (simp only [dd, dr]; done) | omega) only [W_60, h5, h36, hx1, eK, I_lt, I_le, I_inj, inB_I, tc_I, Int.toNat_natCast, fkt, rf1, rf0, cq, Nat.reduceAdd, Nat.reduceEqDiff, Int.reduceToNat, eq_self, true_and, and_true, true_or, or_true, bI_0, bI_1, mm, rAm, mF_sF, mR_sR, false_and, and_false, if_false, if_true, false_or, or_false, not_true_eq_false, not_false_eq_true, and_self]
        refine ca_61 (by omega) (c_kindOf (by omega) (by omega) ?_)
        simp (disch := first | (simp only [dd, dr]; done) | omega) only [W_60, I_lt, I_le, I_inj, inB_I, tc_I, Int.toNat_natCast, fkt, rf1, rf0, cq, Nat.reduceAdd, Nat.reduceEqDiff, Int.reduceToNat, eq_self, true_and, and_true, true_or, or_true, bI_0, bI_1, mm, rAm, mF_sF, mR_sR, false_and, and_false, if_false, if_true, false_or, or_false, not_true_eq_false, not_false_eq_true, and_self]
        refine ⟨fun h => ?_, fun h => ?_⟩
        · rw [if_neg (fun hh => by have := hh.1; omega)] at hf2
          simp (disch := first | (simp only [dd, dr]; done) | omega) only [W_60, I_lt, I_le, I_inj, inB_I, tc_I, Int.toNat_natCast, fkt, rf1, rf0, cq, Nat.reduceAdd, Nat.reduceEqDiff, Int.reduceToNat, eq_self, true_and, and_true, true_or, or_true, bI_0, bI_1, mm, rAm, mF_sF, mR_sR, false_and, and_false, if_false, if_true, false_or, or_false, not_true_eq_false, not_false_eq_true, and_self]
          rw [show ((k : Int) + 1) = ((k + 1 : Nat) : Int) by omega]
          exact ih2 (k + 1) (by omega) hf2
        · have hkind : key / 1024 % 4 = 1 := by omega
          obtain ⟨b1, b2⟩ := hL.body hkx
          have hp1 : pyO X key = [oE X key, 0, 0] ∨ (key % 4096 = 0 ∨ key % 4096 = 2048 ∨ key % 4096 = 3072) := by
            unfold pyO
            by_cases c1 : key % 4096 = 0
            · exact .inr (.inl c1)
            · by_cases c2 : key % 4096 = 2048
              · exact .inr (.inr (.inl c2))
              · by_cases c3 : key % 4096 = 3072
                · exact .inr (.inr (.inr c3))
                · rw [if_neg c1, if_neg c2, if_neg c3]; exact .inl rfl
          have hp2 : pyO X key = [oE X key, 0, 0] := by
            rcases hp1 with h | h
            · exact h
            · omega
          rw [hp2] at b1 b2
          have h3 : [oE X key, 0, 0].length = 3 := rfl
          rw [h3] at b1
          have b3 := b2 0 (oE X key) rfl
          rw [Nat.add_zero] at b3
          have hE := O.2 key hkm
          simp (disch := first | (simp only [dd, dr]; done) | omega) only [W_60, h5, h35, I_lt, I_le, I_inj, inB_I, tc_I, Int.toNat_natCast, fkt, rf1, rf0, cq, Nat.reduceAdd, Nat.reduceEqDiff, Int.reduceToNat, eq_self, true_and, and_true, true_or, or_true, bI_0, bI_1, mm, rAm, mF_sF, mR_sR, false_and, and_false, if_false, if_true, false_or, or_false, not_true_eq_false, not_false_eq_true, and_self]
          refine ca_126 (by omega) (l_from hL (by omega) ?_)
          simp (disch := first | (simp only [dd, dr]; done) | omega) only [W_60, I_lt, I_le, I_inj, inB_I, tc_I, Int.toNat_natCast, fkt, rf1, rf0, cq, Nat.reduceAdd, Nat.reduceEqDiff, Int.reduceToNat, eq_self, true_and, and_true, true_or, or_true, bI_0, bI_1, mm, rAm, mF_sF, mR_sR, false_and, and_false, if_false, if_true, false_or, or_false, not_true_eq_false, not_false_eq_true, and_self]
          refine cr_36 (by omega) (c_byteOf (n := 240) (z := ((oE X key : Nat) : Int)) hx3 (by omega) (by omega) (by omega) (by rw [Int.toNat_natCast]; exact b3) ?_)
          rw [show ((oE X key : Nat) : Int) % 256 = ((oE X key : Nat) : Int) by omega]
          simp (disch := first | (simp only [dd, dr]; done) | omega) only [W_60, I_lt, I_le, I_inj, inB_I, tc_I, Int.toNat_natCast, fkt, rf1, rf0, cq, Nat.reduceAdd, Nat.reduceEqDiff, Int.reduceToNat, eq_self, true_and, and_true, true_or, or_true, bI_0, bI_1, mm, rAm, mF_sF, mR_sR, false_and, and_false, if_false, if_true, false_or, or_false, not_true_eq_false, not_false_eq_true, and_self]
          refine ⟨fun h' => ?_, fun h' => ?_⟩
          · rw [if_neg (fun hh => by have := hh.2; omega)] at hf2
            simp (disch := first | (simp only [dd, dr]; done) | omega) only [W_60, I_lt, I_le, I_inj, inB_I, tc_I, Int.toNat_natCast, fkt, rf1, rf0, cq, Nat.reduceAdd, Nat.reduceEqDiff, Int.reduceToNat, eq_self, true_and, and_true, true_or, or_true, bI_0, bI_1, mm, rAm, mF_sF, mR_sR, false_and, and_false, if_false, if_true, false_or, or_false, not_true_eq_false, not_false_eq_true, and_self]
            rw [show ((k : Int) + 1) = ((k + 1 : Nat) : Int) by omega]
            exact ih2 (k + 1) (by omega) hf2
          · rw [if_pos ⟨hkind, by omega⟩] at hf2
            rw [hf2] at hQ
            simp (disch := first | (simp only [dd, dr]; done) | omega) only [W_60, h5, h36, hx1, eK, I_lt, I_le, I_inj, inB_I, tc_I, Int.toNat_natCast, fkt, rf1, rf0, cq, Nat.reduceAdd, Nat.reduceEqDiff, Int.reduceToNat, eq_self, true_and, and_true, true_or, or_true, bI_0, bI_1, mm, rAm, mF_sF, mR_sR, false_and, and_false, if_false, if_true, false_or, or_false, not_true_eq_false, not_false_eq_true, and_self]
            refine ca_62 (by omega) (c_objectOf (by omega) (by omega) ?_)
            simp (disch := first | (simp only [dd, dr]; done) | omega) only [W_60, I_lt, I_le, I_inj, inB_I, tc_I, Int.toNat_natCast, fkt, rf1, rf0, cq, Nat.reduceAdd, Nat.reduceEqDiff, Int.reduceToNat, eq_self, true_and, and_true, true_or, or_true, bI_0, bI_1, mm, rAm, mF_sF, mR_sR, false_and, and_false, if_false, if_true, false_or, or_false, not_true_eq_false, not_false_eq_true, and_self]
            rw [show (key : Int) / 1024 / 4 = ((key / 4096 : Nat) : Int) by omega]
            exact hQ
    have H3 := H2 (tI T x).length 0 (by omega) (by rw [List.drop_zero]; exact hf)
    refine ⟨?_, fun v => ?_⟩
    · simp (disch := first | (simp only [dd, dr]; done) | omega) only [w_60_8, W_60, I_lt, I_le, I_inj, inB_I, tc_I, Int.toNat_natCast, fkt, rf1, rf0, cq, Nat.reduceAdd, Nat.reduceEqDiff, Int.reduceToNat, eq_self, true_and, and_true, true_or, or_true, bI_0, bI_1, mm, rAm, mF_sF, mR_sR, false_and, and_false, if_false, if_true, false_or, or_false, not_true_eq_false, not_false_eq_true, and_self]
      exact H3
    · simp (disch := first | (simp only [dd, dr]; done) | omega) only [w_60_8, W_60, I_lt, I_le, I_inj, inB_I, tc_I, Int.toNat_natCast, fkt, rf1, rf0, cq, Nat.reduceAdd, Nat.reduceEqDiff, Int.reduceToNat, eq_self, true_and, and_true, true_or, or_true, bI_0, bI_1, mm, rAm, mF_sF, mR_sR, false_and, and_false, if_false, if_true, false_or, or_false, not_true_eq_false, not_false_eq_true, and_self]
      exact H3
end Wlk
