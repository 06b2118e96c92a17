/-! ===== THE COMPONENT: leafFor, find ===== -/
theorem Wf.ful {m : Nat} {sz : Nat → Nat} {T : Tr} (W : Wf m sz T) (hne : ∀ x ∈ tW T 0, tI T x ≠ []) (hk : ∀ k ∈ its T, k < 1000000) : Ful T := by
  obtain ⟨S, C, L, hs, hz, hm⟩ := W
  have hC : ∀ h b, tH T b = h + 2 → tC T b ≠ [] := by
    intro h b hb e
    have := (C h b (S.2.2.1 (h + 1) b hb) (by simp)).1
    rw [e] at this; simp at this
  refine ⟨hC, fun b hb => hne b (S.2.2.1 0 b hb), ?_⟩
  intro h
  induction h with
  | zero =>
    intro b hb
    have hbm := S.2.2.1 0 b hb
    rw [fkey]
    cases hf : tI T b with
    | nil => exact absurd hf (hne b hbm)
    | cons a l => exact hk a (List.mem_flatMap.mpr ⟨b, hbm, by rw [hf]; exact List.mem_cons_self ..⟩)
  | succ h ih =>
    intro b hb
    rw [fkey]
    have h1 := hC h b hb
    cases hf : tC T b with
    | nil => exact absurd hf h1
    | cons a l => exact ih a (S.sw.2.2.1 h b a hb (by rw [hf]; exact List.mem_cons_self ..)).1
theorem Wf.ne {m : Nat} {sz : Nat → Nat} {T : Tr} (W : Wf m sz T) (h2 : tN T ≠ 1) : ∀ x ∈ tW T 0, tI T x ≠ [] := by
  intro x hx e
  have hrow := (W.2.2.1 x hx (by simp)).2 e
  have h1 := W.1.row0 W.2.1 hx
  have hr := W.1.rootIff (h := 0) (by have := W.1.2.2.2.2.2.2.2.1.2.2.1; omega) hx
  have : ¬ 1 < (tW T 0).length := by rw [hrow]; simp
  have hx' : ¬ tR T ≠ x := fun h => this (h1.1.mpr h)
  have := hr.2.mp (Decidable.not_not.mp hx').symm
  omega
section CL
variable {d t r m : Nat} {M : Mem} {A : Ad} {T : Tr} {py : Nat → List Nat} {Q : Outcome → Mem → Prop} {sz : Nat → Nat}
theorem n_leafFor (R : RM M t r m A T py none) (W : Wf m sz T) (hk : ∀ k ∈ its T, k < 1000000) {key : Nat} (hkey : key < 1000000) (hd : 12 ≤ d) (hQ : ∀ q, A.1 (lfT T key) = some q → Q (.returned (some (.ref q))) M) : Wp d 99 0 [some (.ref t), some (.int (I (key : Nat))), none] [] M Q := by
  have S := W.1.sw
  have t0 := R.1.1.1
  have hN := S.2.2.2.2.2.2
  have hNr : tH T (tR T) = (tN T - 1) + 1 := by have h1 := S.2.2.2.2.1; omega
  obtain ⟨qr, hqr⟩ := R.node hNr
  have r18 : mR M 18 t = some qr := by rw [R.2.2.2.2.2.2]; exact hqr
  have leaf : ∀ x q, tH T x = 1 → na A 0 x = some q → lfT T key = x → Wp d 99 5 [some (.ref t), some (.int (I (key : Nat))), some (.ref q)] [] M Q := by
    intro x q hx hq he
    have k5 := (R.1.kind hq).2.2.2.1 rfl
    have hq' : A.1 (lfT T key) = some q := by rw [he]; unfold na at hq; rw [if_pos rfl] at hq; exact hq
    simp (disch := first | (simp only [dd, dr]; done) | omega) only [w_99_5, W_99, k5, I_lt, I_le, I_inj, inB_I, tc_I, Int.toNat_natCast, fkt, rf1, rf0, cq, Nat.reduceAdd, Nat.reduceEqDiff, Int.reduceToNat, eq_self, true_and, and_true, true_or, or_true, bI_0, bI_1, mm, rAm, mF_sF, mR_sR, false_and, and_false, if_false, if_true, false_or, or_false, not_true_eq_false, not_false_eq_true, and_self]
    refine ⟨fun _ => ?_, (fun h => by first | exact False.elim h | exact absurd trivial h | (exfalso; omega))⟩
    simp (disch := first | (simp only [dd, dr]; done) | omega) only [W_99, k5, I_lt, I_le, I_inj, inB_I, tc_I, Int.toNat_natCast, fkt, rf1, rf0, cq, Nat.reduceAdd, Nat.reduceEqDiff, Int.reduceToNat, eq_self, true_and, and_true, true_or, or_true, bI_0, bI_1, mm, rAm, mF_sF, mR_sR, false_and, and_false, if_false, if_true, false_or, or_false, not_true_eq_false, not_false_eq_true, and_self]
    exact hQ q hq'
  simp (disch := first | (simp only [dd, dr]; done) | omega) only [W_99, t0, r18, I_lt, I_le, I_inj, inB_I, tc_I, Int.toNat_natCast, fkt, rf1, rf0, cq, Nat.reduceAdd, Nat.reduceEqDiff, Int.reduceToNat, eq_self, true_and, and_true, true_or, or_true, bI_0, bI_1, mm, rAm, mF_sF, mR_sR, false_and, and_false, if_false, if_true, false_or, or_false, not_true_eq_false, not_false_eq_true, and_self]
  by_cases h1 : tN T = 1
  · rw [h1] at hqr hNr
    refine leaf (tR T) qr hNr hqr ?_
    have hrow := W.1.2.2.2.2.2.2.2.1.1
    rw [h1] at hrow
    have hrow : tW T 0 = [tR T] := hrow
    unfold lfT
    rw [hrow]
    simp only [lfk, List.headD_cons]
    cases (tI T (tR T)).head? with
    | none => rfl
    | some k => simp only []; split <;> rfl
  · have hne := W.ne h1
    have F := W.ful hne hk
    have h7 := W.1.tN7 W.2.1
    suffices H : ∀ h x q, h < tN T → On T key h x → na A h x = some q → Wp d 99 5 [some (.ref t), some (.int (I (key : Nat))), some (.ref q)] [] M Q from H (tN T - 1) (tR T) qr (by omega) (on_root W.1 key) hqr
    intro h
    induction h with
    | zero =>
      intro x q hh O hq
      have hx : tH T x = 1 := by
        obtain ⟨A', B', e', _⟩ := O
        exact (S.1 0 x (by rw [e']; simp)).1
      exact leaf x q hx hq (on_leaf W hne O)
    | succ h ih =>
      intro x q hh O hq
      have hx : tH T x = h + 2 := by
        obtain ⟨A', B', e', _⟩ := O
        exact (S.1 (h + 1) x (by rw [e']; simp)).1
      have k6 := (R.1.kind hq).2.2.2.2 (by omega)
      have hq2 : A.2 x = some q := by unfold na at hq; rw [if_neg (by omega)] at hq; exact hq
      simp (disch := first | (simp only [dd, dr]; done) | omega) only [w_99_5, W_99, k6, I_lt, I_le, I_inj, inB_I, tc_I, Int.toNat_natCast, fkt, rf1, rf0, cq, Nat.reduceAdd, Nat.reduceEqDiff, Int.reduceToNat, eq_self, true_and, and_true, true_or, or_true, bI_0, bI_1, mm, rAm, mF_sF, mR_sR, false_and, and_false, if_false, if_true, false_or, or_false, not_true_eq_false, not_false_eq_true, and_self]
      refine ⟨(fun h => by first | exact False.elim h | exact absurd trivial h | (exfalso; omega)), fun _ => ?_⟩
      simp (disch := first | (simp only [dd, dr]; done) | omega) only [W_99, k6, I_lt, I_le, I_inj, inB_I, tc_I, Int.toNat_natCast, fkt, rf1, rf0, cq, Nat.reduceAdd, Nat.reduceEqDiff, Int.reduceToNat, eq_self, true_and, and_true, true_or, or_true, bI_0, bI_1, mm, rAm, mF_sF, mR_sR, false_and, and_false, if_false, if_true, false_or, or_false, not_true_eq_false, not_false_eq_true, and_self]
      refine ca_137 (by omega) (n_childFor R S F (by omega) hx hq2 hkey (fun C1 c C2 qc e1 e2 e3 hqc => ?_))
      simp (disch := first | (simp only [dd, dr]; done) | omega) only [W_99, I_lt, I_le, I_inj, inB_I, tc_I, Int.toNat_natCast, fkt, rf1, rf0, cq, Nat.reduceAdd, Nat.reduceEqDiff, Int.reduceToNat, eq_self, true_and, and_true, true_or, or_true, bI_0, bI_1, mm, rAm, mF_sF, mR_sR, false_and, and_false, if_false, if_true, false_or, or_false, not_true_eq_false, not_false_eq_true, and_self]
      exact ih c qc (by omega) (on_down W hne hh O e1 e2 e3) hqc
theorem RM.plc {e : Option Nat} (R : RM M t r m A T py e) (v : Int32) : RM (sF M 16 t v) t r m A T py e := by
  obtain ⟨⟨k1, k2, k3, k4, k5⟩, ⟨u1, u2, u3, u4, u5, u6⟩, r3, r4, r5, r6, r7⟩ := R
  have oF : ∀ f a, f ≠ 16 → mF (sF M 16 t v) f a = mF M f a := fun f a h => by rw [mF_sF, if_neg (fun hh => h hh.1)]
  refine ⟨⟨k1, k2, fun b q hq => ?_, fun b q hq => ?_, k5⟩, ⟨u1, by rw [oF _ _ (by omega)]; exact u2, u3, u4, u5, u6⟩, fun b hb => ?_, fun h b hb => ?_, r5, r6, r7⟩
  · obtain ⟨a1, a2, a3⟩ := k3 b q hq
    exact ⟨a1, a2, by rw [oF _ _ (by omega)]; exact a3⟩
  · obtain ⟨a1, a2, a3⟩ := k4 b q hq
    exact ⟨a1, a2, by rw [oF _ _ (by omega)]; exact a3⟩
  · obtain ⟨q, g1, ⟨l1, l2, l3, l4⟩, g3⟩ := r3 b hb
    exact ⟨q, g1, ⟨l1, by rw [oF _ _ (by omega)]; exact l2, by rw [oF _ _ (by omega)]; exact l3, l4⟩, g3⟩
  · obtain ⟨q, g1, ⟨l1, l2, l3⟩, g3⟩ := r4 h b hb
    exact ⟨q, g1, ⟨l1, by rw [oF _ _ (by omega)]; exact l2, l3⟩, by rw [oF _ _ (by omega)]; exact g3⟩
theorem RM.lfr {e : Option Nat} (R : RM M t r m A T py e) (v : Option Nat) : RM (sR M 14 t v) t r m A T py e := by
  refine R.lk (Lk.sR M 14 t _) (fun f a hf => by rw [hf.1]; rfl) rfl rfl rfl rfl (fun h' b q' h1 h2 h3 => ?_) (fun h' b q' h1 h2 => ?_) ?_
  · rw [mR_sR, if_neg (by omega)]; exact R.2.2.2.2.1 h' b q' h1 h2 h3
  · rw [mR_sR, mR_sR, if_neg (by omega), if_neg (by omega)]; exact R.2.2.2.2.2.1 h' b q' h1 h2
  · rw [mR_sR, if_neg (by omega)]; exact R.2.2.2.2.2.2
theorem n_find (R : RM M t r m A T py none) (W : Wf m sz T) (hk : ∀ k ∈ its T, k < 1000000) {key : Nat} (hkey : key < 1000000) (hd : 13 ≤ d) (hQ : ∀ M' q, A.1 (lfT T key) = some q → M' = sF (sR M 14 t (some q)) 16 t (I (pl key (tI T (lfT T key)) : Nat)) → RM M' t r m A T py none → Fr t r A A 0 M M' → mR M' 14 t = some q → mF M' 16 t = I (pl key (tI T (lfT T key)) : Nat) → Q (.returned (some (.int (I (bI (decide (key ∈ its T))))))) M') : Wp d 98 0 [some (.ref t), some (.int (I (key : Nat)))] [] M Q := by
  have t0 := R.1.1.1
  simp (disch := first | (simp only [dd, dr]; done) | omega) only [W_98, t0, I_lt, I_le, I_inj, inB_I, tc_I, Int.toNat_natCast, fkt, rf1, rf0, cq, Nat.reduceAdd, Nat.reduceEqDiff, Int.reduceToNat, eq_self, true_and, and_true, true_or, or_true, bI_0, bI_1, mm, rAm, mF_sF, mR_sR, false_and, and_false, if_false, if_true, false_or, or_false, not_true_eq_false, not_false_eq_true, and_self]
  refine ca_99 (by omega) (n_leafFor R W hk hkey (by omega) (fun q hq => ?_))
  obtain ⟨hx, _, _, _, _, _, _, e5, _, _⟩ := lf_spec W key
  have hmem := lf_mem W key
  have hxH := (W.1.1 0 _ hx).2.1
  generalize lfT T key = x at *
  have R1 := R.lfr (some q)
  obtain ⟨q', g1, Lx, bx⟩ := R1.2.2.1 x hxH
  rw [hq] at g1; cases g1
  have k5 := Lx.1.1
  have hp1000 : pl key (tI T x) ≤ 1000 := by have := pl_le key (tI T x); have := Lx.2.2.2.1; omega
  have e14 : mR (sR M 14 t (some q)) 14 t = some q := by rw [mR_sR, if_pos ⟨rfl, rfl⟩]
  simp (disch := first | (simp only [dd, dr]; done) | omega) only [W_98, t0, e14, k5, I_lt, I_le, I_inj, inB_I, tc_I, Int.toNat_natCast, fkt, rf1, rf0, cq, Nat.reduceAdd, Nat.reduceEqDiff, Int.reduceToNat, eq_self, true_and, and_true, true_or, or_true, bI_0, bI_1, mm, rAm, mF_sF, mR_sR, false_and, and_false, if_false, if_true, false_or, or_false, not_true_eq_false, not_false_eq_true, and_self]
  refine ca_123 (by omega) (l_place Lx bx hkey ?_)
  have R2 := R1.plc (I (pl key (tI T x) : Nat))
  obtain ⟨q', g1, Lx2, bx2⟩ := R2.2.2.1 x hxH
  rw [hq] at g1; cases g1
  have k52 := Lx2.1.1
  have e142 : mR (sF (sR M 14 t (some q)) 16 t (I (pl key (tI T x) : Nat))) 14 t = some q := e14
  have e16 : mF (sF (sR M 14 t (some q)) 16 t (I (pl key (tI T x) : Nat))) 16 t = I (pl key (tI T x) : Nat) := by rw [mF_sF, if_pos ⟨rfl, rfl⟩]
  simp (disch := first | (simp only [dd, dr]; done) | omega) only [W_98, t0, e14, e142, e16, k5, I_lt, I_le, I_inj, inB_I, tc_I, Int.toNat_natCast, fkt, rf1, rf0, cq, Nat.reduceAdd, Nat.reduceEqDiff, Int.reduceToNat, eq_self, true_and, and_true, true_or, or_true, bI_0, bI_1, mm, rAm, mF_sF, mR_sR, false_and, and_false, if_false, if_true, false_or, or_false, not_true_eq_false, not_false_eq_true, and_self]
  refine ca_124 (by omega) (l_has Lx2 bx2 hp1000 hkey ?_)
  simp (disch := first | (simp only [dd, dr]; done) | omega) only [W_98, I_lt, I_le, I_inj, inB_I, tc_I, Int.toNat_natCast, fkt, rf1, rf0, cq, Nat.reduceAdd, Nat.reduceEqDiff, Int.reduceToNat, eq_self, true_and, and_true, true_or, or_true, bI_0, bI_1, mm, rAm, mF_sF, mR_sR, false_and, and_false, if_false, if_true, false_or, or_false, not_true_eq_false, not_false_eq_true, and_self]
  have hd' : decide ((tI T x)[pl key (tI T x)]? = some key) = decide (key ∈ its T) := decide_eq_decide.mpr ((pl_has e5).trans hmem.symm)
  rw [hd']
  refine hQ _ q hq rfl R2 ?_ e142 e16
  have F1 : Fr t r A A 0 M (sR M 14 t (some q)) := Fr.lk (Lk.sR M 14 t _) (fun f a hf => by rw [hf.2]; exact .inl ⟨Nat.le_refl _, by omega⟩)
  have F2 : Fr t r A A 0 (sR M 14 t (some q)) (sF (sR M 14 t (some q)) 16 t (I (pl key (tI T x) : Nat))) := Fr.step (fun _ => rfl) rfl rfl (fun a ha => ⟨fun f => by rw [mF_sF, if_neg (fun h => ha (.inl ⟨by omega, by omega⟩))], fun _ => rfl, fun _ => rfl, fun _ => rfl, fun _ => rfl⟩)
  exact F1.trans F2
end CL
