/-! ===== THE COMPONENT: the tree is laid into rows ===== -/
def sub (T : Tr) : Nat → Nat → List Nat
  | 0, x => [x]
  | h + 1, x => x :: (tC T x).flatMap (sub T h)
def rowN (T : Tr) (py : Nat → List Nat) (b i : Nat) : Nat := if tH T b = 1 then lrw (tI T b) py i else irw (tH T b - 2) (tC T b) (fkey T (tH T b - 2)) i
/-- rows by blocks, in an array of rows -/
def Rows (M : Mem) (a : Nat) (f : Nat → Nat) : Prop := kX M a = (4, 96) ∧ (∀ b, b < 96 → mQ M a b = some (f b) ∧ kX M (f b) = (1, 129)) ∧ ∀ b b', b < 96 → b' < 96 → f b = f b' → b = b'
theorem Rows.ro {M M' : Mem} {a : Nat} {f : Nat → Nat} (h : Rows M a f) (F : Ro M M') : Rows M' a f := by
  have g := F.f1
  exact ⟨by rw [g.2.1]; exact h.1, fun b hb => by rw [g.2.2.2.2.1, g.2.1]; exact h.2.1 b hb, h.2.2⟩
section CT
variable {t r m : Nat} {A : Ad} {T : Tr} {py : Nat → List Nat} {e : Option Nat} {a : Nat} {f : Nat → Nat}
set_option maxHeartbeats 8000000 in
theorem n_lay (S : SW T) (F : Ful T) (hLf : ∀ b, tH T b = 1 → us py (tI T b) ≤ 120 ∧ ∀ k ∈ tI T b, (py k).length ≤ 40) (hch : ∀ h b, tH T b = h + 2 → b < 96 ∧ ∀ c ∈ tC T b, c < 96) : ∀ (h d x q : Nat) (M : Mem) (Q : Outcome → Mem → Prop), 2 * h + 8 ≤ d → h < 100 → RM M t r m A T py e → Rows M a f → tH T x = h + 1 → na A h x = some q → (∀ M', Ro M M' → (∀ b, b ∈ sub T h x → b < 96 ∧ Rw M' (f b) (rowN T py b)) → (∀ z i, (∀ b, b ∈ sub T h x → z ≠ f b) → mA M' z i = mA M z i) → Q (.returned none) M') →
    Wp d 107 0 [some (.ref t), some (.ref q), some (.ref a), none, none] [] M Q := by
  intro h
  induction h with
  | zero =>
    intro d x q M Q hd hh R W hx hq hQ
    obtain ⟨hx96, kk, e32, k5, _⟩ := R.1.kind hq
    have k5 := k5 rfl
    have hqx : A.1 x = some q := by unfold na at hq; rw [if_pos rfl] at hq; exact hq
    obtain ⟨q', g1, Lx, bx⟩ := R.2.2.1 x hx
    rw [hqx] at g1; cases g1
    obtain ⟨eQ, kX⟩ := W.2.1 x hx96
    have W1 := W.1
    simp (disch := first | (simp only [dd, dr]; done) | omega) only [W_107, k5, e32, W1, eQ, I_lt, I_le, I_inj, inB_I, tc_I, Int.toNat_natCast, fkt, rf1, rf0, cq, Nat.reduceAdd, Nat.reduceEqDiff, Int.reduceToNat, eq_self, true_and, and_true, true_or, or_true, bI_0, bI_1, mm, rAm, mF_sF, mR_sR, false_and, and_false, if_false, if_true, false_or, or_false, not_true_eq_false, not_false_eq_true, and_self]
    refine cr_134 (by omega) (c_layL (by omega) Lx (hLf x hx).1 bx (hLf x hx).2 kX (fun g hg => ?_))
    simp (disch := first | (simp only [dd, dr]; done) | omega) only [W_107, k5, I_lt, I_le, I_inj, inB_I, tc_I, Int.toNat_natCast, fkt, rf1, rf0, cq, Nat.reduceAdd, Nat.reduceEqDiff, Int.reduceToNat, eq_self, true_and, and_true, true_or, or_true, bI_0, bI_1, mm, rAm, mF_sF, mR_sR, false_and, and_false, if_false, if_true, false_or, or_false, not_true_eq_false, not_false_eq_true, and_self]
    refine ⟨fun _ => ?_, (fun h => by first | exact False.elim h | exact absurd trivial h | (exfalso; omega) | exact absurd rfl h | cases h)⟩
    simp (disch := first | (simp only [dd, dr]; done) | omega) only [W_107, I_lt, I_le, I_inj, inB_I, tc_I, Int.toNat_natCast, fkt, rf1, rf0, cq, Nat.reduceAdd, Nat.reduceEqDiff, Int.reduceToNat, eq_self, true_and, and_true, true_or, or_true, bI_0, bI_1, mm, rAm, mF_sF, mR_sR, false_and, and_false, if_false, if_true, false_or, or_false, not_true_eq_false, not_false_eq_true, and_self]
    refine hQ _ (Ro.rA kX g) (fun b hb => ?_) (fun z i hz => ?_)
    · have : b = x := by simpa [sub] using hb
      subst this
      refine ⟨hx96, kX, fun i hi => ?_⟩
      rw [mA_rA, if_pos rfl, hg i hi]
      unfold rowN
      rw [if_pos hx]
    · rw [mA_rA, if_neg (hz x (by simp [sub]))]
  | succ h ih =>
    intro d x q M Q hd hh R W hx hq hQ
    obtain ⟨hx96, kk, e32, _, k6⟩ := R.1.kind hq
    have k6 := k6 (by omega)
    have hqx : A.2 x = some q := by unfold na at hq; rw [if_neg (by omega)] at hq; exact hq
    obtain ⟨eQ, kX⟩ := W.2.1 x hx96
    have W1 := W.1
    simp (disch := first | (simp only [dd, dr]; done) | omega) only [W_107, k6, e32, W1, eQ, I_lt, I_le, I_inj, inB_I, tc_I, Int.toNat_natCast, fkt, rf1, rf0, cq, Nat.reduceAdd, Nat.reduceEqDiff, Int.reduceToNat, eq_self, true_and, and_true, true_or, or_true, bI_0, bI_1, mm, rAm, mF_sF, mR_sR, false_and, and_false, if_false, if_true, false_or, or_false, not_true_eq_false, not_false_eq_true, and_self]
    refine cr_146 (by omega) (n_layI R S F (by omega) (by omega) hx hqx kX (hch h x hx).2 (fun g hg => ?_))
    have F1 : Ro M (rA M (f x) g) := Ro.rA kX g
    simp (disch := first | (simp only [dd, dr]; done) | omega) only [W_107, k6, I_lt, I_le, I_inj, inB_I, tc_I, Int.toNat_natCast, fkt, rf1, rf0, cq, Nat.reduceAdd, Nat.reduceEqDiff, Int.reduceToNat, eq_self, true_and, and_true, true_or, or_true, bI_0, bI_1, mm, rAm, mF_sF, mR_sR, false_and, and_false, if_false, if_true, false_or, or_false, not_true_eq_false, not_false_eq_true, and_self]
    refine ⟨(fun h => by first | exact False.elim h | exact absurd trivial h | (exfalso; omega) | exact absurd rfl h | cases h), fun _ => ?_⟩
    simp (disch := first | (simp only [dd, dr]; done) | omega) only [W_107, k6, I_lt, I_le, I_inj, inB_I, tc_I, Int.toNat_natCast, fkt, rf1, rf0, cq, Nat.reduceAdd, Nat.reduceEqDiff, Int.reduceToNat, eq_self, true_and, and_true, true_or, or_true, bI_0, bI_1, mm, rAm, mF_sF, mR_sR, false_and, and_false, if_false, if_true, false_or, or_false, not_true_eq_false, not_false_eq_true, and_self]
    have rowx : ∀ M', (∀ i, mA M' (f x) i = mA (rA M (f x) g) (f x) i) → Ro M M' → Rw M' (f x) (rowN T py x) := by
      intro M' h1 h2
      refine ⟨by rw [h2.f1.2.1]; exact kX, fun i hi => ?_⟩
      rw [h1, mA_rA, if_pos rfl, hg i hi]
      unfold rowN
      rw [if_neg (by omega), hx, show h + 1 + 1 - 2 = h by omega]
    suffices H : ∀ n' (k : Nat) (M2 : Mem), k + n' = (tC T x).length → Ro M M2 → (∀ b, b ∈ x :: ((tC T x).take k).flatMap (sub T h) → b < 96 ∧ Rw M2 (f b) (rowN T py b)) → (∀ z i, (∀ b, b ∈ x :: ((tC T x).take k).flatMap (sub T h) → z ≠ f b) → mA M2 z i = mA M z i) → Wp d 107 25 [some (.ref t), some (.ref q), some (.ref a), some (.ref q), some (.int (I (k : Nat)))] [] M2 Q by
      refine H (tC T x).length 0 _ (by omega) F1 (fun b hb => ?_) (fun z i hz => ?_)
      · have : b = x := by simpa using hb
        subst this
        exact ⟨hx96, rowx _ (fun _ => rfl) F1⟩
      · rw [mA_rA, if_neg (hz x (by simp))]
    intro n'
    induction n' with
    | zero =>
      intro k M2 hk F2 hA hB
      have R2 := R.ro F2
      obtain ⟨q2, g1, Ix, _⟩ := R2.2.2.2.1 h x hx
      rw [hqx] at g1; cases g1
      have k62 := Ix.1.1
      have hm : mF M2 41 q = I ((tC T x).length : Nat) := by have := Ix.2.1; rwa [List.length_map] at this
      have h6 : (tC T x).length ≤ 6 := by have := Ix.2.2.1; rwa [List.length_map] at this
      simp (disch := first | (simp only [dd, dr]; done) | omega) only [w_107_25, W_107, k62, hm, I_lt, I_le, I_inj, inB_I, tc_I, Int.toNat_natCast, fkt, rf1, rf0, cq, Nat.reduceAdd, Nat.reduceEqDiff, Int.reduceToNat, eq_self, true_and, and_true, true_or, or_true, bI_0, bI_1, mm, rAm, mF_sF, mR_sR, false_and, and_false, if_false, if_true, false_or, or_false, not_true_eq_false, not_false_eq_true, and_self]
      refine ⟨fun _ => ?_, (fun h => by first | exact False.elim h | exact absurd trivial h | (exfalso; omega) | exact absurd rfl h | cases h)⟩
      simp (disch := first | (simp only [dd, dr]; done) | omega) only [W_107, I_lt, I_le, I_inj, inB_I, tc_I, Int.toNat_natCast, fkt, rf1, rf0, cq, Nat.reduceAdd, Nat.reduceEqDiff, Int.reduceToNat, eq_self, true_and, and_true, true_or, or_true, bI_0, bI_1, mm, rAm, mF_sF, mR_sR, false_and, and_false, if_false, if_true, false_or, or_false, not_true_eq_false, not_false_eq_true, and_self]
      have ek : (tC T x).take k = tC T x := List.take_of_length_le (by omega)
      rw [ek] at hA hB
      exact hQ M2 F2 hA hB
    | succ n' ih2 =>
      intro k M2 hk F2 hA hB
      have R2 := R.ro F2
      obtain ⟨q2, g1, Ix, _⟩ := R2.2.2.2.1 h x hx
      rw [hqx] at g1; cases g1
      have k62 := Ix.1.1
      have k39 := Ix.1.2.1
      have kX1 := Ix.1.2.2
      have hm : mF M2 41 q = I ((tC T x).length : Nat) := by have := Ix.2.1; rwa [List.length_map] at this
      have h6 : (tC T x).length ≤ 6 := by have := Ix.2.2.1; rwa [List.length_map] at this
      have hkk : (tC T x)[k]? = some (tC T x)[k] := List.getElem?_eq_getElem (by omega)
      have hcm : (tC T x)[k] ∈ tC T x := List.getElem_mem _
      have hcH := (S.2.2.1 h x _ hx hcm).1
      obtain ⟨qc, hqc⟩ := R2.node hcH
      have eQ2 : mQ M2 (q + 1) k = some qc := by
        refine Ix.2.2.2.1 k qc ?_
        rw [List.getElem?_map, hkk]; show some (nd A h _) = some qc; rw [nd_of hqc]
      have t02 := R2.1.1.1
      simp (disch := first | (simp only [dd, dr]; done) | omega) only [w_107_25, W_107, k62, hm, I_lt, I_le, I_inj, inB_I, tc_I, Int.toNat_natCast, fkt, rf1, rf0, cq, Nat.reduceAdd, Nat.reduceEqDiff, Int.reduceToNat, eq_self, true_and, and_true, true_or, or_true, bI_0, bI_1, mm, rAm, mF_sF, mR_sR, false_and, and_false, if_false, if_true, false_or, or_false, not_true_eq_false, not_false_eq_true, and_self]
      refine ⟨(fun h => by first | exact False.elim h | exact absurd trivial h | (exfalso; omega) | exact absurd rfl h | cases h), fun _ => ?_⟩
      simp (disch := first | (simp only [dd, dr]; done) | omega) only [W_107, k62, k39, kX1, eQ2, t02, I_lt, I_le, I_inj, inB_I, tc_I, Int.toNat_natCast, fkt, rf1, rf0, cq, Nat.reduceAdd, Nat.reduceEqDiff, Int.reduceToNat, eq_self, true_and, and_true, true_or, or_true, bI_0, bI_1, mm, rAm, mF_sF, mR_sR, false_and, and_false, if_false, if_true, false_or, or_false, not_true_eq_false, not_false_eq_true, and_self]
      refine ca_107 (o0 := some qc) (o1 := some a) (by omega) (ih (d - 1) _ qc M2 _ (by omega) (by omega) R2 (W.ro F2) hcH hqc (fun M3 F3 hA3 hB3 => ?_))
      simp (disch := first | (simp only [dd, dr]; done) | omega) only [W_107, I_lt, I_le, I_inj, inB_I, tc_I, Int.toNat_natCast, fkt, rf1, rf0, cq, Nat.reduceAdd, Nat.reduceEqDiff, Int.reduceToNat, eq_self, true_and, and_true, true_or, or_true, bI_0, bI_1, mm, rAm, mF_sF, mR_sR, false_and, and_false, if_false, if_true, false_or, or_false, not_true_eq_false, not_false_eq_true, and_self]
      rw [show ((k : Int) + 1) = ((k + 1 : Nat) : Int) by omega]
      have etk : ∀ b, b ∈ x :: ((tC T x).take (k + 1)).flatMap (sub T h) ↔ b ∈ x :: ((tC T x).take k).flatMap (sub T h) ∨ b ∈ sub T h (tC T x)[k] := by
        intro b
        rw [List.take_succ_eq_append_getElem (by omega), List.flatMap_append]
        simp only [List.mem_cons, List.mem_append, List.flatMap_cons, List.flatMap_nil, List.append_nil]
        constructor
        · rintro (h | h | h)
          · exact .inl (.inl h)
          · exact .inl (.inr h)
          · exact .inr h
        · rintro ((h | h) | h)
          · exact .inl h
          · exact .inr (.inl h)
          · exact .inr (.inr h)
      refine ih2 (k + 1) M3 (by omega) (F2.trans F3) (fun b hb => ?_) (fun z i hz => ?_)
      · by_cases hb' : b ∈ sub T h (tC T x)[k]
        · exact hA3 b hb'
        · rcases (etk b).mp hb with h1 | h1
          · obtain ⟨hb96, hr⟩ := hA b h1
            refine ⟨hb96, by rw [F3.f1.2.1]; exact hr.1, fun i hi => ?_⟩
            rw [hB3 (f b) i (fun b2 h2 e2 => hb' (by rw [W.2.2 b b2 hb96 (hA3 b2 h2).1 e2]; exact h2))]
            exact hr.2 i hi
          · exact absurd h1 hb'
      · rw [hB3 z i (fun b hb => hz b ((etk b).mpr (.inr hb)))]
        exact hB z i (fun b hb => hz b ((etk b).mpr (.inl hb)))
end CT
