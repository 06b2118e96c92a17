/-! ===== THE COMPONENT: first, childFor, leafFor, find ===== -/
section CF
variable {t r m : Nat} {M : Mem} {A : Ad} {T : Tr} {py : Nat → List Nat} {e : Option Nat}
/-- all that is needed of nodes below: children there are, items there are -/
def Ful (T : Tr) : Prop := (∀ h b, tH T b = h + 2 → tC T b ≠ []) ∧ (∀ b, tH T b = 1 → tI T b ≠ []) ∧ ∀ h b, tH T b = h + 1 → fkey T h b < 1000000
theorem n_first (R : RM M t r m A T py e) (S : SW T) (F : Ful T) : ∀ (h d x q y pc : Nat) (ls : Lc) (st : List Value) (Q : Outcome → Mem → Prop), h + 1 ≤ d → tH T x = h + 1 → na A h x = some q → Wp d y (pc + 3) ls (.int (I (fkey T h x : Nat)) :: st) M Q → (kO M q = 5 ∧ Ca d y pc ls 122 [.ref q] st M Q) ∨ (kO M q = 6 ∧ Ca d y pc ls 138 [.ref q] st M Q) := by
  intro h
  induction h with
  | zero =>
    intro d x q y pc ls st Q hd hx hq hQ
    obtain ⟨q', g1, Lx, bx⟩ := R.2.2.1 x hx
    have : na A 0 x = A.1 x := by unfold na; rw [if_pos rfl]
    rw [this, g1] at hq; cases hq
    refine .inl ⟨Lx.1.1, ca_122 (by omega) (l_first Lx (x := fkey T 0 x) ?_ hQ)⟩
    have := F.2.1 x hx
    rw [fkey]
    cases hf : tI T x with
    | nil => exact absurd hf this
    | cons a l => rfl
  | succ h ih =>
    intro d x q y pc ls st Q hd hx hq hQ
    obtain ⟨q', g1, Ix, Hx⟩ := R.2.2.2.1 h x hx
    have : na A (h + 1) x = A.2 x := by unfold na; rw [if_neg (by omega)]
    rw [this, g1] at hq; cases hq
    have hne := F.1 h x hx
    cases hc : tC T x with
    | nil => exact absurd hc hne
    | cons c cs =>
      have hcm : c ∈ tC T x := by rw [hc]; exact List.mem_cons_self ..
      have hcH := (S.2.2.1 h x c hx hcm).1
      obtain ⟨qc, hqc⟩ := R.node hcH
      have k6 := Ix.1.1
      have k39 := Ix.1.2.1
      have kX1 := Ix.1.2.2
      have e0 : mQ M (q + 1) 0 = some qc := by
        refine Ix.2.2.2.1 0 qc ?_
        rw [hc]; show some (nd A h c) = some qc; rw [nd_of hqc]
      have ek : fkey T (h + 1) x = fkey T h c := by rw [fkey, hc]; rfl
      refine .inr ⟨k6, ca_138 (by omega) ?_⟩
      simp (disch := first | (simp only [dd, dr]; done) | omega) only [W_138, k6, k39, kX1, e0, I_lt, I_le, I_inj, inB_I, tc_I, Int.toNat_natCast, fkt, rf1, rf0, cq, Nat.reduceAdd, Nat.reduceEqDiff, Int.reduceToNat, eq_self, true_and, and_true, true_or, or_true, bI_0, bI_1, mm, rAm, mF_sF, mR_sR, false_and, and_false, if_false, if_true, false_or, or_false, not_true_eq_false, not_false_eq_true, and_self]
      refine ih (d - 1) c qc 138 6 _ _ _ (by omega) hcH hqc ?_
      simp (disch := first | (simp only [dd, dr]; done) | omega) only [W_138, I_lt, I_le, I_inj, inB_I, tc_I, Int.toNat_natCast, fkt, rf1, rf0, cq, Nat.reduceAdd, Nat.reduceEqDiff, Int.reduceToNat, eq_self, true_and, and_true, true_or, or_true, bI_0, bI_1, mm, rAm, mF_sF, mR_sR, false_and, and_false, if_false, if_true, false_or, or_false, not_true_eq_false, not_false_eq_true, and_self]
      rw [← ek]; exact hQ
set_option maxHeartbeats 4000000 in
theorem n_childFor {d : Nat} {Q : Outcome → Mem → Prop} (R : RM M t r m A T py e) (S : SW T) (F : Ful T) {h p qp key : Nat} (hd : h + 2 ≤ d) (hp : tH T p = h + 2) (hqp : A.2 p = some qp) (hkey : key < 1000000) (hQ : ∀ C1 c C2 qc, tC T p = C1 ++ c :: C2 → (C1 = [] ∨ fkey T h c ≤ key) → (∀ y ∈ C2, key < fkey T h y) → na A h c = some qc → Q (.returned (some (.ref qc))) M) : Wp d 137 0 [some (.ref qp), some (.int (I (key : Nat))), none] [] M Q := by
  obtain ⟨q', g1, Ix, Hx⟩ := R.2.2.2.1 h p hp
  rw [hqp] at g1; cases g1
  have k6 := Ix.1.1
  have k39 := Ix.1.2.1
  have kX1 := Ix.1.2.2
  have many : mF M 41 qp = I ((tC T p).length : Nat) := by have := Ix.2.1; rwa [List.length_map] at this
  have len6 : (tC T p).length ≤ 6 := by have := Ix.2.2.1; rwa [List.length_map] at this
  have hne := F.1 h p hp
  have hpos : 0 < (tC T p).length := by
    cases hc : tC T p with
    | nil => exact absurd hc hne
    | cons a l => simp
  have chd : ∀ k (hk : k < (tC T p).length), ∃ qc, na A h (tC T p)[k] = some qc ∧ mQ M (qp + 1) k = some qc ∧ tH T (tC T p)[k] = h + 1 := by
    intro k hk
    have hcH := (S.2.2.1 h p _ hp (List.getElem_mem hk)).1
    obtain ⟨qc, hqc⟩ := R.node hcH
    refine ⟨qc, hqc, Ix.2.2.2.1 k qc ?_, hcH⟩
    rw [List.getElem?_map, List.getElem?_eq_getElem hk]; show some (nd A h _) = some qc; rw [nd_of hqc]
  have fin : ∀ k (hk : k < (tC T p).length), (k = 0 ∨ fkey T h (tC T p)[k] ≤ key) → (∀ y ∈ (tC T p).drop (k + 1), key < fkey T h y) → Wp d 137 30 [some (.ref qp), some (.int (I (key : Nat))), some (.int (I (k : Nat)))] [] M Q := by
    intro k hk h1 h2
    obtain ⟨qc, hqc, e0, _⟩ := chd k hk
    simp (disch := first | (simp only [dd, dr]; done) | omega) only [W_137, k6, k39, kX1, e0, I_lt, I_le, I_inj, inB_I, tc_I, Int.toNat_natCast, fkt, rf1, rf0, cq, Nat.reduceAdd, Nat.reduceEqDiff, Int.reduceToNat, eq_self, true_and, and_true, true_or, or_true, bI_0, bI_1, mm, rAm, mF_sF, mR_sR, false_and, and_false, if_false, if_true, false_or, or_false, not_true_eq_false, not_false_eq_true, and_self]
    refine hQ ((tC T p).take k) (tC T p)[k] ((tC T p).drop (k + 1)) qc ?_ ?_ h2 hqc
    · rw [← List.drop_eq_getElem_cons hk, List.take_append_drop]
    · rcases h1 with h1 | h1
      · left; rw [h1]; rfl
      · exact .inr h1
  simp (disch := first | (simp only [dd, dr]; done) | omega) only [W_137, k6, many, I_lt, I_le, I_inj, inB_I, tc_I, Int.toNat_natCast, fkt, rf1, rf0, cq, Nat.reduceAdd, Nat.reduceEqDiff, Int.reduceToNat, eq_self, true_and, and_true, true_or, or_true, bI_0, bI_1, mm, rAm, mF_sF, mR_sR, false_and, and_false, if_false, if_true, false_or, or_false, not_true_eq_false, not_false_eq_true, and_self]
  rw [show (((tC T p).length : Int) - 1) = (((tC T p).length - 1 : Nat) : Int) by omega]
  suffices H : ∀ k (hk : k < (tC T p).length), (∀ y ∈ (tC T p).drop (k + 1), key < fkey T h y) → Wp d 137 7 [some (.ref qp), some (.int (I (key : Nat))), some (.int (I (k : Nat)))] [] M Q by
    refine H ((tC T p).length - 1) (by omega) (fun y hy => ?_)
    rw [show (tC T p).length - 1 + 1 = (tC T p).length by omega, List.drop_length] at hy; cases hy
  intro k
  induction k with
  | zero =>
    intro hk h2
    simp (disch := first | (simp only [dd, dr]; done) | omega) only [w_137_7, r_137_7, r_137_8, I_lt, I_le, I_inj, inB_I, tc_I, Int.toNat_natCast, fkt, rf1, rf0, cq, Nat.reduceAdd, Nat.reduceEqDiff, Int.reduceToNat, eq_self, true_and, and_true, true_or, or_true, bI_0, bI_1, mm, rAm, mF_sF, mR_sR, false_and, and_false, if_false, if_true, false_or, or_false, not_true_eq_false, not_false_eq_true, and_self]
    refine ⟨fun _ => fin 0 hk (.inl rfl) h2, (fun h => by first | exact False.elim h | exact absurd trivial h | (exfalso; omega))⟩
  | succ k ih =>
    intro hk h2
    obtain ⟨qc, hqc, e0, hcH⟩ := chd (k + 1) hk
    have hb := F.2.2 h _ hcH
    simp (disch := first | (simp only [dd, dr]; done) | omega) only [w_137_7, r_137_7, r_137_8, I_lt, I_le, I_inj, inB_I, tc_I, Int.toNat_natCast, fkt, rf1, rf0, cq, Nat.reduceAdd, Nat.reduceEqDiff, Int.reduceToNat, eq_self, true_and, and_true, true_or, or_true, bI_0, bI_1, mm, rAm, mF_sF, mR_sR, false_and, and_false, if_false, if_true, false_or, or_false, not_true_eq_false, not_false_eq_true, and_self]
    refine ⟨(fun h => by first | exact False.elim h | exact absurd trivial h | (exfalso; omega)), fun _ => ?_⟩
    simp (disch := first | (simp only [dd, dr]; done) | omega) only [W_137, k6, k39, kX1, e0, I_lt, I_le, I_inj, inB_I, tc_I, Int.toNat_natCast, fkt, rf1, rf0, cq, Nat.reduceAdd, Nat.reduceEqDiff, Int.reduceToNat, eq_self, true_and, and_true, true_or, or_true, bI_0, bI_1, mm, rAm, mF_sF, mR_sR, false_and, and_false, if_false, if_true, false_or, or_false, not_true_eq_false, not_false_eq_true, and_self]
    refine n_first R S F h d _ qc 137 17 _ _ _ (by omega) hcH hqc ?_
    simp (disch := first | (simp only [dd, dr]; done) | omega) only [W_137, I_lt, I_le, I_inj, inB_I, tc_I, Int.toNat_natCast, fkt, rf1, rf0, cq, Nat.reduceAdd, Nat.reduceEqDiff, Int.reduceToNat, eq_self, true_and, and_true, true_or, or_true, bI_0, bI_1, mm, rAm, mF_sF, mR_sR, false_and, and_false, if_false, if_true, false_or, or_false, not_true_eq_false, not_false_eq_true, and_self]
    refine ⟨fun h => fin (k + 1) hk (.inr (by omega)) h2, fun h => ?_⟩
    simp (disch := first | (simp only [dd, dr]; done) | omega) only [W_137, I_lt, I_le, I_inj, inB_I, tc_I, Int.toNat_natCast, fkt, rf1, rf0, cq, Nat.reduceAdd, Nat.reduceEqDiff, Int.reduceToNat, eq_self, true_and, and_true, true_or, or_true, bI_0, bI_1, mm, rAm, mF_sF, mR_sR, false_and, and_false, if_false, if_true, false_or, or_false, not_true_eq_false, not_false_eq_true, and_self]
    rw [show (((k + 1 : Nat) : Int) + -1) = (k : Int) by omega]
    refine ih (by omega) (fun y hy => ?_)
    rw [List.drop_eq_getElem_cons hk] at hy
    rcases List.mem_cons.mp hy with h' | h'
    · rw [h']; omega
    · exact h2 y h'
end CF
