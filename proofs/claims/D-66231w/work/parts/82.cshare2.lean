/-! ===== THE COMPONENT: share ===== -/
theorem Sh.sw {T : Tr} (S : Sh T (tW T)) : SW T := by
  have S' := S
  obtain ⟨s1, s2, s3, s4, s5, s6, s7, s8, s9, s10⟩ := S
  refine ⟨fun h b hb => ⟨(s1 h b hb).2.1, (s1 h b hb).1⟩, s2, fun h b c hb hc => ?_, fun h b hb => ?_, ?_, s8.2.1, s8.2.2.1⟩
  · obtain ⟨k, k1, k2, k3⟩ := S'.child hc
    have h1 := (s1 _ b k1).2.1
    have : k = h := by omega
    subst this
    exact ⟨(s1 _ c k3).2.1, s4 b c hc⟩
  · have hm := s3 (h + 1) b hb
    have hlt : h + 1 < tN T := by
      by_cases e : h + 1 < tN T
      · exact e
      · rw [s8.2.2.2 (h + 1) (by omega)] at hm; cases hm
    have hnd := s2 h
    rw [← s7 h hlt] at hnd
    obtain ⟨l1, l2, e, _⟩ := mem_dec hm
    rw [e, List.flatMap_append, List.flatMap_cons] at hnd
    exact (List.nodup_append.mp (List.nodup_append.mp hnd).2.1).1
  · have : tR T ∈ tW T (tN T - 1) := by rw [s8.1]; exact List.mem_cons_self ..
    have h1 := (s1 _ _ this).2.1
    have := s8.2.2.1
    omega
/-- what is known of a tree of which all is known -/
def Up0 (T : Tr) : Prop := (∀ b, tU T b = false → tH T b = 0) ∧ (∀ k b, tH T b = k + 1 → tP T b = none → tN T = k + 1) ∧ (∀ k b p, tH T b = k + 1 → tP T b = some p → tH T p = k + 2) ∧ (∀ b, tH T b = 0 → tC T b = [])
theorem Sh.up0 {T : Tr} (S : Sh T (tW T)) : Up0 T := by
  have S' := S
  obtain ⟨s1, s2, s3, s4, s5, s6, s7, s8, s9, s10⟩ := S
  have lt : ∀ k b, tH T b = k + 1 → k < tN T := by
    intro k b hb
    by_cases e : k < tN T
    · exact e
    · have := s3 k b hb; rw [s8.2.2.2 k (by omega)] at this; cases this
  refine ⟨fun b hb => ?_, fun k b hb hP => ?_, fun k b p hb hP => ?_, fun b hb => (s10 b hb).1⟩
  · cases e : tH T b with
    | zero => rfl
    | succ k => have := (s1 k b (s3 k b e)).2.2; rw [hb] at this; cases this
  · have h1 := S'.rootIff (lt k b hb) (s3 k b hb)
    have := h1.2.mp (h1.1.mp hP); omega
  · have h1 := S'.rootIff (lt k b hb) (s3 k b hb)
    have hk : k + 1 < tN T := by
      have := lt k b hb
      by_cases e : k + 1 = tN T
      · rw [h1.1.mpr (h1.2.mpr e)] at hP; cases hP
      · omega
    obtain ⟨p', g1, g2, g3⟩ := S'.up hk (s3 k b hb)
    rw [hP] at g3; cases g3
    exact (s1 _ p g1).2.1
theorem RM.weak {M : Mem} {t r m : Nat} {A : Ad} {T : Tr} {py : Nat → List Nat} (R : RM M t r m A T py none) (b : Option Nat) : RM M t r m A T py b := by
  obtain ⟨r1, r2, r3, r4, r5, r6, r7⟩ := R
  exact ⟨r1, r2, r3, r4, fun h b' q h1 _ h3 => r5 h b' q h1 (by simp) h3, r6, r7⟩
theorem slL_us {sz : Nat → Nat} (l a : List Nat) : uz sz (mvL sz l a).1 ≤ uz sz l := by
  induction l generalizing a with
  | nil => exact Nat.le_refl _
  | cons k l ih =>
    rw [mvL]
    split
    · have := ih (a ++ [k]); simp only [uz]; omega
    · exact Nat.le_refl _
theorem slR_us {sz : Nat → Nat} (n : Nat) (l a : List Nat) : uz sz (mvR sz n l a).1 ≤ uz sz l := by
  induction n generalizing l a with
  | zero => exact Nat.le_refl _
  | succ n ih =>
    rw [mvR]
    cases hk : l[l.length - 1]? with
    | none => exact Nat.le_refl _
    | some k =>
      simp only []
      split
      · have h1 := ih (l.take (l.length - 1)) (k :: a)
        have h2 := congrArg (uz sz) (last_split hk).1
        rw [uz_app] at h2
        omega
      · exact Nat.le_refl _
section CS2
variable {d t r m : Nat} {M : Mem} {A : Ad} {T T' : Tr} {py : Nat → List Nat} {Q : Outcome → Mem → Prop} {ok : Bool}
set_option maxHeartbeats 16000000 in
theorem n_share (hd : 20 ≤ d) (R : RM M t r m A T py none) (S : SW T) (U : Up0 T) {x qx : Nat} (hqx : A.1 x = some qx) (hu : us py (tI T x) ≤ 168) (hg : sl m (fun k => (py k).length) T x = some (ok, T'))
    (hQt : ok = true → ∀ M' A', RM M' t r m A' T' py none → SW T' → Fr t r A A' 0 M M' → Q (.returned none) M') (hQf : ok = false → ∀ M' A' a, JT M' t r m A' → Fr t r A A' 1 M M' → kO M' a = 14 → Q (.threw a) M') :
    Wp d 100 0 [some (.ref t), some (.ref qx), none, none, none] [] M Q := by
  unfold sl at hg
  by_cases cond : x ∈ tW T 0 ∧ tH T x = 1 ∧ x < 96 ∧ tC T x = [] ∧ uz (fun k => (py k).length) (tI T x) ≤ 240 ∧ okL (fun k => (py k).length) T x (pv (tW T 0) x) = true ∧ okL (fun k => (py k).length) (slL (fun k => (py k).length) T x) x (nx (tW T 0) x) = true ∧ tU T 0 = true ∧ (tW T 0).length ≤ 95
  case neg => rw [if_neg cond] at hg; cases hg
  rw [if_pos cond] at hg
  obtain ⟨c1, c2, c3, c4, c5, c6, c7, c8, c9⟩ := cond
  obtain ⟨a1, a2, a3, a4, a5, a6, a7⟩ := slL_f (fun k => (py k).length) T x
  obtain ⟨b1, b2, b3, b4, b5, b6, b7⟩ := slR_f (fun k => (py k).length) (slL (fun k => (py k).length) T x) x
  have hq0 : na A 0 x = some qx := by unfold na; rw [if_pos rfl]; exact hqx
  have kx := (R.1.kind hq0).2.2.2.1 rfl
  obtain ⟨l30, _⟩ := R.2.2.2.2.2.1 0 x qx c1 hq0
  have nb : ∀ (X : Tr) y, tW X = tW T → tH X = tH T → (pv (tW T 0) x = some y ∨ nx (tW T 0) x = some y) → tH X y = 1 := by
    intro X y e1 e2 hy
    rw [e2]
    have hym : y ∈ tW T 0 := by rcases hy with h | h; exact pv_mem h; exact nx_mem h
    exact (S.1 0 y hym).1
  have hu2 : us py (tI (slL (fun k => (py k).length) T x) x) ≤ 168 := by
    rw [us_uz]; rw [us_uz] at hu
    unfold slL
    cases hp : pv (tW T 0) x with
    | none => exact hu
    | some a =>
      rw [hp] at c6
      obtain ⟨g1, g2, g3, g4⟩ := of_decide_eq_true c6
      simp only [ti]
      rw [fu_n _ _ (Ne.symm g1), fu_s]
      exact Nat.le_trans (slL_us _ _) hu
  have hu3 : us py (tI (slR (fun k => (py k).length) (slL (fun k => (py k).length) T x) x) x) ≤ 168 := by
    rw [us_uz]; rw [us_uz] at hu2
    rw [slR]
    cases hp : nx (tW (slL (fun k => (py k).length) T x) 0) x with
    | none => exact hu2
    | some a =>
      rw [a5] at hp
      rw [hp] at c7
      obtain ⟨g1, g2, g3, g4⟩ := of_decide_eq_true c7
      simp only [ti]
      rw [fu_n _ _ (Ne.symm g1), fu_s]
      exact Nat.le_trans (slR_us _ _ _) hu2
  have SL : SW (slL (fun k => (py k).length) T x) := by
    obtain ⟨s1, s2, s3, s4, s5⟩ := S
    unfold SW
    rw [a2, a3, a4, a5, a6, a7]
    exact ⟨s1, s2, s3, s4, s5⟩
  have S2 : SW (slR (fun k => (py k).length) (slL (fun k => (py k).length) T x) x) := by
    obtain ⟨s1, s2, s3, s4, s5⟩ := SL
    unfold SW
    rw [b2, b3, b4, b5, b6, b7]
    exact ⟨s1, s2, s3, s4, s5⟩
  suffices hL : ∀ (v2 : Option Value) (M1 : Mem), lo v2 = false → RM M1 t r m A (slL (fun k => (py k).length) T x) py none → Fr t r A A 0 M M1 → Wp d 100 44 [some (.ref t), some (.ref qx), v2, none, none] [] M1 Q by
    cases hp : pv (tW T 0) x with
    | none =>
      rw [hp] at l30
      have l30' : mR M 30 qx = none := l30
      have eT : slL (fun k => (py k).length) T x = T := by unfold slL; rw [hp]
      have hh := fun v2 hv => hL v2 M hv (by rw [eT]; exact R) (Fr.refl t r A M)
      obtain ⟨q1, g1, Lx, bx⟩ := R.2.2.1 x c2
      rw [hqx] at g1; cases g1
      simp (disch := first | (simp only [dd, dr]; done) | omega) only [W_100, kx, l30', I_lt, I_le, I_inj, inB_I, tc_I, Int.toNat_natCast, fkt, rf1, rf0, cq, Nat.reduceAdd, Nat.reduceEqDiff, Int.reduceToNat, eq_self, true_and, and_true, true_or, or_true, bI_0, bI_1, mm, rAm, mF_sF, mR_sR, false_and, and_false, if_false, if_true, false_or, or_false, not_true_eq_false, not_false_eq_true, and_self]
      simp (disch := first | (simp only [dd, dr]; done) | omega) only [w_100_8, W_100, kx, I_lt, I_le, I_inj, inB_I, tc_I, Int.toNat_natCast, fkt, rf1, rf0, cq, Nat.reduceAdd, Nat.reduceEqDiff, Int.reduceToNat, eq_self, true_and, and_true, true_or, or_true, bI_0, bI_1, mm, rAm, mF_sF, mR_sR, false_and, and_false, if_false, if_true, false_or, or_false, not_true_eq_false, not_false_eq_true, and_self]
      refine ca_128 (by omega) (l_isOver Lx (by omega) ?_)
      simp (disch := first | (simp only [dd, dr]; done) | omega) only [r_100_12, I_lt, I_le, I_inj, inB_I, tc_I, Int.toNat_natCast, fkt, rf1, rf0, cq, Nat.reduceAdd, Nat.reduceEqDiff, Int.reduceToNat, eq_self, true_and, and_true, true_or, or_true, bI_0, bI_1, mm, rAm, mF_sF, mR_sR, false_and, and_false, if_false, if_true, false_or, or_false, not_true_eq_false, not_false_eq_true, and_self]
      refine ⟨fun _ => hh _ rfl, fun _ => ?_⟩
      simp (disch := first | (simp only [dd, dr]; done) | omega) only [r_100_15, r_100_15_1, r_100_16, r_100_16_1, I_lt, I_le, I_inj, inB_I, tc_I, Int.toNat_natCast, fkt, rf1, rf0, cq, Nat.reduceAdd, Nat.reduceEqDiff, Int.reduceToNat, eq_self, true_and, and_true, true_or, or_true, bI_0, bI_1, mm, rAm, mF_sF, mR_sR, false_and, and_false, if_false, if_true, false_or, or_false, not_true_eq_false, not_false_eq_true, and_self]
      exact hh _ rfl
    | some a =>
      rw [hp] at c6 l30
      obtain ⟨g1, g2, g3, g4⟩ := of_decide_eq_true c6
      have haH := nb T a rfl rfl (.inl hp)
      obtain ⟨qa, hqa⟩ := R.node haH
      have hqa' : A.1 a = some qa := by unfold na at hqa; rw [if_pos rfl] at hqa; exact hqa
      have l30' : mR M 30 qx = some qa := by rw [l30]; exact hqa
      have ka := (R.1.kind hqa).2.2.2.1 rfl
      simp (disch := first | (simp only [dd, dr]; done) | omega) only [W_100, kx, l30', ka, I_lt, I_le, I_inj, inB_I, tc_I, Int.toNat_natCast, fkt, rf1, rf0, cq, Nat.reduceAdd, Nat.reduceEqDiff, Int.reduceToNat, eq_self, true_and, and_true, true_or, or_true, bI_0, bI_1, mm, rAm, mF_sF, mR_sR, false_and, and_false, if_false, if_true, false_or, or_false, not_true_eq_false, not_false_eq_true, and_self]
      refine n_left (by omega) rfl rfl hqx hqa' (Ne.symm g1) (tI T x) T M rfl R c2 haH (by rw [us_uz]; exact g4) (by omega) (fun M1 R1 F1 => ?_)
      refine hL _ M1 rfl ?_ F1
      unfold slL
      rw [hp]
      exact R1
  intro v2 M1 hv2 R1 F1
  have kx1 := (R1.1.kind hq0).2.2.2.1 rfl
  obtain ⟨_, l31⟩ := R1.2.2.2.2.2.1 0 x qx (by rw [a5]; exact c1) hq0
  rw [a5] at l31
  suffices hR : ∀ (v3 : Option Value) (M2 : Mem), lo v3 = false → RM M2 t r m A (slR (fun k => (py k).length) (slL (fun k => (py k).length) T x) x) py none → Fr t r A A 0 M M2 → Wp d 100 95 [some (.ref t), some (.ref qx), v2, v3, none] [] M2 Q by
    cases hp : nx (tW T 0) x with
    | none =>
      rw [hp] at l31
      have l31' : mR M1 31 qx = none := l31
      have eT : slR (fun k => (py k).length) (slL (fun k => (py k).length) T x) x = slL (fun k => (py k).length) T x := by rw [slR, a5, hp]
      have hh := fun v3 hv => hR v3 M1 hv (by rw [eT]; exact R1) F1
      obtain ⟨q1, g1, Lx, bx⟩ := R1.2.2.1 x (by rw [a2]; exact c2)
      rw [hqx] at g1; cases g1
      simp (disch := first | (simp only [dd, dr]; done) | omega) only [W_100, kx1, l31', I_lt, I_le, I_inj, inB_I, tc_I, Int.toNat_natCast, fkt, rf1, rf0, cq, Nat.reduceAdd, Nat.reduceEqDiff, Int.reduceToNat, eq_self, true_and, and_true, true_or, or_true, bI_0, bI_1, mm, rAm, mF_sF, mR_sR, false_and, and_false, if_false, if_true, false_or, or_false, not_true_eq_false, not_false_eq_true, and_self]
      simp (disch := first | (simp only [dd, dr]; done) | omega) only [w_100_52, W_100, kx1, I_lt, I_le, I_inj, inB_I, tc_I, Int.toNat_natCast, fkt, rf1, rf0, cq, Nat.reduceAdd, Nat.reduceEqDiff, Int.reduceToNat, eq_self, true_and, and_true, true_or, or_true, bI_0, bI_1, mm, rAm, mF_sF, mR_sR, false_and, and_false, if_false, if_true, false_or, or_false, not_true_eq_false, not_false_eq_true, and_self]
      refine ca_128 (by omega) (l_isOver Lx (by omega) ?_)
      simp (disch := first | (simp only [dd, dr]; done) | omega) only [r_100_56, I_lt, I_le, I_inj, inB_I, tc_I, Int.toNat_natCast, fkt, rf1, rf0, cq, Nat.reduceAdd, Nat.reduceEqDiff, Int.reduceToNat, eq_self, true_and, and_true, true_or, or_true, bI_0, bI_1, mm, rAm, mF_sF, mR_sR, false_and, and_false, if_false, if_true, false_or, or_false, not_true_eq_false, not_false_eq_true, and_self]
      refine ⟨fun _ => hh _ rfl, fun _ => ?_⟩
      simp (disch := first | (simp only [dd, dr]; done) | omega) only [r_100_59, r_100_59_1, r_100_60, r_100_60_1, I_lt, I_le, I_inj, inB_I, tc_I, Int.toNat_natCast, fkt, rf1, rf0, cq, Nat.reduceAdd, Nat.reduceEqDiff, Int.reduceToNat, eq_self, true_and, and_true, true_or, or_true, bI_0, bI_1, mm, rAm, mF_sF, mR_sR, false_and, and_false, if_false, if_true, false_or, or_false, not_true_eq_false, not_false_eq_true, and_self]
      exact hh _ rfl
    | some a =>
      rw [hp] at c7 l31
      obtain ⟨g1, g2, g3, g4⟩ := of_decide_eq_true c7
      have haH := nb (slL (fun k => (py k).length) T x) a a5 a2 (.inr hp)
      obtain ⟨qa, hqa⟩ := R1.node haH
      have hqa' : A.1 a = some qa := by unfold na at hqa; rw [if_pos rfl] at hqa; exact hqa
      have l31' : mR M1 31 qx = some qa := by rw [l31]; exact hqa
      have ka := (R1.1.kind hqa).2.2.2.1 rfl
      simp (disch := first | (simp only [dd, dr]; done) | omega) only [W_100, kx1, l31', ka, I_lt, I_le, I_inj, inB_I, tc_I, Int.toNat_natCast, fkt, rf1, rf0, cq, Nat.reduceAdd, Nat.reduceEqDiff, Int.reduceToNat, eq_self, true_and, and_true, true_or, or_true, bI_0, bI_1, mm, rAm, mF_sF, mR_sR, false_and, and_false, if_false, if_true, false_or, or_false, not_true_eq_false, not_false_eq_true, and_self]
      refine n_right (by omega) hv2 rfl hqx hqa' (Ne.symm g1) (tI (slL (fun k => (py k).length) T x) x).length _ M1 (Nat.le_refl _) R1 (by rw [a2]; exact c2) haH (by rw [us_uz]; exact g4) (by omega) (fun M2 R2 F2 => ?_)
      refine hR _ M2 rfl ?_ (F1.trans F2)
      rw [slR, a5, hp]
      exact R2
  intro v3 M2 hv3 R2 F2
  generalize hT2 : slR (fun k => (py k).length) (slL (fun k => (py k).length) T x) x = T2 at *
  have eU : tU T2 = tU T := b1.trans a1
  have eH : tH T2 = tH T := b2.trans a2
  have eC : tC T2 = tC T := b3.trans a3
  have eP : tP T2 = tP T := b4.trans a4
  have eW : tW T2 = tW T := b5.trans a5
  have eR : tR T2 = tR T := b6.trans a6
  have eN : tN T2 = tN T := b7.trans a7
  have kx2 := (R2.1.kind hq0).2.2.2.1 rfl
  obtain ⟨q1, g1, Lx2, bx2⟩ := R2.2.2.1 x (by rw [eH]; exact c2)
  rw [hqx] at g1; cases g1
  have uX2 := us_uz py (tI T2 x)
  have t02 := R2.1.1.1
  have t172 := R2.1.1.2.2.2.2.2.2.2
  have r02 := R2.2.1.1
  simp (disch := first | (simp only [dd, dr]; done) | omega) only [W_100, kx2, I_lt, I_le, I_inj, inB_I, tc_I, Int.toNat_natCast, fkt, rf1, rf0, cq, Nat.reduceAdd, Nat.reduceEqDiff, Int.reduceToNat, eq_self, true_and, and_true, true_or, or_true, bI_0, bI_1, mm, rAm, mF_sF, mR_sR, false_and, and_false, if_false, if_true, false_or, or_false, not_true_eq_false, not_false_eq_true, and_self]
  refine ca_128 (by omega) (l_isOver Lx2 (by omega) ?_)
  simp (disch := first | (simp only [dd, dr]; done) | omega) only [W_100, I_lt, I_le, I_inj, inB_I, tc_I, Int.toNat_natCast, fkt, rf1, rf0, cq, Nat.reduceAdd, Nat.reduceEqDiff, Int.reduceToNat, eq_self, true_and, and_true, true_or, or_true, bI_0, bI_1, mm, rAm, mF_sF, mR_sR, false_and, and_false, if_false, if_true, false_or, or_false, not_true_eq_false, not_false_eq_true, and_self]
  refine ⟨fun h => ?_, fun h => ?_⟩
  · have h' := of_decide_eq_false h
    rw [if_pos (by omega)] at hg
    cases hg
    simp (disch := first | (simp only [dd, dr]; done) | omega) only [W_100, I_lt, I_le, I_inj, inB_I, tc_I, Int.toNat_natCast, fkt, rf1, rf0, cq, Nat.reduceAdd, Nat.reduceEqDiff, Int.reduceToNat, eq_self, true_and, and_true, true_or, or_true, bI_0, bI_1, mm, rAm, mF_sF, mR_sR, false_and, and_false, if_false, if_true, false_or, or_false, not_true_eq_false, not_false_eq_true, and_self]
    exact hQt rfl M2 A R2 S2 F2
  have h120 : 120 < us py (tI T2 x) := by
    by_cases e : 120 < us py (tI T2 x)
    · exact e
    · exact absurd (decide_eq_false e) h
  rw [if_neg (by omega)] at hg
  simp (disch := first | (simp only [dd, dr]; done) | omega) only [W_100, t02, t172, r02, I_lt, I_le, I_inj, inB_I, tc_I, Int.toNat_natCast, fkt, rf1, rf0, cq, Nat.reduceAdd, Nat.reduceEqDiff, Int.reduceToNat, eq_self, true_and, and_true, true_or, or_true, bI_0, bI_1, mm, rAm, mF_sF, mR_sR, false_and, and_false, if_false, if_true, false_or, or_false, not_true_eq_false, not_false_eq_true, and_self]
  refine ca_88 (by omega) (n_take R2 (fun k M3 hfr hk R3 F3 => ?_) (fun hfr M3 a J3 F3 k14 => ?_))
  · rw [eU] at hfr
    simp only [hfr] at hg
    by_cases hok : k ≠ x ∧ k < 96 ∧ tH T k = 0
    case neg => rw [if_neg hok] at hg; cases hg
    rw [if_pos hok] at hg
    obtain ⟨o1, o2, o3⟩ := hok
    have hk2 : tH T2 k = 0 := by rw [eH]; exact o3
    have S3 := S2.tak hk2
    have t03 := R3.1.1.1
    simp (disch := first | (simp only [dd, dr]; done) | omega) only [W_100, t03, I_lt, I_le, I_inj, inB_I, tc_I, Int.toNat_natCast, fkt, rf1, rf0, cq, Nat.reduceAdd, Nat.reduceEqDiff, Int.reduceToNat, eq_self, true_and, and_true, true_or, or_true, bI_0, bI_1, mm, rAm, mF_sF, mR_sR, false_and, and_false, if_false, if_true, false_or, or_false, not_true_eq_false, not_false_eq_true, and_self]
    refine ca_96 (by omega) (n_leafAt R3 S3 (by omega) (by simp only [tk, tu, th, ti, tc]; rw [fu_s]) o2 (fun M4 A4 qn hqn eA2 b5 R4 F4 => ?_))
    have S4 := S3.leaf (b := k) (by simp only [tk, tu, th, ti, tc]; rw [fu_s]) []
    have eT4 : uP (uH (uI (tk T2 k) k []) k 1) k none = uP (uH (tk T2 k) k 1) k none := by
      unfold tk uP uC uI uH uU
      simp only [fu_fu]
    rw [eT4] at R4 S4
    have hqx4 : A4.1 x = some qx := F4.2.2.1 x qx hqx
    have hqx4' : na A4 0 x = some qx := by unfold na; rw [if_pos rfl]; exact hqx4
    have hqn' : na A4 0 k = some qn := by unfold na; rw [if_pos rfl]; exact hqn
    generalize hT4 : uP (uH (tk T2 k) k 1) k none = T4 at *
    have W4 : tW T4 = tW T := by rw [← hT4]; simp only [tk, tu, th, ti, tc, tp]; exact eW
    have H4 : tH T4 = fu (tH T) k 1 := by rw [← hT4]; simp only [tk, tu, th, ti, tc, tp, fu_fu, eH]
    have I4 : tI T4 = fu (tI T2) k [] := by rw [← hT4]; simp only [tk, tu, th, ti, tc, tp]
    have U4 : tU T4 = fu (tU T) k true := by rw [← hT4]; simp only [tk, tu, th, ti, tc, tp, eU]
    have C4 : tC T4 = fu (tC T) k [] := by rw [← hT4]; simp only [tk, tu, th, ti, tc, tp, eC]
    have P4 : tP T4 = fu (tP T) k none := by rw [← hT4]; simp only [tk, tu, th, ti, tc, tp, eP]
    have N4 : tN T4 = tN T := by rw [← hT4]; simp only [tk, tu, th, ti, tc, tp, eN]
    have Rt4 : tR T4 = tR T := by rw [← hT4]; simp only [tk, tu, th, ti, tc, tp, eR]
    have hx4 : tH T4 x = 1 := by rw [H4, fu_n _ _ (Ne.symm o1)]; exact c2
    have hk4 : tH T4 k = 1 := by rw [H4, fu_s]
    have hnot : ∀ h', k ∉ tW T4 h' := by
      intro h' hm; rw [W4] at hm
      have := (S.1 h' k hm).1; omega
    have kn4 := (R4.1.kind hqn').2.2.2.1 rfl
    have kx4 := (R4.1.kind hqx4').2.2.2.1 rfl
    simp (disch := first | (simp only [dd, dr]; done) | omega) only [W_100, kn4, I_lt, I_le, I_inj, inB_I, tc_I, Int.toNat_natCast, fkt, rf1, rf0, cq, Nat.reduceAdd, Nat.reduceEqDiff, Int.reduceToNat, eq_self, true_and, and_true, true_or, or_true, bI_0, bI_1, mm, rAm, mF_sF, mR_sR, false_and, and_false, if_false, if_true, false_or, or_false, not_true_eq_false, not_false_eq_true, and_self]
    refine cr_151 (by omega) (n_comes R4 S4 (h := 0) (by rw [W4]; exact c1) (hnot 0) hnot hqx4' hqn' (fun M5 R5 F5 => ?_))
    have S5 := S4.inr (h := 0) (x := x) (n := k) (by rw [W4]; exact c1) (hnot 0) hk4 o2
    simp (disch := first | (simp only [dd, dr]; done) | omega) only [W_100, I_lt, I_le, I_inj, inB_I, tc_I, Int.toNat_natCast, fkt, rf1, rf0, cq, Nat.reduceAdd, Nat.reduceEqDiff, Int.reduceToNat, eq_self, true_and, and_true, true_or, or_true, bI_0, bI_1, mm, rAm, mF_sF, mR_sR, false_and, and_false, if_false, if_true, false_or, or_false, not_true_eq_false, not_false_eq_true, and_self]
    have iX : tI (uW T4 0 (inA (tW T4 0) x k)) x = tI T2 x := by simp only [tw, I4]; rw [fu_n _ _ (Ne.symm o1)]
    have iK : tI (uW T4 0 (inA (tW T4 0) x k)) k = [] := by simp only [tw, I4]; rw [fu_s]
    refine n_fresh (by omega) hv2 hv3 hqx4 hqn (Ne.symm o1) (tI T2 x).length _ M5 (by rw [iX]; exact Nat.le_refl _) R5 (by simp only [tw]; exact hx4) (by simp only [tw]; exact hk4) (by rw [iX, iK, show us py ([] : List Nat) = 0 from rfl]; omega) (fun M6 R6 F6 => ?_)
    rw [iX, iK] at R6
    have eT6 : uI (uI (uW T4 0 (inA (tW T4 0) x k)) x (mvF (fun k => (py k).length) (tI T2 x).length (tI T2 x) []).1) k (mvF (fun k => (py k).length) (tI T2 x).length (tI T2 x) []).2 = slF (fun k => (py k).length) T2 x k := by
      rw [← hT4]
      unfold slF
      simp only [tk, tu, th, ti, tc, tp]
      rfl
    have S6 : SW (uI (uI (uW T4 0 (inA (tW T4 0) x k)) x (mvF (fun k => (py k).length) (tI T2 x).length (tI T2 x) []).1) k (mvF (fun k => (py k).length) (tI T2 x).length (tI T2 x) []).2) := S5
    have Up6 : Up (uI (uI (uW T4 0 (inA (tW T4 0) x k)) x (mvF (fun k => (py k).length) (tI T2 x).length (tI T2 x) []).1) k (mvF (fun k => (py k).length) (tI T2 x).length (tI T2 x) []).2) k := by
      obtain ⟨u1, u2, u3, u4⟩ := U
      unfold Up
      simp only [ti, tw, U4, H4, P4, C4, N4, Rt4]
      refine ⟨fun b hb => ?_, fun k' b hb hbk hbP => ?_, fun k' b p' hb hbk hbP => ?_, fun h' b hb hm => ?_, fun e => ?_, fun b hb => ?_⟩
      · by_cases e : b = k
        · subst e; rw [fu_s] at hb; cases hb
        · rw [fu_n _ _ e] at hb ⊢; exact u1 b hb
      · rw [fu_n _ _ hbk] at hb hbP; exact u2 k' b hb hbP
      · rw [fu_n _ _ hbk] at hb hbP
        have := u3 k' b p' hb hbP
        rw [fu_n _ _ (by intro e; rw [e] at this; omega)]; exact this
      · by_cases e : b = k
        · subst e; rw [fu_s] at hm; cases hm
        · rw [fu_n _ _ e] at hb hm
          have := (S.2.2.1 h' b k hb hm).1; omega
      · have h1 := S.2.2.2.2.1
        have h2 := S.2.2.2.2.2.2
        rw [← e, o3] at h1; omega
      · by_cases e : b = k
        · subst e; rw [fu_s]
        · rw [fu_n _ _ e] at hb ⊢; exact u4 b hb
    have hx6 : tH (uI (uI (uW T4 0 (inA (tW T4 0) x k)) x (mvF (fun k => (py k).length) (tI T2 x).length (tI T2 x) []).1) k (mvF (fun k => (py k).length) (tI T2 x).length (tI T2 x) []).2) x = 0 + 1 := by simp only [ti, tw]; exact hx4
    have hk6 : tH (uI (uI (uW T4 0 (inA (tW T4 0) x k)) x (mvF (fun k => (py k).length) (tI T2 x).length (tI T2 x) []).1) k (mvF (fun k => (py k).length) (tI T2 x).length (tI T2 x) []).2) k = 0 + 1 := by simp only [ti, tw]; exact hk4
    rw [eT6] at R6 S6 Up6 hx6 hk6
    have t06 := R6.1.1.1
    have F06 : Fr t r A A4 0 M M6 := (((F2.trans F3).trans F4).trans F5).trans F6
    simp (disch := first | (simp only [dd, dr]; done) | omega) only [W_100, t06, I_lt, I_le, I_inj, inB_I, tc_I, Int.toNat_natCast, fkt, rf1, rf0, cq, Nat.reduceAdd, Nat.reduceEqDiff, Int.reduceToNat, eq_self, true_and, and_true, true_or, or_true, bI_0, bI_1, mm, rAm, mF_sF, mR_sR, false_and, and_false, if_false, if_true, false_or, or_false, not_true_eq_false, not_false_eq_true, and_self]
    refine cr_101 (by omega) (n_add 8 (d - 1) _ T' ok A4 x k 0 qx qn M6 _ (by omega) (R6.weak _) S6 Up6 hx6 hk6 hqx4' hqn' hg (fun h M' A' R' S' F' => ?_) (fun h M' A' a J' F' k14 => ?_))
    · simp (disch := first | (simp only [dd, dr]; done) | omega) only [W_100, I_lt, I_le, I_inj, inB_I, tc_I, Int.toNat_natCast, fkt, rf1, rf0, cq, Nat.reduceAdd, Nat.reduceEqDiff, Int.reduceToNat, eq_self, true_and, and_true, true_or, or_true, bI_0, bI_1, mm, rAm, mF_sF, mR_sR, false_and, and_false, if_false, if_true, false_or, or_false, not_true_eq_false, not_false_eq_true, and_self]
      exact hQt h M' A' R' S' (F06.trans F')
    · simp (disch := first | (simp only [dd, dr]; done) | omega) only [W_100, I_lt, I_le, I_inj, inB_I, tc_I, Int.toNat_natCast, fkt, rf1, rf0, cq, Nat.reduceAdd, Nat.reduceEqDiff, Int.reduceToNat, eq_self, true_and, and_true, true_or, or_true, bI_0, bI_1, mm, rAm, mF_sF, mR_sR, false_and, and_false, if_false, if_true, false_or, or_false, not_true_eq_false, not_false_eq_true, and_self]
      rw [Th_out k14 (by decide) (by decide +kernel)]
      exact hQf h M' A' a J' (F06.trans F') k14
  · rw [eU] at hfr
    simp only [hfr] at hg
    cases hg
    simp (disch := first | (simp only [dd, dr]; done) | omega) only [W_100, I_lt, I_le, I_inj, inB_I, tc_I, Int.toNat_natCast, fkt, rf1, rf0, cq, Nat.reduceAdd, Nat.reduceEqDiff, Int.reduceToNat, eq_self, true_and, and_true, true_or, or_true, bI_0, bI_1, mm, rAm, mF_sF, mR_sR, false_and, and_false, if_false, if_true, false_or, or_false, not_true_eq_false, not_false_eq_true, and_self]
    rw [Th_out k14 (by decide) (by decide +kernel)]
    exact hQf rfl M3 A a J3 (F2.trans F3) k14
end CS2
