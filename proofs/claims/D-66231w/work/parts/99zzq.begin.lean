/-! ===== THE COMPONENT: layAll() changes rows in use alone ===== -/
section CRu
variable {d p m J : Nat} {M : Mem} {A : Ad} {T : Tr} {py : Nat → List Nat} {dt : Nat → Nat → Nat} {Q : Outcome → Mem → Prop}
set_option maxHeartbeats 4000000 in
theorem n_layAllU (hd : 40 ≤ d) (P : PK M p m J) (R : RM M (p + 201) (p + 199) m A T py none) (g : Gt m T py) (D : DR M p T dt) (hQ : ∀ M', Ro M M' → (∀ b, tU T b = true → Rw M' (p + 2 + b) (img m T py dt b)) → (∀ z i, (∀ b, tU T b = true → z ≠ p + 2 + b) → mA M' z i = mA M z i) → Q (.returned none) M') : Wp d 25 0 [some (.ref p)] [] M Q := by
  have S := g.1.1.sw
  have h7 := g.1.1.tN7 g.1.2.1
  have hN := S.2.2.2.2.2.2
  have hNr : tH T (tR T) = (tN T - 1) + 1 := by have := S.2.2.2.2.1; omega
  obtain ⟨qr, hqr⟩ := R.node hNr
  have r18 : mR M 18 (p + 201) = some qr := by rw [R.2.2.2.2.2.2]; exact hqr
  obtain ⟨⟨a1, a2, a3, a4, a5, a6, a7, a8, a9, a10, a11⟩, b1, _⟩ := id P
  have t0 := R.1.1.1
  have F := g.1.ful g.2.1 g.2.2
  simp (disch := first | (simp only [dd, dr]; done) | omega) only [W_25, a1, a9, a2, t0, I_lt, I_le, I_inj, inB_I, tc_I, Int.toNat_natCast, fkt, rf1, rf0, cq, Nat.reduceAdd, Nat.reduceEqDiff, Int.reduceToNat, eq_self, true_and, and_true, true_or, or_true, bI_0, bI_1, mm, rAm, mF_sF, mR_sR, false_and, and_false, if_false, if_true, false_or, or_false, not_true_eq_false, not_false_eq_true, and_self]
  refine cr_106 (by omega) ?_
  simp (disch := first | (simp only [dd, dr]; done) | omega) only [W_106, t0, r18, I_lt, I_le, I_inj, inB_I, tc_I, Int.toNat_natCast, fkt, rf1, rf0, cq, Nat.reduceAdd, Nat.reduceEqDiff, Int.reduceToNat, eq_self, true_and, and_true, true_or, or_true, bI_0, bI_1, mm, rAm, mF_sF, mR_sR, false_and, and_false, if_false, if_true, false_or, or_false, not_true_eq_false, not_false_eq_true, and_self]
  refine ca_107 (o0 := some qr) (o1 := some (p + 1)) (by omega) (n_lay S F (fun b hb => ⟨(g.lf b hb).1, (g.lf b hb).2.1⟩) g.ch (tN T - 1) (d - 1 - 1) (tR T) qr M _ (by omega) (by omega) R b1 hNr hqr (fun M1 F1 hA hB => ?_))
  simp (disch := first | (simp only [dd, dr]; done) | omega) only [W_106, I_lt, I_le, I_inj, inB_I, tc_I, Int.toNat_natCast, fkt, rf1, rf0, cq, Nat.reduceAdd, Nat.reduceEqDiff, Int.reduceToNat, eq_self, true_and, and_true, true_or, or_true, bI_0, bI_1, mm, rAm, mF_sF, mR_sR, false_and, and_false, if_false, if_true, false_or, or_false, not_true_eq_false, not_false_eq_true, and_self]
  have P1 := P.ro F1
  have R1 := R.ro F1
  obtain ⟨⟨c1, c2, c3, c4, c5, c6, c7, c8, c9, c10, c11⟩, e1, _⟩ := id P1
  have t01 := R1.1.1.1
  have r181 : mR M1 18 (p + 201) = some qr := by rw [R1.2.2.2.2.2.2]; exact hqr
  have k32 := (R1.1.kind hqr).2.2.1
  have f32 := (fkN (R1.1.kind hqr).2.1).2.2.1
  have e1X := e1.1
  obtain ⟨eQ0, kX0⟩ := e1.2.1 0 (by omega)
  have r01 := R1.2.1.1
  simp (disch := first | (simp only [dd, dr]; done) | omega) only [W_25, c1, c8, c2, c9, e1X, eQ0, t01, r181, f32, k32, r01, I_lt, I_le, I_inj, inB_I, tc_I, Int.toNat_natCast, fkt, rf1, rf0, cq, Nat.reduceAdd, Nat.reduceEqDiff, Int.reduceToNat, eq_self, true_and, and_true, true_or, or_true, bI_0, bI_1, mm, rAm, mF_sF, mR_sR, false_and, and_false, if_false, if_true, false_or, or_false, not_true_eq_false, not_false_eq_true, and_self]
  refine cr_90 (by omega) (c_layR (rt := tR T) R1.2.1 (by omega) kX0 (fun gg hg => ?_))
  simp (disch := first | (simp only [dd, dr]; done) | omega) only [W_25, I_lt, I_le, I_inj, inB_I, tc_I, Int.toNat_natCast, fkt, rf1, rf0, cq, Nat.reduceAdd, Nat.reduceEqDiff, Int.reduceToNat, eq_self, true_and, and_true, true_or, or_true, bI_0, bI_1, mm, rAm, mF_sF, mR_sR, false_and, and_false, if_false, if_true, false_or, or_false, not_true_eq_false, not_false_eq_true, and_self]
  have F2 : Ro M1 (rA M1 (p + 2 + 0) gg) := Ro.rA kX0 gg
  refine hQ _ (F1.trans F2) (fun b hb => ?_) (fun z i hz => ?_)
  · unfold img
    by_cases h0 : b = 0
    · subst h0
      rw [if_pos rfl]
      exact ⟨kX0, fun i hi => by rw [mA_rA, if_pos rfl]; exact hg i hi⟩
    · rw [if_neg h0]
      have hne : ∀ i, mA (rA M1 (p + 2 + 0) gg) (p + 2 + b) i = mA M1 (p + 2 + b) i := fun i => by rw [mA_rA, if_neg (by omega)]
      have hkx : kX (rA M1 (p + 2 + 0) gg) (p + 2 + b) = kX M1 (p + 2 + b) := rfl
      by_cases hH : 1 ≤ tH T b
      · rw [if_pos hH]
        obtain ⟨_, hr⟩ := hA b (sub_all g.1.1 (k := tH T b - 1) (by omega))
        exact ⟨by rw [hkx]; exact hr.1, fun i hi => by rw [hne]; exact hr.2 i hi⟩
      · rw [if_neg hH]
        have hd := D b hb (by omega) h0
        refine ⟨by rw [hkx, F1.f1.2.1]; exact hd.1, fun i hi => ?_⟩
        rw [hne, hB _ _ (fun b' hb' e => ?_)]
        · exact hd.2 i hi
        · have h1 := (sub_H S _ _ b' hNr hb').1
          have : b = b' := by omega
          rw [this] at hH; exact hH h1
  · rw [mA_rA, if_neg (fun e => hz 0 g.1.1.2.2.2.2.2.2.2.2.1.1 e), hB _ _ (fun b hb e => hz b ?_ e)]
    have h1 := (sub_H S _ _ b hNr hb).1
    exact (g.1.1.1 _ b (g.1.1.2.2.1 (tH T b - 1) b (by omega))).2.2
end CRu
/-! ===== THE COMPONENT: its constructor, the first leaf ===== -/
def A9 : Ad := (fun _ => none, fun _ => none)
def T90 : Tr := (fun b => decide (b < 2), fun _ => 0, fun _ => [], fun _ => [], fun _ => none, fun _ => [], 1, 1)
section Cn9
variable {d t r m : Nat} {M : Mem} {Q : Outcome → Mem → Prop} {py : Nat → List Nat}
theorem A9_no {a : Nat} (h : a < t) : ¬ Ow t (t - 1) A9 a := by
  intro ho
  rcases ho with h1 | h1 | ⟨b, q, h1, _⟩ | ⟨b, q, h1, _⟩
  · omega
  · omega
  · cases h1
  · cases h1
theorem c_begin (hd : 10 ≤ d) (K : TK M t r A9) (U : RmIs M r (r + 1) m (fun b => decide (b < 1))) (hm : 2 ≤ m) (hrt : r + 1 < t) (hQ : ∀ M' A', RM M' t r m A' (T9 []) py none → Fr t r A9 A' 0 M M' → Q (.returned none) M') : Wp d 95 0 [some (.ref t)] [] M Q := by
  obtain ⟨⟨t0, t15, k1, t12, k2', t13, kX3, t17⟩, k2, k3, k4, G⟩ := id K
  obtain ⟨g1, g2, g3, g4, g5, g6⟩ := id U
  simp (disch := first | (simp only [dd, dr]; done) | omega) only [W_95, t0, t17, g1, I_lt, I_le, I_inj, inB_I, tc_I, Int.toNat_natCast, fkt, rf1, rf0, cq, Nat.reduceAdd, Nat.reduceEqDiff, Int.reduceToNat, eq_self, true_and, and_true, true_or, or_true, bI_0, bI_1, mm, rAm, mF_sF, mR_sR, false_and, and_false, if_false, if_true, false_or, or_false, not_true_eq_false, not_false_eq_true, and_self]
  refine ca_88 (by omega) (r_take U (fun k h1 h2 h3 => ?_) (fun hall => ?_))
  · have hk : k = 1 := by
      have a1 : ¬ k < 1 := of_decide_eq_false h2
      by_cases e : k = 1
      · exact e
      · have : 1 < 1 := of_decide_eq_true (h3 1 (by omega))
        omega
    simp (disch := first | (simp only [dd, dr]; done) | omega) only [W_95, t0, I_lt, I_le, I_inj, inB_I, tc_I, Int.toNat_natCast, fkt, rf1, rf0, cq, Nat.reduceAdd, Nat.reduceEqDiff, Int.reduceToNat, eq_self, true_and, and_true, true_or, or_true, bI_0, bI_1, mm, rAm, mF_sF, mR_sR, false_and, and_false, if_false, if_true, false_or, or_false, not_true_eq_false, not_false_eq_true, and_self]
    have K1 : TK (sA M (r + 1) k (I 1)) t r A9 := ⟨⟨t0, t15, k1, t12, k2', t13, kX3, t17⟩, k2, (fun b q h => by cases h), (fun b q h => by cases h), G⟩
    have R0 : RM0 (sA M (r + 1) k (I 1)) t r A9 T90 py := ⟨K1, (fun b hb => by cases hb), (fun h b hb => by cases hb), (fun h b q hb => by cases hb), (fun h b q hb => by cases hb)⟩
    have S0 : SW0 T90 := ⟨(fun h b hb => by cases hb), fun h => List.nodup_nil, (fun h b c hb => by cases hb), (fun h b hb => by cases hb)⟩
    refine ca_96 (by omega) (z_leafAt (r2 := t - 1) (b := k) R0 S0 (by omega) rfl (by omega) (fun M2 A2 q hq eA2 b5 O R2 F2 => ?_))
    subst hk
    have v0 := R2.1.1.1
    have kq := (R2.1.2.2.1 1 q hq).2.1.1
    simp (disch := first | (simp only [dd, dr]; done) | omega) only [W_95, v0, kq, I_lt, I_le, I_inj, inB_I, tc_I, Int.toNat_natCast, fkt, rf1, rf0, cq, Nat.reduceAdd, Nat.reduceEqDiff, Int.reduceToNat, eq_self, true_and, and_true, true_or, or_true, bI_0, bI_1, mm, rAm, mF_sF, mR_sR, false_and, and_false, if_false, if_true, false_or, or_false, not_true_eq_false, not_false_eq_true, and_self]
    obtain ⟨r1, r3, r4, r5, r6⟩ := R2
    have L18 : Lk (fun f' a' => f' = 18 ∧ a' = t) M2 (sR M2 18 t (some q)) := Lk.sR M2 18 t _
    have hP : ∀ f' a', f' = 18 ∧ a' = t → nice f' = true := fun f' a' hf => by rw [hf.1]; rfl
    have U2 : RmIs (sR M2 18 t (some q)) r (r + 1) m (tU (T9 [])) := by
      have lr : r < mN M := lt_kO G g1 (by omega)
      have lr1 : r + 1 < mN M := lt_kX G g4 (by decide)
      have s0 := F2.2.1 r lr (A9_no (by omega))
      have s1 := F2.2.1 (r + 1) lr1 (A9_no (by omega))
      refine ⟨?_, ?_, ?_, ?_, g5, fun b hb => ?_⟩
      · show kO M2 r = 2
        have e : mK M2 r = mK M r := F2.1 r lr
        unfold kO at g1 ⊢; rw [e]; exact g1
      · show mF M2 10 r = _
        rw [s0.1]; exact g2
      · rw [mR_sR, if_neg (by omega), s0.2.1]; exact g3
      · show kX M2 (r + 1) = (2, 96)
        have e : mK M2 (r + 1) = mK M (r + 1) := F2.1 (r + 1) lr1
        unfold kX at g4 ⊢; rw [e]; exact g4
      · show mA M2 (r + 1) b = I (bI (decide (b < 2)))
        rw [s1.2.2.1, mA_sA]
        by_cases e : b = 1
        · rw [if_pos ⟨rfl, e⟩, e]; rfl
        · rw [if_neg (fun h => e h.2), g6 b hb]
          congr 2
          exact decide_eq_decide.mpr (by omega)
    have FF : Fr t r A9 A2 0 M (sR M2 18 t (some q)) := ((Fr.use t r A9 M 1 (I 1)).trans (F2.up (by omega))).trans (Fr.lk L18 (fun f' a' hf => by rw [hf.2]; exact .inl ⟨Nat.le_refl _, by omega⟩))
    refine hQ _ A2 ⟨r1.lk L18 hP, U2, fun b hb => ?_, fun h b hb => ?_, fun h b q' h1 _ h3 => ?_, fun h b q' h1 h2 => ?_, ?_⟩ FF
    · obtain ⟨q', c1, c2, c3⟩ := r3 b hb
      exact ⟨q', c1, c2.lk L18 hP, c3⟩
    · have := (T9_mH hb).1; omega
    · obtain ⟨rfl, rfl⟩ := T9_mH h1
      have := r5 0 1 q' rfl h3
      rw [mR_sR, if_neg (by omega)]
      exact this
    · obtain ⟨rfl, rfl⟩ := T9_mW h1
      have e : q' = q := Option.some.inj ((show A2.1 1 = some q' from h2).symm.trans hq)
      subst e
      rw [mR_sR, if_neg (by omega), mR_sR, if_neg (by omega)]
      exact b5
    · rw [mR_sR, if_pos ⟨rfl, rfl⟩]
      exact hq.symm
  · exact absurd (hall 1 (by omega)) (by decide)
end Cn9
