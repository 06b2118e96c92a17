/-! ===== THE COMPONENT: the tree is taken from rows ===== -/
def okx (p : Nat × Nat) : Bool := !([(9, 0), (5, 96), (6, 96), (7, 8), (0, 24), (1, 240), (7, 6)].contains p)
theorem notOwX {M : Mem} {t r z : Nat} {A : Ad} {p : Nat × Nat} (K : TK M t r A) (h : kX M z = p) (hp : okx p = true) : ¬ Ow t (t - 1) A z := by
  obtain ⟨⟨h1, h2, h3, h4, h5, h6, h7, h8⟩, k2, k3, k4, k5⟩ := K
  have no : ∀ p', kX M z = p' → okx p' = true := by intro p' hp'; rw [h] at hp'; subst hp'; exact hp
  intro ho
  have ht : z ≠ t := by intro e; rw [e] at no; have := no _ (kO_X h1 (by omega)); cases this
  rcases ho with ho | ho | ⟨b, q, hq, a1, a2⟩ | ⟨b, q, hq, a1, a2⟩
  · have n1 : z ≠ t + 1 := by intro e; rw [e] at no; have := no _ h3; cases this
    have n2 : z ≠ t + 2 := by intro e; rw [e] at no; have := no _ h5; cases this
    have n3 : z ≠ t + 3 := by intro e; rw [e] at no; have := no _ h7; cases this
    omega
  · by_cases e : t = 0
    · subst e
      have n1 : z ≠ 0 + 1 := by intro e; rw [e] at no; have := no _ h3; cases this
      omega
    · omega
  · obtain ⟨_, ⟨c0, c1, c2, c3, c4, c5, c6⟩, _⟩ := k3 b q hq
    have n0 : z ≠ q := by intro e; rw [e] at no; have := no _ (kO_X c0 (by omega)); cases this
    have n1 : z ≠ q + 1 := by intro e; rw [e] at no; have := no _ c4; cases this
    have n2 : z ≠ q + 2 := by intro e; rw [e] at no; have := no _ c5; cases this
    have n3 : z ≠ q + 3 := by intro e; rw [e] at no; have := no _ c6; cases this
    omega
  · obtain ⟨_, ⟨c0, c1, c2⟩, _⟩ := k4 b q hq
    have n0 : z ≠ q := by intro e; rw [e] at no; have := no _ (kO_X c0 (by omega)); cases this
    have n1 : z ≠ q + 1 := by intro e; rw [e] at no; have := no _ c2; cases this
    omega
theorem kX_O {M : Mem} {a : Nat} {p : Nat × Nat} (h : kX M a = p) (hp : p ≠ (9, 0)) : kO M a = 0 := by
  unfold kX at h
  unfold kO
  cases hm : mK M a with
  | none => rfl
  | some κ =>
    cases κ with
    | inl k => rw [hm] at h; exact absurd h.symm hp
    | inr p => rfl
theorem notOwO {M : Mem} {t r r2 z k : Nat} {A : Ad} (K : TK M t r A) (h : kO M z = k) (hk : k ≠ 0 ∧ k ≠ 3 ∧ k ≠ 5 ∧ k ≠ 6) (hr : z ≠ r2 + 1) : ¬ Ow t r2 A z := by
  obtain ⟨⟨h1, h2, h3, h4, h5, h6, h7, h8⟩, k2, k3, k4, k5⟩ := K
  have arr : ∀ a p, kX M a = p → p ≠ (9, 0) → z ≠ a := by
    intro a p ha hp e
    have := kX_O ha hp
    rw [← e, h] at this; exact hk.1 this
  intro ho
  have ht : z ≠ t := by intro e; rw [e, h1] at h; omega
  rcases ho with ho | ho | ⟨b, q, hq, a1, a2⟩ | ⟨b, q, hq, a1, a2⟩
  · have n1 := arr _ _ h3 (by decide)
    have n2 := arr _ _ h5 (by decide)
    have n3 := arr _ _ h7 (by decide)
    omega
  · exact hr ho
  · obtain ⟨_, ⟨c0, c1, c2, c3, c4, c5, c6⟩, _⟩ := k3 b q hq
    have n0 : z ≠ q := by intro e; rw [e, c0] at h; omega
    have n1 := arr _ _ c4 (by decide)
    have n2 := arr _ _ c5 (by decide)
    have n3 := arr _ _ c6 (by decide)
    omega
  · obtain ⟨_, ⟨c0, c1, c2⟩, _⟩ := k4 b q hq
    have n0 : z ≠ q := by intro e; rw [e, c0] at h; omega
    have n1 := arr _ _ c2 (by decide)
    omega
theorem fm_one : ∀ l : List Nat, l.flatMap (fun x => [x]) = l
  | [] => rfl
  | a :: l => by rw [List.flatMap_cons, fm_one l]; rfl
theorem rsub_row {Tf : Tr} (S : Sh Tf (tW Tf)) : ∀ h k, k ≤ h → h < tN Tf → (tW Tf h).flatMap (fun x => rsub Tf h x k) = tW Tf k
  | 0, k, hk, hh => by
    have : k = 0 := by omega
    subst this
    simp only [rsub, if_true]
    exact fm_one _
  | h + 1, k, hk, hh => by
    by_cases e : k = h + 1
    · subst e
      simp only [rsub, if_true]
      exact fm_one _
    · simp only [rsub, if_neg e]
      rw [← List.flatMap_assoc, S.2.2.2.2.2.2.1 h hh]
      exact rsub_row S h k (by omega) (by omega)
theorem rsub_root {Tf : Tr} (S : Sh Tf (tW Tf)) (k : Nat) : rsub Tf (tN Tf - 1) (tR Tf) k = tW Tf k := by
  have s8 := S.2.2.2.2.2.2.2.1
  by_cases e : k ≤ tN Tf - 1
  · have := rsub_row S (tN Tf - 1) k e (by omega)
    rw [s8.1] at this
    simpa using this
  · rw [rsub_hi _ _ _ (by omega), s8.2.2.2 k (by omega)]
theorem sub_all {Tf : Tr} (S : Sh Tf (tW Tf)) {k b : Nat} (hb : tH Tf b = k + 1) : b ∈ sub Tf (tN Tf - 1) (tR Tf) := by
  have hm := S.2.2.1 k b hb
  rw [← rsub_root S k] at hm
  exact rsub_sub _ _ _ _ hm
theorem TK.sQ3 {M : Mem} {t r : Nat} {A : Ad} (K : TK M t r A) (i : Nat) (v : Option Nat) : TK (sQ M (t + 3) i v) t r A := by
  obtain ⟨⟨h1, h2, h3, h4, h5, h6, h7, h8⟩, k2, k3, k4, k5⟩ := K
  refine ⟨⟨h1, h2, h3, h4, h5, h6, h7, h8⟩, fun b hb => ?_, k3, k4, k5⟩
  rw [mQ_sQ, mQ_sQ, if_neg (by omega), if_neg (by omega)]; exact k2 b hb
def T00 : Tr := (fun _ => false, fun _ => 0, fun _ => [], fun _ => [], fun _ => none, fun _ => [], 0, 0)
section ZT
variable {d t r m : Nat} {M : Mem} {A : Ad} {Tf : Tr} {py : Nat → List Nat} {a : Nat} {f : Nat → Nat} {Q : Outcome → Mem → Prop}
set_option maxHeartbeats 8000000 in
theorem z_takeT (hd : 40 ≤ d) (Sf : Sh Tf (tW Tf)) (Cf : Ct Tf none) (hLf : ∀ b, tH Tf b = 1 → us py (tI Tf b) ≤ 120 ∧ (∀ k ∈ tI Tf b, (py k).length ≤ 40) ∧ ∀ k ∈ tI Tf b, k < 1000000) (K : TK M t r A) (W : Rows M a f) (hrow : ∀ b, 1 ≤ tH Tf b → b < 96 ∧ Rw M (f b) (rowN Tf py b)) (U : RmIs M r (r + 1) m (tU Tf))
    (hQ : ∀ M' A', RM M' t r m A' Tf py none → Fr t (t - 1) A A' 0 M M' → Q (.returned none) M') : Wp d 108 0 [some (.ref t), some (.ref a), some (.int (I (tR Tf : Nat))), none] [] M Q := by
  have S := Sf.sw
  have h7 := Sf.tN7 Cf
  obtain ⟨⟨t0, t15, k1, t12, k2', t13, kX3, t17⟩, _⟩ := id K
  have hch : ∀ h b, tH Tf b = h + 2 → (tC Tf b).length ≤ 5 ∧ ∀ c ∈ tC Tf b, c < 96 := by
    intro h b hb
    have hm := Sf.2.2.1 (h + 1) b hb
    refine ⟨(Cf h b hm (by simp)).2, fun c hc => ?_⟩
    have hcH := (S.2.2.1 h b c hb hc).1
    exact (Sf.1 h c (Sf.2.2.1 h c hcH)).1
  simp (disch := first | (simp only [dd, dr]; done) | omega) only [W_108, I_lt, I_le, I_inj, inB_I, tc_I, Int.toNat_natCast, fkt, rf1, rf0, cq, Nat.reduceAdd, Nat.reduceEqDiff, Int.reduceToNat, eq_self, true_and, and_true, true_or, or_true, bI_0, bI_1, mm, rAm, mF_sF, mR_sR, false_and, and_false, if_false, if_true, false_or, or_false, not_true_eq_false, not_false_eq_true, and_self]
  suffices H : ∀ n' (k : Nat) (M1 : Mem), k + n' = 8 → TK M1 t r A → Fr t (t - 1) A A 0 M M1 → (∀ j, j < k → mQ M1 (t + 3) j = none) → Wp d 108 2 [some (.ref t), some (.ref a), some (.int (I (tR Tf : Nat))), some (.int (I (k : Nat)))] [] M1 Q from H 8 0 M (by omega) K (Fr.refl _ _ _ _) (fun j hj => by omega)
  intro n'
  induction n' with
  | succ n' ih =>
    intro k M1 hk K1 F1 hn
    obtain ⟨⟨u0, _, _, _, _, u13, uX3, _⟩, _⟩ := id K1
    simp (disch := first | (simp only [dd, dr]; done) | omega) only [w_108_2, W_108, u0, u13, uX3, I_lt, I_le, I_inj, inB_I, tc_I, Int.toNat_natCast, fkt, rf1, rf0, cq, Nat.reduceAdd, Nat.reduceEqDiff, Int.reduceToNat, eq_self, true_and, and_true, true_or, or_true, bI_0, bI_1, mm, rAm, mF_sF, mR_sR, false_and, and_false, if_false, if_true, false_or, or_false, not_true_eq_false, not_false_eq_true, and_self]
    refine ⟨(fun h => by first | exact False.elim h | exact absurd trivial h | (exfalso; omega) | exact absurd rfl h | cases h), fun _ => ?_⟩
    simp (disch := first | (simp only [dd, dr]; done) | omega) only [W_108, u0, u13, uX3, I_lt, I_le, I_inj, inB_I, tc_I, Int.toNat_natCast, fkt, rf1, rf0, cq, Nat.reduceAdd, Nat.reduceEqDiff, Int.reduceToNat, eq_self, true_and, and_true, true_or, or_true, bI_0, bI_1, mm, rAm, mF_sF, mR_sR, false_and, and_false, if_false, if_true, false_or, or_false, not_true_eq_false, not_false_eq_true, and_self]
    rw [show ((k : Int) + 1) = ((k + 1 : Nat) : Int) by omega]
    have F2 : Fr t (t - 1) A A 0 M1 (sQ M1 (t + 3) k none) := Fr.step (fun _ => rfl) rfl rfl (fun z hz => ⟨fun _ => rfl, fun _ => rfl, fun _ => rfl, fun i => by rw [mQ_sQ, if_neg (fun hh => hz (.inl ⟨by omega, by omega⟩))], fun _ => rfl⟩)
    refine ih (k + 1) _ (by omega) (K1.sQ3 k none) (F1.trans F2) (fun j hj => ?_)
    rw [mQ_sQ]
    by_cases e : j = k
    · rw [if_pos ⟨rfl, e⟩]
    · rw [if_neg (fun hh => e hh.2)]; exact hn j (by omega)
  | zero =>
    intro k M1 hk K1 F1 hn
    obtain ⟨⟨u0, _, _, _, _, u13, uX3, _⟩, _⟩ := id K1
    simp (disch := first | (simp only [dd, dr]; done) | omega) only [w_108_2, W_108, u0, u13, uX3, I_lt, I_le, I_inj, inB_I, tc_I, Int.toNat_natCast, fkt, rf1, rf0, cq, Nat.reduceAdd, Nat.reduceEqDiff, Int.reduceToNat, eq_self, true_and, and_true, true_or, or_true, bI_0, bI_1, mm, rAm, mF_sF, mR_sR, false_and, and_false, if_false, if_true, false_or, or_false, not_true_eq_false, not_false_eq_true, and_self]
    refine ⟨fun _ => ?_, (fun h => by first | exact False.elim h | exact absurd trivial h | (exfalso; omega) | exact absurd rfl h | cases h)⟩
    simp (disch := first | (simp only [dd, dr]; done) | omega) only [W_108, u0, I_lt, I_le, I_inj, inB_I, tc_I, Int.toNat_natCast, fkt, rf1, rf0, cq, Nat.reduceAdd, Nat.reduceEqDiff, Int.reduceToNat, eq_self, true_and, and_true, true_or, or_true, bI_0, bI_1, mm, rAm, mF_sF, mR_sR, false_and, and_false, if_false, if_true, false_or, or_false, not_true_eq_false, not_false_eq_true, and_self]
    have R0 : RM0 M1 t r A T00 py := ⟨K1, (fun b hb => by cases hb), (fun h b hb => by cases hb), (fun h b q hb => by cases hb), (fun h b q hb => by cases hb)⟩
    have S0 : SW0 T00 := ⟨(fun h b hb => by cases hb), fun h => List.nodup_nil, (fun h b c hb => by cases hb), (fun h b hb => by cases hb)⟩
    have hN := S.2.2.2.2.2.2
    have hRt : tH Tf (tR Tf) = (tN Tf - 1) + 1 := by have := S.2.2.2.2.1; omega
    refine ca_109 (o0 := some a) (by omega) (z_read S hLf hch (tN Tf - 1) (d - 1) (tR Tf) M1 A T00 _ (by omega) (by omega) hRt R0 S0 (W.keep K F1) (fun b hb => ?_) (fun k hk => ?_) (fun M2 A2 q T2 hq R2 S2 L2 Ag2 F2 _ => ?_))
    · have := (sub_H S _ _ b hRt hb).1
      obtain ⟨hb96, hbr⟩ := hrow b this
      exact ⟨rfl, hb96, hbr.keep K F1⟩
    · rw [hn k (by omega)]; rfl
    obtain ⟨a1, a2, a3, a4⟩ := Ag2
    have v0 := R2.1.1.1
    have kq := (R2.1.kind hq).2.1
    simp (disch := first | (simp only [dd, dr]; done) | omega) only [W_108, v0, I_lt, I_le, I_inj, inB_I, tc_I, Int.toNat_natCast, fkt, rf1, rf0, cq, Nat.reduceAdd, Nat.reduceEqDiff, Int.reduceToNat, eq_self, true_and, and_true, true_or, or_true, bI_0, bI_1, mm, rAm, mF_sF, mR_sR, false_and, and_false, if_false, if_true, false_or, or_false, not_true_eq_false, not_false_eq_true, and_self]
    have hrows : ∀ k, tW T2 k = tW Tf k := fun k => by rw [a4 k, rsub_root Sf k]; rfl
    have hHH : ∀ b k, tH Tf b = k + 1 → tH T2 b = k + 1 := fun b k hb => by rw [(a2 b (sub_all Sf hb)).1]; exact hb
    obtain ⟨r1, r3, r4, r5, r6⟩ := R2
    have U2 : RmIs (sR M2 18 t (some q)) r (r + 1) m (tU Tf) := by
      have F12 := F1.trans F2
      obtain ⟨g1, g2, g3, g4, g5, g6⟩ := U
      have lr := lt_kO K.2.2.2.2 g1 (by omega)
      have lr1 := lt_kX K.2.2.2.2 g4 (by decide)
      have s1 := F12.2.1 (r + 1) lr1 (notOwX K g4 (by decide))
      have s0 := F12.2.1 r lr (notOwO K g1 (by omega) (by
        intro e
        by_cases e0 : t = 0
        · subst e0
          rw [e] at g1
          have := kX_O k1 (by decide)
          rw [show 0 - 1 + 1 = 0 + 1 by omega, this] at g1; omega
        · have : r = t := by omega
          rw [this, t0] at g1; omega))
      refine ⟨?_, by rw [show mF (sR M2 18 t (some q)) 10 r = mF M2 10 r from rfl, s0.1]; exact g2, ?_, ?_, g5, fun b hb => by rw [show mA (sR M2 18 t (some q)) (r + 1) b = mA M2 (r + 1) b from rfl, s1.2.2.1]; exact g6 b hb⟩
      · show kO M2 r = 2
        unfold kO at g1 ⊢; rw [F12.1 r lr]; exact g1
      · rw [mR_sR, if_neg (by omega), s0.2.1]; exact g3
      · show kX M2 (r + 1) = (2, 96)
        unfold kX at g4 ⊢; rw [F12.1 (r + 1) lr1]; exact g4
    have L18 : Lk (fun f' a' => f' = 18 ∧ a' = t) M2 (sR M2 18 t (some q)) := Lk.sR M2 18 t _
    have hP : ∀ f' a', f' = 18 ∧ a' = t → nice f' = true := fun f' a' hf => by rw [hf.1]; rfl
    refine hQ _ A2 ⟨r1.lk L18 hP, U2, fun b hb => ?_, fun h b hb => ?_, fun h b q' h1 _ h3 => ?_, fun h b q' h1 h2 => ?_, ?_⟩ ((F1.trans F2).trans (Fr.lk L18 (fun f' a' hf => by rw [hf.2]; exact .inl ⟨Nat.le_refl _, by omega⟩)))
    · obtain ⟨q', g1, g2, g3⟩ := r3 b (hHH b 0 hb)
      rw [(a2 b (sub_all Sf (k := 0) hb)).2.1 hb] at g2 g3
      exact ⟨q', g1, g2.lk L18 hP, g3⟩
    · obtain ⟨q', g1, g2, g3⟩ := r4 h b (hHH b (h + 1) hb)
      rw [(a2 b (sub_all Sf (k := h + 1) hb)).2.2.1 (by omega)] at g2
      exact ⟨q', g1, g2.lk L18 hP, by rw [L18.f1.2.2.1]; exact g3⟩
    · rw [mR_sR, if_neg (by omega)]
      have := r5 h b q' (hHH b h h1) h3
      by_cases e : b = tR Tf
      · subst e
        rw [a3] at this
        rw [S.2.2.2.2.2.1]; exact this
      · rw [(a2 b (sub_all Sf h1)).2.2.2 e] at this; exact this
    · rw [mR_sR, mR_sR, if_neg (by omega), if_neg (by omega)]
      rw [← hrows h] at h1 ⊢
      exact r6 h b q' h1 h2
    · rw [mR_sR, if_pos ⟨rfl, rfl⟩]; exact hq.symm
end ZT
