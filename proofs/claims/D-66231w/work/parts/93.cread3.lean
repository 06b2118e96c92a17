/-! ===== THE COMPONENT: nodes are read ===== -/
def rsub (Tf : Tr) : Nat → Nat → Nat → List Nat
  | 0, x, k => if k = 0 then [x] else []
  | h + 1, x, k => if k = h + 1 then [x] else (tC Tf x).flatMap (fun c => rsub Tf h c k)
theorem sub_H {Tf : Tr} (S : SW Tf) : ∀ (h x b : Nat), tH Tf x = h + 1 → b ∈ sub Tf h x → 1 ≤ tH Tf b ∧ tH Tf b ≤ h + 1 ∧ (tH Tf b = h + 1 → b = x)
  | 0, x, b, hx, hb => by
    have : b = x := by simpa [sub] using hb
    subst this; omega
  | h + 1, x, b, hx, hb => by
    rw [sub] at hb
    rcases List.mem_cons.mp hb with e | hb
    · subst e; omega
    · obtain ⟨c, hc, hbc⟩ := List.mem_flatMap.mp hb
      have := sub_H S h c b (S.2.2.1 h x c hx hc).1 hbc
      omega
theorem sub_inj {Tf : Tr} (S : SW Tf) : ∀ (h c c' b : Nat), tH Tf c = h + 1 → tH Tf c' = h + 1 → b ∈ sub Tf h c → b ∈ sub Tf h c' → c = c'
  | 0, c, c', b, _, _, h1, h2 => by
    have e1 : b = c := by simpa [sub] using h1
    have e2 : b = c' := by simpa [sub] using h2
    rw [← e1, e2]
  | h + 1, c, c', b, hc, hc', h1, h2 => by
    rw [sub] at h1 h2
    rcases List.mem_cons.mp h1 with e1 | h1
    · rcases List.mem_cons.mp h2 with e2 | h2
      · rw [← e1, e2]
      · obtain ⟨c2, hc2, hb2⟩ := List.mem_flatMap.mp h2
        have := (sub_H S h c2 b (S.2.2.1 h c' c2 hc' hc2).1 hb2).2.1
        rw [e1, hc] at this; omega
    · obtain ⟨c1, hc1, hb1⟩ := List.mem_flatMap.mp h1
      have a1 := S.2.2.1 h c c1 hc hc1
      rcases List.mem_cons.mp h2 with e2 | h2
      · have := (sub_H S h c1 b a1.1 hb1).2.1
        rw [e2, hc'] at this; omega
      · obtain ⟨c2, hc2, hb2⟩ := List.mem_flatMap.mp h2
        have a2 := S.2.2.1 h c' c2 hc' hc2
        have := sub_inj S h c1 c2 b a1.1 a2.1 hb1 hb2
        rw [this, a2.2] at a1
        exact (Option.some.inj a1.2).symm
theorem rsub_sub {Tf : Tr} : ∀ (h x k b : Nat), b ∈ rsub Tf h x k → b ∈ sub Tf h x
  | 0, x, k, b, hb => by
    rw [rsub] at hb
    split at hb
    · rw [sub]; exact hb
    · cases hb
  | h + 1, x, k, b, hb => by
    rw [rsub] at hb
    rw [sub]
    split at hb
    · rw [List.mem_singleton.mp hb]; exact List.mem_cons_self ..
    · obtain ⟨c, hc, hbc⟩ := List.mem_flatMap.mp hb
      exact List.mem_cons_of_mem _ (List.mem_flatMap.mpr ⟨c, hc, rsub_sub h c k b hbc⟩)
theorem rsub_hi {Tf : Tr} : ∀ (h x k : Nat), h < k → rsub Tf h x k = []
  | 0, x, k, hk => by rw [rsub, if_neg (by omega)]
  | h + 1, x, k, hk => by
    rw [rsub, if_neg (by omega)]
    have : ∀ l : List Nat, l.flatMap (fun c => rsub Tf h c k) = [] := by
      intro l
      induction l with
      | nil => rfl
      | cons c l ih => rw [List.flatMap_cons, rsub_hi h c k (by omega), ih]; rfl
    exact this _
/-- T' is T with the nodes of Tf below x (those of N, x in it), as they are in Tf -/
def Ag (Tf : Tr) (N : List Nat) (x : Nat) (W : Nat → List Nat) (T T' : Tr) : Prop :=
  (∀ b, b ∉ N → tH T' b = tH T b ∧ tI T' b = tI T b ∧ tC T' b = tC T b ∧ tP T' b = tP T b) ∧
  (∀ b, b ∈ N → tH T' b = tH Tf b ∧ (tH Tf b = 1 → tI T' b = tI Tf b) ∧ (tH Tf b ≠ 1 → tC T' b = tC Tf b) ∧ (b ≠ x → tP T' b = tP Tf b)) ∧
  tP T' x = none ∧ ∀ k, tW T' k = tW T k ++ W k
theorem notOw {M : Mem} {t r z : Nat} {A : Ad} {p : Nat × Nat} (K : TK M t r A) (h : kX M z = p) (hp : p = (1, 129) ∨ p = (4, 96)) : ¬ Ow t (t - 1) A z := by
  obtain ⟨⟨h1, h2, h3, h4, h5, h6, h7, h8⟩, k2, k3, k4, k5⟩ := K
  have no : ∀ p', kX M z = p' → p' ≠ (9, 0) ∧ p' ≠ (5, 96) ∧ p' ≠ (6, 96) ∧ p' ≠ (7, 8) ∧ p' ≠ (0, 24) ∧ p' ≠ (1, 240) ∧ p' ≠ (7, 6) := by
    intro p' hp'
    rw [h] at hp'; subst hp'
    rcases hp with e | e <;> rw [e] <;> decide
  intro ho
  have ht : z ≠ t := by intro e; rw [e] at no; exact (no _ (kO_X h1 (by omega))).1 rfl
  rcases ho with ho | ho | ⟨b, q, hq, a1, a2⟩ | ⟨b, q, hq, a1, a2⟩
  · have n1 : z ≠ t + 1 := by intro e; rw [e] at no; exact (no _ h3).2.1 rfl
    have n2 : z ≠ t + 2 := by intro e; rw [e] at no; exact (no _ h5).2.2.1 rfl
    have n3 : z ≠ t + 3 := by intro e; rw [e] at no; exact (no _ h7).2.2.2.1 rfl
    omega
  · by_cases e : t = 0
    · subst e
      have n1 : z ≠ 0 + 1 := by intro e; rw [e] at no; exact (no _ h3).2.1 rfl
      omega
    · omega
  · obtain ⟨_, ⟨c0, c1, c2, c3, c4, c5, c6⟩, _⟩ := k3 b q hq
    have n0 : z ≠ q := by intro e; rw [e] at no; exact (no _ (kO_X c0 (by omega))).1 rfl
    have n1 : z ≠ q + 1 := by intro e; rw [e] at no; exact (no _ c4).2.2.2.2.1 rfl
    have n2 : z ≠ q + 2 := by intro e; rw [e] at no; exact (no _ c5).2.2.2.2.1 rfl
    have n3 : z ≠ q + 3 := by intro e; rw [e] at no; exact (no _ c6).2.2.2.2.2.1 rfl
    omega
  · obtain ⟨_, ⟨c0, c1, c2⟩, _⟩ := k4 b q hq
    have n0 : z ≠ q := by intro e; rw [e] at no; exact (no _ (kO_X c0 (by omega))).1 rfl
    have n1 : z ≠ q + 1 := by intro e; rw [e] at no; exact (no _ c2).2.2.2.2.2.2 rfl
    omega
theorem Rw.keep {M M' : Mem} {t r w : Nat} {A A' : Ad} {g : Nat → Nat} {x : Nat} (h : Rw M w g) (K : TK M t r A) (F : Fr t (t - 1) A A' x M M') : Rw M' w g := by
  have hl := lt_kX K.2.2.2.2 h.1 (by decide)
  have s := F.2.1 w hl (notOw K h.1 (.inl rfl))
  refine ⟨?_, fun i hi => by rw [s.2.2.1]; exact h.2 i hi⟩
  have := h.1
  unfold kX at this ⊢
  rw [F.1 w hl]; exact this
theorem Rows.keep {M M' : Mem} {t r a : Nat} {A A' : Ad} {f : Nat → Nat} {x : Nat} (h : Rows M a f) (K : TK M t r A) (F : Fr t (t - 1) A A' x M M') : Rows M' a f := by
  have hl := lt_kX K.2.2.2.2 h.1 (by decide)
  have s := F.2.1 a hl (notOw K h.1 (.inr rfl))
  refine ⟨?_, fun b hb => ?_, h.2.2⟩
  · have := h.1
    unfold kX at this ⊢
    rw [F.1 a hl]; exact this
  · rw [s.2.2.2.1]
    refine ⟨(h.2.1 b hb).1, ?_⟩
    have := (h.2.1 b hb).2
    have hl2 := lt_kX K.2.2.2.2 this (by decide)
    unfold kX at this ⊢
    rw [F.1 _ hl2]; exact this
section ZR
variable {t r : Nat} {Tf : Tr} {py : Nat → List Nat} {a : Nat} {f : Nat → Nat}
set_option maxHeartbeats 16000000 in
theorem z_read (S : SW Tf) (hLf : ∀ b, tH Tf b = 1 → us py (tI Tf b) ≤ 120 ∧ (∀ k ∈ tI Tf b, (py k).length ≤ 40) ∧ ∀ k ∈ tI Tf b, k < 1000000) (hch : ∀ h b, tH Tf b = h + 2 → (tC Tf b).length ≤ 5 ∧ ∀ c ∈ tC Tf b, c < 96) : ∀ (h d x : Nat) (M : Mem) (A : Ad) (T : Tr) (Q : Outcome → Mem → Prop), 3 * h + 12 ≤ d → h < 8 → tH Tf x = h + 1 → RM0 M t r A T py → SW0 T → Rows M a f → (∀ b, b ∈ sub Tf h x → tH T b = 0 ∧ b < 96 ∧ Rw M (f b) (rowN Tf py b)) → Ls M t A T →
    (∀ M' A' q T', na A' h x = some q → RM0 M' t r A' T' py → SW0 T' → Ls M' t A' T' → Ag Tf (sub Tf h x) x (rsub Tf h x) T T' → Fr t (t - 1) A A' 0 M M' → (∀ b q', A.2 b = some q' → b ∉ sub Tf h x → (∀ k, b ∉ tW T k) → mR M' 31 q' = mR M 31 q') → Q (.returned (some (.ref q))) M') →
    Wp d 109 0 [some (.ref t), some (.ref a), some (.int (I (x : Nat))), none, none, none, none, none, none] [] M Q := by
  intro h
  induction h with
  | zero =>
    intro d x M A T Q hd hh hx R S0 W hN L hQ
    obtain ⟨hx0, hx96, rw0⟩ := hN x (by simp [sub])
    obtain ⟨eQ, kX⟩ := W.2.1 x hx96
    have W1 := W.1
    have t0 := R.1.1.1
    have erow : ∀ i, rowN Tf py x i = lrw (tI Tf x) py i := fun i => by unfold rowN; rw [if_pos hx]
    simp (disch := first | (simp only [dd, dr]; done) | omega) only [W_109, W1, eQ, I_lt, I_le, I_inj, inB_I, tc_I, Int.toNat_natCast, fkt, rf1, rf0, cq, Nat.reduceAdd, Nat.reduceEqDiff, Int.reduceToNat, eq_self, true_and, and_true, true_or, or_true, bI_0, bI_1, mm, rAm, mF_sF, mR_sR, false_and, and_false, if_false, if_true, false_or, or_false, not_true_eq_false, not_false_eq_true, and_self]
    refine cr_36 (by omega) (c_byteN (k := 0) rw0 (by omega) rfl ?_)
    have e0 : rowN Tf py x 0 % 256 = 0 := by rw [erow]; rfl
    rw [e0]
    simp (disch := first | (simp only [dd, dr]; done) | omega) only [W_109, I_lt, I_le, I_inj, inB_I, tc_I, Int.toNat_natCast, fkt, rf1, rf0, cq, Nat.reduceAdd, Nat.reduceEqDiff, Int.reduceToNat, eq_self, true_and, and_true, true_or, or_true, bI_0, bI_1, mm, rAm, mF_sF, mR_sR, false_and, and_false, if_false, if_true, false_or, or_false, not_true_eq_false, not_false_eq_true, and_self]
    refine ⟨(fun h => by first | exact False.elim h | exact absurd trivial h | (exfalso; omega) | exact absurd rfl h | cases h), fun _ => ?_⟩
    simp (disch := first | (simp only [dd, dr]; done) | omega) only [W_109, t0, I_lt, I_le, I_inj, inB_I, tc_I, Int.toNat_natCast, fkt, rf1, rf0, cq, Nat.reduceAdd, Nat.reduceEqDiff, Int.reduceToNat, eq_self, true_and, and_true, true_or, or_true, bI_0, bI_1, mm, rAm, mF_sF, mR_sR, false_and, and_false, if_false, if_true, false_or, or_false, not_true_eq_false, not_false_eq_true, and_self]
    refine ca_96 (by omega) (z_leafAt (r2 := t - 1) R S0 (by omega) hx0 hx96 (fun M1 A1 q1 hq1 eA2 b5 O R1 F1 => ?_))
    have S1 := S0.leaf (b := x) hx0 []
    have hx1 : tH (uP (uH (uI T x []) x 1) x none) x = 1 := by simp only [tp, th, ti]; rw [fu_s]
    have hI1 : tI (uP (uH (uI T x []) x 1) x none) x = [] := by simp only [tp, th, ti]; rw [fu_s]
    obtain ⟨q', g1, Lx, _⟩ := R1.2.1 x hx1
    rw [hq1] at g1; cases g1
    rw [hI1] at Lx
    have k51 := Lx.1.1
    have rw1 := rw0.keep R.1 F1
    have rw1' : Rw M1 (f x) (lrw (tI Tf x) py) := ⟨rw1.1, fun i hi => by rw [rw1.2 i hi, erow]⟩
    simp (disch := first | (simp only [dd, dr]; done) | omega) only [W_109, k51, I_lt, I_le, I_inj, inB_I, tc_I, Int.toNat_natCast, fkt, rf1, rf0, cq, Nat.reduceAdd, Nat.reduceEqDiff, Int.reduceToNat, eq_self, true_and, and_true, true_or, or_true, bI_0, bI_1, mm, rAm, mF_sF, mR_sR, false_and, and_false, if_false, if_true, false_or, or_false, not_true_eq_false, not_false_eq_true, and_self]
    refine cr_135 (by omega) (c_takeL (by omega) Lx rw1' (hLf x hx).1 (hLf x hx).2.2 (hLf x hx).2.1 (fun M2 F2 L2 => ?_))
    have R2 := R1.itm (b := x) hq1 hx1 F2 L2 (hLf x hx).2.2 (fun _ _ _ _ _ => rfl)
    have f2 := F2.f1
    have hq1' : na A1 0 x = some q1 := by unfold na; rw [if_pos rfl]; exact hq1
    simp (disch := first | (simp only [dd, dr]; done) | omega) only [r_109_29, r_109_29_1, r_109_31, r_109_31_1, r_109_33, I_lt, I_le, I_inj, inB_I, tc_I, Int.toNat_natCast, fkt, rf1, rf0, cq, Nat.reduceAdd, Nat.reduceEqDiff, Int.reduceToNat, eq_self, true_and, and_true, true_or, or_true, bI_0, bI_1, mm, rAm, mF_sF, mR_sR, false_and, and_false, if_false, if_true, false_or, or_false, not_true_eq_false, not_false_eq_true, and_self]
    have hnr : ∀ k, x ∉ tW (uI (uP (uH (uI T x []) x 1) x none) x (tI Tf x)) k := by
      intro k hm
      simp only [ti, tp, th] at hm
      have := (S0.1 k x hm).1; omega
    have naS : ∀ k b, b ≠ x → na A1 k b = na A k b := by
      intro k b hb
      unfold na
      by_cases e : k = 0
      · rw [if_pos e, if_pos e]
        cases ho : A.1 b with
        | some qb => exact F1.2.2.1 b qb ho
        | none =>
          cases hn : A1.1 b with
          | none => rfl
          | some qb =>
            exfalso
            rcases F1.2.2.2.2.1 b qb hn with h | h
            · rw [ho] at h; cases h
            · have e1 := (R1.1.2.1 b (R1.1.2.2.1 b qb hn).1).1
              have e2 := (R.1.2.1 b (R1.1.2.2.1 b qb hn).1).1
              have l1 := lt_kX R.1.2.2.2.2 R.1.1.2.2.1 (by decide)
              have nq : t + 1 ≠ q1 := by
                intro e; have := R1.1.1.2.2.1; rw [e, kO_X k51 (by omega)] at this; cases this
              rw [(O.2.1 (t + 1) l1 nq).2.2.2.1 b (fun hh => hb hh.2), e2, ho, hn] at e1; cases e1
      · rw [if_neg e, if_neg e, eA2]
    have L1 : Ls M2 t A1 (uI (uP (uH (uI T x []) x 1) x none) x (tI Tf x)) := by
      intro k hk
      rw [f2.2.2.2.2.1]
      have l3 := lt_kX R.1.2.2.2.2 R.1.1.2.2.2.2.2.2.1 (by decide)
      have nq : t + 3 ≠ q1 := by
        intro e; have := R1.1.1.2.2.2.2.2.2.1; rw [e, kO_X k51 (by omega)] at this; cases this
      rw [(O.2.1 (t + 3) l3 nq).2.2.2.1 k (fun hh => by omega), L k hk]
      simp only [ti, tp, th]
      cases hl : (tW T k).getLast? with
      | none => rfl
      | some y =>
        have hym := List.mem_of_getLast? hl
        have hyx : y ≠ x := by intro e; have := (S0.1 k y hym).1; rw [e] at this; omega
        exact (naS k y hyx).symm
    refine z_app (h := 0) R2 (show SW0 _ from S1) rfl rfl rfl rfl rfl rfl (by simp only [ti]; exact hx1) hq1' hnr (by rw [f2.2.2.2.2.2.2.2.2.1]; exact b5.2) L1 (by omega) (fun M3 R3 L3 F3 h31 hA3 => ?_)
    refine hQ M3 A1 q1 _ hq1' R3 ((show SW0 (uI (uP (uH (uI T x []) x 1) x none) x (tI Tf x)) from S1).app (by simp only [ti]; exact hx1) hx96 (hnr 0)) L3 ⟨fun b hb => ?_, fun b hb => ?_, ?_, fun k => ?_⟩ ((F1.trans (Fr.lf hq1 F2)).trans F3) (fun b q' hq' hb hbn => ?_)
    · have hbx : b ≠ x := fun e => hb (by rw [e]; simp [sub])
      simp only [tw, ti, tp, th]
      rw [fu_n _ _ hbx, fu_n _ _ hbx, fu_n _ _ hbx, fu_n _ _ hbx]
      exact ⟨rfl, rfl, trivial, rfl⟩
    · have hbx : b = x := by simpa [sub] using hb
      subst hbx
      simp only [tw, ti, tp, th]
      rw [fu_s, fu_s]
      exact ⟨hx.symm, fun _ => rfl, fun h => absurd hx h, fun h => absurd rfl h⟩
    · simp only [tw, ti, tp]; rw [fu_s]
    · simp only [tw, ti, tp, th, rsub]
      by_cases e : k = 0
      · subst e; rw [fu_s, if_pos rfl]
      · rw [fu_n _ _ e, if_neg e, List.append_nil]
    · have hbx : b ≠ x := fun e => hb (by rw [e]; simp [sub])
      have hq2 : A1.2 b = some q' := by rw [eA2]; exact hq'
      rw [h31 b 1 q' (by unfold na; rw [if_neg (by omega)]; exact hq2) (by simp only [ti, tp, th]; exact hbn 0), f2.2.2.2.2.2.2.2.2.1]
      have k6 := (R.1.2.2.2.1 b q' hq').2.1.1
      have nq : q' ≠ q1 := by
        intro e; have := (R1.1.2.2.2.1 b q' hq2).2.1.1; rw [e, k51] at this; cases this
      exact (O.2.1 q' (lt_kO R.1.2.2.2.2 k6 (by omega)) nq).2.1 31
  | succ h ih =>
    intro d x M A T Q hd hh hx R S0 W hN L hQ
    obtain ⟨hx0, hx96, rw0⟩ := hN x (by simp [sub])
    obtain ⟨eQ, kX⟩ := W.2.1 x hx96
    obtain ⟨h5, hc96⟩ := hch h x hx
    have W1 := W.1
    have t0 := R.1.1.1
    have erow : ∀ i, rowN Tf py x i = irw h (tC Tf x) (fkey Tf h) i := fun i => by unfold rowN; rw [if_neg (by omega), hx, show h + 1 + 1 - 2 = h by omega]
    simp (disch := first | (simp only [dd, dr]; done) | omega) only [W_109, W1, eQ, I_lt, I_le, I_inj, inB_I, tc_I, Int.toNat_natCast, fkt, rf1, rf0, cq, Nat.reduceAdd, Nat.reduceEqDiff, Int.reduceToNat, eq_self, true_and, and_true, true_or, or_true, bI_0, bI_1, mm, rAm, mF_sF, mR_sR, false_and, and_false, if_false, if_true, false_or, or_false, not_true_eq_false, not_false_eq_true, and_self]
    refine cr_36 (by omega) (c_byteN (k := 0) rw0 (by omega) rfl ?_)
    have e0 : rowN Tf py x 0 % 256 = h + 1 := by rw [erow]; show (h + 1) % 256 = h + 1; omega
    rw [e0]
    simp (disch := first | (simp only [dd, dr]; done) | omega) only [W_109, I_lt, I_le, I_inj, inB_I, tc_I, Int.toNat_natCast, fkt, rf1, rf0, cq, Nat.reduceAdd, Nat.reduceEqDiff, Int.reduceToNat, eq_self, true_and, and_true, true_or, or_true, bI_0, bI_1, mm, rAm, mF_sF, mR_sR, false_and, and_false, if_false, if_true, false_or, or_false, not_true_eq_false, not_false_eq_true, and_self]
    refine ⟨fun _ => ?_, (fun h => by first | exact False.elim h | exact absurd trivial h | (exfalso; omega) | exact absurd rfl h | cases h)⟩
    simp (disch := first | (simp only [dd, dr]; done) | omega) only [W_109, t0, I_lt, I_le, I_inj, inB_I, tc_I, Int.toNat_natCast, fkt, rf1, rf0, cq, Nat.reduceAdd, Nat.reduceEqDiff, Int.reduceToNat, eq_self, true_and, and_true, true_or, or_true, bI_0, bI_1, mm, rAm, mF_sF, mR_sR, false_and, and_false, if_false, if_true, false_or, or_false, not_true_eq_false, not_false_eq_true, and_self]
    refine ca_102 (by omega) (z_innerAt (r2 := t - 1) (h0 := h) R S0 (by omega) hx0 hx96 (fun M1 A1 q1 hq1 eA1 exA b5 O R1 F1 => ?_))
    have S1 := S0.inner (b := x) (h0 := h) hx0
    have rw1 := rw0.keep R.1 F1
    simp (disch := first | (simp only [dd, dr]; done) | omega) only [W_109, I_lt, I_le, I_inj, inB_I, tc_I, Int.toNat_natCast, fkt, rf1, rf0, cq, Nat.reduceAdd, Nat.reduceEqDiff, Int.reduceToNat, eq_self, true_and, and_true, true_or, or_true, bI_0, bI_1, mm, rAm, mF_sF, mR_sR, false_and, and_false, if_false, if_true, false_or, or_false, not_true_eq_false, not_false_eq_true, and_self]
    refine cr_36 (by omega) (c_byteN (k := 1) rw1 (by omega) rfl ?_)
    have e1 : rowN Tf py x 1 % 256 = (tC Tf x).length := by rw [erow]; show (tC Tf x).length % 256 = _; omega
    rw [e1]
    simp (disch := first | (simp only [dd, dr]; done) | omega) only [W_109, I_lt, I_le, I_inj, inB_I, tc_I, Int.toNat_natCast, fkt, rf1, rf0, cq, Nat.reduceAdd, Nat.reduceEqDiff, Int.reduceToNat, eq_self, true_and, and_true, true_or, or_true, bI_0, bI_1, mm, rAm, mF_sF, mR_sR, false_and, and_false, if_false, if_true, false_or, or_false, not_true_eq_false, not_false_eq_true, and_self]
    have k61 := (R1.1.2.2.2.1 x q1 hq1).2.1.1
    have naS : ∀ k b, b ≠ x → na A1 k b = na A k b := by
      intro k b hb
      unfold na
      by_cases e : k = 0
      · rw [if_pos e, if_pos e, eA1]
      · rw [if_neg e, if_neg e]
        cases ho : A.2 b with
        | some qb => exact exA b qb ho
        | none =>
          cases hn : A1.2 b with
          | none => rfl
          | some qb =>
            exfalso
            have e1 := (R1.1.2.1 b (R1.1.2.2.2.1 b qb hn).1).2
            have e2 := (R.1.2.1 b (R1.1.2.2.2.1 b qb hn).1).2
            have l1 := lt_kX R.1.2.2.2.2 R.1.1.2.2.2.2.1 (by decide)
            have nq : t + 2 ≠ q1 := by
              intro e; have := R1.1.1.2.2.2.2.1; rw [e, kO_X k61 (by omega)] at this; cases this
            rw [(O.2.1 (t + 2) l1 nq).2.2.2.1 b (fun hh => hb hh.2), e2, ho, hn] at e1; cases e1
    have L1 : Ls M1 t A1 (uP (uH (uC T x []) x (h + 2)) x none) := by
      intro k hk
      have l3 := lt_kX R.1.2.2.2.2 R.1.1.2.2.2.2.2.2.1 (by decide)
      have nq : t + 3 ≠ q1 := by
        intro e; have := R1.1.1.2.2.2.2.2.2.1; rw [e, kO_X k61 (by omega)] at this; cases this
      rw [(O.2.1 (t + 3) l3 nq).2.2.2.1 k (fun hh => by omega), L k hk]
      simp only [tc, tp, th]
      cases hl : (tW T k).getLast? with
      | none => rfl
      | some y =>
        have hym := List.mem_of_getLast? hl
        have hyx : y ≠ x := by intro e; have := (S0.1 k y hym).1; rw [e] at this; omega
        exact (naS k y hyx).symm
    have h31_1 : ∀ b q', A.2 b = some q' → b ≠ x → mR M1 31 q' = mR M 31 q' := by
      intro b q' hq' hbx
      have k6 := (R.1.2.2.2.1 b q' hq').2.1.1
      have nq : q' ≠ q1 := by
        intro e
        have g1 := (R1.1.inj (h := 1) (h' := 1) (b := b) (b' := x) (q := q') (by unfold na; rw [if_neg (by omega)]; exact exA b q' hq') (by unfold na; rw [if_neg (by omega), e]; exact hq1)).1
        exact hbx g1
      exact (O.2.1 q' (lt_kO R.1.2.2.2.2 k6 (by omega)) nq).2.1 31
    suffices H : ∀ n' (k : Nat) (M2 : Mem) (A2 : Ad) (T2 : Tr), k + n' = (tC Tf x).length → RM0 M2 t r A2 T2 py → SW0 T2 → Ls M2 t A2 T2 → Fr t (t - 1) A A2 0 M M2 → A2.2 x = some q1 → mR M2 31 q1 = none → tH T2 x = h + 2 → tC T2 x = (tC Tf x).take k → tP T2 x = none →
        (∀ b, b ≠ x → b ∉ ((tC Tf x).take k).flatMap (sub Tf h) → tH T2 b = tH T b ∧ tI T2 b = tI T b ∧ tC T2 b = tC T b ∧ tP T2 b = tP T b) →
        (∀ b, b ∈ ((tC Tf x).take k).flatMap (sub Tf h) → tH T2 b = tH Tf b ∧ (tH Tf b = 1 → tI T2 b = tI Tf b) ∧ (tH Tf b ≠ 1 → tC T2 b = tC Tf b) ∧ tP T2 b = tP Tf b) →
        (∀ j, tW T2 j = tW T j ++ ((tC Tf x).take k).flatMap (fun c => rsub Tf h c j)) →
        (∀ b q', A.2 b = some q' → b ≠ x → b ∉ ((tC Tf x).take k).flatMap (sub Tf h) → (∀ j, b ∉ tW T j) → mR M2 31 q' = mR M 31 q') →
        Wp d 109 55 [some (.ref t), some (.ref a), some (.int (I (x : Nat))), some (.ref (f x)), some (.int (I ((h + 1 : Nat) : Int))), none, some (.ref q1), some (.int (I ((tC Tf x).length : Nat))), some (.int (I (k : Nat)))] [] M2 Q by
      refine H (tC Tf x).length 0 M1 A1 _ (by omega) R1 S1 L1 F1 hq1 b5.2 (by simp only [tp, th]; rw [fu_s]) (by simp only [tp, th, tc]; rw [fu_s]; rfl) (by simp only [tp]; rw [fu_s]) (fun b hbx _ => ?_) (fun b hb => by simp at hb) (fun j => by simp only [tp, th, tc]; simp) (fun b q' hq' hbx _ _ => h31_1 b q' hq' hbx)
      simp only [tp, th, tc]
      rw [fu_n _ _ hbx, fu_n _ _ hbx, fu_n _ _ hbx]
      exact ⟨rfl, trivial, rfl, rfl⟩
    intro n'
    induction n' with
    | zero =>
      intro k M2 A2 T2 hk R2 S2 L2 F2 hq2 h31 hx2 hC2 hP2 hO hI hW hF
      have ek : (tC Tf x).take k = tC Tf x := List.take_of_length_le (by omega)
      rw [ek] at hC2 hO hI hF
      have hW' : ∀ j, tW T2 j = tW T j ++ (tC Tf x).flatMap (fun c => rsub Tf h c j) := fun j => by rw [hW j, ek]
      have hq2' : na A2 (h + 1) x = some q1 := by unfold na; rw [if_neg (by omega)]; exact hq2
      have hxs : ∀ j c, c ∈ tC Tf x → x ∉ rsub Tf h c j := by
        intro j c hc hm
        have := (sub_H S h c x (S.2.2.1 h x c hx hc).1 (rsub_sub h c j x hm)).2.1
        omega
      have hnr : ∀ j, x ∉ tW T2 j := by
        intro j hm
        rw [hW' j] at hm
        rcases List.mem_append.mp hm with hm | hm
        · have := (S0.1 j x hm).1; omega
        · obtain ⟨c, hc, hcm⟩ := List.mem_flatMap.mp hm
          exact hxs j c hc hcm
      simp (disch := first | (simp only [dd, dr]; done) | omega) only [w_109_55, r_109_55, r_109_57, r_109_59, I_lt, I_le, I_inj, inB_I, tc_I, Int.toNat_natCast, fkt, rf1, rf0, cq, Nat.reduceAdd, Nat.reduceEqDiff, Int.reduceToNat, eq_self, true_and, and_true, true_or, or_true, bI_0, bI_1, mm, rAm, mF_sF, mR_sR, false_and, and_false, if_false, if_true, false_or, or_false, not_true_eq_false, not_false_eq_true, and_self]
      refine ⟨fun _ => ?_, (fun h => by first | exact False.elim h | exact absurd trivial h | (exfalso; omega) | exact absurd rfl h | cases h)⟩
      simp (disch := first | (simp only [dd, dr]; done) | omega) only [r_109_90, r_109_90_1, r_109_92, r_109_92_1, I_lt, I_le, I_inj, inB_I, tc_I, Int.toNat_natCast, fkt, rf1, rf0, cq, Nat.reduceAdd, Nat.reduceEqDiff, Int.reduceToNat, eq_self, true_and, and_true, true_or, or_true, bI_0, bI_1, mm, rAm, mF_sF, mR_sR, false_and, and_false, if_false, if_true, false_or, or_false, not_true_eq_false, not_false_eq_true, and_self]
      refine z_app (h := h + 1) R2 S2 rfl rfl rfl rfl rfl rfl hx2 hq2' hnr h31 L2 (by omega) (fun M3 R3 L3 F3 h31' hA3 => ?_)
      refine hQ M3 A2 q1 _ hq2' R3 (S2.app hx2 hx96 (hnr _)) L3 ⟨fun b hb => ?_, fun b hb => ?_, ?_, fun j => ?_⟩ (F2.trans F3) (fun b q' hq' hb hbn => ?_)
      · rw [sub] at hb
        have hbx : b ≠ x := fun e => hb (by rw [e]; exact List.mem_cons_self ..)
        simp only [tw]
        exact hO b hbx (fun hm => hb (List.mem_cons_of_mem _ hm))
      · rw [sub] at hb
        simp only [tw]
        by_cases hbx : b = x
        · subst hbx
          exact ⟨by rw [hx2, hx], fun h => by omega, fun _ => hC2, fun h => absurd rfl h⟩
        · rcases List.mem_cons.mp hb with e | hb
          · exact absurd e hbx
          · obtain ⟨i1, i2, i3, i4⟩ := hI b hb
            exact ⟨i1, i2, i3, fun _ => i4⟩
      · simp only [tw]; exact hP2
      · simp only [tw, rsub]
        by_cases e : j = h + 1
        · subst e
          rw [fu_s, if_pos rfl, hW']
          have : (tC Tf x).flatMap (fun c => rsub Tf h c (h + 1)) = [] := by
            have : ∀ l : List Nat, l.flatMap (fun c => rsub Tf h c (h + 1)) = [] := by
              intro l
              induction l with
              | nil => rfl
              | cons c l ih => rw [List.flatMap_cons, rsub_hi h c _ (by omega), ih]; rfl
            exact this _
          rw [this, List.append_nil]
        · rw [fu_n _ _ e, if_neg e]; exact hW' j
      · rw [sub] at hb
        have hbx : b ≠ x := fun e => hb (by rw [e]; exact List.mem_cons_self ..)
        have hbm : b ∉ (tC Tf x).flatMap (sub Tf h) := fun hm => hb (List.mem_cons_of_mem _ hm)
        rw [h31' b 1 q' (by unfold na; rw [if_neg (by omega)]; exact F2.2.2.2.1 b q' hq') (fun hm => ?_)]
        · exact hF b q' hq' hbx hbm hbn
        · rw [hW'] at hm
          rcases List.mem_append.mp hm with hm | hm
          · exact hbn _ hm
          · obtain ⟨c, hc, hcm⟩ := List.mem_flatMap.mp hm
            exact hbm (List.mem_flatMap.mpr ⟨c, hc, rsub_sub h c _ b hcm⟩)
    | succ n' ih2 =>
      intro k M2 A2 T2 hk R2 S2 L2 F2 hq2 h31 hx2 hC2 hP2 hO hI hW hF
      have hkl : k < (tC Tf x).length := by omega
      have hcm : (tC Tf x)[k] ∈ tC Tf x := List.getElem_mem hkl
      obtain ⟨hcH, hcP⟩ := S.2.2.1 h x _ hx hcm
      have hc96' := hc96 _ hcm
      have rw2 := rw0.keep R.1 F2
      have hnd := S.2.2.2.1 h x hx
      have hg : (tC Tf x).getD k 0 = (tC Tf x)[k] := by rw [List.getD_eq_getElem?_getD, List.getElem?_eq_getElem hkl]; rfl
      have eb : rowN Tf py x (2 + 4 * k) % 256 = (tC Tf x)[k] := by
        rw [erow]
        unfold irw
        rw [if_neg (by omega), if_neg (by omega), if_neg (by omega), if_pos (by omega), if_pos (by omega), show (2 + 4 * k - 2) / 4 = k by omega, hg]
        omega
      have hsplit : (tC Tf x).take (k + 1) = (tC Tf x).take k ++ [(tC Tf x)[k]] := List.take_succ_eq_append_getElem hkl
      generalize hce : (tC Tf x)[k] = c at *
      have hcnt : c ∉ (tC Tf x).take k := by
        intro hm
        have hnd' : ((tC Tf x).take (k + 1)).Nodup := hnd.sublist (List.take_sublist ..)
        rw [hsplit] at hnd'
        exact (List.nodup_append.mp hnd').2.2 c hm c (List.mem_cons_self ..) rfl
      have hdis : ∀ b, b ∈ sub Tf h c → b ≠ x ∧ b ∉ ((tC Tf x).take k).flatMap (sub Tf h) := by
        intro b hb
        refine ⟨fun e => ?_, fun hm => ?_⟩
        · have := (sub_H S h c b hcH hb).2.1; rw [e, hx] at this; omega
        · obtain ⟨c2, hc2, hb2⟩ := List.mem_flatMap.mp hm
          have hc2m := List.mem_of_mem_take hc2
          have := sub_inj S h c c2 b hcH (S.2.2.1 h x c2 hx hc2m).1 hb hb2
          rw [← this] at hc2; exact hcnt hc2
      have hcx : c ≠ x := fun e => by rw [e, hx] at hcH; omega
      have t02 := R2.1.1.1
      simp (disch := first | (simp only [dd, dr]; done) | omega) only [w_109_55, r_109_55, r_109_57, r_109_59, I_lt, I_le, I_inj, inB_I, tc_I, Int.toNat_natCast, fkt, rf1, rf0, cq, Nat.reduceAdd, Nat.reduceEqDiff, Int.reduceToNat, eq_self, true_and, and_true, true_or, or_true, bI_0, bI_1, mm, rAm, mF_sF, mR_sR, false_and, and_false, if_false, if_true, false_or, or_false, not_true_eq_false, not_false_eq_true, and_self]
      refine ⟨(fun h => by first | exact False.elim h | exact absurd trivial h | (exfalso; omega) | exact absurd rfl h | cases h), fun _ => ?_⟩
      simp (disch := first | (simp only [dd, dr]; done) | omega) only [W_109, I_lt, I_le, I_inj, inB_I, tc_I, Int.toNat_natCast, fkt, rf1, rf0, cq, Nat.reduceAdd, Nat.reduceEqDiff, Int.reduceToNat, eq_self, true_and, and_true, true_or, or_true, bI_0, bI_1, mm, rAm, mF_sF, mR_sR, false_and, and_false, if_false, if_true, false_or, or_false, not_true_eq_false, not_false_eq_true, and_self]
      refine cr_36 (by omega) (c_byteN (k := 2 + 4 * k) rw2 (by omega) (by omega) ?_)
      rw [eb]
      simp (disch := first | (simp only [dd, dr]; done) | omega) only [W_109, t02, I_lt, I_le, I_inj, inB_I, tc_I, Int.toNat_natCast, fkt, rf1, rf0, cq, Nat.reduceAdd, Nat.reduceEqDiff, Int.reduceToNat, eq_self, true_and, and_true, true_or, or_true, bI_0, bI_1, mm, rAm, mF_sF, mR_sR, false_and, and_false, if_false, if_true, false_or, or_false, not_true_eq_false, not_false_eq_true, and_self]
      refine ca_109 (o0 := some a) (by omega) (ih (d - 1) c M2 A2 T2 _ (by omega) (by omega) hcH R2 S2 (W.keep R.1 F2) (fun b hb => ?_) L2 (fun M3 A3 qc T3 hqc R3 S3 L3 Ag3 F3 h313 => ?_))
      · obtain ⟨g1, g2⟩ := hdis b hb
        have hbN := hN b (by rw [sub]; exact List.mem_cons_of_mem _ (List.mem_flatMap.mpr ⟨c, hcm, hb⟩))
        exact ⟨by rw [(hO b g1 g2).1]; exact hbN.1, hbN.2.1, hbN.2.2.keep R.1 F2⟩
      obtain ⟨a1, a2, a3, a4⟩ := Ag3
      have hxn : x ∉ sub Tf h c := fun hm => (hdis x hm).1 rfl
      obtain ⟨x1, x2, x3, x4⟩ := a1 x hxn
      have hq3 := F3.2.2.2.1 x q1 hq2
      have k63 := (R3.1.2.2.2.1 x q1 hq3).2.1.1
      have hcs : c ∈ sub Tf h c := by cases h with | zero => simp [sub] | succ h => simp [sub]
      have hc3 := (a2 c hcs).1
      have hlen3 : (tC T3 x).length = k := by rw [x3, hC2, List.length_take]; omega
      have hxrow2 : ∀ j, x ∉ tW T2 j := by
        intro j hm
        have := (S2.1 j x hm).1
        rw [hW j] at hm
        rcases List.mem_append.mp hm with hm | hm
        · have := (S0.1 j x hm).1; omega
        · obtain ⟨c2, hc2, hcm2⟩ := List.mem_flatMap.mp hm
          have := (sub_H S h c2 x (S.2.2.1 h x c2 hx (List.mem_of_mem_take hc2)).1 (rsub_sub h c2 j x hcm2)).2.1
          omega
      have h31_3 : mR M3 31 q1 = none := by rw [h313 x q1 hq2 hxn hxrow2]; exact h31
      simp (disch := first | (simp only [dd, dr]; done) | omega) only [W_109, k63, I_lt, I_le, I_inj, inB_I, tc_I, Int.toNat_natCast, fkt, rf1, rf0, cq, Nat.reduceAdd, Nat.reduceEqDiff, Int.reduceToNat, eq_self, true_and, and_true, true_or, or_true, bI_0, bI_1, mm, rAm, mF_sF, mR_sR, false_and, and_false, if_false, if_true, false_or, or_false, not_true_eq_false, not_false_eq_true, and_self]
      refine cr_142 (by omega) (z_put (r2 := t - 1) (k := k) R3 (h := h) (p := x) (x := c) (by rw [x1]; exact hx2) hq3 (by rw [hc3]; exact hcH) hqc (by omega) (by omega) (fun M4 R4 m33 mQ4 mA4 F4 => ?_))
      simp (disch := first | (simp only [dd, dr]; done) | omega) only [W_109, I_lt, I_le, I_inj, inB_I, tc_I, Int.toNat_natCast, fkt, rf1, rf0, cq, Nat.reduceAdd, Nat.reduceEqDiff, Int.reduceToNat, eq_self, true_and, and_true, true_or, or_true, bI_0, bI_1, mm, rAm, mF_sF, mR_sR, false_and, and_false, if_false, if_true, false_or, or_false, not_true_eq_false, not_false_eq_true, and_self]
      rw [show ((k : Int) + 1) = ((k + 1 : Nat) : Int) by omega]
      have S4 : SW0 (cp T3 x k c) := S3.put (h := h) (by rw [x1]; exact hx2) (by rw [hc3]; exact hcH) (fun h' b hb hm => by
        have := (S3.2.2.1 h' b c hb hm).2
        rw [a3] at this; cases this)
      have kX3 := R3.1.1.2.2.2.2.2.2.1
      have kXq := (R3.1.2.2.2.1 x q1 hq3).2.1.2.2
      have n3 : t + 3 ≠ q1 + 1 := by intro e; rw [e, kXq] at kX3; cases kX3
      have etk : ∀ b, b ∈ ((tC Tf x).take (k + 1)).flatMap (sub Tf h) ↔ b ∈ ((tC Tf x).take k).flatMap (sub Tf h) ∨ b ∈ sub Tf h c := by
        intro b
        rw [hsplit, List.flatMap_append]
        simp only [List.mem_append, List.flatMap_cons, List.flatMap_nil, List.append_nil]
      have H4 : tH (cp T3 x k c) = tH T3 := by simp only [cp, tc, tp]
      have I4 : tI (cp T3 x k c) = tI T3 := by simp only [cp, tc, tp]
      have W4 : tW (cp T3 x k c) = tW T3 := by simp only [cp, tc, tp]
      have C4 : ∀ b, b ≠ x → tC (cp T3 x k c) b = tC T3 b := fun b hb => by simp only [cp, tc, tp]; exact fu_n _ _ hb
      have P4 : ∀ b, b ≠ c → tP (cp T3 x k c) b = tP T3 b := fun b hb => by simp only [cp, tc, tp]; exact fu_n _ _ hb
      refine ih2 (k + 1) M4 A3 _ (by omega) R4 S4 (fun j hj => ?_) ((F2.trans F3).trans F4) hq3 (by rw [m33 31 q1 (by omega)]; exact h31_3) (by rw [H4, x1]; exact hx2) ?_ (by rw [P4 x (Ne.symm hcx), x4]; exact hP2) (fun b hbx hb => ?_) (fun b hb => ?_) (fun j => ?_) (fun b q' hq' hbx hb hbn => ?_)
      · rw [mQ4 _ _ n3, W4]; exact L3 j hj
      · have e1 : tC (cp T3 x k c) x = (tC T3 x).take k ++ c :: (tC T3 x).drop k := by simp only [cp, tc, tp]; exact fu_s _ _ _
        rw [e1, List.take_of_length_le (by omega), List.drop_eq_nil_of_le (by omega), x3, hC2, hsplit]
      · have hb1 : b ∉ ((tC Tf x).take k).flatMap (sub Tf h) := fun hm => hb ((etk b).mpr (.inl hm))
        have hb2 : b ∉ sub Tf h c := fun hm => hb ((etk b).mpr (.inr hm))
        have hbc : b ≠ c := fun e => hb2 (by rw [e]; exact hcs)
        obtain ⟨y1, y2, y3, y4⟩ := a1 b hb2
        obtain ⟨z1, z2, z3, z4⟩ := hO b hbx hb1
        rw [H4, I4, C4 b hbx, P4 b hbc]
        exact ⟨y1.trans z1, y2.trans z2, y3.trans z3, y4.trans z4⟩
      · by_cases hb2 : b ∈ sub Tf h c
        · obtain ⟨y1, y2, y3, y4⟩ := a2 b hb2
          have hbx := (hdis b hb2).1
          rw [H4, I4, C4 b hbx]
          refine ⟨y1, y2, y3, ?_⟩
          by_cases hbc : b = c
          · subst hbc
            have : tP (cp T3 x k b) b = some x := by simp only [cp, tc, tp]; exact fu_s _ _ _
            rw [this, hcP]
          · rw [P4 b hbc]; exact y4 hbc
        · rcases (etk b).mp hb with hb1 | hb1
          · have hbx : b ≠ x := by
              intro e
              obtain ⟨c2, hc2, hb3⟩ := List.mem_flatMap.mp hb1
              have := (sub_H S h c2 b (S.2.2.1 h x c2 hx (List.mem_of_mem_take hc2)).1 hb3).2.1
              rw [e, hx] at this; omega
            have hbc : b ≠ c := fun e => hb2 (by rw [e]; exact hcs)
            obtain ⟨y1, y2, y3, y4⟩ := a1 b hb2
            obtain ⟨z1, z2, z3, z4⟩ := hI b hb1
            rw [H4, I4, C4 b hbx, P4 b hbc, y1, y2, y3, y4]
            exact ⟨z1, z2, z3, z4⟩
          · exact absurd hb1 hb2
      · rw [W4, a4 j, hW j, hsplit, List.flatMap_append]
        simp only [List.flatMap_cons, List.flatMap_nil, List.append_nil, List.append_assoc]
      · have hb1 : b ∉ ((tC Tf x).take k).flatMap (sub Tf h) := fun hm => hb ((etk b).mpr (.inl hm))
        have hb2 : b ∉ sub Tf h c := fun hm => hb ((etk b).mpr (.inr hm))
        rw [m33 31 q' (by omega), h313 b q' (F2.2.2.2.1 b q' hq') hb2 (fun j hm => ?_)]
        · exact hF b q' hq' hbx hb1 hbn
        · rw [hW j] at hm
          rcases List.mem_append.mp hm with hm | hm
          · exact hbn j hm
          · obtain ⟨c2, hc2, hcm2⟩ := List.mem_flatMap.mp hm
            exact hb1 (List.mem_flatMap.mpr ⟨c2, hc2, rsub_sub h c2 j b hcm2⟩)
end ZR
