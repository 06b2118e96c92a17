/-! ===== THE COMPONENT: add, more ===== -/
/-- what is known of a tree in which a node y has its place in a row alone -/
def Up (T : Tr) (y : Nat) : Prop := (∀ b, tU T b = false → tH T b = 0) ∧ (∀ k b, tH T b = k + 1 → b ≠ y → tP T b = none → tN T = k + 1) ∧ (∀ k b p, tH T b = k + 1 → b ≠ y → tP T b = some p → tH T p = k + 2) ∧ (∀ h b, tH T b = h + 2 → y ∉ tC T b) ∧ y ≠ tR T ∧ (∀ b, tH T b = 0 → tC T b = [])
theorem SW.tak {T : Tr} (S : SW T) {b : Nat} (hb : tH T b = 0) : SW (tk T b) := by
  obtain ⟨s1, s2, s3, s4, s5, s6, s7⟩ := S
  have hr : tR T ≠ b := by intro e; rw [e, hb] at s5; omega
  unfold SW
  simp only [tk, tu, th, ti, tc]
  refine ⟨fun h b' hm => ?_, s2, fun h b' c hb' hc => ?_, fun h b' hb' => ?_, by rw [fu_n _ _ hr]; exact s5, s6, s7⟩
  · have := s1 h b' hm
    rw [fu_n _ _ (by intro e; rw [e, hb] at this; omega)]; exact this
  · by_cases eb : b' = b
    · subst eb; rw [fu_s] at hb'; omega
    · rw [fu_n _ _ eb] at hb' hc
      have := s3 h b' c hb' hc
      rw [fu_n _ _ (by intro e; rw [e, hb] at this; omega)]; exact this
  · by_cases eb : b' = b
    · subst eb; rw [fu_s] at hb'; omega
    · rw [fu_n _ _ eb] at hb' ⊢; exact s4 h b' hb'
theorem SW.innerX {T : Tr} (S : SW T) {b h0 : Nat} (hb : tH T b = 0) (hc0 : tC T b = []) : SW (uH T b (h0 + 2)) := by
  obtain ⟨s1, s2, s3, s4, s5, s6, s7⟩ := S
  have hr : tR T ≠ b := by intro e; rw [e, hb] at s5; omega
  unfold SW
  simp only [th]
  refine ⟨fun h b' hm => ?_, s2, fun h b' c hb' hc => ?_, fun h b' hb' => ?_, by rw [fu_n _ _ hr]; exact s5, s6, s7⟩
  · have := s1 h b' hm
    rw [fu_n _ _ (by intro e; rw [e, hb] at this; omega)]; exact this
  · by_cases eb : b' = b
    · subst eb; rw [hc0] at hc; cases hc
    · rw [fu_n _ _ eb] at hb'
      have := s3 h b' c hb' hc
      rw [fu_n _ _ (by intro e; rw [e, hb] at this; omega)]; exact this
  · by_cases eb : b' = b
    · subst eb; rw [hc0]; exact List.nodup_nil
    · rw [fu_n _ _ eb] at hb'; exact s4 h b' hb'
theorem RM.single {M : Mem} {t r m : Nat} {A : Ad} {T : Tr} {py : Nat → List Nat} {e : Option Nat} (R : RM M t r m A T py e) {h b q : Nat} (hq : na A h b = some q) (h1 : mR M 30 q = none) (h2 : mR M 31 q = none) : RM M t r m A (uW T h [b]) py e := by
  obtain ⟨r1, r2, r3, r4, r5, r6, r7⟩ := R
  simp only [RM, tw]
  refine ⟨r1, r2, r3, r4, r5, fun k b' q' hb hq' => ?_, r7⟩
  by_cases e' : k = h
  · subst e'; rw [fu_s] at hb ⊢
    have : b' = b := by simpa using hb
    subst this
    rw [hq] at hq'; cases hq'
    rw [h1, h2]
    exact ⟨by simp [pv, ix], by simp [nx, ix]⟩
  · rw [fu_n _ _ e'] at hb ⊢; exact r6 k b' q' hb hq'
theorem SW.single {T : Tr} (S : SW T) {h b : Nat} (hb : tH T b = h + 1) (h96 : b < 96) : SW (uW T h [b]) := by
  obtain ⟨s1, s2, s3, s4, s5⟩ := S
  simp only [SW, tw]
  refine ⟨fun k b' hm => ?_, fun k => ?_, s3, s4, s5⟩
  · by_cases e : k = h
    · subst e; rw [fu_s] at hm
      have : b' = b := by simpa using hm
      subst this; exact ⟨hb, h96⟩
    · rw [fu_n _ _ e] at hm; exact s1 k b' hm
  · by_cases e : k = h
    · subst e; rw [fu_s]; simp
    · rw [fu_n _ _ e]; exact s2 k
theorem SW.root {T : Tr} (S : SW T) {k n : Nat} (h1 : tH T k = n) (h2 : tP T k = none) (h3 : 1 ≤ n) : SW (uN (uR T k) n) := by
  obtain ⟨s1, s2, s3, s4, s5⟩ := S
  simp only [SW, tr, tn]
  exact ⟨s1, s2, s3, s4, h1, h2, h3⟩
theorem sp1_uW (T : Tr) (p q h : Nat) (l : List Nat) : sp1 (uW T h l) p q = uW (sp1 T p q) h l := by
  unfold sp1
  simp only [tw]
  cases (tC T p)[(tC T p).length - 1]? <;> rfl
section CH
variable {d t r m : Nat} {M : Mem} {A : Ad} {T : Tr} {py : Nat → List Nat} {e : Option Nat} {Q : Outcome → Mem → Prop}
/-- how high a node is -/
theorem n_height (R : RM M t r m A T py e) {h x qx y pc : Nat} {ls : Lc} {st : List Value} (hd : 0 < d) (hx : tH T x = h + 1) (hq : na A h x = some qx) (hQ : Wp d y (pc + 3) ls (.int (I (h : Nat)) :: st) M Q) : (kO M qx = 5 ∧ Ca d y pc ls 133 [.ref qx] st M Q) ∨ (kO M qx = 6 ∧ Ca d y pc ls 139 [.ref qx] st M Q) := by
  cases h with
  | zero =>
    refine .inl ⟨(R.1.kind hq).2.2.2.1 rfl, ca_133 hd ?_⟩
    simp (disch := first | (simp only [dd, dr]; done) | omega) only [W_133, I_lt, I_le, I_inj, inB_I, tc_I, Int.toNat_natCast, fkt, rf1, rf0, cq, Nat.reduceAdd, Nat.reduceEqDiff, Int.reduceToNat, eq_self, true_and, and_true, true_or, or_true, bI_0, bI_1, mm, rAm, mF_sF, mR_sR, false_and, and_false, if_false, if_true, false_or, or_false, not_true_eq_false, not_false_eq_true, and_self]
    exact hQ
  | succ h =>
    obtain ⟨q', g1, g2, g3⟩ := R.2.2.2.1 h x hx
    have : na A (h + 1) x = A.2 x := by unfold na; rw [if_neg (by omega)]
    rw [this, g1] at hq; cases hq
    refine .inr ⟨g2.1.1, ca_139 hd ?_⟩
    have k6 := g2.1.1
    simp (disch := first | (simp only [dd, dr]; done) | omega) only [W_139, k6, g3, I_lt, I_le, I_inj, inB_I, tc_I, Int.toNat_natCast, fkt, rf1, rf0, cq, Nat.reduceAdd, Nat.reduceEqDiff, Int.reduceToNat, eq_self, true_and, and_true, true_or, or_true, bI_0, bI_1, mm, rAm, mF_sF, mR_sR, false_and, and_false, if_false, if_true, false_or, or_false, not_true_eq_false, not_false_eq_true, and_self]
    exact hQ
end CH
section CA2
variable {t r m : Nat} {py : Nat → List Nat}
set_option maxHeartbeats 16000000 in
theorem n_add : ∀ (n d : Nat) (T T' : Tr) (ok : Bool) (A : Ad) (x y h qx qy : Nat) (M : Mem) (Q : Outcome → Mem → Prop), n + 8 ≤ d → RM M t r m A T py (some y) → SW T → Up T y → tH T x = h + 1 → tH T y = h + 1 → na A h x = some qx → na A h y = some qy → ad m n T x y = some (ok, T') →
    (ok = true → ∀ M' A', RM M' t r m A' T' py none → SW T' → Fr t r A A' 0 M M' → Q (.returned none) M') → (ok = false → ∀ M' A' a, JT M' t r m A' → Fr t r A A' 1 M M' → kO M' a = 14 → Q (.threw a) M') →
    Wp d 101 0 [some (.ref t), some (.ref qx), some (.ref qy), none, none, none] [] M Q := by
  intro n
  induction n with
  | zero => intro d T T' ok A x y h qx qy M Q hd R S U hx hy hqx hqy hg; cases hg
  | succ n ih =>
    intro d T T' ok A x y h qx qy M Q hd R S U hx hy hqx hqy hg hQt hQf
    simp only [ad] at hg
    by_cases hc : tU T 0 = true ∧ x < 96 ∧ y < 96 ∧ x ≠ y ∧ 1 ≤ tH T x
    case neg => rw [if_neg hc] at hg; cases hg
    rw [if_pos hc] at hg
    obtain ⟨c1, c2, c3, c4, c5⟩ := hc
    obtain ⟨U1, U2, U3, U4, U5, U6⟩ := U
    have K := R.1
    obtain ⟨f30, f31, f32, f33⟩ := fkN (K.kind hqx).2.1
    obtain ⟨p1, p2⟩ := R.2.2.2.2.1 h x qx hx (fun e => c4 (Option.some.inj e).symm) hqx
    have t0 := K.1.1
    have t17 := K.1.2.2.2.2.2.2.2
    have r0 := R.2.1.1
    cases hP : tP T x with
    | none =>
      simp only [hP] at hg
      rw [hP] at p1
      have p1' : mR M 33 qx = none := p1
      by_cases h8 : tH T x < 8
      case neg => rw [if_neg h8] at hg; cases hg
      rw [if_pos h8] at hg
      simp (disch := first | (simp only [dd, dr]; done) | omega) only [W_101, f33, p1', t0, t17, r0, I_lt, I_le, I_inj, inB_I, tc_I, Int.toNat_natCast, fkt, rf1, rf0, cq, Nat.reduceAdd, Nat.reduceEqDiff, Int.reduceToNat, eq_self, true_and, and_true, true_or, or_true, bI_0, bI_1, mm, rAm, mF_sF, mR_sR, false_and, and_false, if_false, if_true, false_or, or_false, not_true_eq_false, not_false_eq_true, and_self]
      refine ca_88 (by omega) (n_take R (fun k M1 hfr hk R1 F1 => ?_) (fun hfr M1 a J1 F1 k14 => ?_))
      · simp only [hfr] at hg
        by_cases hok : k ≠ x ∧ k ≠ y ∧ k < 96
        case neg => rw [if_neg hok] at hg; cases hg
        rw [if_pos hok] at hg
        cases hg
        obtain ⟨o1, o2, o3⟩ := hok
        have hkU : tU T k = false := by
          rcases fr_spec (tU T) m 0 with ⟨h1, _⟩ | ⟨k', h1, h2, h3, h4, h5⟩
          · rw [h1] at hfr; cases hfr
          · rw [h1] at hfr; cases hfr; exact h4
        have hkH := U1 k hkU
        have S1 := S.tak hkH
        have hx1 : tH (tk T k) x = h + 1 := by simp only [tk, tu, th, ti, tc]; rw [fu_n _ _ (Ne.symm o1)]; exact hx
        have hy1 : tH (tk T k) y = h + 1 := by simp only [tk, tu, th, ti, tc]; rw [fu_n _ _ (Ne.symm o2)]; exact hy
        simp (disch := first | (simp only [dd, dr]; done) | omega) only [W_101, I_lt, I_le, I_inj, inB_I, tc_I, Int.toNat_natCast, fkt, rf1, rf0, cq, Nat.reduceAdd, Nat.reduceEqDiff, Int.reduceToNat, eq_self, true_and, and_true, true_or, or_true, bI_0, bI_1, mm, rAm, mF_sF, mR_sR, false_and, and_false, if_false, if_true, false_or, or_false, not_true_eq_false, not_false_eq_true, and_self]
        refine n_height R1 (by omega) hx1 hqx ?_
        have t01 := R1.1.1.1
        simp (disch := first | (simp only [dd, dr]; done) | omega) only [W_101, t01, I_lt, I_le, I_inj, inB_I, tc_I, Int.toNat_natCast, fkt, rf1, rf0, cq, Nat.reduceAdd, Nat.reduceEqDiff, Int.reduceToNat, eq_self, true_and, and_true, true_or, or_true, bI_0, bI_1, mm, rAm, mF_sF, mR_sR, false_and, and_false, if_false, if_true, false_or, or_false, not_true_eq_false, not_false_eq_true, and_self]
        rw [show ((h : Int) + 1) = ((h + 1 : Nat) : Int) by omega]
        refine ca_102 (by omega) (n_innerAt (h0 := h) R1 S1 (by omega) (by simp only [tk, tu, th, ti, tc]; rw [fu_s]) o3 (fun M2 A2 qr hqr eA1 exA b5 R2 F2 => ?_))
        have S2 := S1.inner (b := k) (h0 := h) (by simp only [tk, tu, th, ti, tc]; rw [fu_s])
        have hqx2 : na A2 h x = some qx := by
          unfold na at hqx ⊢
          by_cases e0 : h = 0
          · rw [if_pos e0] at hqx ⊢; rw [eA1]; exact hqx
          · rw [if_neg e0] at hqx ⊢; exact exA x qx hqx
        have hqy2 : na A2 h y = some qy := by
          unfold na at hqy ⊢
          by_cases e0 : h = 0
          · rw [if_pos e0] at hqy ⊢; rw [eA1]; exact hqy
          · rw [if_neg e0] at hqy ⊢; exact exA y qy hqy
        have hqr' : na A2 (h + 1) k = some qr := by unfold na; rw [if_neg (by omega)]; exact hqr
        have R2 := R2.single hqr' b5.1 b5.2
        have S2 := S2.single (h := h + 1) (b := k) (by simp only [tp, th]; rw [fu_s]) o3
        generalize hT2 : uW (uP (uH (uC (tk T k) k []) k (h + 2)) k none) (h + 1) [k] = T2 at *
        have hk2 : tH T2 k = h + 2 := by rw [← hT2]; simp only [tw, tp, th]; rw [fu_s]
        have hx2 : tH T2 x = h + 1 := by rw [← hT2]; simp only [tw, tp, th, tc]; rw [fu_n _ _ (Ne.symm o1)]; exact hx1
        have hy2 : tH T2 y = h + 1 := by rw [← hT2]; simp only [tw, tp, th, tc]; rw [fu_n _ _ (Ne.symm o2)]; exact hy1
        have hc2 : tC T2 k = [] := by rw [← hT2]; simp only [tw, tp, th, tc]; rw [fu_s]
        have kr := (R2.1.2.2.2.1 k qr hqr).2.1.1
        simp (disch := first | (simp only [dd, dr]; done) | omega) only [W_101, kr, I_lt, I_le, I_inj, inB_I, tc_I, Int.toNat_natCast, fkt, rf1, rf0, cq, Nat.reduceAdd, Nat.reduceEqDiff, Int.reduceToNat, eq_self, true_and, and_true, true_or, or_true, bI_0, bI_1, mm, rAm, mF_sF, mR_sR, false_and, and_false, if_false, if_true, false_or, or_false, not_true_eq_false, not_false_eq_true, and_self]
        refine cr_142 (by omega) (n_put (k := 0) R2 hk2 hqr hx2 hqx2 (Nat.zero_le _) (by rw [hc2]; simp) (some y) (fun b h1 _ => h1) (fun M3 R3 F3 => ?_))
        have hc3 : tC (cp T2 k 0 x) k = [x] := by simp only [cp, tc, tp]; rw [fu_s, hc2]; rfl
        have kr3 := (R3.1.2.2.2.1 k qr hqr).2.1.1
        simp (disch := first | (simp only [dd, dr]; done) | omega) only [W_101, kr3, I_lt, I_le, I_inj, inB_I, tc_I, Int.toNat_natCast, fkt, rf1, rf0, cq, Nat.reduceAdd, Nat.reduceEqDiff, Int.reduceToNat, eq_self, true_and, and_true, true_or, or_true, bI_0, bI_1, mm, rAm, mF_sF, mR_sR, false_and, and_false, if_false, if_true, false_or, or_false, not_true_eq_false, not_false_eq_true, and_self]
        refine cr_142 (by omega) (n_put (k := 1) R3 (h := h) (by simp only [cp, tc, tp]; exact hk2) hqr (by simp only [cp, tc, tp]; exact hy2) hqy2 (by rw [hc3]; simp) (by rw [hc3]; simp) none (fun b _ h2 h3 => h2 (Option.some.inj h3).symm) (fun M4 R4 F4 => ?_))
        have t04 := R4.1.1.1
        have kr4 := (R4.1.2.2.2.1 k qr hqr).2.1.1
        simp (disch := first | (simp only [dd, dr]; done) | omega) only [W_101, t04, kr4, I_lt, I_le, I_inj, inB_I, tc_I, Int.toNat_natCast, fkt, rf1, rf0, cq, Nat.reduceAdd, Nat.reduceEqDiff, Int.reduceToNat, eq_self, true_and, and_true, true_or, or_true, bI_0, bI_1, mm, rAm, mF_sF, mR_sR, false_and, and_false, if_false, if_true, false_or, or_false, not_true_eq_false, not_false_eq_true, and_self]
        have hnodeX : ∀ h' b, tH T2 b = h' + 2 → x ∉ tC T2 b := by
          intro h' b hb hm
          rw [← hT2] at hb hm
          simp only [tw, tp, th, tc] at hb hm
          by_cases eb : b = k
          · subst eb; rw [fu_s] at hm; cases hm
          · rw [fu_n _ _ eb] at hb hm
            simp only [tk, tu, th, ti, tc] at hb hm
            rw [fu_n _ _ eb] at hb hm
            have := (S.2.2.1 h' b x hb hm).2
            rw [hP] at this; cases this
        have hnodeY : ∀ h' b, tH (cp T2 k 0 x) b = h' + 2 → y ∉ tC (cp T2 k 0 x) b := by
          intro h' b hb hm
          simp only [cp, tc, tp] at hb hm
          by_cases eb : b = k
          · subst eb; rw [fu_s, hc2] at hm
            have : y = x := by simpa using hm
            exact c4 this.symm
          · rw [fu_n _ _ eb] at hm
            rw [← hT2] at hb hm
            simp only [tw, tp, th, tc] at hb hm
            rw [fu_n _ _ eb] at hb hm
            simp only [tk, tu, th, ti, tc] at hb hm
            rw [fu_n _ _ eb] at hb hm
            exact U4 h' b hb hm
        have hN : tN T = h + 1 := U2 h x hx c4 hP
        have R5 := R4.rt (x := k) (n := tN T + 1)
        have e5 : na A2 (tN T + 1 - 1) k = some qr := by unfold na; rw [if_neg (by omega)]; exact hqr
        rw [e5] at R5
        have eT : uN (uR (cp (cp T2 k 0 x) k 1 y) k) (tN T + 1) = uN (uR (uW (cp (cp (uH (uP (tk T k) k none) k (tH T x + 1)) k 0 x) k 1 y) (tH T x) [k]) k) (tN T + 1) := by
          rw [← hT2, hx]
          simp only [cp, tk, tu, th, ti, tc, tw, tp]
          unfold uN uR uP uC uI uH uU uW
          simp only [fu_fu]
        rw [eT] at R5
        have S6 : SW (uN (uR (cp (cp T2 k 0 x) k 1 y) k) (tN T + 1)) := by
          have hkP : tP T2 k = none := by rw [← hT2]; simp only [tw, tp, th, tc]; rw [fu_s]
          have Sr : SW (uN (uR T2 k) (tN T + 1)) := S2.root (by rw [hk2, hN]) hkP (by omega)
          have S3 : SW (cp (uN (uR T2 k) (tN T + 1)) k 0 x) := Sr.put (h := h) hk2 hx2 hnodeX (Ne.symm o1)
          exact S3.put (h := h) (p := k) (k := 1) (x := y) hk2 hy2 hnodeY (Ne.symm o2)
        rw [eT] at S6
        exact hQt rfl _ A2 R5 S6 (((F1.trans F2).trans F3).trans F4 |>.trans (Fr.lk (Lk.sR M4 18 t _) (fun f a hf => by rw [hf.2]; exact .inl ⟨Nat.le_refl _, by omega⟩)))
      · simp only [hfr] at hg
        cases hg
        simp (disch := first | (simp only [dd, dr]; done) | omega) only [W_101, I_lt, I_le, I_inj, inB_I, tc_I, Int.toNat_natCast, fkt, rf1, rf0, cq, Nat.reduceAdd, Nat.reduceEqDiff, Int.reduceToNat, eq_self, true_and, and_true, true_or, or_true, bI_0, bI_1, mm, rAm, mF_sF, mR_sR, false_and, and_false, if_false, if_true, false_or, or_false, not_true_eq_false, not_false_eq_true, and_self]
        rw [Th_out k14 (by decide) (by decide +kernel)]
        exact hQf rfl M1 A a J1 F1 k14
    | some p =>
      simp only [hP] at hg
      by_cases hc2 : x ∈ tC T p ∧ (tC T p).length ≤ 5 ∧ p < 96 ∧ tI T p = []
      case neg => rw [if_neg hc2] at hg; cases hg
      rw [if_pos hc2] at hg
      obtain ⟨d1, d2, d3, d4⟩ := hc2
      have hp : tH T p = h + 2 := U3 h x p hx c4 hP
      obtain ⟨qp, hqp, Ip, Hp⟩ := R.2.2.2.1 h p hp
      have p1' : mR M 33 qx = some qp := by rw [p1, hP]; exact hqp
      have kp := Ip.1.1
      have hix := ix_lt d1
      simp (disch := first | (simp only [dd, dr]; done) | omega) only [W_101, f33, p1', kp, I_lt, I_le, I_inj, inB_I, tc_I, Int.toNat_natCast, fkt, rf1, rf0, cq, Nat.reduceAdd, Nat.reduceEqDiff, Int.reduceToNat, eq_self, true_and, and_true, true_or, or_true, bI_0, bI_1, mm, rAm, mF_sF, mR_sR, false_and, and_false, if_false, if_true, false_or, or_false, not_true_eq_false, not_false_eq_true, and_self]
      refine cr_143 (by omega) (n_at R S hp hqp d1 hqx ?_)
      simp (disch := first | (simp only [dd, dr]; done) | omega) only [W_101, kp, I_lt, I_le, I_inj, inB_I, tc_I, Int.toNat_natCast, fkt, rf1, rf0, cq, Nat.reduceAdd, Nat.reduceEqDiff, Int.reduceToNat, eq_self, true_and, and_true, true_or, or_true, bI_0, bI_1, mm, rAm, mF_sF, mR_sR, false_and, and_false, if_false, if_true, false_or, or_false, not_true_eq_false, not_false_eq_true, and_self]
      rw [show ((ix x (tC T p) : Int) + 1) = ((ix x (tC T p) + 1 : Nat) : Int) by omega]
      refine cr_142 (by omega) (n_put R hp hqp hy hqy (by omega) d2 none (fun b _ h2 h3 => h2 (Option.some.inj h3).symm) (fun M1 R1 F1 => ?_))
      have S1 : SW (cp T p (ix x (tC T p) + 1) y) := S.put hp hy U4 U5
      have eL : (tC (cp T p (ix x (tC T p) + 1) y) p).length = (tC T p).length + 1 := by
        simp only [cp, tc, tp]; rw [fu_s]
        simp only [List.length_append, List.length_cons, List.length_take, List.length_drop]; omega
      have hp1 : tH (cp T p (ix x (tC T p) + 1) y) p = h + 2 := by simp only [cp, tc, tp]; exact hp
      obtain ⟨qp', g1, Ip1, Hp1⟩ := R1.2.2.2.1 h p hp1
      rw [hqp] at g1; cases g1
      have kp1 := Ip1.1.1
      have many1 : mF M1 41 qp = I (((tC T p).length + 1 : Nat) : Int) := by have := Ip1.2.1; rw [List.length_map, eL] at this; exact this
      have t01 := R1.1.1.1
      have t171 := R1.1.1.2.2.2.2.2.2.2
      have r01 := R1.2.1.1
      simp (disch := first | (simp only [dd, dr]; done) | omega) only [W_101, kp1, many1, I_lt, I_le, I_inj, inB_I, tc_I, Int.toNat_natCast, fkt, rf1, rf0, cq, Nat.reduceAdd, Nat.reduceEqDiff, Int.reduceToNat, eq_self, true_and, and_true, true_or, or_true, bI_0, bI_1, mm, rAm, mF_sF, mR_sR, false_and, and_false, if_false, if_true, false_or, or_false, not_true_eq_false, not_false_eq_true, and_self]
      refine ⟨fun h5 => ?_, fun h5 => ?_⟩
      · rw [if_pos (by omega)] at hg
        cases hg
        simp (disch := first | (simp only [dd, dr]; done) | omega) only [W_101, I_lt, I_le, I_inj, inB_I, tc_I, Int.toNat_natCast, fkt, rf1, rf0, cq, Nat.reduceAdd, Nat.reduceEqDiff, Int.reduceToNat, eq_self, true_and, and_true, true_or, or_true, bI_0, bI_1, mm, rAm, mF_sF, mR_sR, false_and, and_false, if_false, if_true, false_or, or_false, not_true_eq_false, not_false_eq_true, and_self]
        exact hQt rfl M1 A R1 S1 F1
      · rw [if_neg (by omega)] at hg
        simp (disch := first | (simp only [dd, dr]; done) | omega) only [W_101, t01, t171, r01, I_lt, I_le, I_inj, inB_I, tc_I, Int.toNat_natCast, fkt, rf1, rf0, cq, Nat.reduceAdd, Nat.reduceEqDiff, Int.reduceToNat, eq_self, true_and, and_true, true_or, or_true, bI_0, bI_1, mm, rAm, mF_sF, mR_sR, false_and, and_false, if_false, if_true, false_or, or_false, not_true_eq_false, not_false_eq_true, and_self]
        have eU : tU (cp T p (ix x (tC T p) + 1) y) = tU T := by simp only [cp, tc, tp]
        refine ca_88 (by omega) (n_take R1 (fun q M2 hfr hq96 R2 F2 => ?_) (fun hfr M2 a J2 F2 k14 => ?_))
        · rw [eU] at hfr
          simp only [hfr] at hg
          by_cases hok : okS (cp T p (ix x (tC T p) + 1) y) p q = true
          case neg => rw [if_neg hok] at hg; cases hg
          rw [if_pos hok] at hg
          have hqU : tU T q = false := by
            rcases fr_spec (tU T) m 0 with ⟨h1, _⟩ | ⟨k', h1, h2, h3, h4, h5⟩
            · rw [h1] at hfr; cases hfr
            · rw [h1] at hfr; cases hfr; exact h4
          have hqH := U1 q hqU
          obtain ⟨o1, o2, o3, o4, o5, o6, o7, o8, o9⟩ := of_decide_eq_true hok
          -- what is known of the tree with the new child
          have W1 : tW (cp T p (ix x (tC T p) + 1) y) = tW T := by simp only [cp, tc, tp]
          have H1 : tH (cp T p (ix x (tC T p) + 1) y) = tH T := by simp only [cp, tc, tp]
          have N1 : tN (cp T p (ix x (tC T p) + 1) y) = tN T := by simp only [cp, tc, tp]
          have Rt1 : tR (cp T p (ix x (tC T p) + 1) y) = tR T := by simp only [cp, tc, tp]
          have P1 : tP (cp T p (ix x (tC T p) + 1) y) = fu (tP T) y (some p) := by simp only [cp, tc, tp]
          generalize hT1 : cp T p (ix x (tC T p) + 1) y = T1 at *
          have hq1 : tH T1 q = 0 := by rw [H1]; exact hqH
          have S2 := S1.tak hq1
          have hp2 : tH (tk T1 q) p = h + 2 := by simp only [tk, tu, th, ti, tc]; rw [fu_n _ _ (Ne.symm o1)]; exact hp1
          obtain ⟨qp2, g2, Ip2, Hp2⟩ := R2.2.2.2.1 h p hp2
          rw [hqp] at g2; cases g2
          have kp2 := Ip2.1.1
          have t02 := R2.1.1.1
          simp (disch := first | (simp only [dd, dr]; done) | omega) only [W_101, kp2, Hp2, t02, I_lt, I_le, I_inj, inB_I, tc_I, Int.toNat_natCast, fkt, rf1, rf0, cq, Nat.reduceAdd, Nat.reduceEqDiff, Int.reduceToNat, eq_self, true_and, and_true, true_or, or_true, bI_0, bI_1, mm, rAm, mF_sF, mR_sR, false_and, and_false, if_false, if_true, false_or, or_false, not_true_eq_false, not_false_eq_true, and_self]
          refine ca_102 (by omega) (n_innerAt (h0 := h) R2 S2 (by omega) (by simp only [tk, tu, th, ti, tc]; rw [fu_s]) o2 (fun M3 A3 qq hqq eA1 exA b5 R3 F3 => ?_))
          have R3' := R3.exm
          have eT3 : uH (uC (tk T1 q) q []) q (h + 2) = uH (tk T1 q) q (h + 2) := by
            unfold tk uC uI uH uU
            simp only [fu_fu]
          rw [eT3] at R3'
          have S3 : SW (uH (tk T1 q) q (h + 2)) := S2.innerX (by simp only [tk, tu, th, ti, tc]; rw [fu_s]) (by simp only [tk, tu, th, ti, tc]; rw [fu_s])
          have hqp3 := exA p qp hqp
          have hqp3' : na A3 (h + 1) p = some qp := by unfold na; rw [if_neg (by omega)]; exact hqp3
          have hqq' : na A3 (h + 1) q = some qq := by unfold na; rw [if_neg (by omega)]; exact hqq
          have W3 : tW (uH (tk T1 q) q (h + 2)) = tW T := by simp only [tk, tu, th, ti, tc]; exact W1
          have hrow : p ∈ tW (uH (tk T1 q) q (h + 2)) (h + 1) := by
            rw [W3]; rw [hp1, show h + 2 - 1 = h + 1 by omega, W1] at o5; exact o5
          have hnot : ∀ h', q ∉ tW (uH (tk T1 q) q (h + 2)) h' := by
            intro h' hm
            rw [W3, ← W1] at hm
            have := (S1.1 h' q hm).1
            omega
          have k6q := (R3'.1.2.2.2.1 q qq hqq).2.1.1
          simp (disch := first | (simp only [dd, dr]; done) | omega) only [W_101, k6q, I_lt, I_le, I_inj, inB_I, tc_I, Int.toNat_natCast, fkt, rf1, rf0, cq, Nat.reduceAdd, Nat.reduceEqDiff, Int.reduceToNat, eq_self, true_and, and_true, true_or, or_true, bI_0, bI_1, mm, rAm, mF_sF, mR_sR, false_and, and_false, if_false, if_true, false_or, or_false, not_true_eq_false, not_false_eq_true, and_self]
          refine cr_151 (by omega) (n_comes R3' S3 (h := h + 1) hrow (hnot _) hnot hqp3' hqq' (fun M4 R4 F4 => ?_))
          have S4 := S3.inr (h := h + 1) hrow (hnot _) (by simp only [th]; rw [fu_s]) o2
          rw [W3] at R4 S4
          simp (disch := first | (simp only [dd, dr]; done) | omega) only [W_101, I_lt, I_le, I_inj, inB_I, tc_I, Int.toNat_natCast, fkt, rf1, rf0, cq, Nat.reduceAdd, Nat.reduceEqDiff, Int.reduceToNat, eq_self, true_and, and_true, true_or, or_true, bI_0, bI_1, mm, rAm, mF_sF, mR_sR, false_and, and_false, if_false, if_true, false_or, or_false, not_true_eq_false, not_false_eq_true, and_self]
          -- one child goes over
          have step : ∀ (i : Nat) (M5 : Mem) (T5 : Tr) (z : Nat) (l : List Nat), i < 3 → RM M5 t r m A3 T5 py (some q) → SW T5 → tH T5 p = h + 2 → tH T5 q = h + 2 → tC T5 p = l ++ [z] → (tC T5 q).length ≤ 5 → (∀ M6, RM M6 t r m A3 (sp1 T5 p q) py (some q) → SW (sp1 T5 p q) → Fr t r A3 A3 0 M5 M6 → Wp d 101 95 [some (.ref t), some (.ref qx), some (.ref qy), some (.ref qp), some (.ref qq), some (.int (I ((i + 1 : Nat) : Int)))] [] M6 Q) → Wp d 101 95 [some (.ref t), some (.ref qx), some (.ref qy), some (.ref qp), some (.ref qq), some (.int (I (i : Nat)))] [] M5 Q := by
            intro i M5 T5 z l hi R5 S5 hp5 hq5 hC5 hl5 hn
            obtain ⟨qp5, e1, Ip5, _⟩ := R5.2.2.2.1 h p hp5
            rw [hqp3] at e1; cases e1
            have kp5 := Ip5.1.1
            have kq5 := (R5.1.2.2.2.1 q qq hqq).2.1.1
            have many5 : mF M5 41 qp = I ((l.length + 1 : Nat) : Int) := by have := Ip5.2.1; rw [List.length_map, hC5, List.length_append] at this; exact this
            have len5 : l.length + 1 ≤ 6 := by have := Ip5.2.2.1; rw [List.length_map, hC5, List.length_append] at this; exact this
            have hzm : z ∈ tC T5 p := by rw [hC5]; simp
            have hzH := (S5.2.2.1 h p z hp5 hzm).1
            simp (disch := first | (simp only [dd, dr]; done) | omega) only [w_101_95, W_101, kp5, kq5, many5, I_lt, I_le, I_inj, inB_I, tc_I, Int.toNat_natCast, fkt, rf1, rf0, cq, Nat.reduceAdd, Nat.reduceEqDiff, Int.reduceToNat, eq_self, true_and, and_true, true_or, or_true, bI_0, bI_1, mm, rAm, mF_sF, mR_sR, false_and, and_false, if_false, if_true, false_or, or_false, not_true_eq_false, not_false_eq_true, and_self]
            refine ⟨(fun h => by first | exact False.elim h | exact absurd trivial h | (exfalso; omega)), fun _ => ?_⟩
            simp (disch := first | (simp only [dd, dr]; done) | omega) only [W_101, kp5, kq5, many5, I_lt, I_le, I_inj, inB_I, tc_I, Int.toNat_natCast, fkt, rf1, rf0, cq, Nat.reduceAdd, Nat.reduceEqDiff, Int.reduceToNat, eq_self, true_and, and_true, true_or, or_true, bI_0, bI_1, mm, rAm, mF_sF, mR_sR, false_and, and_false, if_false, if_true, false_or, or_false, not_true_eq_false, not_false_eq_true, and_self]
            rw [show (((l.length + 1 : Nat) : Int) - 1) = (l.length : Int) by omega]
            have hlz : (tC T5 p)[l.length]? = some z := by rw [hC5, List.getElem?_append_right (Nat.le_refl _), Nat.sub_self]; rfl
            refine ca_144 (by omega) (n_drop R5 S5 hp5 hqp3 hlz (fun M6 qz hqz R6 F6 => ?_))
            have ecut : (tC T5 p).take l.length ++ (tC T5 p).drop (l.length + 1) = l := by rw [hC5]; simp
            rw [ecut] at R6
            have kq6 := (R6.1.2.2.2.1 q qq hqq).2.1.1
            simp (disch := first | (simp only [dd, dr]; done) | omega) only [W_101, kq6, I_lt, I_le, I_inj, inB_I, tc_I, Int.toNat_natCast, fkt, rf1, rf0, cq, Nat.reduceAdd, Nat.reduceEqDiff, Int.reduceToNat, eq_self, true_and, and_true, true_or, or_true, bI_0, bI_1, mm, rAm, mF_sF, mR_sR, false_and, and_false, if_false, if_true, false_or, or_false, not_true_eq_false, not_false_eq_true, and_self]
            have hnd := S5.2.2.2.1 h p hp5
            rw [hC5] at hnd
            have hzl : z ∉ l := fun hm => (List.nodup_append.mp hnd).2.2 z hm z (List.mem_cons_self ..) rfl
            have S6 : SW (uC T5 p l) := S5.sub (fun w hw => by rw [hC5]; simp [hw]) (fun _ => (List.nodup_append.mp hnd).1)
            have eq6 : tC (uC T5 p l) q = tC T5 q := by simp only [tc]; exact fu_n _ _ o1
            refine cr_142 (by omega) (n_put (k := 0) R6 (h := h) (p := q) (x := z) (by simp only [tc]; exact hq5) hqq (by simp only [tc]; exact hzH) hqz (Nat.zero_le _) (by rw [eq6]; exact hl5) (some q) (fun b h1 _ => h1) (fun M7 R7 F7 => ?_))
            simp (disch := first | (simp only [dd, dr]; done) | omega) only [W_101, I_lt, I_le, I_inj, inB_I, tc_I, Int.toNat_natCast, fkt, rf1, rf0, cq, Nat.reduceAdd, Nat.reduceEqDiff, Int.reduceToNat, eq_self, true_and, and_true, true_or, or_true, bI_0, bI_1, mm, rAm, mF_sF, mR_sR, false_and, and_false, if_false, if_true, false_or, or_false, not_true_eq_false, not_false_eq_true, and_self]
            have es := sp1_eq (q := q) hC5
            rw [show ((i : Int) + 1) = ((i + 1 : Nat) : Int) by omega]
            refine hn M7 (by rw [es]; exact R7) ?_ (F6.trans F7)
            rw [es]
            exact S6.put (h := h) (by simp only [tc]; exact hq5) (by simp only [tc]; exact hzH) (S5.nobody hp5 hzm hzl) (by simp only [tc]; exact S5.nroot hp5 hzm)
          obtain ⟨a1, a2, a3, a4, a5, a6, hC6⟩ := len6 o8
          generalize hT4 : uW (uH (tk T1 q) q (h + 2)) (h + 1) (inA (tW T (h + 1)) p q) = T4 at *
          have C4 : tC T4 = fu (tC T1) q [] := by rw [← hT4]; simp only [tk, tu, th, ti, tc, tw]
          have H4 : tH T4 = fu (tH T1) q (h + 2) := by rw [← hT4]; simp only [tk, tu, th, ti, tc, tw, fu_fu]
          have hp4 : tH T4 p = h + 2 := by rw [H4, fu_n _ _ (Ne.symm o1)]; exact hp1
          have hq4 : tH T4 q = h + 2 := by rw [H4, fu_s]
          have hCp4 : tC T4 p = [a1, a2, a3, a4, a5] ++ [a6] := by rw [C4, fu_n _ _ (Ne.symm o1), hC6]; rfl
          have hCq4 : tC T4 q = [] := by rw [C4, fu_s]
          have sH : ∀ (X : Tr), tH (sp1 X p q) = tH X := by
            intro X; unfold sp1; cases (tC X p)[(tC X p).length - 1]? <;> simp only [cp, tc, tp]
          refine step 0 M4 T4 a6 [a1, a2, a3, a4, a5] (by omega) R4 S4 hp4 hq4 hCp4 (by rw [hCq4]; simp) (fun M5 R5 S5 F5 => ?_)
          have C5 : tC (sp1 T4 p q) = fu (fu (tC T4) p [a1, a2, a3, a4, a5]) q [a6] := by rw [sp1_eq hCp4, cpC o1, hCq4]
          have hCp5 : tC (sp1 T4 p q) p = [a1, a2, a3, a4] ++ [a5] := by rw [C5, fu_n _ _ (Ne.symm o1), fu_s]; rfl
          have hCq5 : tC (sp1 T4 p q) q = [a6] := by rw [C5, fu_s]
          refine step 1 M5 (sp1 T4 p q) a5 [a1, a2, a3, a4] (by omega) R5 S5 (by rw [sH]; exact hp4) (by rw [sH]; exact hq4) hCp5 (by rw [hCq5]; simp) (fun M6 R6 S6 F6 => ?_)
          have C6 : tC (sp1 (sp1 T4 p q) p q) = fu (fu (tC (sp1 T4 p q)) p [a1, a2, a3, a4]) q [a5, a6] := by rw [sp1_eq hCp5, cpC o1, hCq5]
          have hCp6 : tC (sp1 (sp1 T4 p q) p q) p = [a1, a2, a3] ++ [a4] := by rw [C6, fu_n _ _ (Ne.symm o1), fu_s]; rfl
          have hCq6 : tC (sp1 (sp1 T4 p q) p q) q = [a5, a6] := by rw [C6, fu_s]
          refine step 2 M6 (sp1 (sp1 T4 p q) p q) a4 [a1, a2, a3] (by omega) R6 S6 (by rw [sH, sH]; exact hp4) (by rw [sH, sH]; exact hq4) hCp6 (by rw [hCq6]; simp) (fun M7 R7 S7 F7 => ?_)
          have t07 := R7.1.1.1
          simp (disch := first | (simp only [dd, dr]; done) | omega) only [w_101_95, W_101, t07, I_lt, I_le, I_inj, inB_I, tc_I, Int.toNat_natCast, fkt, rf1, rf0, cq, Nat.reduceAdd, Nat.reduceEqDiff, Int.reduceToNat, eq_self, true_and, and_true, true_or, or_true, bI_0, bI_1, mm, rAm, mF_sF, mR_sR, false_and, and_false, if_false, if_true, false_or, or_false, not_true_eq_false, not_false_eq_true, and_self]
          refine ⟨fun _ => ?_, (fun h => by first | exact False.elim h | exact absurd trivial h | (exfalso; omega))⟩
          simp (disch := first | (simp only [dd, dr]; done) | omega) only [W_101, t07, I_lt, I_le, I_inj, inB_I, tc_I, Int.toNat_natCast, fkt, rf1, rf0, cq, Nat.reduceAdd, Nat.reduceEqDiff, Int.reduceToNat, eq_self, true_and, and_true, true_or, or_true, bI_0, bI_1, mm, rAm, mF_sF, mR_sR, false_and, and_false, if_false, if_true, false_or, or_false, not_true_eq_false, not_false_eq_true, and_self]
          have eT7 : sp1 (sp1 (sp1 T4 p q) p q) p q = uW (spl T1 p q) (tH T p - 1) (inA (tW T (tH T p - 1)) p q) := by
            rw [← hT4, sp1_uW, sp1_uW, sp1_uW, hp]
            unfold spl
            rw [hp1]
            rfl
          rw [eT7] at R7 S7
          have C1 : ∀ b, b ≠ p → tC T1 b = tC T b := by
            intro b hb; rw [← hT1]; simp only [cp, tc, tp]; exact fu_n _ _ hb
          have hCq1 : tC T1 q = [] := by rw [C1 q o1]; exact U6 q hqH
          obtain ⟨s1, s2, s3, s4, s5, s6, s7, s8⟩ := spl_eq o1 hCq1 hC6
          have hch : ∀ z, z ∈ tC T1 p → tH T1 z = h + 1 := fun z hz => (S1.2.2.1 h p z hp1 hz).1
          have Up7 : Up (uW (spl T1 p q) (tH T p - 1) (inA (tW T (tH T p - 1)) p q)) q := by
            simp only [Up, tw, s1, s2, s4, s5, s7, s8]
            refine ⟨fun b hb => ?_, fun k b hb hbq hbP => ?_, fun k b p' hb hbq hbP => ?_, fun h' b hb hm => ?_, fun e => ?_, fun b hb => ?_⟩
            · by_cases e : b = q
              · subst e; rw [fu_s] at hb; cases hb
              · rw [fu_n _ _ e] at hb ⊢
                rw [eU] at hb; rw [H1]; exact U1 b hb
            · rw [fu_n _ _ hbq, H1] at hb
              have n1 : b ≠ a4 := by intro e; subst e; rw [fu_s] at hbP; cases hbP
              rw [fu_n _ _ n1] at hbP
              have n2 : b ≠ a5 := by intro e; subst e; rw [fu_s] at hbP; cases hbP
              rw [fu_n _ _ n2] at hbP
              have n3 : b ≠ a6 := by intro e; subst e; rw [fu_s] at hbP; cases hbP
              rw [fu_n _ _ n3, P1] at hbP
              have n4 : b ≠ y := by intro e; subst e; rw [fu_s] at hbP; cases hbP
              rw [fu_n _ _ n4] at hbP
              rw [N1]; exact U2 k b hb n4 hbP
            · rw [fu_n _ _ hbq] at hb
              have inP : b ∈ tC T1 p → p' = q → fu (tH T1) q (tH T1 p) p' = k + 2 := by
                intro hbm hpq
                have := hch b hbm
                rw [hpq, fu_s, hp1]; omega
              by_cases n1 : b = a4
              · subst n1; rw [fu_s] at hbP; cases hbP
                exact inP (by rw [hC6]; simp) rfl
              rw [fu_n _ _ n1] at hbP
              by_cases n2 : b = a5
              · subst n2; rw [fu_s] at hbP; cases hbP
                exact inP (by rw [hC6]; simp) rfl
              rw [fu_n _ _ n2] at hbP
              by_cases n3 : b = a6
              · subst n3; rw [fu_s] at hbP; cases hbP
                exact inP (by rw [hC6]; simp) rfl
              rw [fu_n _ _ n3, P1] at hbP
              by_cases n4 : b = y
              · subst n4; rw [fu_s] at hbP; cases hbP
                rw [H1] at hb
                rw [fu_n _ _ (Ne.symm o1), hp1]; omega
              · rw [fu_n _ _ n4] at hbP
                rw [H1] at hb
                have := U3 k b p' hb n4 hbP
                rw [fu_n _ _ (by intro e; rw [e] at this; omega), H1]; exact this
            · by_cases e : b = q
              · subst e; rw [fu_s] at hm
                have : b ∈ tC T1 p := by rw [hC6]; simp at hm ⊢; omega
                exact o7 b this rfl
              · rw [fu_n _ _ e] at hm hb
                by_cases e2 : b = p
                · subst e2; rw [fu_s] at hm
                  have : q ∈ tC T1 b := by rw [hC6]; simp at hm ⊢; omega
                  exact o7 q this rfl
                · rw [fu_n _ _ e2] at hm
                  have := (S1.2.2.1 h' b q hb hm).1
                  omega
            · have h1 := S.2.2.2.2.1
              have h2 := S.2.2.2.2.2.2
              rw [← Rt1, ← e, hqH] at h1; omega
            · by_cases e : b = q
              · subst e; rw [fu_s, hp1] at hb; omega
              · rw [fu_n _ _ e] at hb ⊢
                have e2 : b ≠ p := by intro e2; rw [e2, hp1] at hb; omega
                rw [fu_n _ _ e2, C1 b e2]; rw [H1] at hb; exact U6 b hb
          have Hq7 : tH (uW (spl T1 p q) (tH T p - 1) (inA (tW T (tH T p - 1)) p q)) q = h + 2 := by simp only [tw, s2]; rw [fu_s]; exact hp1
          have Hp7 : tH (uW (spl T1 p q) (tH T p - 1) (inA (tW T (tH T p - 1)) p q)) p = h + 2 := by simp only [tw, s2]; rw [fu_n _ _ (Ne.symm o1)]; exact hp1
          have F37 : Fr t r A A3 0 M M7 := (((((F1.trans F2).trans F3).trans F4).trans F5).trans F6).trans F7
          refine cr_101 (by omega) (ih (d - 1) _ T' ok A3 p q (h + 1) qp qq M7 _ (by omega) R7 S7 Up7 Hp7 Hq7 hqp3' hqq' hg (fun h M' A' R' S' F' => ?_) (fun h M' A' a J' F' k14 => ?_))
          · simp (disch := first | (simp only [dd, dr]; done) | omega) only [W_101, I_lt, I_le, I_inj, inB_I, tc_I, Int.toNat_natCast, fkt, rf1, rf0, cq, Nat.reduceAdd, Nat.reduceEqDiff, Int.reduceToNat, eq_self, true_and, and_true, true_or, or_true, bI_0, bI_1, mm, rAm, mF_sF, mR_sR, false_and, and_false, if_false, if_true, false_or, or_false, not_true_eq_false, not_false_eq_true, and_self]
            exact hQt h M' A' R' S' (F37.trans F')
          · simp (disch := first | (simp only [dd, dr]; done) | omega) only [W_101, I_lt, I_le, I_inj, inB_I, tc_I, Int.toNat_natCast, fkt, rf1, rf0, cq, Nat.reduceAdd, Nat.reduceEqDiff, Int.reduceToNat, eq_self, true_and, and_true, true_or, or_true, bI_0, bI_1, mm, rAm, mF_sF, mR_sR, false_and, and_false, if_false, if_true, false_or, or_false, not_true_eq_false, not_false_eq_true, and_self]
            rw [Th_out k14 (by decide) (by decide +kernel)]
            exact hQf h M' A' a J' (F37.trans F') k14
        · rw [eU] at hfr
          simp only [hfr] at hg
          cases hg
          simp (disch := first | (simp only [dd, dr]; done) | omega) only [W_101, I_lt, I_le, I_inj, inB_I, tc_I, Int.toNat_natCast, fkt, rf1, rf0, cq, Nat.reduceAdd, Nat.reduceEqDiff, Int.reduceToNat, eq_self, true_and, and_true, true_or, or_true, bI_0, bI_1, mm, rAm, mF_sF, mR_sR, false_and, and_false, if_false, if_true, false_or, or_false, not_true_eq_false, not_false_eq_true, and_self]
          rw [Th_out k14 (by decide) (by decide +kernel)]
          exact hQf rfl M2 A a J2 (F1.trans F2) k14
end CA2
