/-! ===== THE COMPONENT: gone ===== -/
theorem SW.gn1 {T : Tr} (S : SW T) {h x p : Nat} (hx : x ∈ tW T h) (hp : tH T p = h + 2) (hxp : x ∈ tC T p) : SW (uC (fe (uW T h (out (tW T h) x)) x) p (out (tC T p) x)) := by
  have hr := S.nroot hp hxp
  obtain ⟨s1, s2, s3, s4, s5, s6⟩ := S
  have hxH := (s1 h x hx).1
  have hnp : x ≠ p := by intro e; rw [e] at hxH; omega
  simp only [SW, fe, tu, th, ti, tc, tw]
  refine ⟨fun k b hb => ?_, fun k => ?_, fun k b c hb hc => ?_, fun k b hb => ?_, by rw [fu_n _ _ (Ne.symm hr)]; exact s5, s6⟩
  · by_cases e : k = h
    · subst e; rw [fu_s] at hb
      obtain ⟨h1, h2⟩ := (out_mem_iff hx (s2 k)).mp hb
      rw [fu_n _ _ h2]; exact s1 k b h1
    · rw [fu_n _ _ e] at hb
      have hb' := s1 k b hb
      rw [fu_n _ _ (by intro e2; rw [e2] at hb'; omega)]; exact hb'
  · by_cases e : k = h
    · subst e; rw [fu_s]; exact out_nodup hx (s2 k)
    · rw [fu_n _ _ e]; exact s2 k
  · by_cases e0 : b = x
    · subst e0; rw [fu_s] at hb; omega
    rw [fu_n _ _ e0] at hb
    by_cases e : b = p
    · subst e
      rw [fu_s] at hc
      obtain ⟨h1, h2⟩ := (out_mem_iff hxp (s4 k b hb)).mp hc
      rw [fu_n _ _ h2]; exact s3 k b c hb h1
    · rw [fu_n _ _ e, fu_n _ _ e0] at hc
      have h1 := s3 k b c hb hc
      rw [fu_n _ _ (by intro e2; rw [e2, (s3 h p x hp hxp).2] at h1; exact e (Option.some.inj h1.2).symm)]
      exact h1
  · by_cases e0 : b = x
    · subst e0; rw [fu_s] at hb; omega
    rw [fu_n _ _ e0] at hb
    by_cases e : b = p
    · subst e; rw [fu_s]; exact out_nodup hxp (s4 k b hb)
    · rw [fu_n _ _ e, fu_n _ _ e0]; exact s4 k b hb
theorem SW.gn2 {T : Tr} (S : SW T) {h p c : Nat} (hp : tH T p = h + 2) (hN : tN T = h + 2) (hpr : p = tR T) (hc : c ∈ tC T p) : SW (uN (uR (uP (fe (uW T (h + 1) []) p) c none) c) (tN T - 1)) := by
  obtain ⟨s1, s2, s3, s4, s5, s6⟩ := S
  have hcH := s3 h p c hp hc
  have hcp : c ≠ p := by intro e; rw [e] at hcH; omega
  simp only [SW, fe, tu, th, ti, tc, tw, tp, tr, tn]
  refine ⟨fun k b hb => ?_, fun k => ?_, fun k b z hb hz => ?_, fun k b hb => ?_, by rw [fu_n _ _ hcp, hcH.1]; omega, fu_s _ _ _, by omega⟩
  · by_cases e : k = h + 1
    · subst e; rw [fu_s] at hb; cases hb
    · rw [fu_n _ _ e] at hb
      have hb' := s1 k b hb
      rw [fu_n _ _ (by intro e2; rw [e2] at hb'; omega)]; exact hb'
  · by_cases e : k = h + 1
    · subst e; rw [fu_s]; exact List.nodup_nil
    · rw [fu_n _ _ e]; exact s2 k
  · by_cases e0 : b = p
    · subst e0; rw [fu_s] at hb; omega
    rw [fu_n _ _ e0] at hb hz
    have h1 := s3 k b z hb hz
    have n1 : z ≠ p := by
      intro e2; rw [e2, hpr, s6.1] at h1; cases h1.2
    have n2 : z ≠ c := by
      intro e2; rw [e2, hcH.2] at h1; exact e0 (Option.some.inj h1.2).symm
    rw [fu_n _ _ n1, fu_n _ _ n2]; exact h1
  · by_cases e0 : b = p
    · subst e0; rw [fu_s] at hb; omega
    rw [fu_n _ _ e0] at hb ⊢
    exact s4 k b hb
theorem RM.row0 {M : Mem} {t r m : Nat} {A : Ad} {T : Tr} {py : Nat → List Nat} {e : Option Nat} (R : RM M t r m A T py e) (h : Nat) : RM M t r m A (uW T h []) py e := by
  obtain ⟨r1, r2, r3, r4, r5, r6, r7⟩ := R
  simp only [RM, tw]
  refine ⟨r1, r2, r3, r4, r5, fun k b q hb hq => ?_, r7⟩
  by_cases e : k = h
  · subst e; rw [fu_s] at hb; cases hb
  · rw [fu_n _ _ e] at hb ⊢; exact r6 k b q hb hq
section CG
variable {t r m : Nat} {A : Ad} {py : Nat → List Nat}
set_option maxHeartbeats 16000000 in
theorem n_gone : ∀ (n d : Nat) (T T' : Tr) (x h q : Nat) (M : Mem) (Q : Outcome → Mem → Prop), n + 4 ≤ d → RM M t r m A T py none → SW T → tH T x = h + 1 → na A h x = some q → gn n T x = some T' → (∀ M', RM M' t r m A T' py none → SW T' → Fr t r A A 0 M M' → Q (.returned none) M') →
    Wp d 104 0 [some (.ref t), some (.ref q), none, none, none, none] [] M Q := by
  intro n
  induction n with
  | zero => intro d T T' x h q M Q hd R S hxH hq hg; cases hg
  | succ n ih =>
    intro d T T' x h q M Q hd R S hxH hq hg hQ
    cases hp : tP T x with
    | none => simp only [gn, hp] at hg; cases hg
    | some p =>
    simp only [gn, hp, hxH] at hg
    by_cases hc : x ∈ tW T h ∧ x ∈ tC T p ∧ tH T p = h + 2 ∧ x ≠ p ∧ x < 96 ∧ p < 96 ∧ h + 1 < 8 ∧ tI T p = [] ∧ p ∈ tW T (h + 1) ∧ 1 ≤ tN T ∧ (tP T p = none ↔ p = tR T)
    case neg => rw [if_neg hc] at hg; cases hg
    rw [if_pos hc] at hg
    obtain ⟨c1, c2, c3, c4, c5, c6, c7, c8, c9, c10, c11⟩ := hc
    have K := R.1
    have kq := (K.kind hq).2.1
    obtain ⟨f30, f31, f32, f33⟩ := fkN kq
    obtain ⟨qp, hqp, _, _⟩ := R.2.2.2.1 h p c3
    have hqp' : na A (h + 1) p = some qp := by unfold na; rw [if_neg (by omega)]; exact hqp
    simp (disch := first | (simp only [dd, dr]; done) | omega) only [W_104, virt2 kq, I_lt, I_le, I_inj, inB_I, tc_I, Int.toNat_natCast, fkt, rf1, rf0, cq, Nat.reduceAdd, Nat.reduceEqDiff, Int.reduceToNat, eq_self, true_and, and_true, true_or, or_true, bI_0, bI_1, mm, rAm, mF_sF, mR_sR, false_and, and_false, if_false, if_true, false_or, or_false, not_true_eq_false, not_false_eq_true, and_self]
    refine ca_152 (by omega) (n_goes R S c1 hq ?_)
    intro M1 R1 F1
    have kq1 := (R1.1.kind hq).2.1
    obtain ⟨g30, g31, g32, g33⟩ := fkN kq1
    have b32 := (R1.1.kind hq).2.2.1
    have t0 := R1.1.1.1
    have t17 := R1.1.1.2.2.2.2.2.2.2
    have r0 := R1.2.1.1
    simp (disch := first | (simp only [dd, dr]; done) | omega) only [W_104, t0, t17, g32, b32, r0, I_lt, I_le, I_inj, inB_I, tc_I, Int.toNat_natCast, fkt, rf1, rf0, cq, Nat.reduceAdd, Nat.reduceEqDiff, Int.reduceToNat, eq_self, true_and, and_true, true_or, or_true, bI_0, bI_1, mm, rAm, mF_sF, mR_sR, false_and, and_false, if_false, if_true, false_or, or_false, not_true_eq_false, not_false_eq_true, and_self]
    refine ca_89 (by omega) (r_free R1.2.1 c5 ?_)
    have R2 : RM (sA M1 (r + 1) x (I 0)) t r m A (uU (uW T h (out (tW T h) x)) x false) py none := R1.use (b := x) false
    have F2 : Fr t r A A 0 M (sA M1 (r + 1) x (I 0)) := F1.trans (Fr.use t r A M1 x (I 0))
    have S2 : SW (uU (uW T h (out (tW T h) x)) x false) := S.off c1
    generalize sA M1 (r + 1) x (I 0) = M2 at *
    have p33 : mR M2 33 q = some qp := by
      have := (R2.2.2.2.2.1 h x q (by simp only [tu, tw]; exact hxH) (by simp) hq).1
      simp only [tu, tw] at this
      rw [this, hp]; exact hqp
    have kq2 := (R2.1.kind hq).2.1
    obtain ⟨i30, i31, i32, i33⟩ := fkN kq2
    have kp2 : kO M2 qp = 6 := (R2.1.kind hqp').2.2.2.2 (by omega)
    simp (disch := first | (simp only [dd, dr]; done) | omega) only [W_104, i33, p33, kp2, I_lt, I_le, I_inj, inB_I, tc_I, Int.toNat_natCast, fkt, rf1, rf0, cq, Nat.reduceAdd, Nat.reduceEqDiff, Int.reduceToNat, eq_self, true_and, and_true, true_or, or_true, bI_0, bI_1, mm, rAm, mF_sF, mR_sR, false_and, and_false, if_false, if_true, false_or, or_false, not_true_eq_false, not_false_eq_true, and_self]
    refine cr_143 (by omega) (n_at R2 S2 (h := h) (by simp only [tu, tw]; exact c3) hqp (by simp only [tu, tw]; exact c2) hq ?_)
    simp only [tu, tw]
    simp (disch := first | (simp only [dd, dr]; done) | omega) only [W_104, kp2, I_lt, I_le, I_inj, inB_I, tc_I, Int.toNat_natCast, fkt, rf1, rf0, cq, Nat.reduceAdd, Nat.reduceEqDiff, Int.reduceToNat, eq_self, true_and, and_true, true_or, or_true, bI_0, bI_1, mm, rAm, mF_sF, mR_sR, false_and, and_false, if_false, if_true, false_or, or_false, not_true_eq_false, not_false_eq_true, and_self]
    refine ca_144 (by omega) (n_drop R2 S2 (h := h) (y := x) (by simp only [tu, tw]; exact c3) hqp (by simp only [tu, tw]; exact (ix_at c2).1) ?_)
    intro M3 qx hqx R3 F3
    simp only [tu, tw] at R3
    have R3' := R3.un x
    have eT : uC (uI (uH (uC (uU (uW T h (out (tW T h) x)) x false) p ((tC T p).take (ix x (tC T p)) ++ (tC T p).drop (ix x (tC T p) + 1))) x 0) x []) x [] = uC (fe (uW T h (out (tW T h) x)) x) p (out (tC T p) x) := by
      unfold fe uC uI uH uU uW out
      simp only []
      rw [fu_comm _ _ _ (Ne.symm c4)]
    rw [eT] at R3'
    have S3 := S.gn1 c1 c3 c2
    have F13 : Fr t r A A 0 M M3 := F2.trans F3
    have e1 : tP (uC (fe (uW T h (out (tW T h) x)) x) p (out (tC T p) x)) = tP T := by simp only [fe, tu, th, ti, tc, tw]
    have e2 : tR (uC (fe (uW T h (out (tW T h) x)) x) p (out (tC T p) x)) = tR T := by simp only [fe, tu, th, ti, tc, tw]
    have e3 : tH (uC (fe (uW T h (out (tW T h) x)) x) p (out (tC T p) x)) p = h + 2 := by simp only [fe, tu, th, ti, tc, tw]; rw [fu_n _ _ (Ne.symm c4)]; exact c3
    have e4 : p ∈ tW (uC (fe (uW T h (out (tW T h) x)) x) p (out (tC T p) x)) (h + 1) := by simp only [fe, tu, th, ti, tc, tw]; rw [fu_n _ _ (by omega)]; exact c9
    have e5 : tN (uC (fe (uW T h (out (tW T h) x)) x) p (out (tC T p) x)) = tN T := by simp only [fe, tu, th, ti, tc, tw]
    generalize uC (fe (uW T h (out (tW T h) x)) x) p (out (tC T p) x) = T1 at *
    rw [← e1, ← e2] at c11
    obtain ⟨qp', hqp2, Ip, Hp⟩ := R3'.2.2.2.1 h p e3
    rw [hqp] at hqp2; cases hqp2
    have many : mF M3 41 qp = I ((tC T1 p).length : Nat) := by have := Ip.2.1; rwa [List.length_map] at this
    have len6 : (tC T1 p).length ≤ 6 := by have := Ip.2.2.1; rwa [List.length_map] at this
    have kp3 : kO M3 qp = 6 := Ip.1.1
    have t03 := R3'.1.1.1
    have t173 := R3'.1.1.2.2.2.2.2.2.2
    simp (disch := first | (simp only [dd, dr]; done) | omega) only [W_104, kp3, many, I_lt, I_le, I_inj, inB_I, tc_I, Int.toNat_natCast, fkt, rf1, rf0, cq, Nat.reduceAdd, Nat.reduceEqDiff, Int.reduceToNat, eq_self, true_and, and_true, true_or, or_true, bI_0, bI_1, mm, rAm, mF_sF, mR_sR, false_and, and_false, if_false, if_true, false_or, or_false, not_true_eq_false, not_false_eq_true, and_self]
    cases hCp : tC T1 p with
    | nil => simp only [hCp] at hg; cases hg
    | cons c0 rest =>
    cases rest with
    | cons c1' rest' =>
      simp only [hCp] at hg
      cases hg
      rw [hCp] at len6
      simp only [List.length_cons] at len6 ⊢
      refine ⟨fun h => absurd h (by omega), fun _ => ?_⟩
      simp (disch := first | (simp only [dd, dr]; done) | omega) only [W_104, I_lt, I_le, I_inj, inB_I, tc_I, Int.toNat_natCast, fkt, rf1, rf0, cq, Nat.reduceAdd, Nat.reduceEqDiff, Int.reduceToNat, eq_self, true_and, and_true, true_or, or_true, bI_0, bI_1, mm, rAm, mF_sF, mR_sR, false_and, and_false, if_false, if_true, false_or, or_false, not_true_eq_false, not_false_eq_true, and_self]
      exact hQ M3 R3' S3 F13
    | nil =>
      simp only [List.length_cons, List.length_nil]
      refine ⟨fun _ => ?_, fun h => absurd (show (((0 + 1 : Nat) : Int)) ≤ 1 by omega) h⟩
      have hc0m : c0 ∈ tC T1 p := by rw [hCp]; exact List.mem_cons_self ..
      obtain ⟨hc0H, hc0P⟩ := S3.2.2.1 h p c0 e3 hc0m
      obtain ⟨qc, hqc⟩ := R3'.node hc0H
      have hNr : tH T1 (tR T1) = (tN T1 - 1) + 1 := by rw [S3.2.2.2.2.1]; omega
      obtain ⟨qr, hqr⟩ := R3'.node hNr
      have r18 : mR M3 18 t = some qr := by rw [R3'.2.2.2.2.2.2]; exact hqr
      simp (disch := first | (simp only [dd, dr]; done) | omega) only [W_104, t03, r18, I_lt, I_le, I_inj, inB_I, tc_I, Int.toNat_natCast, fkt, rf1, rf0, cq, Nat.reduceAdd, Nat.reduceEqDiff, Int.reduceToNat, eq_self, true_and, and_true, true_or, or_true, bI_0, bI_1, mm, rAm, mF_sF, mR_sR, false_and, and_false, if_false, if_true, false_or, or_false, not_true_eq_false, not_false_eq_true, and_self]
      refine ⟨fun hne => ?_, fun heq => ?_⟩
      · have hpr : p ≠ tR T1 := by
          intro e
          rw [e] at hqp'
          have : tN T1 - 1 = h + 1 := by have := S3.2.2.2.2.1; rw [← e] at this; omega
          rw [this, hqp'] at hqr
          exact hne (Option.some.inj hqr)
        cases hPp : tP T1 p with
        | none => exact absurd (c11.mp hPp) hpr
        | some pp =>
        simp only [hCp, hPp] at hg
        by_cases hok : okN T1 p (pv (tW T1 (h + 1)) p) = false ∨ okN T1 p (nx (tW T1 (h + 1)) p) = false ∨ 96 ≤ pp
        · rw [if_pos hok] at hg; cases hg
        rw [if_neg hok] at hg
        obtain ⟨b30, b31⟩ := R3'.2.2.2.2.2.1 (h + 1) p qp e4 hqp'
        have nbr : ∀ y, (pv (tW T1 (h + 1)) p = some y ∨ nx (tW T1 (h + 1)) p = some y) → tH T1 y = h + 2 ∧ ∃ qy, A.2 y = some qy ∧ na A (h + 1) y = some qy ∧ kO M3 qy = 6 ∧ mF M3 41 qy = I ((tC T1 y).length : Nat) ∧ InIs M3 qy ((tC T1 y).map (nd A h)) := by
          intro y hy
          have hym : y ∈ tW T1 (h + 1) := by rcases hy with hy | hy; exact pv_mem hy; exact nx_mem hy
          have hyH := (S3.1 (h + 1) y hym).1
          obtain ⟨qy, g1, g2, g3⟩ := R3'.2.2.2.1 h y hyH
          refine ⟨hyH, qy, g1, by unfold na; rw [if_neg (by omega)]; exact g1, g2.1.1, ?_, g2⟩
          have := g2.2.1; rwa [List.length_map] at this
        have okl : okN T1 p (pv (tW T1 (h + 1)) p) = true := by cases h : okN T1 p (pv (tW T1 (h + 1)) p) with | true => rfl | false => exact absurd (.inl h) hok
        have okr : okN T1 p (nx (tW T1 (h + 1)) p) = true := by cases h : okN T1 p (nx (tW T1 (h + 1)) p) with | true => rfl | false => exact absurd (.inr (.inl h)) hok
        -- the only child goes to a neighbour y at a place k, and p goes
        have tail : ∀ (M4 : Mem) (y k qy : Nat), tH T1 y = h + 2 → y ≠ p → A.2 y = some qy → (tC T1 y).length < 5 → k ≤ (tC T1 y).length → gn n (cp (uC T1 p []) y k c0) p = some T' → RM M4 t r m A (uC T1 p []) py none → Fr t r A A 0 M M4 → Wp (d - 1) 142 0 [some (.ref qy), some (.int (I (k : Nat))), some (.ref qc), none] [] M4 (fun out M5 => out = .returned none ∧ kO M5 t = 3 ∧ Wp (d - 1) 104 0 [some (.ref t), some (.ref qp), none, none, none, none] [] M5 (fun out M6 => out = .returned none ∧ Q (.returned none) M6)) := by
          intro M4 y k qy hyH hyp hqy hl5 hk hg' R4 F4
          have S4 : SW (uC T1 p []) := S3.sub (fun z hz => by cases hz) (fun _ => List.nodup_nil)
          have eY : tC (uC T1 p []) y = tC T1 y := by simp only [tc]; exact fu_n _ _ hyp
          refine n_put R4 (h := h) (p := y) (x := c0) (by simp only [tc]; exact hyH) hqy (by simp only [tc]; exact hc0H) hqc (by rw [eY]; exact hk) (by rw [eY]; omega) none (fun _ _ _ => by simp) (fun M5 R5 F5 => ⟨rfl, R5.1.1.1, ?_⟩)
          have S5 : SW (cp (uC T1 p []) y k c0) := S4.put (h := h) (by simp only [tc]; exact hyH) (by simp only [tc]; exact hc0H) (S3.nobody e3 hc0m (by simp)) (by simp only [tc]; exact S3.nroot e3 hc0m)
          exact ih (d - 1) _ T' p (h + 1) qp M5 _ (by omega) R5 S5 (by simp only [cp, tc, tp]; exact e3) hqp' hg' (fun M6 R6 S6 F6 => ⟨rfl, hQ M6 R6 S6 ((F4.trans F5).trans F6)⟩)
        have dropP : ∀ (QQ : Outcome → Mem → Prop), (∀ M4, RM M4 t r m A (uC T1 p []) py none → Fr t r A A 0 M M4 → QQ (.returned (some (.ref qc))) M4) → Wp (d - 1) 144 0 [some (.ref qp), some (.int (I 0)), none, none] [] M3 QQ := by
          intro QQ hq4
          refine n_drop (k := 0) R3' S3 (h := h) (y := c0) e3 hqp (by rw [hCp]; rfl) (fun M4 qy hqy R4 F4 => ?_)
          rw [hqc] at hqy; cases hqy
          rw [hCp] at R4
          exact hq4 M4 R4 (F13.trans F4)
        have borrow : ∀ (y k i z qy : Nat), tH T1 y = h + 2 → y ≠ p → A.2 y = some qy → (tC T1 y)[i]? = some z → k ≤ 1 → some (cp (uC T1 y ((tC T1 y).take i ++ (tC T1 y).drop (i + 1))) p k z) = some T' → Wp (d - 1) 144 0 [some (.ref qy), some (.int (I (i : Nat))), none, none] [] M3 (fun out M4 => ∃ qz, out = .returned (some (.ref qz)) ∧ kO M4 qp = 6 ∧ Wp (d - 1) 142 0 [some (.ref qp), some (.int (I (k : Nat))), some (.ref qz), none] [] M4 (fun out M5 => out = .returned none ∧ Q (.returned none) M5)) := by
          intro y k i z qy hyH hyp hqy hz hk hT
          cases hT
          refine n_drop R3' S3 (h := h) (y := z) hyH hqy hz (fun M4 qz hqz R4 F4 => ⟨qz, rfl, (R4.1.kind hqp').2.2.2.2 (by omega), ?_⟩)
          have hzm : z ∈ tC T1 y := List.mem_of_getElem? hz
          have hzH := (S3.2.2.1 h y z hyH hzm).1
          have eP : tC (uC T1 y ((tC T1 y).take i ++ (tC T1 y).drop (i + 1))) p = [c0] := by simp only [tc]; rw [fu_n _ _ (Ne.symm hyp)]; exact hCp
          have hnd := S3.2.2.2.1 h y hyH
          have hsp : tC T1 y = (tC T1 y).take i ++ z :: (tC T1 y).drop (i + 1) := by
            obtain ⟨hi, hz'⟩ := List.getElem?_eq_some_iff.mp hz
            conv => lhs; rw [← List.take_append_drop i (tC T1 y), List.drop_eq_getElem_cons hi, hz']
          have hmid : z ∉ (tC T1 y).take i ++ (tC T1 y).drop (i + 1) ∧ ((tC T1 y).take i ++ (tC T1 y).drop (i + 1)).Nodup := by
            rw [hsp] at hnd
            obtain ⟨q1, q2, q3⟩ := nd_mid hnd
            exact ⟨fun hm => by rcases List.mem_append.mp hm with h | h; exact q1 h; exact q2 h, q3⟩
          have S4 : SW (uC T1 y ((tC T1 y).take i ++ (tC T1 y).drop (i + 1))) := S3.sub (fun w hw => by rcases List.mem_append.mp hw with h | h; exact List.mem_of_mem_take h; exact List.mem_of_mem_drop h) (fun _ => hmid.2)
          refine n_put R4 (h := h) (p := p) (x := z) (by simp only [tc]; exact e3) hqp (by simp only [tc]; exact hzH) hqz (by rw [eP]; exact hk) (by rw [eP]; simp) none (fun _ _ _ => by simp) (fun M5 R5 F5 => ⟨rfl, ?_⟩)
          exact hQ M5 R5 (S4.put (h := h) (by simp only [tc]; exact e3) (by simp only [tc]; exact hzH) (S3.nobody hyH hzm hmid.1) (by simp only [tc]; exact S3.nroot hyH hzm)) ((F13.trans F4).trans F5)
        generalize hl : pv (tW T1 (h + 1)) p = l at *
        generalize hr : nx (tW T1 (h + 1)) p = rr at *
        have goR : ∀ (b2 : Nat) (v4 : Option Value), rr = some b2 → lo v4 = false → (tC T1 b2).length < 5 → gn n (cp (uC T1 p []) b2 0 c0) p = some T' → ∀ qb, A.2 b2 = some qb → Wp d 104 143 [some (.ref t), some (.ref q), some (.ref qp), some (.ref qx), v4, some (.ref qb)] [] M3 Q := by
          intro b2 v4 hrb hv4 hl5 hg' qb hqb
          obtain ⟨hyH, qy, g1, g2, g3, g4, g5⟩ := nbr b2 (.inr hrb)
          rw [hqb] at g1; cases g1
          have hbp := (of_decide_eq_true (by rw [hrb] at okr; exact okr) : b2 ≠ p ∧ tI T1 b2 = [] ∧ (tC T1 b2).length ≤ 5).1
          simp (disch := first | (simp only [dd, dr]; done) | omega) only [W_104, g3, kp3, I_lt, I_le, I_inj, inB_I, tc_I, Int.toNat_natCast, fkt, rf1, rf0, cq, Nat.reduceAdd, Nat.reduceEqDiff, Int.reduceToNat, eq_self, true_and, and_true, true_or, or_true, bI_0, bI_1, mm, rAm, mF_sF, mR_sR, false_and, and_false, if_false, if_true, false_or, or_false, not_true_eq_false, not_false_eq_true, and_self]
          refine ca_144 (by omega) (dropP _ (fun M4 R4 F4 => ?_))
          have kb4 : kO M4 qb = 6 := (R4.1.kind g2).2.2.2.2 (by omega)
          simp (disch := first | (simp only [dd, dr]; done) | omega) only [W_104, kb4, I_lt, I_le, I_inj, inB_I, tc_I, Int.toNat_natCast, fkt, rf1, rf0, cq, Nat.reduceAdd, Nat.reduceEqDiff, Int.reduceToNat, eq_self, true_and, and_true, true_or, or_true, bI_0, bI_1, mm, rAm, mF_sF, mR_sR, false_and, and_false, if_false, if_true, false_or, or_false, not_true_eq_false, not_false_eq_true, and_self]
          refine cr_142 (by omega) ((tail M4 b2 0 qb hyH hbp hqb hl5 (Nat.zero_le _) hg' R4 F4).mono ?_)
          rintro o' M5 ⟨rfl, kt5, hw⟩
          simp (disch := first | (simp only [dd, dr]; done) | omega) only [W_104, kt5, I_lt, I_le, I_inj, inB_I, tc_I, Int.toNat_natCast, fkt, rf1, rf0, cq, Nat.reduceAdd, Nat.reduceEqDiff, Int.reduceToNat, eq_self, true_and, and_true, true_or, or_true, bI_0, bI_1, mm, rAm, mF_sF, mR_sR, false_and, and_false, if_false, if_true, false_or, or_false, not_true_eq_false, not_false_eq_true, and_self]
          refine cr_104 (by omega) (hw.mono ?_)
          rintro o' M6 ⟨rfl, hq6⟩
          simp (disch := first | (simp only [dd, dr]; done) | omega) only [W_104, I_lt, I_le, I_inj, inB_I, tc_I, Int.toNat_natCast, fkt, rf1, rf0, cq, Nat.reduceAdd, Nat.reduceEqDiff, Int.reduceToNat, eq_self, true_and, and_true, true_or, or_true, bI_0, bI_1, mm, rAm, mF_sF, mR_sR, false_and, and_false, if_false, if_true, false_or, or_false, not_true_eq_false, not_false_eq_true, and_self]
          exact hq6
        cases l with
        | none =>
          have b30' : mR M3 30 qp = none := b30
          cases rr with
          | none => simp only [rmN] at hg; cases hg
          | some b2 =>
            obtain ⟨hyH, qb, g1, g2, g3, g4, g5⟩ := nbr b2 (.inr rfl)
            obtain ⟨o1, o2, o3⟩ := (of_decide_eq_true okr : b2 ≠ p ∧ tI T1 b2 = [] ∧ (tC T1 b2).length ≤ 5)
            have b31' : mR M3 31 qp = some qb := by rw [b31]; exact g2
            simp (disch := first | (simp only [dd, dr]; done) | omega) only [W_104, kp3, b30', b31', g3, I_lt, I_le, I_inj, inB_I, tc_I, Int.toNat_natCast, fkt, rf1, rf0, cq, Nat.reduceAdd, Nat.reduceEqDiff, Int.reduceToNat, eq_self, true_and, and_true, true_or, or_true, bI_0, bI_1, mm, rAm, mF_sF, mR_sR, false_and, and_false, if_false, if_true, false_or, or_false, not_true_eq_false, not_false_eq_true, and_self]
            refine ca_145 (by omega) (i_hasRoom g5 ?_)
            rw [List.length_map]
            simp (disch := first | (simp only [dd, dr]; done) | omega) only [W_104, I_lt, I_le, I_inj, inB_I, tc_I, Int.toNat_natCast, fkt, rf1, rf0, cq, Nat.reduceAdd, Nat.reduceEqDiff, Int.reduceToNat, eq_self, true_and, and_true, true_or, or_true, bI_0, bI_1, mm, rAm, mF_sF, mR_sR, false_and, and_false, if_false, if_true, false_or, or_false, not_true_eq_false, not_false_eq_true, and_self]
            refine ⟨fun h5 => ?_, fun h5 => ?_⟩
            · have h5' : ¬ (tC T1 b2).length < 5 := of_decide_eq_false h5
              rw [if_neg (by simp [rmN]), if_neg (by simp [rmN]; omega)] at hg
              have hy : (tC T1 b2)[0]? = some (tC T1 b2)[0] := List.getElem?_eq_getElem (by omega)
              simp only [hy] at hg
              simp (disch := first | (simp only [dd, dr]; done) | omega) only [W_104, kp3, g3, I_lt, I_le, I_inj, inB_I, tc_I, Int.toNat_natCast, fkt, rf1, rf0, cq, Nat.reduceAdd, Nat.reduceEqDiff, Int.reduceToNat, eq_self, true_and, and_true, true_or, or_true, bI_0, bI_1, mm, rAm, mF_sF, mR_sR, false_and, and_false, if_false, if_true, false_or, or_false, not_true_eq_false, not_false_eq_true, and_self]
              refine ca_144 (by omega) ((borrow b2 1 0 _ qb hyH o1 g1 hy (Nat.le_refl _) (by simpa using hg)).mono ?_)
              rintro o' M4 ⟨qz, rfl, kp4, hw⟩
              simp (disch := first | (simp only [dd, dr]; done) | omega) only [W_104, kp4, I_lt, I_le, I_inj, inB_I, tc_I, Int.toNat_natCast, fkt, rf1, rf0, cq, Nat.reduceAdd, Nat.reduceEqDiff, Int.reduceToNat, eq_self, true_and, and_true, true_or, or_true, bI_0, bI_1, mm, rAm, mF_sF, mR_sR, false_and, and_false, if_false, if_true, false_or, or_false, not_true_eq_false, not_false_eq_true, and_self]
              refine cr_142 (by omega) (hw.mono ?_)
              rintro o' M5 ⟨rfl, hq5⟩
              simp (disch := first | (simp only [dd, dr]; done) | omega) only [W_104, I_lt, I_le, I_inj, inB_I, tc_I, Int.toNat_natCast, fkt, rf1, rf0, cq, Nat.reduceAdd, Nat.reduceEqDiff, Int.reduceToNat, eq_self, true_and, and_true, true_or, or_true, bI_0, bI_1, mm, rAm, mF_sF, mR_sR, false_and, and_false, if_false, if_true, false_or, or_false, not_true_eq_false, not_false_eq_true, and_self]
              exact hq5
            · have h5' : (tC T1 b2).length < 5 := by
                by_cases e : (tC T1 b2).length < 5
                · exact e
                · exact absurd (decide_eq_false e) h5
              rw [if_neg (by simp [rmN]), if_pos (by simp [rmN]; omega)] at hg
              exact goR b2 _ rfl rfl h5' hg qb g1
        | some a =>
          obtain ⟨hyH, qa, g1, g2, g3, g4, g5⟩ := nbr a (.inl rfl)
          obtain ⟨o1, o2, o3⟩ := (of_decide_eq_true okl : a ≠ p ∧ tI T1 a = [] ∧ (tC T1 a).length ≤ 5)
          have b30' : mR M3 30 qp = some qa := by rw [b30]; exact g2
          have tailA : ∀ (v5 : Option Value), lo v5 = false → (match (tC T1 a)[(tC T1 a).length - 1]? with | some y => some (cp (uC T1 a ((tC T1 a).take ((tC T1 a).length - 1))) p 0 y) | none => none) = some T' → Wp d 104 162 [some (.ref t), some (.ref q), some (.ref qp), some (.ref qx), some (.ref qa), v5] [] M3 Q := by
            intro v5 hv5 hg'
            cases hy : (tC T1 a)[(tC T1 a).length - 1]? with
            | none => simp only [hy] at hg'; cases hg'
            | some y =>
              simp only [hy] at hg'
              have hlt := (List.getElem?_eq_some_iff.mp hy).1
              simp (disch := first | (simp only [dd, dr]; done) | omega) only [W_104, kp3, g3, g4, I_lt, I_le, I_inj, inB_I, tc_I, Int.toNat_natCast, fkt, rf1, rf0, cq, Nat.reduceAdd, Nat.reduceEqDiff, Int.reduceToNat, eq_self, true_and, and_true, true_or, or_true, bI_0, bI_1, mm, rAm, mF_sF, mR_sR, false_and, and_false, if_false, if_true, false_or, or_false, not_true_eq_false, not_false_eq_true, and_self]
              rw [show (((tC T1 a).length : Int) - 1) = (((tC T1 a).length - 1 : Nat) : Int) by omega]
              refine ca_144 (by omega) ((borrow a 0 _ _ qa hyH o1 g1 hy (by omega) (by rw [show (tC T1 a).length - 1 + 1 = (tC T1 a).length by omega, List.drop_length, List.append_nil]; exact hg')).mono ?_)
              rintro o' M4 ⟨qz, rfl, kp4, hw⟩
              simp (disch := first | (simp only [dd, dr]; done) | omega) only [W_104, kp4, I_lt, I_le, I_inj, inB_I, tc_I, Int.toNat_natCast, fkt, rf1, rf0, cq, Nat.reduceAdd, Nat.reduceEqDiff, Int.reduceToNat, eq_self, true_and, and_true, true_or, or_true, bI_0, bI_1, mm, rAm, mF_sF, mR_sR, false_and, and_false, if_false, if_true, false_or, or_false, not_true_eq_false, not_false_eq_true, and_self]
              refine cr_142 (by omega) (hw.mono ?_)
              rintro o' M5 ⟨rfl, hq5⟩
              simp (disch := first | (simp only [dd, dr]; done) | omega) only [W_104, I_lt, I_le, I_inj, inB_I, tc_I, Int.toNat_natCast, fkt, rf1, rf0, cq, Nat.reduceAdd, Nat.reduceEqDiff, Int.reduceToNat, eq_self, true_and, and_true, true_or, or_true, bI_0, bI_1, mm, rAm, mF_sF, mR_sR, false_and, and_false, if_false, if_true, false_or, or_false, not_true_eq_false, not_false_eq_true, and_self]
              exact hq5
          -- whatever stands to the right
          have mid : ∀ (v5 : Option Value), lo v5 = false → (¬ (tC T1 a).length < 5 → Wp d 104 130 [some (.ref t), some (.ref q), some (.ref qp), some (.ref qx), some (.ref qa), v5] [] M3 Q) → Wp d 104 94 [some (.ref t), some (.ref q), some (.ref qp), some (.ref qx), some (.ref qa), v5] [] M3 Q := by
            intro v5 hv5 hno
            simp (disch := first | (simp only [dd, dr]; done) | omega) only [W_104, g3, I_lt, I_le, I_inj, inB_I, tc_I, Int.toNat_natCast, fkt, rf1, rf0, cq, Nat.reduceAdd, Nat.reduceEqDiff, Int.reduceToNat, eq_self, true_and, and_true, true_or, or_true, bI_0, bI_1, mm, rAm, mF_sF, mR_sR, false_and, and_false, if_false, if_true, false_or, or_false, not_true_eq_false, not_false_eq_true, and_self]
            refine ca_145 (by omega) (i_hasRoom g5 ?_)
            rw [List.length_map]
            simp (disch := first | (simp only [dd, dr]; done) | omega) only [W_104, I_lt, I_le, I_inj, inB_I, tc_I, Int.toNat_natCast, fkt, rf1, rf0, cq, Nat.reduceAdd, Nat.reduceEqDiff, Int.reduceToNat, eq_self, true_and, and_true, true_or, or_true, bI_0, bI_1, mm, rAm, mF_sF, mR_sR, false_and, and_false, if_false, if_true, false_or, or_false, not_true_eq_false, not_false_eq_true, and_self]
            refine ⟨fun h5 => hno (of_decide_eq_false h5), fun h5 => ?_⟩
            have h5' : (tC T1 a).length < 5 := by
              by_cases e : (tC T1 a).length < 5
              · exact e
              · exact absurd (decide_eq_false e) h5
            rw [if_pos (by simp [rmN]; omega)] at hg
            simp (disch := first | (simp only [dd, dr]; done) | omega) only [W_104, g3, g4, kp3, I_lt, I_le, I_inj, inB_I, tc_I, Int.toNat_natCast, fkt, rf1, rf0, cq, Nat.reduceAdd, Nat.reduceEqDiff, Int.reduceToNat, eq_self, true_and, and_true, true_or, or_true, bI_0, bI_1, mm, rAm, mF_sF, mR_sR, false_and, and_false, if_false, if_true, false_or, or_false, not_true_eq_false, not_false_eq_true, and_self]
            refine ca_144 (by omega) (dropP _ (fun M4 R4 F4 => ?_))
            have kb4 : kO M4 qa = 6 := (R4.1.kind g2).2.2.2.2 (by omega)
            simp (disch := first | (simp only [dd, dr]; done) | omega) only [W_104, kb4, I_lt, I_le, I_inj, inB_I, tc_I, Int.toNat_natCast, fkt, rf1, rf0, cq, Nat.reduceAdd, Nat.reduceEqDiff, Int.reduceToNat, eq_self, true_and, and_true, true_or, or_true, bI_0, bI_1, mm, rAm, mF_sF, mR_sR, false_and, and_false, if_false, if_true, false_or, or_false, not_true_eq_false, not_false_eq_true, and_self]
            refine cr_142 (by omega) ((tail M4 a _ qa hyH o1 g1 h5' (Nat.le_refl _) hg R4 F4).mono ?_)
            rintro o' M5 ⟨rfl, kt5, hw⟩
            simp (disch := first | (simp only [dd, dr]; done) | omega) only [W_104, kt5, I_lt, I_le, I_inj, inB_I, tc_I, Int.toNat_natCast, fkt, rf1, rf0, cq, Nat.reduceAdd, Nat.reduceEqDiff, Int.reduceToNat, eq_self, true_and, and_true, true_or, or_true, bI_0, bI_1, mm, rAm, mF_sF, mR_sR, false_and, and_false, if_false, if_true, false_or, or_false, not_true_eq_false, not_false_eq_true, and_self]
            refine cr_104 (by omega) (hw.mono ?_)
            rintro o' M6 ⟨rfl, hq6⟩
            simp (disch := first | (simp only [dd, dr]; done) | omega) only [W_104, I_lt, I_le, I_inj, inB_I, tc_I, Int.toNat_natCast, fkt, rf1, rf0, cq, Nat.reduceAdd, Nat.reduceEqDiff, Int.reduceToNat, eq_self, true_and, and_true, true_or, or_true, bI_0, bI_1, mm, rAm, mF_sF, mR_sR, false_and, and_false, if_false, if_true, false_or, or_false, not_true_eq_false, not_false_eq_true, and_self]
            exact hq6
          cases rr with
          | none =>
            have b31' : mR M3 31 qp = none := b31
            simp (disch := first | (simp only [dd, dr]; done) | omega) only [r_104_76, r_104_77, r_104_80, r_104_80_1, r_104_83, r_104_85, r_104_86, r_104_89, r_104_89_1, r_104_92, r_104_92_1, kp3, b30', b31', g3, I_lt, I_le, I_inj, inB_I, tc_I, Int.toNat_natCast, fkt, rf1, rf0, cq, Nat.reduceAdd, Nat.reduceEqDiff, Int.reduceToNat, eq_self, true_and, and_true, true_or, or_true, bI_0, bI_1, mm, rAm, mF_sF, mR_sR, false_and, and_false, if_false, if_true, false_or, or_false, not_true_eq_false, not_false_eq_true, and_self]
            refine mid (some .null) rfl (fun h5 => ?_)
            rw [if_neg (by simp [rmN]; omega), if_neg (by simp [rmN])] at hg
            simp (disch := first | (simp only [dd, dr]; done) | omega) only [r_104_130, r_104_130_1, r_104_132, r_104_132_1, I_lt, I_le, I_inj, inB_I, tc_I, Int.toNat_natCast, fkt, rf1, rf0, cq, Nat.reduceAdd, Nat.reduceEqDiff, Int.reduceToNat, eq_self, true_and, and_true, true_or, or_true, bI_0, bI_1, mm, rAm, mF_sF, mR_sR, false_and, and_false, if_false, if_true, false_or, or_false, not_true_eq_false, not_false_eq_true, and_self]
            exact tailA _ rfl hg
          | some b2 =>
            obtain ⟨hyH2, qb, u1, u2, u3, u4, u5⟩ := nbr b2 (.inr rfl)
            have b31' : mR M3 31 qp = some qb := by rw [b31]; exact u2
            simp (disch := first | (simp only [dd, dr]; done) | omega) only [r_104_76, r_104_77, r_104_80, r_104_80_1, r_104_83, r_104_85, r_104_86, r_104_89, r_104_89_1, r_104_92, r_104_92_1, kp3, b30', b31', g3, u3, I_lt, I_le, I_inj, inB_I, tc_I, Int.toNat_natCast, fkt, rf1, rf0, cq, Nat.reduceAdd, Nat.reduceEqDiff, Int.reduceToNat, eq_self, true_and, and_true, true_or, or_true, bI_0, bI_1, mm, rAm, mF_sF, mR_sR, false_and, and_false, if_false, if_true, false_or, or_false, not_true_eq_false, not_false_eq_true, and_self]
            refine mid _ rfl (fun h5 => ?_)
            rw [if_neg (by simp [rmN]; omega)] at hg
            simp (disch := first | (simp only [dd, dr]; done) | omega) only [W_104, u3, I_lt, I_le, I_inj, inB_I, tc_I, Int.toNat_natCast, fkt, rf1, rf0, cq, Nat.reduceAdd, Nat.reduceEqDiff, Int.reduceToNat, eq_self, true_and, and_true, true_or, or_true, bI_0, bI_1, mm, rAm, mF_sF, mR_sR, false_and, and_false, if_false, if_true, false_or, or_false, not_true_eq_false, not_false_eq_true, and_self]
            refine ca_145 (by omega) (i_hasRoom u5 ?_)
            rw [List.length_map]
            simp (disch := first | (simp only [dd, dr]; done) | omega) only [W_104, I_lt, I_le, I_inj, inB_I, tc_I, Int.toNat_natCast, fkt, rf1, rf0, cq, Nat.reduceAdd, Nat.reduceEqDiff, Int.reduceToNat, eq_self, true_and, and_true, true_or, or_true, bI_0, bI_1, mm, rAm, mF_sF, mR_sR, false_and, and_false, if_false, if_true, false_or, or_false, not_true_eq_false, not_false_eq_true, and_self]
            refine ⟨fun h6 => ?_, fun h6 => ?_⟩
            · have h6' := of_decide_eq_false h6
              rw [if_neg (by simp [rmN]; omega)] at hg
              exact tailA _ rfl hg
            · have h6' : (tC T1 b2).length < 5 := by
                by_cases e : (tC T1 b2).length < 5
                · exact e
                · exact absurd (decide_eq_false e) h6
              rw [if_pos (by simp [rmN]; omega)] at hg
              exact goR b2 _ rfl rfl h6' hg qb u1
      · have hpr : p = tR T1 := by
          have heq' : qp = qr := Decidable.not_not.mp heq
          subst heq'
          exact (R3'.1.inj hqp' hqr).1
        have hPp := c11.mpr hpr
        simp only [hCp, hPp] at hg
        cases hg
        have hN2 : tN T1 = h + 2 := by have := S3.2.2.2.2.1; rw [← hpr, e3] at this; omega
        simp (disch := first | (simp only [dd, dr]; done) | omega) only [W_104, t03, kp3, I_lt, I_le, I_inj, inB_I, tc_I, Int.toNat_natCast, fkt, rf1, rf0, cq, Nat.reduceAdd, Nat.reduceEqDiff, Int.reduceToNat, eq_self, true_and, and_true, true_or, or_true, bI_0, bI_1, mm, rAm, mF_sF, mR_sR, false_and, and_false, if_false, if_true, false_or, or_false, not_true_eq_false, not_false_eq_true, and_self]
        refine ca_144 (by omega) (n_drop (k := 0) R3' S3 (h := h) (y := c0) e3 hqp (by rw [hCp]; rfl) (fun M4 qy hqy R4 F4 => ?_))
        rw [hqc] at hqy; cases hqy
        rw [hCp] at R4
        have t04 := R4.1.1.1
        have t174 := R4.1.1.2.2.2.2.2.2.2
        have kc4 := (R4.1.kind hqc).2.1
        obtain ⟨j30, j31, j32, j33⟩ := fkN kc4
        have R5 := R4.rt (x := c0) (n := tN T1 - 1)
        rw [show tN T1 - 1 - 1 = h by omega, hqc] at R5
        have R6 := R5.par (x := c0) (h := h) (v := none) (by simp only [tr, tn, tc]; exact hc0H) hqc (fun _ h => by cases h) none (fun _ _ _ => by simp)
        have b32 := (R6.1.kind hqp').2.2.1
        have fp32 := (fkN (R6.1.kind hqp').2.1).2.2.1
        have t06 := R6.1.1.1
        have t176 := R6.1.1.2.2.2.2.2.2.2
        have r06 := R6.2.1.1
        have hL : mR (sR M4 18 t (some qc)) 18 t = some qc := by rw [mR_sR, if_pos ⟨rfl, rfl⟩]
        have R6' : RM (sR (sR M4 18 t (some qc)) 33 qc none) t r m A (uP (uN (uR (uC T1 p (List.take 0 [c0] ++ List.drop (0 + 1) [c0])) c0) (tN T1 - 1)) c0 none) py none := R6
        have b324 := (R4.1.kind hqp').2.2.1
        have fp324 := (fkN (R4.1.kind hqp').2.1).2.2.1
        have r04 := R4.2.1.1
        simp (disch := first | (simp only [dd, dr]; done) | omega) only [W_104, t04, t174, hL, j33, b324, fp324, r04, I_lt, I_le, I_inj, inB_I, tc_I, Int.toNat_natCast, fkt, rf1, rf0, cq, Nat.reduceAdd, Nat.reduceEqDiff, Int.reduceToNat, eq_self, true_and, and_true, true_or, or_true, bI_0, bI_1, mm, rAm, mF_sF, mR_sR, false_and, and_false, if_false, if_true, false_or, or_false, not_true_eq_false, not_false_eq_true, and_self]
        refine ca_89 (by omega) (r_free R6'.2.1 c6 ?_)
        have R7 := ((R6'.use (b := p) false).un p).row0 (h + 1)
        simp (disch := first | (simp only [dd, dr]; done) | omega) only [W_104, I_lt, I_le, I_inj, inB_I, tc_I, Int.toNat_natCast, fkt, rf1, rf0, cq, Nat.reduceAdd, Nat.reduceEqDiff, Int.reduceToNat, eq_self, true_and, and_true, true_or, or_true, bI_0, bI_1, mm, rAm, mF_sF, mR_sR, false_and, and_false, if_false, if_true, false_or, or_false, not_true_eq_false, not_false_eq_true, and_self]
        have F7 : Fr t r A A 0 M (sA (sR (sR M4 18 t (some qc)) 33 qc none) (r + 1) p (I 0)) := by
          refine Fr.trans (Fr.trans (Fr.trans (F13.trans F4) (Fr.lk (Lk.sR M4 18 t _) (fun f a hf => by rw [hf.2]; exact .inl ⟨Nat.le_refl _, by omega⟩))) (Fr.lk (Lk.sR _ 33 qc _) (fun f a hf => by rw [hf.2]; exact Ow.node hqc))) (Fr.use t r A _ p (I 0))
        refine hQ _ ?_ (S3.gn2 e3 hN2 hpr hc0m) F7
        have eT2 : uW (uC (uI (uH (uU (uP (uN (uR (uC T1 p (List.take 0 [c0] ++ List.drop (0 + 1) [c0])) c0) (tN T1 - 1)) c0 none) p false) p 0) p []) p []) (h + 1) [] = uN (uR (uP (fe (uW T1 (h + 1) []) p) c0 none) c0) (tN T1 - 1) := by
          unfold fe uN uR uP uC uI uH uU uW
          simp only [fu_fu]
        rw [eT2] at R7
        exact R7
end CG
