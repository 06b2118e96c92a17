/-! ===== THE MODEL: gone ===== -/
section MG2
variable {M : Mem} {Q : Outcome → Mem → Prop} {o : Nat} {f : Nat → Int} {b c w : Int → Int} {j : Nat → Bool} {sz tl : Nat → Nat}
theorem oI_ne {a : Nat} : (oI (some a) = -1) = False := propext ⟨fun h => by simp only [oI] at h; omega, fun h => h.elim⟩
set_option maxHeartbeats 8000000 in
theorem m_gone_loop (hK : MK M o) : ∀ (n d : Nat) (T T' : Tr) (s : Int → Int) (x : Nat) (v1 v3 v4 v5 v6 v7 : Option Value), 4 ≤ d → lo v1 = false → lo v3 = false → lo v4 = false → lo v5 = false → lo v6 = false → lo v7 = false → MT (fz s (3852 + (x : Int)) 0) T sz tl → gn n T x = some T' → (∀ s', MT s' T' sz tl → Frz s s' → Q (.returned none) (ms M o f s' b c w j)) →
    Wp d 189 2 [some (.ref o), v1, some (.int (I (x : Nat))), v3, v4, v5, v6, v7] [] (ms M o f s b c w j) Q := by
  have hK' := hK
  obtain ⟨k0, k1, k2, k3, k4, k5, k6, k7, k8, k9, k10⟩ := hK
  intro n
  induction n with
  | zero => intro d T T' s x v1 v3 v4 v5 v6 v7 hd h1 h3 h4 h5 h6 h7 m hg; cases hg
  | succ n ih =>
    intro d T T' s x v1 v3 v4 v5 v6 v7 hd h1 h3 h4 h5 h6 h7 m hg hQ
    cases hp : tP T x with
    | none => simp only [gn, hp] at hg; cases hg
    | some p =>
    cases hh : tH T x with
    | zero => simp only [gn, hp, hh] at hg; cases hg
    | succ h =>
    simp only [gn, hp, hh] at hg
    by_cases hc : x ∈ tW T h ∧ x ∈ tC T p ∧ tH T p = h + 2 ∧ x ≠ p ∧ x < 96 ∧ p < 96 ∧ h + 1 < 8 ∧ tI T p = [] ∧ p ∈ tW T (h + 1) ∧ 1 ≤ tN T ∧ (tP T p = none ↔ p = tR T)
    case neg => rw [if_neg hc] at hg; cases hg
    rw [if_pos hc] at hg
    obtain ⟨c1, c2, c3, c4, c5, c6, c7, c8, c9, c10, c11⟩ := hc
    have ep : s (3948 + (x : Int)) = (p : Int) := by
      have := m.2.2.2.1 x c5 (by omega)
      rw [fz_n _ _ (by omega), hp] at this
      exact this
    simp (disch := first | (simp only [dd, dr]; done) | omega) only [w_189_2, W_189, msK, msR, msF, ms1, msS1, k0, k1, k6, ep, I_lt, I_le, I_inj, inB_I, tc_I, Int.toNat_natCast, fkt, rf1, rf0, cq, Nat.reduceAdd, Nat.reduceEqDiff, Int.reduceToNat, eq_self, true_and, and_true, true_or, or_true, bI_0, bI_1, mm, rAm, mF_sF, mR_sR, false_and, and_false, if_false, if_true, false_or, or_false, not_true_eq_false, not_false_eq_true, and_self]
    refine ca_190 (by omega) (t_off hK' (by omega) m c5 (by omega) hh c1 ?_)
    intro s1 g1
    simp (disch := first | (simp only [dd, dr]; done) | omega) only [W_189, msK, msR, msF, ms1, msS1, k0, k1, k6, I_lt, I_le, I_inj, inB_I, tc_I, Int.toNat_natCast, fkt, rf1, rf0, cq, Nat.reduceAdd, Nat.reduceEqDiff, Int.reduceToNat, eq_self, true_and, and_true, true_or, or_true, bI_0, bI_1, mm, rAm, mF_sF, mR_sR, false_and, and_false, if_false, if_true, false_or, or_false, not_true_eq_false, not_false_eq_true, and_self]
    refine ca_191 (by omega) (m_free hK' (by omega) (by omega) ?_)
    obtain ⟨m2, fr2⟩ := g1 _ rfl
    generalize fz (fz (fz s1 (0 + (x : Int)) 0) (3756 + (x : Int)) 0) (3852 + (x : Int)) 0 = s2 at *
    have eC : tC (fe (uW T h (out (tW T h) x)) x) p = tC T p := by
      simp only [fe, tu, th, ti, tc, tw]; rw [fu_n _ _ (Ne.symm c4)]
    have eI : tI (fe (uW T h (out (tW T h) x)) x) p = [] := by
      simp only [fe, tu, th, ti, tc, tw]; rw [fu_n _ _ (Ne.symm c4)]; exact c8
    simp (disch := first | (simp only [dd, dr]; done) | omega) only [W_189, msK, msR, msF, ms1, msS1, k0, k1, k6, I_lt, I_le, I_inj, inB_I, tc_I, Int.toNat_natCast, fkt, rf1, rf0, cq, Nat.reduceAdd, Nat.reduceEqDiff, Int.reduceToNat, eq_self, true_and, and_true, true_or, or_true, bI_0, bI_1, mm, rAm, mF_sF, mR_sR, false_and, and_false, if_false, if_true, false_or, or_false, not_true_eq_false, not_false_eq_true, and_self]
    refine ca_181 (by omega) (t_childPlace hK' m2 c6 c5 (by rw [eC]; exact c2) ?_)
    simp (disch := first | (simp only [dd, dr]; done) | omega) only [W_189, msK, msR, msF, ms1, msS1, k0, k1, k6, I_lt, I_le, I_inj, inB_I, tc_I, Int.toNat_natCast, fkt, rf1, rf0, cq, Nat.reduceAdd, Nat.reduceEqDiff, Int.reduceToNat, eq_self, true_and, and_true, true_or, or_true, bI_0, bI_1, mm, rAm, mF_sF, mR_sR, false_and, and_false, if_false, if_true, false_or, or_false, not_true_eq_false, not_false_eq_true, and_self]
    refine ca_182 (by omega) (t_takeChild hK' m2 c6 eI (by rw [eC]; exact (ix_at c2).1) ?_)
    intro s3 m3 fr3
    rw [eC] at m3
    have fr13 : Frz s s3 := fr2.trans fr3
    generalize hT1 : uC (fe (uW T h (out (tW T h) x)) x) p ((tC T p).take (ix x (tC T p)) ++ (tC T p).drop (ix x (tC T p) + 1)) = T1 at *
    have hT1' : uC (fe (uW T h (out (tW T h) x)) x) p (out (tC T p) x) = T1 := hT1
    rw [hT1'] at hg
    have a1 : tI T1 p = [] := by rw [← hT1]; simp only [tc]; exact eI
    have a2 : tH T1 p = h + 2 := by
      rw [← hT1]; simp only [fe, tu, th, ti, tc, tw]; rw [fu_n _ _ (Ne.symm c4)]; exact c3
    have a3 : p ∈ tW T1 (h + 1) := by
      rw [← hT1]; simp only [fe, tu, th, ti, tc, tw]; rw [fu_n _ _ (by omega)]; exact c9
    have cnt : s3 (3852 + (p : Int)) = ((tC T1 p).length : Nat) := by have := m3.2.2.1 p c6; rw [a1] at this; simpa using this
    obtain ⟨q1, q2, q3⟩ := m3.2.2.2.2.1 p c6
    simp (disch := first | (simp only [dd, dr]; done) | omega) only [W_189, msK, msR, msF, ms1, msS1, k0, k1, k6, cnt, I_lt, I_le, I_inj, inB_I, tc_I, Int.toNat_natCast, fkt, rf1, rf0, cq, Nat.reduceAdd, Nat.reduceEqDiff, Int.reduceToNat, eq_self, true_and, and_true, true_or, or_true, bI_0, bI_1, mm, rAm, mF_sF, mR_sR, false_and, and_false, if_false, if_true, false_or, or_false, not_true_eq_false, not_false_eq_true, and_self]
    cases hCp : tC T1 p with
    | nil => simp only [hCp] at hg; cases hg
    | cons c0 rest =>
    cases rest with
    | cons c1' rest' =>
      simp only [hCp] at hg
      cases hg
      rw [hCp] at q2
      simp only [List.length_cons] at q2 ⊢
      refine ⟨fun h => absurd h (by omega), fun _ => ?_⟩
      simp (disch := first | (simp only [dd, dr]; done) | omega) only [W_189, I_lt, I_le, I_inj, inB_I, tc_I, Int.toNat_natCast, fkt, rf1, rf0, cq, Nat.reduceAdd, Nat.reduceEqDiff, Int.reduceToNat, eq_self, true_and, and_true, true_or, or_true, bI_0, bI_1, mm, rAm, mF_sF, mR_sR, false_and, and_false, if_false, if_true, false_or, or_false, not_true_eq_false, not_false_eq_true, and_self]
      exact hQ s3 m3 fr13
    | nil =>
      have ec0 : s3 (4044 + 6 * (p : Int)) = (c0 : Int) := by
        have := q1 0 c0 (by rw [hCp]; rfl)
        simpa using this
      have hc0 : c0 < 96 := q3 c0 (by rw [hCp]; simp)
      have eP : s3 (3948 + (p : Int)) = oI (tP T1 p) := m3.2.2.2.1 p c6 (by omega)
      simp only [List.length_cons, List.length_nil]
      refine ⟨fun _ => ?_, fun h => absurd (show (((0 + 1 : Nat) : Int)) ≤ 1 by omega) h⟩
      cases hPp : tP T1 p with
      | none =>
        rw [hPp] at eP
        have eP' : s3 (3948 + (p : Int)) = -1 := eP
        simp only [hCp, hPp] at hg
        cases hg
        simp (disch := first | (simp only [dd, dr]; done) | omega) only [W_189, msK, msR, msF, ms1, msS1, k0, k1, k6, ec0, eP', I_lt, I_le, I_inj, inB_I, tc_I, Int.toNat_natCast, fkt, rf1, rf0, cq, Nat.reduceAdd, Nat.reduceEqDiff, Int.reduceToNat, eq_self, true_and, and_true, true_or, or_true, bI_0, bI_1, mm, rAm, mF_sF, mR_sR, false_and, and_false, if_false, if_true, false_or, or_false, not_true_eq_false, not_false_eq_true, and_self]
        refine ⟨fun h => h.elim, fun _ => ?_⟩
        simp (disch := first | (simp only [dd, dr]; done) | omega) only [W_189, msK, msR, msF, ms1, msS1, k0, k1, k6, I_lt, I_le, I_inj, inB_I, tc_I, Int.toNat_natCast, fkt, rf1, rf0, cq, Nat.reduceAdd, Nat.reduceEqDiff, Int.reduceToNat, eq_self, true_and, and_true, true_or, or_true, bI_0, bI_1, mm, rAm, mF_sF, mR_sR, false_and, and_false, if_false, if_true, false_or, or_false, not_true_eq_false, not_false_eq_true, and_self]
        refine ca_171 (by omega) (m_height hK' (by omega) (by omega) ?_)
        rw [m3.2.1 p c6, a2, show (((h + 2 : Nat) : Int) - 1) = ((h + 1 : Nat) : Int) by omega]
        simp (disch := first | (simp only [dd, dr]; done) | omega) only [W_189, msK, msR, msF, ms1, msS1, k0, k1, k6, I_lt, I_le, I_inj, inB_I, tc_I, Int.toNat_natCast, fkt, rf1, rf0, cq, Nat.reduceAdd, Nat.reduceEqDiff, Int.reduceToNat, eq_self, true_and, and_true, true_or, or_true, bI_0, bI_1, mm, rAm, mF_sF, mR_sR, false_and, and_false, if_false, if_true, false_or, or_false, not_true_eq_false, not_false_eq_true, and_self]
        have m4 : MT (fz s3 (13068 + ((h + 1 : Nat) : Int)) 0) (uW T1 (h + 1) []) sz tl := by
          refine MT.row m3 c7 (by simp) (fun y hy => by cases hy) (fun i y hy => by simp at hy) (by rw [fz_e _ _ rfl]; rfl) (fun z z1 z2 => fz_n _ _ z1)
        refine ca_191 (by omega) (t_free hK' m4 c6 ?_)
        intro s5 m5 fr5
        have e5 : mA (ms M o f (fz (fz s5 (3948 + (c0 : Int)) (-1)) 13076 (c0 : Int)) b c w j) (o + 1) 13077 = I (tN T1 : Nat) := by
          have : s5 13077 = (tN T1 : Int) := m5.2.2.2.2.2.2.2.2
          rw [← this]
          have := ms1 M o f (fz (fz s5 (3948 + (c0 : Int)) (-1)) 13076 (c0 : Int)) b c w j (z := 13077) (by omega)
          rw [fz_n _ _ (by omega), fz_n _ _ (by omega)] at this
          exact this
        have e6 : ∀ (g : Int → Int) (v : Int), sA (ms M o f g b c w j) (o + 1) 13076 (I v) = ms M o f (fz g 13076 v) b c w j := fun g v => msS1 M o f g b c w j (z := 13076) (by omega) v
        have e7 : ∀ (g : Int → Int) (v : Int), sA (ms M o f g b c w j) (o + 1) 13077 (I v) = ms M o f (fz g 13077 v) b c w j := fun g v => msS1 M o f g b c w j (z := 13077) (by omega) v
        simp (disch := first | (simp only [dd, dr]; done) | omega) only [W_189, msK, msR, msF, ms1, msS1, k0, k1, k6, e6, e5, e7, I_lt, I_le, I_inj, inB_I, tc_I, Int.toNat_natCast, fkt, rf1, rf0, cq, Nat.reduceAdd, Nat.reduceEqDiff, Int.reduceToNat, eq_self, true_and, and_true, true_or, or_true, bI_0, bI_1, mm, rAm, mF_sF, mR_sR, false_and, and_false, if_false, if_true, false_or, or_false, not_true_eq_false, not_false_eq_true, and_self]
        have hN : 1 ≤ tN T1 := by rw [← hT1]; simp only [fe, tu, th, ti, tc, tw]; exact c10
        refine hQ _ ?_ ?_
        · refine MT.rt (s := fz s5 (3948 + (c0 : Int)) (-1)) (MT.par m5 hc0 (by rw [fz_e _ _ rfl]; rfl) (fun z hz => fz_n _ _ hz)) ?_ ?_ (fun z z1 z2 => ?_)
          · rw [fz_n _ _ (by omega), fz_e _ _ rfl]
          · rw [fz_e _ _ rfl]; omega
          · rw [fz_n _ _ z2, fz_n _ _ z1]
        · intro z hz
          rw [fz_n _ _ (by omega), fz_n _ _ (by omega), fz_n _ _ (by omega), fr5 z hz, fz_n _ _ (by omega), fr13 z hz]
      | some pp =>
        rw [hPp] at eP
        have eP' : s3 (3948 + (p : Int)) = (pp : Int) := eP
        simp only [hCp, hPp] at hg
        by_cases hok : okN T1 p (pv (tW T1 (h + 1)) p) = false ∨ okN T1 p (nx (tW T1 (h + 1)) p) = false ∨ 96 ≤ pp
        · rw [if_pos hok] at hg; cases hg
        rw [if_neg hok] at hg
        have hpp : pp < 96 := by
          by_cases e : pp < 96
          · exact e
          · exact absurd (.inr (.inr (by omega))) hok
        obtain ⟨r1, r2, r3, r4⟩ := m3.2.2.2.2.2.2.1 (h + 1) c7
        have fin : ∀ (a k : Nat) (s' : Int → Int) (u6 u7 : Option Value), lo u6 = false → lo u7 = false → a ≠ p → gn n (cp (uC T1 p []) a k c0) p = some T' → MT s' (cp T1 a k c0) sz tl → Frz s3 s' → Wp d 189 2 [some (.ref o), v1, some (.int (I (p : Nat))), some (.int (I (p : Nat))), some (.int (I (x : Nat))), some (.int (I (c0 : Nat))), u6, u7] [] (ms M o f s' b c w j) Q := by
          intro a k s' u6 u7 l6 l7 hap hg' m' fr'
          refine ih d _ T' s' p _ _ _ _ _ _ hd h1 rfl rfl rfl l6 l7 ?_ hg' (fun s'' m'' fr'' => hQ s'' m'' ((fr13.trans fr').trans fr''))
          have e : cp (uC T1 p []) a k c0 = uC (cp T1 a k c0) p [] := by
            unfold cp
            rw [show tC (uC T1 p []) a = tC T1 a from fu_n _ _ hap]
            unfold uP uC
            simp only []
            rw [fu_comm _ _ _ hap]
          rw [e]
          have hIp : tI (cp T1 a k c0) p = [] := by simp only [cp, tp, tc]; exact a1
          refine MT.chn m' c6 hIp (by simp) (fun y hy => by cases hy) (fun i y hy => by simp at hy) (by rw [fz_e _ _ rfl]; rfl) (fun z z1 z2 => fz_n _ _ z1)
        simp (disch := first | (simp only [dd, dr]; done) | omega) only [W_189, msK, msR, msF, ms1, msS1, k0, k1, k6, ec0, eP', I_lt, I_le, I_inj, inB_I, tc_I, Int.toNat_natCast, fkt, rf1, rf0, cq, Nat.reduceAdd, Nat.reduceEqDiff, Int.reduceToNat, eq_self, true_and, and_true, true_or, or_true, bI_0, bI_1, mm, rAm, mF_sF, mR_sR, false_and, and_false, if_false, if_true, false_or, or_false, not_true_eq_false, not_false_eq_true, and_self]
        refine ⟨fun _ => ?_, fun h => absurd (show ¬ ((pp : Int) = -1) by omega) h⟩
        simp (disch := first | (simp only [dd, dr]; done) | omega) only [W_189, msK, msR, msF, ms1, msS1, k0, k1, k6, I_lt, I_le, I_inj, inB_I, tc_I, Int.toNat_natCast, fkt, rf1, rf0, cq, Nat.reduceAdd, Nat.reduceEqDiff, Int.reduceToNat, eq_self, true_and, and_true, true_or, or_true, bI_0, bI_1, mm, rAm, mF_sF, mR_sR, false_and, and_false, if_false, if_true, false_or, or_false, not_true_eq_false, not_false_eq_true, and_self]
        refine ca_170 (by omega) (t_beside hK' (by omega) m3 (.inr rfl) c6 c7 a2 a3 ?_)
        rw [if_neg (by omega)]
        simp (disch := first | (simp only [dd, dr]; done) | omega) only [W_189, msK, msR, msF, ms1, msS1, k0, k1, k6, I_lt, I_le, I_inj, inB_I, tc_I, Int.toNat_natCast, fkt, rf1, rf0, cq, Nat.reduceAdd, Nat.reduceEqDiff, Int.reduceToNat, eq_self, true_and, and_true, true_or, or_true, bI_0, bI_1, mm, rAm, mF_sF, mR_sR, false_and, and_false, if_false, if_true, false_or, or_false, not_true_eq_false, not_false_eq_true, and_self]
        refine ca_170 (by omega) (t_beside hK' (by omega) m3 (.inl rfl) c6 c7 a2 a3 ?_)
        rw [if_pos rfl]
        have row_mem : ∀ y, (pv (tW T1 (h + 1)) p = some y ∨ nx (tW T1 (h + 1)) p = some y) → y < 96 := by
          intro y hy
          rcases hy with hy | hy
          · unfold pv at hy
            split at hy
            · cases hy
            · exact r4 y (List.mem_of_getElem? hy)
          · exact r4 y (List.mem_of_getElem? hy)
        generalize pv (tW T1 (h + 1)) p = l at *
        generalize nx (tW T1 (h + 1)) p = r at *
        have okl : okN T1 p l = true := by cases h : okN T1 p l with | true => rfl | false => exact absurd (.inl h) hok
        have okr : okN T1 p r = true := by cases h : okN T1 p r with | true => rfl | false => exact absurd (.inr (.inl h)) hok
        have nbc : ∀ y, okN T1 p (some y) = true → y < 96 → y ≠ p ∧ tI T1 y = [] ∧ (tC T1 y).length ≤ 5 ∧ s3 (3852 + (y : Int)) = ((tC T1 y).length : Nat) := by
          intro y hy hy2
          obtain ⟨g1, g2, g3⟩ := of_decide_eq_true hy
          refine ⟨g1, g2, g3, ?_⟩
          have := m3.2.2.1 y hy2
          rw [g2] at this
          simpa using this
        have lastS : ∀ (T2 : Tr) (s4 : Int → Int) (k y : Nat) (u6 u7 : Option Value), MT s4 T2 sz tl → Frz s3 s4 → tI T2 p = [] → tC T2 p = [c0] → k ≤ 1 → y < 96 → some (cp T2 p k y) = some T' → Wp (d - 1) 180 0 [some (.ref o), some (.int (I (p : Nat))), some (.int (I (k : Nat))), some (.int (I (y : Nat))), none] [] (ms M o f s4 b c w j) (fun out M' => out = .returned none ∧ Q (.returned none) M') := by
          intro T2 s4 k y u6 u7 m4 fr4 i4 ch4 hk4 hy4 hT
          cases hT
          refine t_child hK' m4 c6 hy4 i4 (by rw [ch4]; simp) (by rw [ch4]; exact hk4) (fun s5 m5 fr5 => ⟨rfl, hQ s5 m5 ((fr13.trans fr4).trans fr5)⟩)
        cases l with
        | none =>
          cases r with
          | none => simp only [rmN] at hg; cases hg
          | some b2 =>
            have hb2 := row_mem b2 (.inr rfl)
            obtain ⟨n1, n2, n3, n4⟩ := nbc b2 okr hb2
            simp (disch := first | (simp only [dd, dr]; done) | omega) only [W_189, msK, msR, msF, ms1, msS1, k0, k1, k6, oI, I_lt, I_le, I_inj, inB_I, tc_I, Int.toNat_natCast, fkt, rf1, rf0, cq, Nat.reduceAdd, Nat.reduceEqDiff, Int.reduceToNat, eq_self, true_and, and_true, true_or, or_true, bI_0, bI_1, mm, rAm, mF_sF, mR_sR, false_and, and_false, if_false, if_true, false_or, or_false, not_true_eq_false, not_false_eq_true, and_self]
            refine ⟨fun _ => ?_, fun h => absurd trivial h⟩
            simp (disch := first | (simp only [dd, dr]; done) | omega) only [W_189, msK, msR, msF, ms1, msS1, k0, k1, k6, I_lt, I_le, I_inj, inB_I, tc_I, Int.toNat_natCast, fkt, rf1, rf0, cq, Nat.reduceAdd, Nat.reduceEqDiff, Int.reduceToNat, eq_self, true_and, and_true, true_or, or_true, bI_0, bI_1, mm, rAm, mF_sF, mR_sR, false_and, and_false, if_false, if_true, false_or, or_false, not_true_eq_false, not_false_eq_true, and_self]
            refine ⟨fun h => absurd h (by omega), fun _ => ?_⟩
            simp (disch := first | (simp only [dd, dr]; done) | omega) only [W_189, msK, msR, msF, ms1, msS1, k0, k1, k6, n4, I_lt, I_le, I_inj, inB_I, tc_I, Int.toNat_natCast, fkt, rf1, rf0, cq, Nat.reduceAdd, Nat.reduceEqDiff, Int.reduceToNat, eq_self, true_and, and_true, true_or, or_true, bI_0, bI_1, mm, rAm, mF_sF, mR_sR, false_and, and_false, if_false, if_true, false_or, or_false, not_true_eq_false, not_false_eq_true, and_self]
            refine ⟨fun h5 => ?_, fun h5 => ?_⟩
            · simp (disch := first | (simp only [dd, dr]; done) | omega) only [W_189, msK, msR, msF, ms1, msS1, k0, k1, k6, I_lt, I_le, I_inj, inB_I, tc_I, Int.toNat_natCast, fkt, rf1, rf0, cq, Nat.reduceAdd, Nat.reduceEqDiff, Int.reduceToNat, eq_self, true_and, and_true, true_or, or_true, bI_0, bI_1, mm, rAm, mF_sF, mR_sR, false_and, and_false, if_false, if_true, false_or, or_false, not_true_eq_false, not_false_eq_true, and_self]
              refine ⟨fun _ => ?_, fun h => absurd trivial h⟩
              simp (disch := first | (simp only [dd, dr]; done) | omega) only [W_189, msK, msR, msF, ms1, msS1, k0, k1, k6, I_lt, I_le, I_inj, inB_I, tc_I, Int.toNat_natCast, fkt, rf1, rf0, cq, Nat.reduceAdd, Nat.reduceEqDiff, Int.reduceToNat, eq_self, true_and, and_true, true_or, or_true, bI_0, bI_1, mm, rAm, mF_sF, mR_sR, false_and, and_false, if_false, if_true, false_or, or_false, not_true_eq_false, not_false_eq_true, and_self]
              rw [if_neg (by simp [rmN]), if_neg (by simp [rmN]; omega)] at hg
              have hy : (tC T1 b2)[0]? = some (tC T1 b2)[0] := List.getElem?_eq_getElem (by omega)
              simp only [hy] at hg
              refine ca_182 (by omega) (t_takeChild (k := 0) hK' m3 hb2 n2 hy ?_)
              intro s4 m4 fr4
              simp (disch := first | (simp only [dd, dr]; done) | omega) only [W_189, msK, msR, msF, ms1, msS1, k0, k1, k6, I_lt, I_le, I_inj, inB_I, tc_I, Int.toNat_natCast, fkt, rf1, rf0, cq, Nat.reduceAdd, Nat.reduceEqDiff, Int.reduceToNat, eq_self, true_and, and_true, true_or, or_true, bI_0, bI_1, mm, rAm, mF_sF, mR_sR, false_and, and_false, if_false, if_true, false_or, or_false, not_true_eq_false, not_false_eq_true, and_self]
              refine ca_180 (by omega) ((lastS _ s4 1 _ none none m4 fr4 (by simp only [tc]; exact a1) (by simp only [tc]; rw [fu_n _ _ (Ne.symm n1)]; exact hCp) (Nat.le_refl _) ((m3.2.2.2.2.1 b2 hb2).2.2 _ (List.mem_of_getElem? hy)) (by simpa using hg)).mono ?_)
              rintro o' M' ⟨rfl, hq⟩
              simp (disch := first | (simp only [dd, dr]; done) | omega) only [W_189, I_lt, I_le, I_inj, inB_I, tc_I, Int.toNat_natCast, fkt, rf1, rf0, cq, Nat.reduceAdd, Nat.reduceEqDiff, Int.reduceToNat, eq_self, true_and, and_true, true_or, or_true, bI_0, bI_1, mm, rAm, mF_sF, mR_sR, false_and, and_false, if_false, if_true, false_or, or_false, not_true_eq_false, not_false_eq_true, and_self]
              exact hq
            · simp (disch := first | (simp only [dd, dr]; done) | omega) only [W_189, msK, msR, msF, ms1, msS1, k0, k1, k6, I_lt, I_le, I_inj, inB_I, tc_I, Int.toNat_natCast, fkt, rf1, rf0, cq, Nat.reduceAdd, Nat.reduceEqDiff, Int.reduceToNat, eq_self, true_and, and_true, true_or, or_true, bI_0, bI_1, mm, rAm, mF_sF, mR_sR, false_and, and_false, if_false, if_true, false_or, or_false, not_true_eq_false, not_false_eq_true, and_self]
              rw [if_neg (by simp [rmN]), if_pos (by simp [rmN]; omega)] at hg
              refine ca_180 (by omega) (t_child (k := 0) hK' m3 hb2 hc0 n2 n3 (Nat.zero_le _) ?_)
              intro s4 m4 fr4
              simp (disch := first | (simp only [dd, dr]; done) | omega) only [W_189, msK, msR, msF, ms1, msS1, k0, k1, k6, I_lt, I_le, I_inj, inB_I, tc_I, Int.toNat_natCast, fkt, rf1, rf0, cq, Nat.reduceAdd, Nat.reduceEqDiff, Int.reduceToNat, eq_self, true_and, and_true, true_or, or_true, bI_0, bI_1, mm, rAm, mF_sF, mR_sR, false_and, and_false, if_false, if_true, false_or, or_false, not_true_eq_false, not_false_eq_true, and_self]
              exact fin b2 0 s4 _ _ rfl rfl n1 hg m4 fr4
        | some a =>
          have ha := row_mem a (.inl rfl)
          obtain ⟨n1, n2, n3, n4⟩ := nbc a okl ha
          have tailA : ∀ (u7 : Option Value), lo u7 = false → (match (tC T1 a)[(tC T1 a).length - 1]? with | some y => some (cp (uC T1 a ((tC T1 a).take ((tC T1 a).length - 1))) p 0 y) | none => none) = some T' → Wp d 189 227 [some (.ref o), v1, some (.int (I (x : Nat))), some (.int (I (p : Nat))), some (.int (I (x : Nat))), some (.int (I (c0 : Nat))), some (.int (I (a : Nat))), u7] [] (ms M o f s3 b c w j) Q := by
            intro u7 l7 hg'
            cases hy : (tC T1 a)[(tC T1 a).length - 1]? with
            | none => simp only [hy] at hg'; cases hg'
            | some y =>
              simp only [hy] at hg'
              have hlt := (List.getElem?_eq_some_iff.mp hy).1
              simp (disch := first | (simp only [dd, dr]; done) | omega) only [W_189, msK, msR, msF, ms1, msS1, k0, k1, k6, I_lt, I_le, I_inj, inB_I, tc_I, Int.toNat_natCast, fkt, rf1, rf0, cq, Nat.reduceAdd, Nat.reduceEqDiff, Int.reduceToNat, eq_self, true_and, and_true, true_or, or_true, bI_0, bI_1, mm, rAm, mF_sF, mR_sR, false_and, and_false, if_false, if_true, false_or, or_false, not_true_eq_false, not_false_eq_true, and_self]
              refine ⟨fun h => absurd h (by omega), fun _ => ?_⟩
              simp (disch := first | (simp only [dd, dr]; done) | omega) only [W_189, msK, msR, msF, ms1, msS1, k0, k1, k6, n4, I_lt, I_le, I_inj, inB_I, tc_I, Int.toNat_natCast, fkt, rf1, rf0, cq, Nat.reduceAdd, Nat.reduceEqDiff, Int.reduceToNat, eq_self, true_and, and_true, true_or, or_true, bI_0, bI_1, mm, rAm, mF_sF, mR_sR, false_and, and_false, if_false, if_true, false_or, or_false, not_true_eq_false, not_false_eq_true, and_self]
              rw [show (((tC T1 a).length : Int) - 1) = (((tC T1 a).length - 1 : Nat) : Int) by omega]
              refine ca_182 (by omega) (t_takeChild hK' m3 ha n2 hy ?_)
              intro s4 m4 fr4
              rw [show (tC T1 a).length - 1 + 1 = (tC T1 a).length by omega, List.drop_length, List.append_nil] at m4
              simp (disch := first | (simp only [dd, dr]; done) | omega) only [W_189, msK, msR, msF, ms1, msS1, k0, k1, k6, I_lt, I_le, I_inj, inB_I, tc_I, Int.toNat_natCast, fkt, rf1, rf0, cq, Nat.reduceAdd, Nat.reduceEqDiff, Int.reduceToNat, eq_self, true_and, and_true, true_or, or_true, bI_0, bI_1, mm, rAm, mF_sF, mR_sR, false_and, and_false, if_false, if_true, false_or, or_false, not_true_eq_false, not_false_eq_true, and_self]
              refine ca_180 (by omega) ((lastS _ s4 0 _ none none m4 fr4 (by simp only [tc]; exact a1) (by simp only [tc]; rw [fu_n _ _ (Ne.symm n1)]; exact hCp) (by omega) ((m3.2.2.2.2.1 a ha).2.2 _ (List.mem_of_getElem? hy)) hg').mono ?_)
              rintro o' M' ⟨rfl, hq⟩
              simp (disch := first | (simp only [dd, dr]; done) | omega) only [W_189, I_lt, I_le, I_inj, inB_I, tc_I, Int.toNat_natCast, fkt, rf1, rf0, cq, Nat.reduceAdd, Nat.reduceEqDiff, Int.reduceToNat, eq_self, true_and, and_true, true_or, or_true, bI_0, bI_1, mm, rAm, mF_sF, mR_sR, false_and, and_false, if_false, if_true, false_or, or_false, not_true_eq_false, not_false_eq_true, and_self]
              exact hq
          simp (disch := first | (simp only [dd, dr]; done) | omega) only [W_189, msK, msR, msF, ms1, msS1, k0, k1, k6, oI, I_lt, I_le, I_inj, inB_I, tc_I, Int.toNat_natCast, fkt, rf1, rf0, cq, Nat.reduceAdd, Nat.reduceEqDiff, Int.reduceToNat, eq_self, true_and, and_true, true_or, or_true, bI_0, bI_1, mm, rAm, mF_sF, mR_sR, false_and, and_false, if_false, if_true, false_or, or_false, not_true_eq_false, not_false_eq_true, and_self]
          refine ⟨fun h => absurd h (by omega), fun _ => ?_⟩
          simp (disch := first | (simp only [dd, dr]; done) | omega) only [W_189, msK, msR, msF, ms1, msS1, k0, k1, k6, n4, I_lt, I_le, I_inj, inB_I, tc_I, Int.toNat_natCast, fkt, rf1, rf0, cq, Nat.reduceAdd, Nat.reduceEqDiff, Int.reduceToNat, eq_self, true_and, and_true, true_or, or_true, bI_0, bI_1, mm, rAm, mF_sF, mR_sR, false_and, and_false, if_false, if_true, false_or, or_false, not_true_eq_false, not_false_eq_true, and_self]
          refine ⟨fun h5 => ?_, fun h5 => ?_⟩
          · rw [if_neg (by simp [rmN]; omega)] at hg
            cases r with
            | none =>
              simp (disch := first | (simp only [dd, dr]; done) | omega) only [W_189, msK, msR, msF, ms1, msS1, k0, k1, k6, oI, I_lt, I_le, I_inj, inB_I, tc_I, Int.toNat_natCast, fkt, rf1, rf0, cq, Nat.reduceAdd, Nat.reduceEqDiff, Int.reduceToNat, eq_self, true_and, and_true, true_or, or_true, bI_0, bI_1, mm, rAm, mF_sF, mR_sR, false_and, and_false, if_false, if_true, false_or, or_false, not_true_eq_false, not_false_eq_true, and_self]
              refine ⟨fun _ => ?_, fun h => absurd trivial h⟩
              rw [if_neg (by simp [rmN])] at hg
              exact tailA _ rfl hg
            | some b2 =>
              have hb2 := row_mem b2 (.inr rfl)
              obtain ⟨g1, g2, g3, g4⟩ := nbc b2 okr hb2
              simp (disch := first | (simp only [dd, dr]; done) | omega) only [W_189, msK, msR, msF, ms1, msS1, k0, k1, k6, oI, I_lt, I_le, I_inj, inB_I, tc_I, Int.toNat_natCast, fkt, rf1, rf0, cq, Nat.reduceAdd, Nat.reduceEqDiff, Int.reduceToNat, eq_self, true_and, and_true, true_or, or_true, bI_0, bI_1, mm, rAm, mF_sF, mR_sR, false_and, and_false, if_false, if_true, false_or, or_false, not_true_eq_false, not_false_eq_true, and_self]
              refine ⟨fun h => absurd h (by omega), fun _ => ?_⟩
              simp (disch := first | (simp only [dd, dr]; done) | omega) only [W_189, msK, msR, msF, ms1, msS1, k0, k1, k6, g4, I_lt, I_le, I_inj, inB_I, tc_I, Int.toNat_natCast, fkt, rf1, rf0, cq, Nat.reduceAdd, Nat.reduceEqDiff, Int.reduceToNat, eq_self, true_and, and_true, true_or, or_true, bI_0, bI_1, mm, rAm, mF_sF, mR_sR, false_and, and_false, if_false, if_true, false_or, or_false, not_true_eq_false, not_false_eq_true, and_self]
              refine ⟨fun h6 => ?_, fun h6 => ?_⟩
              · rw [if_neg (by simp [rmN]; omega)] at hg
                exact tailA _ rfl hg
              · rw [if_pos (by simp [rmN]; omega)] at hg
                simp (disch := first | (simp only [dd, dr]; done) | omega) only [W_189, msK, msR, msF, ms1, msS1, k0, k1, k6, I_lt, I_le, I_inj, inB_I, tc_I, Int.toNat_natCast, fkt, rf1, rf0, cq, Nat.reduceAdd, Nat.reduceEqDiff, Int.reduceToNat, eq_self, true_and, and_true, true_or, or_true, bI_0, bI_1, mm, rAm, mF_sF, mR_sR, false_and, and_false, if_false, if_true, false_or, or_false, not_true_eq_false, not_false_eq_true, and_self]
                refine ca_180 (by omega) (t_child (k := 0) hK' m3 hb2 hc0 g2 g3 (Nat.zero_le _) ?_)
                intro s4 m4 fr4
                simp (disch := first | (simp only [dd, dr]; done) | omega) only [W_189, msK, msR, msF, ms1, msS1, k0, k1, k6, I_lt, I_le, I_inj, inB_I, tc_I, Int.toNat_natCast, fkt, rf1, rf0, cq, Nat.reduceAdd, Nat.reduceEqDiff, Int.reduceToNat, eq_self, true_and, and_true, true_or, or_true, bI_0, bI_1, mm, rAm, mF_sF, mR_sR, false_and, and_false, if_false, if_true, false_or, or_false, not_true_eq_false, not_false_eq_true, and_self]
                exact fin b2 0 s4 _ _ rfl rfl g1 hg m4 fr4
          · rw [if_pos (by simp [rmN]; omega)] at hg
            simp (disch := first | (simp only [dd, dr]; done) | omega) only [W_189, msK, msR, msF, ms1, msS1, k0, k1, k6, n4, I_lt, I_le, I_inj, inB_I, tc_I, Int.toNat_natCast, fkt, rf1, rf0, cq, Nat.reduceAdd, Nat.reduceEqDiff, Int.reduceToNat, eq_self, true_and, and_true, true_or, or_true, bI_0, bI_1, mm, rAm, mF_sF, mR_sR, false_and, and_false, if_false, if_true, false_or, or_false, not_true_eq_false, not_false_eq_true, and_self]
            refine ca_180 (by omega) (t_child hK' m3 ha hc0 n2 n3 (Nat.le_refl _) ?_)
            intro s4 m4 fr4
            simp (disch := first | (simp only [dd, dr]; done) | omega) only [W_189, msK, msR, msF, ms1, msS1, k0, k1, k6, I_lt, I_le, I_inj, inB_I, tc_I, Int.toNat_natCast, fkt, rf1, rf0, cq, Nat.reduceAdd, Nat.reduceEqDiff, Int.reduceToNat, eq_self, true_and, and_true, true_or, or_true, bI_0, bI_1, mm, rAm, mF_sF, mR_sR, false_and, and_false, if_false, if_true, false_or, or_false, not_true_eq_false, not_false_eq_true, and_self]
            exact fin a _ s4 _ _ rfl rfl n1 hg m4 fr4
theorem t_gone (hK : MK M o) {n d : Nat} {T T' : Tr} {s : Int → Int} {x : Nat} (hd : 4 ≤ d) (hx : x < 96) (m : MT s T sz tl) (h0 : tI T x = []) (h1 : tC T x = []) (hg : gn n T x = some T') (hQ : ∀ s', MT s' T' sz tl → Frz s s' → Q (.returned none) (ms M o f s' b c w j)) : Wp d 189 0 [some (.ref o), some (.int (I (x : Nat))), none, none, none, none, none, none] [] (ms M o f s b c w j) Q := by
  simp (disch := first | (simp only [dd, dr]; done) | omega) only [W_189, I_lt, I_le, I_inj, inB_I, tc_I, Int.toNat_natCast, fkt, rf1, rf0, cq, Nat.reduceAdd, Nat.reduceEqDiff, Int.reduceToNat, eq_self, true_and, and_true, true_or, or_true, bI_0, bI_1, mm, rAm, mF_sF, mR_sR, false_and, and_false, if_false, if_true, false_or, or_false, not_true_eq_false, not_false_eq_true, and_self]
  refine m_gone_loop hK n d T T' s x _ _ _ _ _ _ hd rfl rfl rfl rfl rfl rfl ?_ hg hQ
  have : fz s (3852 + (x : Int)) 0 = s := by
    funext z
    by_cases e : z = 3852 + (x : Int)
    · rw [fz_e _ _ e, e, m.2.2.1 x hx, h0, h1]; rfl
    · rw [fz_n _ _ e]
  rw [this]
  exact m
end MG2
