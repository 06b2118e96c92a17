/-! ===== THE MODEL: settle ===== -/
theorem slL_f (sz : Nat → Nat) (T : Tr) (x : Nat) : tU (slL sz T x) = tU T ∧ tH (slL sz T x) = tH T ∧ tC (slL sz T x) = tC T ∧ tP (slL sz T x) = tP T ∧ tW (slL sz T x) = tW T ∧ tR (slL sz T x) = tR T ∧ tN (slL sz T x) = tN T := by
  unfold slL
  cases pv (tW T 0) x <;> simp only [ti, and_self]
theorem slR_f (sz : Nat → Nat) (T : Tr) (x : Nat) : tU (slR sz T x) = tU T ∧ tH (slR sz T x) = tH T ∧ tC (slR sz T x) = tC T ∧ tP (slR sz T x) = tP T ∧ tW (slR sz T x) = tW T ∧ tR (slR sz T x) = tR T ∧ tN (slR sz T x) = tN T := by
  unfold slR
  cases nx (tW T 0) x <;> simp only [ti, and_self]
theorem fz_id (s : Int → Int) (z : Int) : fz s z (s z) = s := by
  funext y
  by_cases e : y = z
  · rw [fz_e _ _ e, e]
  · rw [fz_n _ _ e]
section MSt
variable {M : Mem} {Q : Outcome → Mem → Prop} {o : Nat} {b c w : Int → Int} {j : Nat → Bool} {sz tl : Nat → Nat}
set_option maxHeartbeats 8000000 in
theorem t_settle (hK : MK M o) {bk : Nat} (hm1 : 1 ≤ bk) (hm2 : bk ≤ 96) {f : Nat → Int} (hf43 : f 43 = bk) (hf47 : f 47 = 0) {d : Nat} {T T' : Tr} {ok : Bool} {s : Int → Int} {x : Nat} (hd : 5 ≤ d) (m : MT s T sz tl) (hg : sl bk sz T x = some (ok, T')) (hQt : ok = true → ∀ s', MT s' T' sz tl → Frz s s' → Q (.returned none) (ms M o f s' b c w j)) (hQf : ok = false → ∀ s', Frz s s' → Q (.returned none) (ms M o (fu f 47 1) s' b c w j)) :
    Wp d 169 0 [some (.ref o), some (.int (I (x : Nat))), none, none, none] [] (ms M o f s b c w j) Q := by
  have hK' := hK
  obtain ⟨k0, k1, k2, k3, k4, k5, k6, k7, k8, k9, k10⟩ := hK
  unfold sl at hg
  by_cases cond : x ∈ tW T 0 ∧ tH T x = 1 ∧ x < 96 ∧ tC T x = [] ∧ uz sz (tI T x) ≤ 240 ∧ okL sz T x (pv (tW T 0) x) = true ∧ okL sz (slL sz T x) x (nx (tW T 0) x) = true ∧ tU T 0 = true ∧ (tW T 0).length ≤ 95
  case neg => rw [if_neg cond] at hg; cases hg
  rw [if_pos cond] at hg
  obtain ⟨c1, c2, c3, c4, c5, c6, c7, c8, c9⟩ := cond
  obtain ⟨a1, a2, a3, a4, a5, a6, a7⟩ := slL_f sz T x
  obtain ⟨b1, b2, b3, b4, b5, b6, b7⟩ := slR_f sz (slL sz T x) x
  have r4 := (m.2.2.2.2.2.2.1 0 (by omega)).2.2.2
  have uzL : uz sz (tI (slL sz T x) x) ≤ 240 := by
    unfold slL
    cases hp : pv (tW T 0) x with
    | none => exact c5
    | some a =>
      rw [hp] at c6
      obtain ⟨g1, g2, g3, g4⟩ := of_decide_eq_true c6
      simp only [ti]
      rw [fu_n _ _ (Ne.symm g1), fu_s]
      have : ∀ (l a : List Nat), uz sz (mvL sz l a).1 ≤ uz sz l := by
        intro l
        induction l with
        | nil => intro a; exact Nat.le_refl _
        | cons k l ih =>
          intro a
          rw [mvL]
          split
          · have := ih (a ++ [k]); simp only [uz]; omega
          · exact Nat.le_refl _
      have := this (tI T x) (tI T a); omega
  have uzR : uz sz (tI (slR sz (slL sz T x) x) x) ≤ 240 := by
    rw [slR]
    cases hp : nx (tW (slL sz T x) 0) x with
    | none => exact uzL
    | some a =>
      rw [a5] at hp
      rw [hp] at c7
      obtain ⟨g1, g2, g3, g4⟩ := of_decide_eq_true c7
      simp only [ti]
      rw [fu_n _ _ (Ne.symm g1), fu_s]
      have : ∀ (n : Nat) (l a : List Nat), uz sz (mvR sz n l a).1 ≤ uz sz l := by
        intro n
        induction n with
        | zero => intro l a; exact Nat.le_refl _
        | succ n ih =>
          intro l a
          rw [mvR]
          cases hk : l[l.length - 1]? with
          | none => exact Nat.le_refl _
          | some k =>
            simp only []
            split
            · have h1 := ih (l.take (l.length - 1)) (k :: a)
              have h2 := congrArg (uz sz) (last_split hk).1
              rw [uz_app] at h2
              omega
            · exact Nat.le_refl _
      have := this (tI (slL sz T x) x).length (tI (slL sz T x) x) (tI (slL sz T x) a); omega
  simp (disch := first | (simp only [dd, dr]; done) | omega) only [W_169, msK, msR, msF, ms1, msS1, k0, k1, k6, I_lt, I_le, I_inj, inB_I, tc_I, Int.toNat_natCast, fkt, rf1, rf0, cq, Nat.reduceAdd, Nat.reduceEqDiff, Int.reduceToNat, eq_self, true_and, and_true, true_or, or_true, bI_0, bI_1, mm, rAm, mF_sF, mR_sR, false_and, and_false, if_false, if_true, false_or, or_false, not_true_eq_false, not_false_eq_true, and_self]
  refine ca_170 (by omega) (t_beside (h := 0) hK' (by omega) m (.inr rfl) c3 (by omega) c2 c1 ?_)
  rw [if_neg (by omega)]
  simp (disch := first | (simp only [dd, dr]; done) | omega) only [W_169, msK, msR, msF, ms1, msS1, k0, k1, k6, I_lt, I_le, I_inj, inB_I, tc_I, Int.toNat_natCast, fkt, rf1, rf0, cq, Nat.reduceAdd, Nat.reduceEqDiff, Int.reduceToNat, eq_self, true_and, and_true, true_or, or_true, bI_0, bI_1, mm, rAm, mF_sF, mR_sR, false_and, and_false, if_false, if_true, false_or, or_false, not_true_eq_false, not_false_eq_true, and_self]
  suffices hL : ∀ (v2 : Option Value) (s1 : Int → Int), lo v2 = false → MT s1 (slL sz T x) sz tl → Frz s s1 → Wp d 169 59 [some (.ref o), some (.int (I (x : Nat))), v2, none, none] [] (ms M o f s1 b c w j) Q by
    cases hp : pv (tW T 0) x with
    | none =>
      have e : slL sz T x = T := by unfold slL; rw [hp]
      have := fun v2 hv => hL v2 s hv (by rw [e]; exact m) (Frz.refl s)
      simp (disch := first | (simp only [dd, dr]; done) | omega) only [w_169_7, W_169, msK, msR, msF, ms1, msS1, k0, k1, k6, I_lt, I_le, I_inj, inB_I, tc_I, Int.toNat_natCast, fkt, rf1, rf0, cq, Nat.reduceAdd, Nat.reduceEqDiff, Int.reduceToNat, eq_self, true_and, and_true, true_or, or_true, bI_0, bI_1, mm, rAm, mF_sF, mR_sR, false_and, and_false, if_false, if_true, false_or, or_false, not_true_eq_false, not_false_eq_true, and_self]
      refine ca_173 (by omega) (t_used hK' m c3 c4 ?_)
      simp (disch := first | (simp only [dd, dr]; done) | omega) only [W_169, msK, msR, msF, ms1, msS1, k0, k1, k6, I_lt, I_le, I_inj, inB_I, tc_I, Int.toNat_natCast, fkt, rf1, rf0, cq, Nat.reduceAdd, Nat.reduceEqDiff, Int.reduceToNat, eq_self, true_and, and_true, true_or, or_true, bI_0, bI_1, mm, rAm, mF_sF, mR_sR, false_and, and_false, if_false, if_true, false_or, or_false, not_true_eq_false, not_false_eq_true, and_self]
      refine ⟨fun _ => this _ rfl, fun _ => ?_⟩
      simp (disch := first | (simp only [dd, dr]; done) | omega) only [W_169, msK, msR, msF, ms1, msS1, k0, k1, k6, oI, I_lt, I_le, I_inj, inB_I, tc_I, Int.toNat_natCast, fkt, rf1, rf0, cq, Nat.reduceAdd, Nat.reduceEqDiff, Int.reduceToNat, eq_self, true_and, and_true, true_or, or_true, bI_0, bI_1, mm, rAm, mF_sF, mR_sR, false_and, and_false, if_false, if_true, false_or, or_false, not_true_eq_false, not_false_eq_true, and_self]
      refine ⟨fun _ => this _ rfl, fun h => absurd trivial h⟩
    | some a =>
      rw [hp] at c6
      obtain ⟨g1, g2, g3, g4⟩ := of_decide_eq_true c6
      refine t_left hK' (by omega) rfl rfl c3 g2 (Ne.symm g1) (tI T x) T s rfl m c4 g3 g4 (by omega) (fun s1 m1 fr1 => ?_)
      refine hL _ s1 rfl ?_ fr1
      unfold slL
      rw [hp]
      exact m1
  intro v2 s1 hv2 m1 fr1
  simp (disch := first | (simp only [dd, dr]; done) | omega) only [W_169, msK, msR, msF, ms1, msS1, k0, k1, k6, I_lt, I_le, I_inj, inB_I, tc_I, Int.toNat_natCast, fkt, rf1, rf0, cq, Nat.reduceAdd, Nat.reduceEqDiff, Int.reduceToNat, eq_self, true_and, and_true, true_or, or_true, bI_0, bI_1, mm, rAm, mF_sF, mR_sR, false_and, and_false, if_false, if_true, false_or, or_false, not_true_eq_false, not_false_eq_true, and_self]
  refine ca_170 (by omega) (t_beside (h := 0) hK' (by omega) m1 (.inl rfl) c3 (by omega) (by rw [a2]; exact c2) (by rw [a5]; exact c1) ?_)
  rw [if_pos rfl, a5]
  simp (disch := first | (simp only [dd, dr]; done) | omega) only [W_169, msK, msR, msF, ms1, msS1, k0, k1, k6, I_lt, I_le, I_inj, inB_I, tc_I, Int.toNat_natCast, fkt, rf1, rf0, cq, Nat.reduceAdd, Nat.reduceEqDiff, Int.reduceToNat, eq_self, true_and, and_true, true_or, or_true, bI_0, bI_1, mm, rAm, mF_sF, mR_sR, false_and, and_false, if_false, if_true, false_or, or_false, not_true_eq_false, not_false_eq_true, and_self]
  suffices hR : ∀ (v3 : Option Value) (s2 : Int → Int), lo v3 = false → MT s2 (slR sz (slL sz T x) x) sz tl → Frz s s2 → Wp d 169 131 [some (.ref o), some (.int (I (x : Nat))), v2, v3, none] [] (ms M o f s2 b c w j) Q by
    cases hp : nx (tW T 0) x with
    | none =>
      have e : slR sz (slL sz T x) x = slL sz T x := by rw [slR, a5, hp]
      have := fun v3 hv => hR v3 s1 hv (by rw [e]; exact m1) fr1
      simp (disch := first | (simp only [dd, dr]; done) | omega) only [w_169_66, W_169, msK, msR, msF, ms1, msS1, k0, k1, k6, I_lt, I_le, I_inj, inB_I, tc_I, Int.toNat_natCast, fkt, rf1, rf0, cq, Nat.reduceAdd, Nat.reduceEqDiff, Int.reduceToNat, eq_self, true_and, and_true, true_or, or_true, bI_0, bI_1, mm, rAm, mF_sF, mR_sR, false_and, and_false, if_false, if_true, false_or, or_false, not_true_eq_false, not_false_eq_true, and_self]
      refine ca_173 (by omega) (t_used hK' m1 c3 (by rw [a3]; exact c4) ?_)
      simp (disch := first | (simp only [dd, dr]; done) | omega) only [W_169, msK, msR, msF, ms1, msS1, k0, k1, k6, I_lt, I_le, I_inj, inB_I, tc_I, Int.toNat_natCast, fkt, rf1, rf0, cq, Nat.reduceAdd, Nat.reduceEqDiff, Int.reduceToNat, eq_self, true_and, and_true, true_or, or_true, bI_0, bI_1, mm, rAm, mF_sF, mR_sR, false_and, and_false, if_false, if_true, false_or, or_false, not_true_eq_false, not_false_eq_true, and_self]
      refine ⟨fun _ => this _ rfl, fun _ => ?_⟩
      simp (disch := first | (simp only [dd, dr]; done) | omega) only [W_169, msK, msR, msF, ms1, msS1, k0, k1, k6, oI, I_lt, I_le, I_inj, inB_I, tc_I, Int.toNat_natCast, fkt, rf1, rf0, cq, Nat.reduceAdd, Nat.reduceEqDiff, Int.reduceToNat, eq_self, true_and, and_true, true_or, or_true, bI_0, bI_1, mm, rAm, mF_sF, mR_sR, false_and, and_false, if_false, if_true, false_or, or_false, not_true_eq_false, not_false_eq_true, and_self]
      refine ⟨fun _ => this _ rfl, fun h => absurd trivial h⟩
    | some a =>
      rw [hp] at c7
      obtain ⟨g1, g2, g3, g4⟩ := of_decide_eq_true c7
      refine t_right hK' (by omega) hv2 rfl c3 g2 (Ne.symm g1) (tI (slL sz T x) x).length (slL sz T x) s1 (Nat.le_refl _) m1 (by rw [a3]; exact c4) g3 g4 (by omega) (fun s2 m2 fr2 => ?_)
      refine hR _ s2 rfl ?_ (fr1.trans fr2)
      rw [slR, a5, hp]
      exact m2
  intro v3 s2 hv3 m2 fr2
  generalize hT2 : slR sz (slL sz T x) x = T2 at *
  have eU : tU T2 = tU T := b1.trans a1
  have eH : tH T2 = tH T := b2.trans a2
  have eC : tC T2 = tC T := b3.trans a3
  have eW : tW T2 = tW T := b5.trans a5
  simp (disch := first | (simp only [dd, dr]; done) | omega) only [W_169, msK, msR, msF, ms1, msS1, k0, k1, k6, I_lt, I_le, I_inj, inB_I, tc_I, Int.toNat_natCast, fkt, rf1, rf0, cq, Nat.reduceAdd, Nat.reduceEqDiff, Int.reduceToNat, eq_self, true_and, and_true, true_or, or_true, bI_0, bI_1, mm, rAm, mF_sF, mR_sR, false_and, and_false, if_false, if_true, false_or, or_false, not_true_eq_false, not_false_eq_true, and_self]
  refine ca_173 (by omega) (t_used hK' m2 c3 (by rw [eC]; exact c4) ?_)
  simp (disch := first | (simp only [dd, dr]; done) | omega) only [W_169, msK, msR, msF, ms1, msS1, k0, k1, k6, I_lt, I_le, I_inj, inB_I, tc_I, Int.toNat_natCast, fkt, rf1, rf0, cq, Nat.reduceAdd, Nat.reduceEqDiff, Int.reduceToNat, eq_self, true_and, and_true, true_or, or_true, bI_0, bI_1, mm, rAm, mF_sF, mR_sR, false_and, and_false, if_false, if_true, false_or, or_false, not_true_eq_false, not_false_eq_true, and_self]
  refine And.symm ⟨fun h => ?_, fun h => ?_⟩
  · rw [if_pos (by omega)] at hg
    cases hg
    simp (disch := first | (simp only [dd, dr]; done) | omega) only [W_169, msK, msR, msF, ms1, msS1, k0, k1, k6, I_lt, I_le, I_inj, inB_I, tc_I, Int.toNat_natCast, fkt, rf1, rf0, cq, Nat.reduceAdd, Nat.reduceEqDiff, Int.reduceToNat, eq_self, true_and, and_true, true_or, or_true, bI_0, bI_1, mm, rAm, mF_sF, mR_sR, false_and, and_false, if_false, if_true, false_or, or_false, not_true_eq_false, not_false_eq_true, and_self]
    exact hQt rfl s2 m2 fr2
  rw [if_neg (by omega)] at hg
  simp (disch := first | (simp only [dd, dr]; done) | omega) only [W_169, msK, msR, msF, ms1, msS1, k0, k1, k6, I_lt, I_le, I_inj, inB_I, tc_I, Int.toNat_natCast, fkt, rf1, rf0, cq, Nat.reduceAdd, Nat.reduceEqDiff, Int.reduceToNat, eq_self, true_and, and_true, true_or, or_true, bI_0, bI_1, mm, rAm, mF_sF, mR_sR, false_and, and_false, if_false, if_true, false_or, or_false, not_true_eq_false, not_false_eq_true, and_self]
  refine ca_177 (by omega) (t_take0 hK' m2 hf43 hm2 hm1 (by rw [eU]; exact c8) ?_ ?_)
  · intro r s3 hfr hr m3 fr3
    rw [eU] at hfr
    simp only [hfr] at hg
    by_cases hok : r ≠ x ∧ r < 96 ∧ tH T r = 0
    case neg => rw [if_neg hok] at hg; cases hg
    rw [if_pos hok] at hg
    obtain ⟨o1, o2, o3⟩ := hok
    simp (disch := first | (simp only [dd, dr]; done) | omega) only [W_169, msK, msR, msF, ms1, msS1, k0, k1, k6, hf47, I_lt, I_le, I_inj, inB_I, tc_I, Int.toNat_natCast, fkt, rf1, rf0, cq, Nat.reduceAdd, Nat.reduceEqDiff, Int.reduceToNat, eq_self, true_and, and_true, true_or, or_true, bI_0, bI_1, mm, rAm, mF_sF, mR_sR, false_and, and_false, if_false, if_true, false_or, or_false, not_true_eq_false, not_false_eq_true, and_self]
    refine ⟨fun _ => ?_, fun h => absurd trivial h⟩
    simp (disch := first | (simp only [dd, dr]; done) | omega) only [W_169, msK, msR, msF, ms1, msS1, k0, k1, k6, I_lt, I_le, I_inj, inB_I, tc_I, Int.toNat_natCast, fkt, rf1, rf0, cq, Nat.reduceAdd, Nat.reduceEqDiff, Int.reduceToNat, eq_self, true_and, and_true, true_or, or_true, bI_0, bI_1, mm, rAm, mF_sF, mR_sR, false_and, and_false, if_false, if_true, false_or, or_false, not_true_eq_false, not_false_eq_true, and_self]
    have m4 : MT (fz (fz s3 (3756 + (r : Int)) 1) (3948 + (r : Int)) (-1)) (uP (uH (tk T2 r) r 1) r none) sz tl := by
      have mp : MT (fz s3 (3948 + (r : Int)) (-1)) (uP (tk T2 r) r none) sz tl := MT.par m3 o2 (by rw [fz_e _ _ rfl]; rfl) (fun z hz => fz_n _ _ hz)
      have mh : MT (fz (fz s3 (3756 + (r : Int)) 1) (3948 + (r : Int)) (-1)) (uH (uP (tk T2 r) r none) r 1) sz tl := by
        refine MT.hgt mp o2 ?_ ?_ (fun z hz => ?_)
        · rw [fz_n _ _ (by omega), fz_e _ _ rfl]; rfl
        · intro _; rw [fz_e _ _ rfl]; simp only [tp]; rw [fu_s]; rfl
        · by_cases e : z = 3948 + (r : Int)
          · rw [fz_e _ _ e, fz_e _ _ e]
          · rw [fz_n _ _ e, fz_n _ _ e, fz_n _ _ hz]
      exact mh
    have iX : tI (uP (uH (tk T2 r) r 1) r none) x = tI T2 x := by simp only [tk, tu, th, ti, tc, tp]; exact fu_n _ _ (Ne.symm o1)
    have iR : tI (uP (uH (tk T2 r) r 1) r none) r = [] := by simp only [tk, tu, th, ti, tc, tp]; exact fu_s _ _ _
    have cX : tC (uP (uH (tk T2 r) r 1) r none) x = [] := by simp only [tk, tu, th, ti, tc, tp]; rw [fu_n _ _ (Ne.symm o1), eC]; exact c4
    have cR : tC (uP (uH (tk T2 r) r 1) r none) r = [] := by simp only [tk, tu, th, ti, tc, tp]; exact fu_s _ _ _
    refine t_fresh hK' (by omega) c3 o2 (Ne.symm o1) (tI T2 x).length (uP (uH (tk T2 r) r 1) r none) _ (by rw [iX]; exact Nat.le_refl _) m4 cX cR (by rw [iX, iR]; simp only [uz]; omega) (fun s5 m5 fr5 => ?_)
    rw [iX, iR] at m5
    simp (disch := first | (simp only [dd, dr]; done) | omega) only [W_169, msK, msR, msF, ms1, msS1, k0, k1, k6, I_lt, I_le, I_inj, inB_I, tc_I, Int.toNat_natCast, fkt, rf1, rf0, cq, Nat.reduceAdd, Nat.reduceEqDiff, Int.reduceToNat, eq_self, true_and, and_true, true_or, or_true, bI_0, bI_1, mm, rAm, mF_sF, mR_sR, false_and, and_false, if_false, if_true, false_or, or_false, not_true_eq_false, not_false_eq_true, and_self]
    rw [← fz_id s5 (3948 + (r : Int))] at m5
    refine ca_178 (by omega) (t_lineUp (h := 0) hK' (by omega) m5 o2 c3 (by omega) ?_ ?_ ?_ ?_ ?_)
    · simp only [tk, tu, th, ti, tc, tp]; rw [fu_s]
    · simp only [tk, tu, th, ti, tc, tp]; rw [fu_n _ _ (Ne.symm o1), fu_n _ _ (Ne.symm o1), eH]; exact c2
    · simp only [tk, tu, th, ti, tc, tp, eW]; exact c1
    · simp only [tk, tu, th, ti, tc, tp, eW]; exact c9
    intro s6 m6 fr6
    simp (disch := first | (simp only [dd, dr]; done) | omega) only [W_169, msK, msR, msF, ms1, msS1, k0, k1, k6, I_lt, I_le, I_inj, inB_I, tc_I, Int.toNat_natCast, fkt, rf1, rf0, cq, Nat.reduceAdd, Nat.reduceEqDiff, Int.reduceToNat, eq_self, true_and, and_true, true_or, or_true, bI_0, bI_1, mm, rAm, mF_sF, mR_sR, false_and, and_false, if_false, if_true, false_or, or_false, not_true_eq_false, not_false_eq_true, and_self]
    have hfin : Frz s s6 := by
      refine Frz.trans (Frz.trans (Frz.trans (fr2.trans fr3) (fun z hz => ?_)) fr5) fr6
      rw [fz_n _ _ (by omega), fz_n _ _ (by omega)]
    have eT : (uW (uI (uI (uP (uH (tk T2 r) r 1) r none) x (mvF sz (tI T2 x).length (tI T2 x) []).1) r (mvF sz (tI T2 x).length (tI T2 x) []).2) 0 (inA (tW (uI (uI (uP (uH (tk T2 r) r 1) r none) x (mvF sz (tI T2 x).length (tI T2 x) []).1) r (mvF sz (tI T2 x).length (tI T2 x) []).2) 0) x r)) = slF sz T2 x r := by
      unfold slF
      simp only [tk, tu, th, ti, tc, tp]
    rw [eT] at m6
    refine ca_179 (by omega) (t_added hK' hm1 hm2 hf43 hf47 (by omega) m6 hg (fun h s7 m7 fr7 => ?_) (fun h s7 fr7 => ?_))
    · simp (disch := first | (simp only [dd, dr]; done) | omega) only [W_169, I_lt, I_le, I_inj, inB_I, tc_I, Int.toNat_natCast, fkt, rf1, rf0, cq, Nat.reduceAdd, Nat.reduceEqDiff, Int.reduceToNat, eq_self, true_and, and_true, true_or, or_true, bI_0, bI_1, mm, rAm, mF_sF, mR_sR, false_and, and_false, if_false, if_true, false_or, or_false, not_true_eq_false, not_false_eq_true, and_self]
      exact hQt h s7 m7 (hfin.trans fr7)
    · simp (disch := first | (simp only [dd, dr]; done) | omega) only [W_169, I_lt, I_le, I_inj, inB_I, tc_I, Int.toNat_natCast, fkt, rf1, rf0, cq, Nat.reduceAdd, Nat.reduceEqDiff, Int.reduceToNat, eq_self, true_and, and_true, true_or, or_true, bI_0, bI_1, mm, rAm, mF_sF, mR_sR, false_and, and_false, if_false, if_true, false_or, or_false, not_true_eq_false, not_false_eq_true, and_self]
      exact hQf h s7 (hfin.trans fr7)
  · intro hfr
    rw [eU] at hfr
    simp only [hfr] at hg
    cases hg
    simp (disch := first | (simp only [dd, dr]; done) | omega) only [W_169, msK, msR, msF, ms1, msS1, k0, k1, k6, fu_s, I_lt, I_le, I_inj, inB_I, tc_I, Int.toNat_natCast, fkt, rf1, rf0, cq, Nat.reduceAdd, Nat.reduceEqDiff, Int.reduceToNat, eq_self, true_and, and_true, true_or, or_true, bI_0, bI_1, mm, rAm, mF_sF, mR_sR, false_and, and_false, if_false, if_true, false_or, or_false, not_true_eq_false, not_false_eq_true, and_self]
    refine ⟨fun h => absurd h (by omega), fun _ => ?_⟩
    simp (disch := first | (simp only [dd, dr]; done) | omega) only [W_169, msK, msR, msF, ms1, msS1, k0, k1, k6, I_lt, I_le, I_inj, inB_I, tc_I, Int.toNat_natCast, fkt, rf1, rf0, cq, Nat.reduceAdd, Nat.reduceEqDiff, Int.reduceToNat, eq_self, true_and, and_true, true_or, or_true, bI_0, bI_1, mm, rAm, mF_sF, mR_sR, false_and, and_false, if_false, if_true, false_or, or_false, not_true_eq_false, not_false_eq_true, and_self]
    exact hQf rfl s2 fr2
end MSt
