/-! ===== THE COMPONENT: checkpoint of the device ===== -/
/-- so many writes are tried: how many are done, what is left, whether one failed -/
def wn : Int → Nat → Nat × Int × Bool
  | lf, 0 => (0, lf, false)
  | lf, n + 1 => if lf = 0 then (0, -1, true) else ((wn (dn lf) n).1 + 1, (wn (dn lf) n).2.1, (wn (dn lf) n).2.2)
theorem wn_ok : ∀ {lf l : Int} {a b : Nat}, wn lf a = (a, l, false) → wn lf (a + b) = (a + (wn l b).1, (wn l b).2.1, (wn l b).2.2)
  | lf, l, 0, b, h => by
    rw [wn] at h
    have : lf = l := by injection h with _ h; injection h
    rw [this, Nat.zero_add, Nat.zero_add]
  | lf, l, a + 1, b, h => by
    rw [wn] at h
    by_cases e : lf = 0
    · rw [if_pos e] at h; injection h with h1; omega
    · rw [if_neg e] at h
      have h1 : wn (dn lf) a = (a, l, false) := by
        injection h with h1 h2
        injection h2 with h2 h3
        have : (wn (dn lf) a).1 = a := by omega
        rw [← h2, ← h3, ← this]
        rw [this]
        exact Prod.ext (by exact this) rfl
      have := wn_ok (b := b) h1
      rw [show a + 1 + b = (a + b) + 1 by omega, wn, if_neg e, this]
      simp only []
      refine Prod.ext ?_ rfl
      show a + (wn l b).1 + 1 = a + 1 + (wn l b).1
      omega
theorem wn_bad : ∀ {lf l : Int} {a b c : Nat}, wn lf a = (c, l, true) → wn lf (a + b) = (c, l, true)
  | lf, l, 0, b, c, h => by
    rw [wn] at h; injection h with _ h; injection h with _ h; cases h
  | lf, l, a + 1, b, c, h => by
    rw [show a + 1 + b = (a + b) + 1 by omega]
    rw [wn] at h ⊢
    by_cases e : lf = 0
    · rw [if_pos e] at h ⊢; exact h
    · rw [if_neg e] at h ⊢
      injection h with h1 h2
      injection h2 with h2 h3
      have h4 : wn (dn lf) a = (c - 1, l, true) := Prod.ext (by show (wn (dn lf) a).1 = c - 1; omega) (Prod.ext h2 h3)
      rw [wn_bad h4]
      simp only []
      refine Prod.ext ?_ rfl
      show c - 1 + 1 = c
      omega
theorem wn_one {lf l : Int} {a : Nat} (h : wn lf a = (a, l, false)) : wn lf (a + 1) = if l = 0 then (a, -1, true) else (a + 1, dn l, false) := by
  rw [wn_ok h, wn]
  by_cases e : l = 0
  · rw [if_pos e, if_pos e]; rfl
  · rw [if_neg e, if_neg e]; rfl
theorem cn_all (u : Nat → Bool) : ∀ {a b : Nat}, a ≤ b → cn u a ≤ cn u b
  | a, 0, h => by have : a = 0 := by omega
                  rw [this]; exact Nat.le_refl _
  | a, b + 1, h => by
    by_cases e : a = b + 1
    · rw [e]; exact Nat.le_refl _
    · have := cn_all u (a := a) (b := b) (by omega)
      rw [cn]; omega
section DC
variable {d p m J : Nat} {M : Mem} {Q : Outcome → Mem → Prop} {wr lf cm : Int} {off : Bool} {full : Nat} {sg : Nat → Int} {jr hm la : Nat → Nat → Nat}
theorem DevS.full0 (h : DevS M p m J wr lf off cm full sg jr hm la) : DevS (sF M 20 (p + 205) (I 0)) p m J wr lf off cm 0 sg jr hm la := by
  obtain ⟨⟨a1, a2, a3, a4, a5, a6, a7, a8⟩, b1, b2, b3, b4⟩ := h
  refine ⟨⟨?_, ?_, ?_, ?_, by simp [mF_sF], by omega, a7, a8⟩, fun i hi => by omega, fun i hi => by omega, b3, b4⟩
  · rw [mF_sF, if_neg (by omega)]; exact a1
  · rw [mF_sF, if_neg (by omega)]; exact a2
  · rw [mF_sF, if_neg (by omega)]; exact a3
  · rw [mF_sF, if_neg (by omega)]; exact a4
theorem DevS.home {M' : Mem} (h : DevS M p m J wr lf off cm full sg jr hm la) (hJ : m ≤ 96) {b : Nat} {g : Nat → Nat} (F : Ro M M') (r : Rw M' (p + 207 + b) g) (hb : b < m) (o : ∀ z j, z ≠ p + 207 + b → mA M' z j = mA M z j) : DevS M' p m J wr lf off cm full sg jr (fu hm b g) la := by
  obtain ⟨⟨a1, a2, a3, a4, a5, a6⟩, b1, b2, b3, b4⟩ := h
  have f := F.f1
  have oR : ∀ w g, Rw M w g → w ≠ p + 207 + b → Rw M' w g := fun w g hw hne => ⟨by rw [f.2.1]; exact hw.1, fun i hi => by rw [o w i hne]; exact hw.2 i hi⟩
  refine ⟨⟨by rw [f.2.2.1]; exact a1, by rw [f.2.2.1]; exact a2, by rw [f.2.2.1]; exact a3, by rw [f.2.2.1]; exact a4, by rw [f.2.2.1]; exact a5, a6⟩, fun i hi => by rw [o _ _ (by omega)]; exact b1 i hi, fun i hi h0 => oR _ _ (b2 i hi h0) (by omega), fun b' hb' => ?_, fun b' hb' => oR _ _ (b4 b' hb') (by omega)⟩
  by_cases e : b' = b
  · subst e; rw [fu_s]; exact r
  · rw [fu_n _ _ e]; exact oR _ _ (b3 b' hb') (by omega)
set_option maxHeartbeats 8000000 in
theorem c_checkpoint (hd : 4 ≤ d) (P : PK M p m J) (h : DevS M p m J wr lf off cm full sg jr hm la) {Gs : List (List Nat)} {k' : Nat} (hE : Enc sg 0 Gs k') (hk' : k' ≤ full) (ht : ∀ i, k' ≤ i → i < full → sg i ≠ -3) (hG : ∀ g ∈ Gs, ∀ b ∈ g, b < m)
    (hQ0 : full = 0 → Q (.returned none) M)
    (hQ : full ≠ 0 → ∀ M' hm', De p J M M' → PK M' p m J → DevS M' p m J (wr + ((wn lf (cn (fun b => decide (b ∈ Gs.flatten)) m + 1)).1 : Nat)) (wn lf (cn (fun b => decide (b ∈ Gs.flatten)) m + 1)).2.1 (off || (wn lf (cn (fun b => decide (b ∈ Gs.flatten)) m + 1)).2.2) cm (if (wn lf (cn (fun b => decide (b ∈ Gs.flatten)) m + 1)).2.2 = true then full else 0) sg jr hm' la → (∀ b, b < m → hm' b = hm b ∨ (b ∈ Gs.flatten ∧ hm' b = la b)) → ((wn lf (cn (fun b => decide (b ∈ Gs.flatten)) m + 1)).2.2 = false → ∀ b, b < m → b ∈ Gs.flatten → hm' b = la b) → Q (.returned none) M') :
    Wp d 114 0 [some (.ref (p + 205)), none, none] [] M Q := by
  have hJ := P.2.2.2.2.2.2.2.2.2.2
  have k4 := P.2.2.2.2.1.1
  have e20 := h.1.2.2.2.2.1
  have hfJ := h.1.2.2.2.2.2.1
  simp (disch := first | (simp only [dd, dr]; done) | omega) only [W_114, k4, e20, I_lt, I_le, I_inj, inB_I, tc_I, Int.toNat_natCast, fkt, rf1, rf0, cq, Nat.reduceAdd, Nat.reduceEqDiff, Int.reduceToNat, eq_self, true_and, and_true, true_or, or_true, bI_0, bI_1, mm, rAm, mF_sF, mR_sR, false_and, and_false, if_false, if_true, false_or, or_false, not_true_eq_false, not_false_eq_true, and_self]
  refine And.symm ⟨fun h0 => ?_, fun h0 => ?_⟩
  · simp (disch := first | (simp only [dd, dr]; done) | omega) only [W_114, I_lt, I_le, I_inj, inB_I, tc_I, Int.toNat_natCast, fkt, rf1, rf0, cq, Nat.reduceAdd, Nat.reduceEqDiff, Int.reduceToNat, eq_self, true_and, and_true, true_or, or_true, bI_0, bI_1, mm, rAm, mF_sF, mR_sR, false_and, and_false, if_false, if_true, false_or, or_false, not_true_eq_false, not_false_eq_true, and_self]
    exact hQ0 (by have := Decidable.not_not.mp h0; omega)
  have hf0 : full ≠ 0 := by omega
  simp (disch := first | (simp only [dd, dr]; done) | omega) only [W_114, k4, I_lt, I_le, I_inj, inB_I, tc_I, Int.toNat_natCast, fkt, rf1, rf0, cq, Nat.reduceAdd, Nat.reduceEqDiff, Int.reduceToNat, eq_self, true_and, and_true, true_or, or_true, bI_0, bI_1, mm, rAm, mF_sF, mR_sR, false_and, and_false, if_false, if_true, false_or, or_false, not_true_eq_false, not_false_eq_true, and_self]
  refine ca_115 (by omega) (c_dread (lays := false) (by omega) P h hE hk' ht hG (fun M1 Z1 => ?_))
  obtain ⟨P1, D1, lgM, F1⟩ := Z1
  have hla : (if false = true then ovl jr Gs 0 la else la) = la := rfl
  rw [hla] at D1
  generalize hlg : (fun b => decide (b ∈ Gs.flatten)) = lg at *
  have lgI : ∀ b, lg b = true ↔ b ∈ Gs.flatten := fun b => by rw [← hlg]; exact decide_eq_true_iff
  simp (disch := first | (simp only [dd, dr]; done) | omega) only [W_114, I_lt, I_le, I_inj, inB_I, tc_I, Int.toNat_natCast, fkt, rf1, rf0, cq, Nat.reduceAdd, Nat.reduceEqDiff, Int.reduceToNat, eq_self, true_and, and_true, true_or, or_true, bI_0, bI_1, mm, rAm, mF_sF, mR_sR, false_and, and_false, if_false, if_true, false_or, or_false, not_true_eq_false, not_false_eq_true, and_self]
  -- a write failed
  have bad : ∀ (b2 : Nat) (M2 : Mem) (hm2 : Nat → Nat → Nat) (c : Nat), De p J M M2 → PK M2 p m J → DevS M2 p m J (wr + (c : Nat)) (-1) true cm full sg jr hm2 la → wn lf (cn lg m + 1) = (c, -1, true) → (∀ b, b < m → hm2 b = hm b ∨ (b ∈ Gs.flatten ∧ hm2 b = la b)) → Q (.returned none) M2 := by
    intro b2 M2 hm2 c F2 P2 D2 hw hh
    refine hQ hf0 M2 hm2 F2 P2 ?_ hh (fun h => by rw [hw] at h; cases h)
    rw [hw]
    simp only [if_true, Bool.or_true]
    exact D2
  suffices H : ∀ n' (b : Nat) (M2 : Mem) (hm2 : Nat → Nat → Nat) (l : Int), b + n' = m → wn lf (cn lg b) = (cn lg b, l, false) → De p J M M2 → PK M2 p m J → DevS M2 p m J (wr + (cn lg b : Nat)) l off cm full sg jr hm2 la → (∀ b', b' < m → mA M2 (p + 400) b' = I (bI (lg b'))) → (∀ b', b' < m → hm2 b' = hm b' ∨ (b' ∈ Gs.flatten ∧ hm2 b' = la b')) → (∀ b', b' < b → b' ∈ Gs.flatten → hm2 b' = la b') → Wp d 114 17 [some (.ref (p + 205)), some (.int (I 1)), some (.int (I (b : Nat)))] [] M2 Q by
    refine H m 0 M1 hm lf (by omega) rfl F1 P1 ?_ lgM (fun b' hb' => .inl rfl) (fun b' hb' => by omega)
    rw [show wr + ((cn lg 0 : Nat) : Int) = wr by rw [cn]; omega]
    exact D1
  intro n'
  induction n' with
  | zero =>
    intro b M2 hm2 l hb hw F2 P2 D2 lg2 hh hc
    have hbm : b = m := by omega
    subst hbm
    have k42 := P2.2.2.2.2.1.1
    have k28 := P2.2.2.2.2.1.2.2.2.2.2.2
    simp (disch := first | (simp only [dd, dr]; done) | omega) only [w_114_17, W_114, k42, k28, I_lt, I_le, I_inj, inB_I, tc_I, Int.toNat_natCast, fkt, rf1, rf0, cq, Nat.reduceAdd, Nat.reduceEqDiff, Int.reduceToNat, eq_self, true_and, and_true, true_or, or_true, bI_0, bI_1, mm, rAm, mF_sF, mR_sR, false_and, and_false, if_false, if_true, false_or, or_false, not_true_eq_false, not_false_eq_true, and_self]
    refine ⟨fun _ => ?_, (fun h => by first | exact False.elim h | exact absurd trivial h | (exfalso; omega) | exact absurd rfl h | cases h)⟩
    simp (disch := first | (simp only [dd, dr]; done) | omega) only [W_114, I_lt, I_le, I_inj, inB_I, tc_I, Int.toNat_natCast, fkt, rf1, rf0, cq, Nat.reduceAdd, Nat.reduceEqDiff, Int.reduceToNat, eq_self, true_and, and_true, true_or, or_true, bI_0, bI_1, mm, rAm, mF_sF, mR_sR, false_and, and_false, if_false, if_true, false_or, or_false, not_true_eq_false, not_false_eq_true, and_self]
    refine ⟨(fun h => by first | exact False.elim h | exact absurd trivial h | (exfalso; omega) | exact absurd rfl h | cases h), fun _ => ?_⟩
    simp (disch := first | (simp only [dd, dr]; done) | omega) only [W_114, k42, I_lt, I_le, I_inj, inB_I, tc_I, Int.toNat_natCast, fkt, rf1, rf0, cq, Nat.reduceAdd, Nat.reduceEqDiff, Int.reduceToNat, eq_self, true_and, and_true, true_or, or_true, bI_0, bI_1, mm, rAm, mF_sF, mR_sR, false_and, and_false, if_false, if_true, false_or, or_false, not_true_eq_false, not_false_eq_true, and_self]
    have w1 := wn_one hw
    refine ca_116 (by omega) (n_isDone P2 D2 (fun h0 M3 F3 D3 o3 => ?_) (fun h0 M3 F3 D3 o3 => ?_))
    · simp (disch := first | (simp only [dd, dr]; done) | omega) only [W_114, I_lt, I_le, I_inj, inB_I, tc_I, Int.toNat_natCast, fkt, rf1, rf0, cq, Nat.reduceAdd, Nat.reduceEqDiff, Int.reduceToNat, eq_self, true_and, and_true, true_or, or_true, bI_0, bI_1, mm, rAm, mF_sF, mR_sR, false_and, and_false, if_false, if_true, false_or, or_false, not_true_eq_false, not_false_eq_true, and_self]
      refine ⟨fun _ => ?_, (fun h => by first | exact False.elim h | exact absurd trivial h | (exfalso; omega) | exact absurd rfl h | cases h)⟩
      simp (disch := first | (simp only [dd, dr]; done) | omega) only [W_114, I_lt, I_le, I_inj, inB_I, tc_I, Int.toNat_natCast, fkt, rf1, rf0, cq, Nat.reduceAdd, Nat.reduceEqDiff, Int.reduceToNat, eq_self, true_and, and_true, true_or, or_true, bI_0, bI_1, mm, rAm, mF_sF, mR_sR, false_and, and_false, if_false, if_true, false_or, or_false, not_true_eq_false, not_false_eq_true, and_self]
      rw [if_pos h0] at w1
      exact bad b M3 hm2 _ (F2.trans F3) (P2.de F3) D3 w1 hh
    · simp (disch := first | (simp only [dd, dr]; done) | omega) only [W_114, I_lt, I_le, I_inj, inB_I, tc_I, Int.toNat_natCast, fkt, rf1, rf0, cq, Nat.reduceAdd, Nat.reduceEqDiff, Int.reduceToNat, eq_self, true_and, and_true, true_or, or_true, bI_0, bI_1, mm, rAm, mF_sF, mR_sR, false_and, and_false, if_false, if_true, false_or, or_false, not_true_eq_false, not_false_eq_true, and_self]
      refine ⟨(fun h => by first | exact False.elim h | exact absurd trivial h | (exfalso; omega) | exact absurd rfl h | cases h), fun _ => ?_⟩
      have k43 := (P2.de F3).2.2.2.2.1.1
      simp (disch := first | (simp only [dd, dr]; done) | omega) only [W_114, k43, I_lt, I_le, I_inj, inB_I, tc_I, Int.toNat_natCast, fkt, rf1, rf0, cq, Nat.reduceAdd, Nat.reduceEqDiff, Int.reduceToNat, eq_self, true_and, and_true, true_or, or_true, bI_0, bI_1, mm, rAm, mF_sF, mR_sR, false_and, and_false, if_false, if_true, false_or, or_false, not_true_eq_false, not_false_eq_true, and_self]
      rw [if_neg h0] at w1
      refine hQ hf0 _ hm2 ((F2.trans F3).trans (De.sF p J M3 (by decide) _)) ((P2.de F3).de (De.sF p J M3 (by decide) _)) ?_ hh (fun _ b' hb' => hc b' hb')
      rw [w1]
      have := D3.full0
      simp only [Bool.or_false]
      rw [show wr + ((cn lg b : Nat) : Int) + 1 = wr + ((cn lg b + 1 : Nat) : Int) by omega] at this
      exact this
  | succ n' ih =>
    intro b M2 hm2 l hb hw F2 P2 D2 lg2 hh hc
    have k42 := P2.2.2.2.2.1.1
    have k28 := P2.2.2.2.2.1.2.2.2.2.2.2
    have k24 := P2.2.2.2.2.1.2.2.2.1
    have k400 := P2.2.2.2.2.2.2.2.1
    have eL := lg2 b (by omega)
    simp (disch := first | (simp only [dd, dr]; done) | omega) only [w_114_17, W_114, k42, k28, I_lt, I_le, I_inj, inB_I, tc_I, Int.toNat_natCast, fkt, rf1, rf0, cq, Nat.reduceAdd, Nat.reduceEqDiff, Int.reduceToNat, eq_self, true_and, and_true, true_or, or_true, bI_0, bI_1, mm, rAm, mF_sF, mR_sR, false_and, and_false, if_false, if_true, false_or, or_false, not_true_eq_false, not_false_eq_true, and_self]
    refine ⟨(fun h => by first | exact False.elim h | exact absurd trivial h | (exfalso; omega) | exact absurd rfl h | cases h), fun _ => ?_⟩
    simp (disch := first | (simp only [dd, dr]; done) | omega) only [W_114, I_lt, I_le, I_inj, inB_I, tc_I, Int.toNat_natCast, fkt, rf1, rf0, cq, Nat.reduceAdd, Nat.reduceEqDiff, Int.reduceToNat, eq_self, true_and, and_true, true_or, or_true, bI_0, bI_1, mm, rAm, mF_sF, mR_sR, false_and, and_false, if_false, if_true, false_or, or_false, not_true_eq_false, not_false_eq_true, and_self]
    refine ⟨(fun h => by first | exact False.elim h | exact absurd trivial h | (exfalso; omega) | exact absurd rfl h | cases h), fun _ => ?_⟩
    simp (disch := first | (simp only [dd, dr]; done) | omega) only [W_114, k42, k24, k400, eL, I_lt, I_le, I_inj, inB_I, tc_I, Int.toNat_natCast, fkt, rf1, rf0, cq, Nat.reduceAdd, Nat.reduceEqDiff, Int.reduceToNat, eq_self, true_and, and_true, true_or, or_true, bI_0, bI_1, mm, rAm, mF_sF, mR_sR, false_and, and_false, if_false, if_true, false_or, or_false, not_true_eq_false, not_false_eq_true, and_self]
    refine ⟨fun hl => ?_, fun hl => ?_⟩
    · have ecn : cn lg (b + 1) = cn lg b := by rw [cn, hl]; simp
      simp (disch := first | (simp only [dd, dr]; done) | omega) only [W_114, I_lt, I_le, I_inj, inB_I, tc_I, Int.toNat_natCast, fkt, rf1, rf0, cq, Nat.reduceAdd, Nat.reduceEqDiff, Int.reduceToNat, eq_self, true_and, and_true, true_or, or_true, bI_0, bI_1, mm, rAm, mF_sF, mR_sR, false_and, and_false, if_false, if_true, false_or, or_false, not_true_eq_false, not_false_eq_true, and_self]
      rw [show ((b : Int) + 1) = ((b + 1 : Nat) : Int) by omega]
      refine ih (b + 1) M2 hm2 l (by omega) (by rw [ecn]; exact hw) F2 P2 (by rw [ecn]; exact D2) lg2 hh (fun b' hb' hm' => ?_)
      by_cases e : b' = b
      · subst e; rw [(lgI b').mpr hm'] at hl; cases hl
      · exact hc b' (by omega) hm'
    · have hl' : lg b = true := by cases h : lg b with | true => rfl | false => exact absurd h hl
      have ecn : cn lg (b + 1) = cn lg b + 1 := by rw [cn, hl']; simp
      have w1 := wn_one hw
      have hle := cn_all lg (a := b + 1) (b := m) (by omega)
      simp (disch := first | (simp only [dd, dr]; done) | omega) only [W_114, k42, I_lt, I_le, I_inj, inB_I, tc_I, Int.toNat_natCast, fkt, rf1, rf0, cq, Nat.reduceAdd, Nat.reduceEqDiff, Int.reduceToNat, eq_self, true_and, and_true, true_or, or_true, bI_0, bI_1, mm, rAm, mF_sF, mR_sR, false_and, and_false, if_false, if_true, false_or, or_false, not_true_eq_false, not_false_eq_true, and_self]
      refine ca_116 (by omega) (n_isDone P2 D2 (fun h0 M3 F3 D3 o3 => ?_) (fun h0 M3 F3 D3 o3 => ?_))
      · have P3 := P2.de F3
        have k43 := P3.2.2.2.2.1.1
        have k283 := P3.2.2.2.2.1.2.2.2.2.2.2
        rw [if_pos h0] at w1
        have wAll : wn lf (cn lg m + 1) = (cn lg b, -1, true) := by
          have := wn_bad (b := cn lg m - cn lg b) w1
          rw [show cn lg b + 1 + (cn lg m - cn lg b) = cn lg m + 1 by omega] at this
          exact this
        have fin := bad b M3 hm2 _ (F2.trans F3) P3 D3 wAll hh
        simp (disch := first | (simp only [dd, dr]; done) | omega) only [W_114, I_lt, I_le, I_inj, inB_I, tc_I, Int.toNat_natCast, fkt, rf1, rf0, cq, Nat.reduceAdd, Nat.reduceEqDiff, Int.reduceToNat, eq_self, true_and, and_true, true_or, or_true, bI_0, bI_1, mm, rAm, mF_sF, mR_sR, false_and, and_false, if_false, if_true, false_or, or_false, not_true_eq_false, not_false_eq_true, and_self]
        refine ⟨fun _ => ?_, (fun h => by first | exact False.elim h | exact absurd trivial h | (exfalso; omega) | exact absurd rfl h | cases h)⟩
        simp (disch := first | (simp only [dd, dr]; done) | omega) only [W_114, I_lt, I_le, I_inj, inB_I, tc_I, Int.toNat_natCast, fkt, rf1, rf0, cq, Nat.reduceAdd, Nat.reduceEqDiff, Int.reduceToNat, eq_self, true_and, and_true, true_or, or_true, bI_0, bI_1, mm, rAm, mF_sF, mR_sR, false_and, and_false, if_false, if_true, false_or, or_false, not_true_eq_false, not_false_eq_true, and_self]
        simp (disch := first | (simp only [dd, dr]; done) | omega) only [w_114_17, W_114, k43, k283, I_lt, I_le, I_inj, inB_I, tc_I, Int.toNat_natCast, fkt, rf1, rf0, cq, Nat.reduceAdd, Nat.reduceEqDiff, Int.reduceToNat, eq_self, true_and, and_true, true_or, or_true, bI_0, bI_1, mm, rAm, mF_sF, mR_sR, false_and, and_false, if_false, if_true, false_or, or_false, not_true_eq_false, not_false_eq_true, and_self]
        refine ⟨fun _ => ?_, fun _ => ?_⟩
        · simp (disch := first | (simp only [dd, dr]; done) | omega) only [W_114, I_lt, I_le, I_inj, inB_I, tc_I, Int.toNat_natCast, fkt, rf1, rf0, cq, Nat.reduceAdd, Nat.reduceEqDiff, Int.reduceToNat, eq_self, true_and, and_true, true_or, or_true, bI_0, bI_1, mm, rAm, mF_sF, mR_sR, false_and, and_false, if_false, if_true, false_or, or_false, not_true_eq_false, not_false_eq_true, and_self]
          refine ⟨fun _ => ?_, (fun h => by first | exact False.elim h | exact absurd trivial h | (exfalso; omega) | exact absurd rfl h | cases h)⟩
          simp (disch := first | (simp only [dd, dr]; done) | omega) only [W_114, I_lt, I_le, I_inj, inB_I, tc_I, Int.toNat_natCast, fkt, rf1, rf0, cq, Nat.reduceAdd, Nat.reduceEqDiff, Int.reduceToNat, eq_self, true_and, and_true, true_or, or_true, bI_0, bI_1, mm, rAm, mF_sF, mR_sR, false_and, and_false, if_false, if_true, false_or, or_false, not_true_eq_false, not_false_eq_true, and_self]
          exact fin
        · simp (disch := first | (simp only [dd, dr]; done) | omega) only [W_114, I_lt, I_le, I_inj, inB_I, tc_I, Int.toNat_natCast, fkt, rf1, rf0, cq, Nat.reduceAdd, Nat.reduceEqDiff, Int.reduceToNat, eq_self, true_and, and_true, true_or, or_true, bI_0, bI_1, mm, rAm, mF_sF, mR_sR, false_and, and_false, if_false, if_true, false_or, or_false, not_true_eq_false, not_false_eq_true, and_self]
          refine ⟨fun _ => ?_, (fun h => by first | exact False.elim h | exact absurd trivial h | (exfalso; omega) | exact absurd rfl h | cases h)⟩
          simp (disch := first | (simp only [dd, dr]; done) | omega) only [W_114, I_lt, I_le, I_inj, inB_I, tc_I, Int.toNat_natCast, fkt, rf1, rf0, cq, Nat.reduceAdd, Nat.reduceEqDiff, Int.reduceToNat, eq_self, true_and, and_true, true_or, or_true, bI_0, bI_1, mm, rAm, mF_sF, mR_sR, false_and, and_false, if_false, if_true, false_or, or_false, not_true_eq_false, not_false_eq_true, and_self]
          refine ⟨fun _ => ?_, (fun h => by first | exact False.elim h | exact absurd trivial h | (exfalso; omega) | exact absurd rfl h | cases h)⟩
          simp (disch := first | (simp only [dd, dr]; done) | omega) only [W_114, I_lt, I_le, I_inj, inB_I, tc_I, Int.toNat_natCast, fkt, rf1, rf0, cq, Nat.reduceAdd, Nat.reduceEqDiff, Int.reduceToNat, eq_self, true_and, and_true, true_or, or_true, bI_0, bI_1, mm, rAm, mF_sF, mR_sR, false_and, and_false, if_false, if_true, false_or, or_false, not_true_eq_false, not_false_eq_true, and_self]
          exact fin
      · have P3 := P2.de F3
        have k43 := P3.2.2.2.2.1.1
        have k21 := P3.2.2.2.2.1.2.1
        have k22 := P3.2.2.2.2.1.2.2.1
        have e1 := P3.2.2.2.2.2.1
        have e2 := P3.2.2.2.2.2.2.1
        have e1X := e1.1
        have e2X := e2.1
        obtain ⟨eQ1, kX1⟩ := e1.2.1 b (by omega)
        obtain ⟨eQ2, kX2⟩ := e2.2.1 b (by omega)
        have rl := D3.2.2.2.2 b (by omega)
        rw [if_neg h0] at w1
        simp (disch := first | (simp only [dd, dr]; done) | omega) only [W_114, I_lt, I_le, I_inj, inB_I, tc_I, Int.toNat_natCast, fkt, rf1, rf0, cq, Nat.reduceAdd, Nat.reduceEqDiff, Int.reduceToNat, eq_self, true_and, and_true, true_or, or_true, bI_0, bI_1, mm, rAm, mF_sF, mR_sR, false_and, and_false, if_false, if_true, false_or, or_false, not_true_eq_false, not_false_eq_true, and_self]
        refine ⟨(fun h => by first | exact False.elim h | exact absurd trivial h | (exfalso; omega) | exact absurd rfl h | cases h), fun _ => ?_⟩
        simp (disch := first | (simp only [dd, dr]; done) | omega) only [W_114, k43, k21, k22, e1X, e2X, eQ1, eQ2, I_lt, I_le, I_inj, inB_I, tc_I, Int.toNat_natCast, fkt, rf1, rf0, cq, Nat.reduceAdd, Nat.reduceEqDiff, Int.reduceToNat, eq_self, true_and, and_true, true_or, or_true, bI_0, bI_1, mm, rAm, mF_sF, mR_sR, false_and, and_false, if_false, if_true, false_or, or_false, not_true_eq_false, not_false_eq_true, and_self]
        refine cr_27 (by omega) (c_copyR rl kX1 (by omega) (fun M4 F4 r4 o4 => ?_))
        simp (disch := first | (simp only [dd, dr]; done) | omega) only [W_114, I_lt, I_le, I_inj, inB_I, tc_I, Int.toNat_natCast, fkt, rf1, rf0, cq, Nat.reduceAdd, Nat.reduceEqDiff, Int.reduceToNat, eq_self, true_and, and_true, true_or, or_true, bI_0, bI_1, mm, rAm, mF_sF, mR_sR, false_and, and_false, if_false, if_true, false_or, or_false, not_true_eq_false, not_false_eq_true, and_self]
        rw [show ((b : Int) + 1) = ((b + 1 : Nat) : Int) by omega]
        have De4 : De p J M3 M4 := ⟨F4.1, F4.2.2.1, F4.2.2.2.1, fun f' a _ => F4.f1.2.2.1 f' a, fun a i ha => o4 a i (by omega)⟩
        have D4 := D3.home hJ.2.1 F4 r4 (by omega) o4
        rw [show wr + ((cn lg b : Nat) : Int) + 1 = wr + ((cn lg (b + 1) : Nat) : Int) by omega] at D4
        refine ih (b + 1) M4 _ (dn l) (by omega) (by rw [ecn]; exact w1) ((F2.trans F3).trans De4) (P3.ro F4) D4 (fun b' hb' => ?_) (fun b' hb' => ?_) (fun b' hb' hm' => ?_)
        · rw [o4 _ _ (by omega), o3]; exact lg2 b' hb'
        · by_cases e : b' = b
          · subst e; rw [fu_s]; exact .inr ⟨(lgI b').mp hl', rfl⟩
          · rw [fu_n _ _ e]; exact hh b' hb'
        · by_cases e : b' = b
          · subst e; rw [fu_s]
          · rw [fu_n _ _ e]; exact hc b' (by omega) hm'
end DC
