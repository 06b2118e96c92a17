/-! ===== THE COMPONENT: reform, the whole ===== -/
section Rf4
variable {d p m J : Nat} {M M' : Mem} {A A' : Ad} {T T' : Tr} {X X' : Ob} {Q : Outcome → Mem → Prop} {ok : Bool} {dt : Nat → Nat → Nat}
/-- a call's frame: spare rows and the file's bytes stay -/
def Cg (p : Nat) (A A' : Ad) (x : Nat) (M M' : Mem) : Prop := CF p A A' x M M' ∧ ∀ a i, ((p + 99 ≤ a ∧ a ≤ p + 195) ∨ a = p + 197) → mA M' a i = mA M a i
theorem Cg.trans {x x' : Nat} {A'' : Ad} {M'' : Mem} (h : Cg p A A' x M M') (h' : Cg p A' A'' x' M' M'') : Cg p A A'' (x + x') M M'' := ⟨h.1.trans h'.1, fun a i h1 => (h'.2 a i h1).trans (h.2 a i h1)⟩
theorem Se.cg (F : Se p M M') (A : Ad) : Cg p A A 0 M M' := ⟨F.cf A, fun a i h => F.2.2.2.2 a i (by omega)⟩
theorem Cb.cg {x : Nat} (F : Cb p A A' x M M') : Cg p A A' x M M' := ⟨F.1, fun a i h => F.2 a i (by omega) (by omega) (by omega)⟩
/-- a call that stopped halfway -/
def Fl (p m J : Nat) (A A' : Ad) (M M' : Mem) : Prop := PK M' p m J ∧ NB A' (p + 403 + J) ∧ JT M' (p + 201) (p + 199) m A' ∧ Cg p A A' 1 M M'
/-- the tail's bytes of a file -/
def tlL (F : Nat → Nat) (n : Nat) : List Nat := (List.range (tlO n)).map (fun i => F (128 * dtO n + i))
theorem tlL_len (F : Nat → Nat) (n : Nat) : (tlL F n).length = tlO n := by unfold tlL; rw [List.length_map, List.length_range]
/-- data after a file was laid -/
def rfd (dt : Nat → Nat → Nat) (l : List Nat) (F : Nat → Nat) (n b i : Nat) : Nat := if b ∈ l then drf F n (ix b l) i else dt b i
/-- objects after a file was laid -/
def rfX (X : Ob) (o : Nat) (l tl : List Nat) (n : Nat) : Ob := vS (vT (vD X o l) o tl) o (oK X o) (oL X o) n
/-- the tree after a file was laid -/
def rfA (m : Nat) (X : Ob) (T : Tr) (o n : Nat) : Option (List Nat × Tr) :=
  match rfT m X T o n with
  | none => none
  | some (l, T1) => match stT m (szO X) T1 (ky o 2 0) (2 * dtO n) with
    | some (true, T2) => match stT m (szO (vD X o l)) T2 (ky o 3 0) (tlO n) with
      | some (true, T3) => some (l, T3)
      | _ => none
    | _ => none
set_option maxHeartbeats 1000000 in
/-- the tail becomes a body -/
theorem rf_218 {o nb want tl : Nat} {Fb : Nat → Nat} (hd : 1 ≤ d) (hw : want ≤ 16) (ht : tl ≤ 40) (hn : tl ≠ 0 → 128 * want + tl ≤ 2048) {M0 : Mem} (C : CX M0 p m J A T X) (hF : ∀ i, i < tl → mA M0 (p + 197) (128 * want + i) = bB (Fb (128 * want + i) : Nat)) : ∀ (n' i : Nat) (g : Nat → Int32), i + n' = tl → (∀ k, k < i → g k = bB (Fb (128 * want + k) : Nat)) →
    (∀ g, (∀ k, k < tl → g k = bB (Fb (128 * want + k) : Nat)) → Wp d 67 252 [some (.ref p), some (.int (I (o : Nat))), some (.int (I (nb : Nat))), some (.int (I (want : Nat))), some (.int (I (want : Nat))), some (.int (I (tl : Nat))), some (.int (I (tl : Nat)))] [] (rA M0 (p + 196) g) Q) →
    Wp d 67 218 [some (.ref p), some (.int (I (o : Nat))), some (.int (I (nb : Nat))), some (.int (I (want : Nat))), some (.int (I (want : Nat))), some (.int (I (tl : Nat))), some (.int (I (i : Nat)))] [] (rA M0 (p + 196) g) Q
  | 0, i, g, h1, hg, hk => by
    obtain rfl : i = tl := by omega
    simp (disch := first | (simp only [dd, dr]; done) | omega) only [w_67_218, W_67, I_lt, I_le, I_inj, inB_I, tc_I, Int.toNat_natCast, fkt, rf1, rf0, cq, Nat.reduceAdd, Nat.reduceEqDiff, Int.reduceToNat, eq_self, true_and, and_true, true_or, or_true, bI_0, bI_1, mm, rAm, mF_sF, mR_sR, false_and, and_false, if_false, if_true, false_or, or_false, not_true_eq_false, not_false_eq_true, and_self]
    refine ⟨fun _ => ?_, (fun h => by first | exact False.elim h | exact absurd trivial h | (exfalso; omega) | exact absurd rfl h | cases h)⟩
    exact hk g hg
  | n' + 1, i, g, h1, hg, hk => by
    have k0 := C.1.1.1
    have kb := C.1.1.2.2.2.2.1
    have k3 := C.1.1.2.2.2.2.2.1
    have k197 := C.1.2.2.2.1.2.2.1
    have k196 := C.1.2.2.2.1.2.1
    have hn' := hn (by omega)
    have hf : mA (rA M0 (p + 196) g) (p + 197) (128 * want + i) = bB (Fb (128 * want + i) : Nat) := by rw [mA_rA, if_neg (by omega)]; exact hF i (by omega)
    have hdx : (want : Int) * 128 + (i : Int) = ((128 * want + i : Nat) : Int) := by omega
    simp (disch := first | (simp only [dd, dr]; done) | omega) only [w_67_218, W_67, I_lt, I_le, I_inj, inB_I, tc_I, Int.toNat_natCast, fkt, rf1, rf0, cq, Nat.reduceAdd, Nat.reduceEqDiff, Int.reduceToNat, eq_self, true_and, and_true, true_or, or_true, bI_0, bI_1, mm, rAm, mF_sF, mR_sR, false_and, and_false, if_false, if_true, false_or, or_false, not_true_eq_false, not_false_eq_true, and_self]
    refine ⟨(fun h => by first | exact False.elim h | exact absurd trivial h | (exfalso; omega) | exact absurd rfl h | cases h), fun _ => ?_⟩
    simp (disch := first | (simp only [dd, dr]; done) | omega) only [W_67, k0, kb, k3, hdx, k196, k197, hf, nrw_b, bB_i2b, sA_rA, I_lt, I_le, I_inj, inB_I, tc_I, Int.toNat_natCast, fkt, rf1, rf0, cq, Nat.reduceAdd, Nat.reduceEqDiff, Int.reduceToNat, eq_self, true_and, and_true, true_or, or_true, bI_0, bI_1, mm, rAm, mF_sF, mR_sR, false_and, and_false, if_false, if_true, false_or, or_false, not_true_eq_false, not_false_eq_true, and_self]
    rw [show ((i : Int) + 1) = ((i + 1 : Nat) : Int) by omega]
    refine rf_218 hd hw ht hn C hF n' (i + 1) _ (by omega) (fun k hk' => ?_) hk
    by_cases e : k = i
    · rw [if_pos e, e]
    · rw [if_neg e]; exact hg k (by omega)
theorem tkn_at {m : Nat} : ∀ (n : Nat) (T : Tr) {l : List Nat} {T' : Tr}, tkn m n T = some (l, T') → l.length = n ∧ tH T' = tH T ∧ its T' = its T ∧ tI T' = tI T ∧ (∀ b, tU T' b = (tU T b || decide (b ∈ l)))
  | 0, T, l, T', h => by
    obtain ⟨e1, e2⟩ := Prod.mk.inj (Option.some.inj h)
    subst e1; subst e2
    exact ⟨rfl, rfl, rfl, rfl, fun b => by simp⟩
  | n + 1, T, l, T', h => by
    rw [tkn] at h
    cases hf : fr (tU T) m 0 with
    | none => rw [hf] at h; cases h
    | some b =>
      rw [hf] at h
      simp only at h
      cases hr : tkn m n (uU T b true) with
      | none => rw [hr] at h; cases h
      | some r =>
        obtain ⟨l2, T2⟩ := r
        rw [hr] at h
        obtain ⟨e1, e2⟩ := Prod.mk.inj (Option.some.inj h)
        subst e1; subst e2
        obtain ⟨a1, a2, a3, a4, a5⟩ := tkn_at n _ hr
        refine ⟨by rw [List.length_cons, a1], a2, a3, a4, fun c => ?_⟩
        rw [a5]
        show (fu (tU T) b true c || _) = _
        by_cases e : c = b
        · rw [e, fu_s]; simp
        · rw [fu_n _ _ e]
          simp [e]
/-- what blocks a file has after it was laid -/
theorem rfT_at {o n : Nat} {l : List Nat} (h : rfT m X T o n = some (l, T')) : l.length = dtO n ∧ tH T' = tH T ∧ its T' = its T ∧ tI T' = tI T ∧ (∀ b, tU T' b = true → b ∈ l ∨ tU T b = true) := by
  unfold rfT at h
  split at h
  · rename_i hc
    obtain ⟨e1, e2⟩ := Prod.mk.inj (Option.some.inj h)
    subst e1; subst e2
    obtain ⟨f1, f2, _, _, f5, _, _, f8⟩ := fes_at ((oD X o).drop (dtO n)).reverse T
    refine ⟨by rw [List.length_take]; omega, f1, fes_its _ _, f2, fun b hb => .inr ?_⟩
    rw [f8, Bool.and_eq_true] at hb
    exact hb.1
  · rename_i hc
    cases hr : tkn m (dtO n - (oD X o).length) T with
    | none => rw [hr] at h; cases h
    | some r =>
      obtain ⟨l2, T2⟩ := r
      rw [hr] at h
      obtain ⟨e1, e2⟩ := Prod.mk.inj (Option.some.inj h)
      subst e1; subst e2
      obtain ⟨a1, a2, a3, a4, a5⟩ := tkn_at _ _ hr
      refine ⟨by rw [List.length_append, a1]; omega, a2, a3, a4, fun b hb => ?_⟩
      rw [a5, Bool.or_eq_true] at hb
      rcases hb with hb | hb
      · exact .inr hb
      · exact .inl (List.mem_append_right _ (of_decide_eq_true hb))
set_option maxHeartbeats 4000000 in
theorem n_reform (hd : 40 ≤ d) (C : CX M p m J A T X) (D : DR M p T dt) (O : OK1 T X) {o nb : Nat} {Fb : Nat → Nat} (ho : o ≤ 60) (hi : ky o 0 0 ∈ its T) (hD : ky o 2 0 ∈ its T ↔ oD X o ≠ []) (B : BL T (oD X o)) (hl : (oD X o).length ≤ 16) (hnb : nb ≤ 2048) (hF : ∀ i, i < nb → mA M (p + 197) i = bB (Fb i : Nat))
    (hX : rfA m X T o nb = none → ∀ M' A' a, kO M' a = 14 → Fl p m J A A' M M' → Q (.threw a) M')
    (hR : ∀ l T1 T2 T3, rfT m X T o nb = some (l, T1) → rfA m X T o nb = some (l, T3) → BL T1 l → StF T1 T2 (ky o 2 0) (2 * dtO nb) → StF T2 T3 (ky o 3 0) (tlO nb) → ∀ M' A', CX M' p m J A' T3 (rfX X o l (tlL Fb nb) nb) → DR M' p T3 (rfd dt l Fb nb) → Cg p A A' 0 M M' → Q (.returned none) M') :
    Wp d 67 0 [some (.ref p), some (.int (I (o : Nat))), some (.int (I (nb : Nat))), none, none, none, none] [] M Q := by
  have k0 := C.1.1.1
  have hm := C.1.2.2.2.2.2.2.2.2.2.2.2.1
  have hdt := dtO_le hnb
  have htl := tlO_le nb
  obtain ⟨_, hdt2, hdt3, _⟩ := dtO_tl (n := nb)
  simp (disch := first | (simp only [dd, dr]; done) | omega) only [W_67, k0, I_lt, I_le, I_inj, inB_I, tc_I, Int.toNat_natCast, fkt, rf1, rf0, cq, Nat.reduceAdd, Nat.reduceEqDiff, Int.reduceToNat, eq_self, true_and, and_true, true_or, or_true, bI_0, bI_1, mm, rAm, mF_sF, mR_sR, false_and, and_false, if_false, if_true, false_or, or_false, not_true_eq_false, not_false_eq_true, and_self]
  refine ca_56 (by omega) (n_readPointers (by omega) C ho hD (fun b h => by have := (B.2 b h).2.1; omega) hl (fun M1 g T1 C1 hg => ?_))
  have F1 : So p M (rA M1 (p + 198) g) := (So.tw T1).trans (So.rA p M1 (.inr (.inl rfl)) g)
  have P1 : Pt (rA M1 (p + 198) g) p (oD X o) := fun k v hv => by rw [mA_rA, if_pos rfl]; exact hg k v hv
  generalize rA M1 (p + 198) g = M2 at *
  clear hg T1 M1
  simp (disch := first | (simp only [dd, dr]; done) | omega) only [W_67, I_lt, I_le, I_inj, inB_I, tc_I, Int.toNat_natCast, fkt, rf1, rf0, cq, Nat.reduceAdd, Nat.reduceEqDiff, Int.reduceToNat, eq_self, true_and, and_true, true_or, or_true, bI_0, bI_1, mm, rAm, mF_sF, mR_sR, false_and, and_false, if_false, if_true, false_or, or_false, not_true_eq_false, not_false_eq_true, and_self]
  refine ca_68 (by omega) (c_blocksOf (by omega) (by omega) ?_)
  simp (disch := first | (simp only [dd, dr]; done) | omega) only [W_67, I_lt, I_le, I_inj, inB_I, tc_I, Int.toNat_natCast, fkt, rf1, rf0, cq, Nat.reduceAdd, Nat.reduceEqDiff, Int.reduceToNat, eq_self, true_and, and_true, true_or, or_true, bI_0, bI_1, mm, rAm, mF_sF, mR_sR, false_and, and_false, if_false, if_true, false_or, or_false, not_true_eq_false, not_false_eq_true, and_self]
  -- the rest, once blocks are there
  suffices rest : ∀ (l : List Nat) (T1 : Tr) (M3 : Mem), rfT m X T o nb = some (l, T1) → CX M3 p m J A T1 X → BL T1 l → Pt M3 p l → Se p M M3 → (∀ b j, b < 96 → mA M3 (p + 2 + b) j = mA M (p + 2 + b) j) → Wp d 67 65 [some (.ref p), some (.int (I (o : Nat))), some (.int (I (nb : Nat))), some (.int (I (dtO nb : Nat))), some (.int (I (dtO nb : Nat))), some (.int (I 0)), none] [] M3 Q by
    by_cases hc : dtO nb ≤ (oD X o).length
    · simp (disch := first | (simp only [dd, dr]; done) | omega) only [w_67_12, W_67, I_lt, I_le, I_inj, inB_I, tc_I, Int.toNat_natCast, fkt, rf1, rf0, cq, Nat.reduceAdd, Nat.reduceEqDiff, Int.reduceToNat, eq_self, true_and, and_true, true_or, or_true, bI_0, bI_1, mm, rAm, mF_sF, mR_sR, false_and, and_false, if_false, if_true, false_or, or_false, not_true_eq_false, not_false_eq_true, and_self]
      refine ⟨fun _ => ?_, (fun h => by first | exact False.elim h | exact absurd trivial h | (exfalso; omega) | exact absurd rfl h | cases h)⟩
      have h37 := rf_37 (Q := Q) (o := o) (nb := nb) (want := dtO nb) (by omega) hdt (M0 := M) hl B ((oD X o).length - dtO nb) M2 (by omega) (.inr hc) (by rw [show dtO nb + ((oD X o).length - dtO nb) = (oD X o).length by omega, List.drop_length]; exact C1) P1 F1 (fun M3 C3 P3 F3 => rest _ _ M3 (by unfold rfT; rw [if_pos hc]) C3 (fes_bl B _) (fun k v hv => P3 k v (by rw [List.getElem?_take] at hv; split at hv; exact hv; cases hv)) F3.1 F3.2)
      rw [show dtO nb + ((oD X o).length - dtO nb) = (oD X o).length by omega] at h37
      exact h37
    · refine rf_12 (Q := Q) (o := o) (nb := nb) (want := dtO nb) (by omega) hdt (M0 := M) (dtO nb - (oD X o).length) (oD X o) T M2 (by omega) C1 B P1 F1 (fun _ _ _ _ => trivial) (fun hn M3 T3 C3 F3 => ?_) (fun l2 T3 M3 hn C3 B3 P3 F3 => ?_)
      · have j := C3.2.1.jt.exc
        refine hX (by unfold rfA rfT; rw [if_neg hc, hn]; rfl) _ A _ j.2.2 ⟨(C3.exc 14).1, C3.2.2.2.1, j.1, ?_⟩
        exact (F3.1.cg A).trans ⟨CF.exc p A M3 14, fun a i ha => (nw_at M3 14 6 (a := a) (by have := C3.2.2.2.2; omega)).2.2.2.1 i⟩
      · have hlen : dtO nb = ((oD X o) ++ l2).length := by rw [List.length_append, (tkn_at _ _ hn).1]; omega
        have h37 := rf_37 (Q := Q) (o := o) (nb := nb) (want := dtO nb) (by omega) hdt (M0 := M) (l := oD X o ++ l2) (by omega) B3 0 M3 (by omega) (.inr (by omega)) (by rw [Nat.add_zero, hlen, List.drop_length]; exact C3) P3 F3 (fun M4 C4 P4 F4 => rest _ _ M4 (by unfold rfT; rw [if_neg hc, hn]; rfl) (by rw [hlen, List.drop_length] at C4; exact C4) B3 P4 F4.1 F4.2)
        exact h37
  intro l T1 M3 hrf C3 B3 P3 F3 w3
  obtain ⟨hll, hH1, hI1, _, hU1⟩ := rfT_at hrf
  refine rf_65 (Q := Q) (nb := nb) (o := o) (by omega) hdt (M0 := M3) hll B3 (dtO nb) 0 M3 (by omega) C3 P3 (Se.refl _ _) (fun k b hk => by omega) (fun _ _ _ _ => rfl) (fun M4 C4 P4 F4 r4 w4 => ?_)
  have hF4 : ∀ i, i < nb → mA M4 (p + 197) i = bB (Fb i : Nat) := fun i hi' => by rw [F4.2.2.2.2 _ _ (by omega), F3.2.2.2.2 _ _ (by omega)]; exact hF i hi'
  refine rf_97 (Q := Q) (nb := nb) (o := o) (Fb := Fb) (by omega) hdt hnb (M0 := M4) hF4 hll B3 (if dtO nb * 128 ≤ nb then dtO nb * 128 else nb) 0 M4 (by omega) C4 P4 (Se.refl _ _) (fun k b hb => ?_) (fun _ _ _ _ => rfl) (fun M5 C5 P5 F5 r5 w5 => ?_)
  · obtain ⟨r1, r2⟩ := r4 k b hb
    refine ⟨r1, fun j hj => ?_⟩
    rw [r2 j hj]
    unfold drf
    by_cases e : j = 128
    · rw [if_pos e]
    · rw [if_neg e, if_neg (by omega)]
  have F05 := (F3.trans F4).trans F5
  have hF5 : ∀ i, i < nb → mA M5 (p + 197) i = bB (Fb i : Nat) := fun i hi' => by rw [F5.2.2.2.2 _ _ (by omega)]; exact hF4 i hi'
  have D5 : DR M5 p T1 (rfd dt l Fb nb) := by
    intro b h1 h2 h3
    by_cases hb : b ∈ l
    · obtain ⟨r1, r2⟩ := r5 _ _ (ix_at hb).1
      refine ⟨r1, fun j hj => ?_⟩
      rw [r2 j hj]
      unfold drw rfd
      rw [if_pos hb]
      by_cases e : j = 128
      · rw [if_pos e]; unfold drf; rw [if_pos e]
      · rw [if_neg e]
    · have hu : tU T b = true := (hU1 b h1).resolve_left hb
      have hb96 := C.us b hu
      have r := D b hu (by rw [hH1] at h2; exact h2) h3
      refine ⟨by rw [F05.f1.2.2.1]; exact r.1, fun j hj => ?_⟩
      rw [w5 b j hb96 hb, w4 b j hb96 hb, w3 b j hb96, r.2 j hj]
      unfold drw rfd
      rw [if_neg hb]
  clear r5 w5 r4 w4 w3 F5 F4 F3 hF4 P4 C4 C3 P3
  have H153 : ∀ g0, rA M5 (p + 196) g0 = M5 → Wp d 67 153 [some (.ref p), some (.int (I (o : Nat))), some (.int (I (nb : Nat))), some (.int (I (dtO nb : Nat))), some (.int (I (dtO nb : Nat))), some (.int (I 0)), none] [] (rA M5 (p + 196) g0) Q → Wp d 67 153 [some (.ref p), some (.int (I (o : Nat))), some (.int (I (nb : Nat))), some (.int (I (dtO nb : Nat))), some (.int (I (dtO nb : Nat))), some (.int (I 0)), none] [] M5 Q := fun g0 e h => by rw [e] at h; exact h
  refine H153 (fun i => mA M5 (p + 196) i) (rA_id M5 _) (rf_153 (Q := Q) (nb := nb) (o := o) (by omega) hdt hll B3 C5 P5 (dtO nb) 0 _ (by omega) (fun k b hk => by omega) (fun g6 hg6 => ?_))
  clear H153
  have C6 := C5.sc (Sc.rA p M5 (w := p + 196) ⟨by omega, by omega⟩ g6)
  have D6 := D5.sc C5.us (Sc.rA p M5 (w := p + 196) ⟨by omega, by omega⟩ g6)
  have F6 : Cg p A A 0 M (rA M5 (p + 196) g6) := (F05.cg A).trans (rA_cb p M5 A g6).cg
  have hr6 : ∀ i v, (l.flatMap (fun b => [b, 0]))[i]? = some v → mA (rA M5 (p + 196) g6) (p + 196) i = bB (v : Nat) := fun i v hv => by rw [mA_rA, if_pos rfl]; exact hg6 i v hv
  have hF6 : ∀ i, i < nb → mA (rA M5 (p + 196) g6) (p + 197) i = bB (Fb i : Nat) := fun i hi' => by rw [mA_rA, if_neg (by omega)]; exact hF5 i hi'
  generalize rA M5 (p + 196) g6 = M6 at *
  clear hg6 D5 hF5 P5 C5 F05
  have k06 := C6.1.1.1
  have k96 := C6.1.1.2.2.2.2.2.2.2.2.1
  have kb6 := C6.1.1.2.2.2.2.1
  have kt6 := C6.2.1.1.1.1
  simp (disch := first | (simp only [dd, dr]; done) | omega) only [W_67, k06, k96, I_lt, I_le, I_inj, inB_I, tc_I, Int.toNat_natCast, fkt, rf1, rf0, cq, Nat.reduceAdd, Nat.reduceEqDiff, Int.reduceToNat, eq_self, true_and, and_true, true_or, or_true, bI_0, bI_1, mm, rAm, mF_sF, mR_sR, false_and, and_false, if_false, if_true, false_or, or_false, not_true_eq_false, not_false_eq_true, and_self]
  refine ca_24 (by omega) (c_keyOf ?_)
  rw [show ((o : Int) * 4 + 2) * 1024 + 0 = ((ky o 2 0 : Nat) : Int) by unfold ky; omega]
  simp (disch := first | (simp only [dd, dr]; done) | omega) only [W_67, k06, kb6, kt6, I_lt, I_le, I_inj, inB_I, tc_I, Int.toNat_natCast, fkt, rf1, rf0, cq, Nat.reduceAdd, Nat.reduceEqDiff, Int.reduceToNat, eq_self, true_and, and_true, true_or, or_true, bI_0, bI_1, mm, rAm, mF_sF, mR_sR, false_and, and_false, if_false, if_true, false_or, or_false, not_true_eq_false, not_false_eq_true, and_self]
  have hfl : (l.flatMap (fun b => [b, 0])).length = 2 * dtO nb := by rw [(flat2 l).1, hll]
  rw [show (2 : Int) * ((dtO nb : Nat) : Int) = (((l.flatMap (fun b => [b, 0])).length : Nat) : Int) by rw [hfl]; omega]
  obtain ⟨ok1, T2, hg1, hgo1⟩ := stT_ok (key := ky o 2 0) (n := 2 * dtO nb) hm C6.2.2.1.1 (by omega)
  have hg1 : stT m (szO X) T1 (ky o 2 0) (2 * dtO nb) = some (ok1, T2) := hg1
  have hi1 : ky o 0 0 ∈ its T1 := by rw [hI1]; exact hi
  have hne2 : ok1 = true → ky o 0 0 ∈ its T2 := fun hok => ((hgo1 hok).2.mem C6.2.2.1.1 (ky o 0 0)).mpr (.inr ⟨fun h => absurd (ky_inj (by omega) (by omega) (by omega) (by omega) h).2.1 (by omega), hi1⟩)
  refine cr_97 (by omega) (x_set (bs := l.flatMap (fun b => [b, 0])) (X' := vD X o l) (by omega) C6 (by unfold ky; omega) hr6 (by rw [hfl]; omega) (by rw [hfl]; exact hg1) (fun _ k _ => by rw [pyO_vD]) (fun hok => ne_nil (hne2 hok)) (fun hok M7 A7 C7 S7 G7 => ?_) (fun hok M7 A7 a J7 G7 ka => ?_))
  rotate_left
  · simp (disch := first | (simp only [dd, dr]; done) | omega) only [W_67, I_lt, I_le, I_inj, inB_I, tc_I, Int.toNat_natCast, fkt, rf1, rf0, cq, Nat.reduceAdd, Nat.reduceEqDiff, Int.reduceToNat, eq_self, true_and, and_true, true_or, or_true, bI_0, bI_1, mm, rAm, mF_sF, mR_sR, false_and, and_false, if_false, if_true, false_or, or_false, not_true_eq_false, not_false_eq_true, and_self]
    rw [Th_out ka (by decide) (by decide +kernel)]
    subst hok
    refine hX ?_ M7 A7 a ka ⟨C6.1.fr C6.2.2.2.1 G7 C6.2.2.2.2, C6.2.2.2.1.fr G7 C6.2.2.2.2, J7, ?_⟩
    · unfold rfA; rw [hrf]; simp only; rw [hg1]
    · exact F6.trans (G7.cb (J := J) C6.2.2.2.1 C6.2.2.2.2).cg
  subst hok
  rw [hfl] at S7
  have b7 := G7.cb (J := J) C6.2.2.2.1 C6.2.2.2.2
  have D7 := D6.cb (J := J) C6.us C6.2.2.2.2 b7 S7.2.1
  have F7 : Cg p A A7 0 M M7 := F6.trans b7.cg
  have hF7 : ∀ i, i < nb → mA M7 (p + 197) i = bB (Fb i : Nat) := fun i hi' => by rw [b7.2 _ _ (by omega) (by omega) (by omega)]; exact hF6 i hi'
  clear b7 G7 hF6 hr6 D6 F6
  simp (disch := first | (simp only [dd, dr]; done) | omega) only [W_67, I_lt, I_le, I_inj, inB_I, tc_I, Int.toNat_natCast, fkt, rf1, rf0, cq, Nat.reduceAdd, Nat.reduceEqDiff, Int.reduceToNat, eq_self, true_and, and_true, true_or, or_true, bI_0, bI_1, mm, rAm, mF_sF, mR_sR, false_and, and_false, if_false, if_true, false_or, or_false, not_true_eq_false, not_false_eq_true, and_self]
  refine ca_69 (by omega) (c_tailOf (by omega) ?_)
  simp (disch := first | (simp only [dd, dr]; done) | omega) only [W_67, I_lt, I_le, I_inj, inB_I, tc_I, Int.toNat_natCast, fkt, rf1, rf0, cq, Nat.reduceAdd, Nat.reduceEqDiff, Int.reduceToNat, eq_self, true_and, and_true, true_or, or_true, bI_0, bI_1, mm, rAm, mF_sF, mR_sR, false_and, and_false, if_false, if_true, false_or, or_false, not_true_eq_false, not_false_eq_true, and_self]
  have H218 : ∀ g0, rA M7 (p + 196) g0 = M7 → Wp d 67 218 [some (.ref p), some (.int (I (o : Nat))), some (.int (I (nb : Nat))), some (.int (I (dtO nb : Nat))), some (.int (I (dtO nb : Nat))), some (.int (I (tlO nb : Nat))), some (.int (I ((0 : Nat) : Int)))] [] (rA M7 (p + 196) g0) Q → Wp d 67 218 [some (.ref p), some (.int (I (o : Nat))), some (.int (I (nb : Nat))), some (.int (I (dtO nb : Nat))), some (.int (I (dtO nb : Nat))), some (.int (I (tlO nb : Nat))), some (.int (I 0))] [] M7 Q := fun g0 e h => by rw [e] at h; exact h
  refine H218 (fun i => mA M7 (p + 196) i) (rA_id M7 _) (rf_218 (Q := Q) (nb := nb) (o := o) (Fb := Fb) (by omega) hdt htl (fun h => by have := hdt3 h; omega) C7 (fun i hi' => hF7 _ (by have := hdt3 (by omega); omega)) (tlO nb) 0 _ (by omega) (fun k hk => by omega) (fun g8 hg8 => ?_))
  clear H218
  have C8 := C7.sc (Sc.rA p M7 (w := p + 196) ⟨by omega, by omega⟩ g8)
  have D8 := D7.sc C7.us (Sc.rA p M7 (w := p + 196) ⟨by omega, by omega⟩ g8)
  have F8 : Cg p A A7 0 M (rA M7 (p + 196) g8) := F7.trans (rA_cb p M7 A7 g8).cg
  have hr8 : ∀ i v, (tlL Fb nb)[i]? = some v → mA (rA M7 (p + 196) g8) (p + 196) i = bB (v : Nat) := fun i v hv => by
    have hi' := (List.getElem?_eq_some_iff.mp hv).1
    rw [tlL_len] at hi'
    rw [mA_rA, if_pos rfl, hg8 i hi']
    unfold tlL at hv
    rw [List.getElem?_map, List.getElem?_range hi'] at hv
    rw [← Option.some.inj hv]
  generalize rA M7 (p + 196) g8 = M8 at *
  clear hg8 D7 hF7 F7
  have k08 := C8.1.1.1
  have k98 := C8.1.1.2.2.2.2.2.2.2.2.1
  have kb8 := C8.1.1.2.2.2.2.1
  have kt8 := C8.2.1.1.1.1
  simp (disch := first | (simp only [dd, dr]; done) | omega) only [W_67, k08, k98, I_lt, I_le, I_inj, inB_I, tc_I, Int.toNat_natCast, fkt, rf1, rf0, cq, Nat.reduceAdd, Nat.reduceEqDiff, Int.reduceToNat, eq_self, true_and, and_true, true_or, or_true, bI_0, bI_1, mm, rAm, mF_sF, mR_sR, false_and, and_false, if_false, if_true, false_or, or_false, not_true_eq_false, not_false_eq_true, and_self]
  refine ca_24 (by omega) (c_keyOf ?_)
  rw [show ((o : Int) * 4 + 3) * 1024 + 0 = ((ky o 3 0 : Nat) : Int) by unfold ky; omega]
  simp (disch := first | (simp only [dd, dr]; done) | omega) only [W_67, k08, kb8, kt8, I_lt, I_le, I_inj, inB_I, tc_I, Int.toNat_natCast, fkt, rf1, rf0, cq, Nat.reduceAdd, Nat.reduceEqDiff, Int.reduceToNat, eq_self, true_and, and_true, true_or, or_true, bI_0, bI_1, mm, rAm, mF_sF, mR_sR, false_and, and_false, if_false, if_true, false_or, or_false, not_true_eq_false, not_false_eq_true, and_self]
  rw [show ((tlO nb : Nat) : Int) = (((tlL Fb nb).length : Nat) : Int) by rw [tlL_len]]
  obtain ⟨ok2, T3, hg2, hgo2⟩ := stT_ok (key := ky o 3 0) (n := tlO nb) hm C8.2.2.1.1 (by omega)
  have hg2 : stT m (szO (vD X o l)) T2 (ky o 3 0) (tlO nb) = some (ok2, T3) := hg2
  have hne3 : ok2 = true → ky o 0 0 ∈ its T3 := fun hok => ((hgo2 hok).2.mem C8.2.2.1.1 (ky o 0 0)).mpr (.inr ⟨fun h => absurd (ky_inj (by omega) (by omega) (by omega) (by omega) h).2.1 (by omega), hne2 rfl⟩)
  refine cr_97 (by omega) (x_set (bs := tlL Fb nb) (X' := vT (vD X o l) o (tlL Fb nb)) (by omega) C8 (by unfold ky; omega) hr8 (by rw [tlL_len]; omega) (by rw [tlL_len]; exact hg2) (fun _ k _ => by rw [pyO_vT]) (fun hok => ne_nil (hne3 hok)) (fun hok M9 A9 C9 S9 G9 => ?_) (fun hok M9 A9 a J9 G9 ka => ?_))
  rotate_left
  · simp (disch := first | (simp only [dd, dr]; done) | omega) only [W_67, I_lt, I_le, I_inj, inB_I, tc_I, Int.toNat_natCast, fkt, rf1, rf0, cq, Nat.reduceAdd, Nat.reduceEqDiff, Int.reduceToNat, eq_self, true_and, and_true, true_or, or_true, bI_0, bI_1, mm, rAm, mF_sF, mR_sR, false_and, and_false, if_false, if_true, false_or, or_false, not_true_eq_false, not_false_eq_true, and_self]
    rw [Th_out ka (by decide) (by decide +kernel)]
    subst hok
    refine hX ?_ M9 A9 a ka ⟨C8.1.fr C8.2.2.2.1 G9 C8.2.2.2.2, C8.2.2.2.1.fr G9 C8.2.2.2.2, J9, ?_⟩
    · unfold rfA; rw [hrf]; simp only; rw [hg1]; simp only; rw [hg2]
    · exact F8.trans (G9.cb (J := J) C8.2.2.2.1 C8.2.2.2.2).cg
  subst hok
  rw [tlL_len] at S9
  have b9 := G9.cb (J := J) C8.2.2.2.1 C8.2.2.2.2
  have D9 := D8.cb (J := J) C8.us C8.2.2.2.2 b9 S9.2.1
  have F9 : Cg p A A9 0 M M9 := F8.trans b9.cg
  clear b9 G9 hr8 D8 F8
  have O9 : OK1 T3 (vT (vD X o l) o (tlL Fb nb)) := by
    intro o' ho' h'
    refine O o' ho' ?_
    rcases (S9.mem C8.2.2.1.1 _).mp h' with ⟨h, _⟩ | ⟨_, h⟩
    · exact absurd (ky_inj (by omega) (by omega) (by omega) (by omega) h).2.1 (by omega)
    · rcases (S7.mem C6.2.2.1.1 _).mp h with ⟨h, _⟩ | ⟨_, h⟩
      · exact absurd (ky_inj (by omega) (by omega) (by omega) (by omega) h).2.1 (by omega)
      · rw [hI1] at h; exact h
  have k09 := C9.1.1.1
  simp (disch := first | (simp only [dd, dr]; done) | omega) only [W_67, k09, I_lt, I_le, I_inj, inB_I, tc_I, Int.toNat_natCast, fkt, rf1, rf0, cq, Nat.reduceAdd, Nat.reduceEqDiff, Int.reduceToNat, eq_self, true_and, and_true, true_or, or_true, bI_0, bI_1, mm, rAm, mF_sF, mR_sR, false_and, and_false, if_false, if_true, false_or, or_false, not_true_eq_false, not_false_eq_true, and_self]
  refine ca_46 (by omega) (n_linksOf (by omega) C9 O9 ho (hne3 rfl) (fun M10 T10 C10 => ?_))
  have k010 := C10.1.1.1
  simp (disch := first | (simp only [dd, dr]; done) | omega) only [W_67, k010, I_lt, I_le, I_inj, inB_I, tc_I, Int.toNat_natCast, fkt, rf1, rf0, cq, Nat.reduceAdd, Nat.reduceEqDiff, Int.reduceToNat, eq_self, true_and, and_true, true_or, or_true, bI_0, bI_1, mm, rAm, mF_sF, mR_sR, false_and, and_false, if_false, if_true, false_or, or_false, not_true_eq_false, not_false_eq_true, and_self]
  refine ca_48 (by omega) (n_change (by omega) C10 O9 ho (hne3 rfl) (O9 o ho (hne3 rfl)).2.2.1 (by omega) (fun M11 A11 C11 F11 => ?_))
  simp (disch := first | (simp only [dd, dr]; done) | omega) only [W_67, I_lt, I_le, I_inj, inB_I, tc_I, Int.toNat_natCast, fkt, rf1, rf0, cq, Nat.reduceAdd, Nat.reduceEqDiff, Int.reduceToNat, eq_self, true_and, and_true, true_or, or_true, bI_0, bI_1, mm, rAm, mF_sF, mR_sR, false_and, and_false, if_false, if_true, false_or, or_false, not_true_eq_false, not_false_eq_true, and_self]
  have b10 := (T10.cb A9).trans F11
  refine hR l T1 T2 T3 hrf ?_ B3 S7 S9 M11 A11 C11 (D9.cb (J := J) C9.us C9.2.2.2.2 b10 (Pv.refl _)) (F9.trans b10.cg)
  unfold rfA; rw [hrf]; simp only; rw [hg1]; simp only; rw [hg2]
end Rf4
