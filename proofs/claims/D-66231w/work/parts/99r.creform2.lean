/-! ===== THE COMPONENT: reform ===== -/
section Rf2
variable {d p m J : Nat} {M M' : Mem} {A A' : Ad} {T T' : Tr} {X X' : Ob} {Q : Outcome → Mem → Prop} {ok : Bool} {dt : Nat → Nat → Nat}
/-- some blocks are taken -/
def tkn (m : Nat) : Nat → Tr → Option (List Nat × Tr)
  | 0, T => some ([], T)
  | n + 1, T => match fr (tU T) m 0 with
    | none => none
    | some b => (tkn m n (uU T b true)).map (fun r => (b :: r.1, r.2))
/-- a file of another size: its data blocks -/
def rfT (m : Nat) (X : Ob) (T : Tr) (o n : Nat) : Option (List Nat × Tr) := if dtO n ≤ (oD X o).length then some ((oD X o).take (dtO n), fes ((oD X o).drop (dtO n)).reverse T) else (tkn m (dtO n - (oD X o).length) T).map (fun r => (oD X o ++ r.1, r.2))
/-- blocks of data -/
def BL (T : Tr) (l : List Nat) : Prop := l.Nodup ∧ ∀ b ∈ l, 1 ≤ b ∧ b < 96 ∧ tU T b = true ∧ tH T b = 0
/-- rows, body, pointers and what is taken may change -/
def Se (p : Nat) (M M' : Mem) : Prop := M'.1 = M.1 ∧ M'.2.2.2.2 = M.2.2.2.2 ∧ (∀ f a, ¬ (f = 16 ∧ a = p + 201) → mF M' f a = mF M f a) ∧ (∀ f a, ¬ (f = 14 ∧ a = p + 201) → mR M' f a = mR M f a) ∧ ∀ a i, ¬ ((p + 2 ≤ a ∧ a ≤ p + 97) ∨ a = p + 196 ∨ a = p + 198 ∨ a = p + 200) → mA M' a i = mA M a i
theorem Se.refl (p : Nat) (M : Mem) : Se p M M := ⟨rfl, rfl, fun _ _ _ => rfl, fun _ _ _ => rfl, fun _ _ _ => rfl⟩
theorem Se.trans {M'' : Mem} (h : Se p M M') (h' : Se p M' M'') : Se p M M'' := ⟨h'.1.trans h.1, h'.2.1.trans h.2.1, fun f a hh => (h'.2.2.1 f a hh).trans (h.2.2.1 f a hh), fun f a hh => (h'.2.2.2.1 f a hh).trans (h.2.2.2.1 f a hh), fun a i hh => (h'.2.2.2.2 a i hh).trans (h.2.2.2.2 a i hh)⟩
theorem Se.f1 (h : Se p M M') : (∀ a, mK M' a = mK M a) ∧ (∀ a, kO M' a = kO M a) ∧ (∀ a, kX M' a = kX M a) ∧ (∀ a i, mQ M' a i = mQ M a i) ∧ (∀ a i, mL M' a i = mL M a i) ∧ mN M' = mN M ∧ mS M' = mS M := by
  obtain ⟨h1, h2, _⟩ := h
  refine ⟨fun a => ?_, fun a => ?_, fun a => ?_, fun a i => ?_, fun a i => ?_, ?_, ?_⟩
  · unfold mK; rw [h1]
  · unfold kO mK; rw [h1]
  · unfold kX mK; rw [h1]
  · unfold mQ; rw [h2]
  · unfold mL; rw [h2]
  · unfold mN; rw [h2]
  · unfold mS; rw [h2]
theorem Se.tw (F : Tw (p + 201) M M') : Se p M M' := by
  have f := F.f1
  obtain ⟨v, z, rfl⟩ := F
  exact ⟨rfl, rfl, fun f' a hh => f.2.2.2.2.2.2.2.2.1 f' a (by omega), fun f' a hh => f.2.2.2.2.2.2.2.2.2 f' a (by omega), fun _ _ _ => rfl⟩
theorem Se.rA (p : Nat) (M : Mem) {w : Nat} (hw : (p + 2 ≤ w ∧ w ≤ p + 97) ∨ w = p + 196 ∨ w = p + 198 ∨ w = p + 200) (g : Nat → Int32) : Se p M (rA M w g) := ⟨rfl, rfl, fun _ _ _ => rfl, fun _ _ _ => rfl, fun a i hh => by rw [mA_rA, if_neg (by intro e; rw [e] at hh; exact hh hw)]⟩
theorem Se.sA (p : Nat) (M : Mem) {w : Nat} (hw : (p + 2 ≤ w ∧ w ≤ p + 97) ∨ w = p + 196 ∨ w = p + 198 ∨ w = p + 200) (i : Nat) (v : Int32) : Se p M (sA M w i v) := ⟨rfl, rfl, fun _ _ _ => rfl, fun _ _ _ => rfl, fun a j hh => by rw [mA_sA, if_neg (by intro e; rw [e.1] at hh; exact hh hw)]⟩
theorem Se.cf (F : Se p M M') (A : Ad) : CF p A A 0 M M' := by
  have f := F.f1
  refine ⟨fun a _ => f.1 a, fun a _ hn => ⟨fun g => F.2.2.1 g a (fun h => hn (.inl ⟨by omega, by omega⟩)), fun g => F.2.2.2.1 g a (fun h => hn (.inl ⟨by omega, by omega⟩)), fun i => F.2.2.2.2 a i (fun h => hn (.inl (by omega))), fun i => f.2.2.2.1 a i, fun i => f.2.2.2.2.1 a i⟩, fun _ _ h => h, fun _ _ h => h, fun _ _ h => .inl h, fun _ _ h => .inl h, ?_, ?_, ?_⟩
  · rw [f.2.2.2.2.2.1]; exact Nat.le_refl _
  · rw [f.2.2.2.2.2.1]; exact Nat.le_refl _
  · rw [f.2.2.2.2.2.2]; exact Nat.le_refl _
/-- rows, body and pointers: CX stays -/
theorem CX.se (C : CX M p m J A T X) (F : Se p M M') (h : ∀ i, mA M' (p + 200) i = mA M (p + 200) i) : CX M' p m J A T X := by
  have f := F.f1
  refine C.sm (fun a _ => f.1 a) (by rw [f.2.2.2.2.2.1]; exact Nat.le_refl _) (fun a ha => by rw [f.1]; exact C.2.1.1.2.2.2.2 a (by rw [f.2.2.2.2.2.1] at ha; exact ha)) (fun a ha => ⟨fun g h1 _ => F.2.2.1 g a h1, fun g h1 => F.2.2.2.1 g a h1, fun i => f.2.2.2.1 a i, fun hn i => ?_⟩)
  by_cases e : a = p + 200
  · rw [e]; exact h i
  · exact F.2.2.2.2 a i (fun h => hn ⟨by omega, by omega, by omega⟩)
/-- what pointers say -/
def Pt (M : Mem) (p : Nat) (l : List Nat) : Prop := ∀ k v, l[k]? = some v → mA M (p + 198) k = I (v : Nat)
theorem fes_bl {l : List Nat} (h : BL T l) (n : Nat) : BL (fes (l.drop n).reverse T) (l.take n) := by
  obtain ⟨h1, h2⟩ := h
  have h3 := h1
  rw [← List.take_append_drop n l] at h3
  obtain ⟨a1, a2, a3⟩ := List.nodup_append.mp h3
  refine ⟨a1, fun b hb => ?_⟩
  obtain ⟨b1, b2, b3, b4⟩ := h2 b (List.mem_of_mem_take hb)
  obtain ⟨f1, _, _, _, _, _, _, f8⟩ := fes_at (l.drop n).reverse T
  refine ⟨b1, b2, ?_, by rw [f1]; exact b4⟩
  rw [f8, b3, Bool.true_and]
  have : b ∉ (l.drop n).reverse := by
    intro h
    rw [List.mem_reverse] at h
    exact a3 b hb b h rfl
  rw [decide_eq_false this]; rfl
theorem BL.add {l : List Nat} (h : BL T l) {k : Nat} (h1 : 1 ≤ k) (h2 : k < 96) (hu : tU T k = false) (hH : tH T k = 0) : BL (uU T k true) (l ++ [k]) := by
  obtain ⟨a1, a2⟩ := h
  have hk : k ∉ l := fun h => by have := (a2 k h).2.2.1; rw [hu] at this; cases this
  refine ⟨List.nodup_append.mpr ⟨a1, by simp, fun x hx y hy => by rw [List.mem_singleton] at hy; rw [hy]; intro e; rw [e] at hx; exact hk hx⟩, fun b hb => ?_⟩
  rcases List.mem_append.mp hb with hb | hb
  · obtain ⟨b1, b2, b3, b4⟩ := a2 b hb
    refine ⟨b1, b2, ?_, b4⟩
    show fu (tU T) k true b = true
    rw [fu_n _ _ (by intro e; rw [e] at hb; exact hk hb)]; exact b3
  · rw [List.mem_singleton] at hb
    rw [hb]
    exact ⟨h1, h2, by show fu (tU T) k true k = true; rw [fu_s], hH⟩
theorem bI_t1 : I (bI true) = I 1 := rfl
theorem Wf.free {sz : Nat → Nat} (W : Wf m sz T) {b : Nat} (h : tU T b = false) : tH T b = 0 ∧ b ≠ 0 := by
  refine ⟨?_, fun e => by rw [e, W.1.2.2.2.2.2.2.2.2.1.1] at h; cases h⟩
  cases hH : tH T b with
  | zero => rfl
  | succ k => have := (W.1.1 k b (W.1.2.2.1 k b hH)).2.2; rw [h] at this; cases this
/-- body, pointers and what is taken may change -/
def So (p : Nat) (M M' : Mem) : Prop := Se p M M' ∧ ∀ b j, b < 96 → mA M' (p + 2 + b) j = mA M (p + 2 + b) j
theorem So.trans {M'' : Mem} (h : So p M M') (h' : So p M' M'') : So p M M'' := ⟨h.1.trans h'.1, fun b j hb => (h'.2 b j hb).trans (h.2 b j hb)⟩
theorem So.sA (p : Nat) (M : Mem) {w : Nat} (hw : w = p + 196 ∨ w = p + 198 ∨ w = p + 200) (i : Nat) (v : Int32) : So p M (sA M w i v) := ⟨Se.sA p M (by omega) i v, fun b j hb => by rw [mA_sA, if_neg (by omega)]⟩
theorem So.rA (p : Nat) (M : Mem) {w : Nat} (hw : w = p + 196 ∨ w = p + 198 ∨ w = p + 200) (g : Nat → Int32) : So p M (rA M w g) := ⟨Se.rA p M (by omega) g, fun b j hb => by rw [mA_rA, if_neg (by omega)]⟩
theorem So.tw (F : Tw (p + 201) M M') : So p M M' := ⟨Se.tw F, fun _ _ _ => F.f1.1 _ _⟩
set_option maxHeartbeats 1000000 in
/-- blocks are taken -/
theorem rf_12 {o nb want : Nat} (hd : 1 ≤ d) (hw : want ≤ 16) {M0 : Mem} : ∀ (n' : Nat) (l : List Nat) (T1 : Tr) (M1 : Mem), l.length + n' = want → CX M1 p m J A T1 X → BL T1 l → Pt M1 p l → So p M0 M1 →
    (∀ M2, tkn m n' T1 = none → CX M2 p m J A T1 X → So p M0 M2 → True) → 
    (tkn m n' T1 = none → ∀ (M2 : Mem) (T2 : Tr), CX M2 p m J A T2 X → So p M0 M2 → Q (.threw (mN M2)) (nw M2 (.inl 14) 6)) →
    (∀ (l2 : List Nat) (T2 : Tr) (M2 : Mem), tkn m n' T1 = some (l2, T2) → CX M2 p m J A T2 X → BL T2 (l ++ l2) → Pt M2 p (l ++ l2) → So p M0 M2 → Wp d 67 37 [some (.ref p), some (.int (I (o : Nat))), some (.int (I (nb : Nat))), some (.int (I (want : Nat))), some (.int (I (want : Nat))), none, none] [] M2 Q) →
    Wp d 67 12 [some (.ref p), some (.int (I (o : Nat))), some (.int (I (nb : Nat))), some (.int (I (l.length : Nat))), some (.int (I (want : Nat))), none, none] [] M1 Q
  | 0, l, T1, M1, hl, C, B, P, F, _, hf, hk => by
    simp (disch := first | (simp only [dd, dr]; done) | omega) only [w_67_12, W_67, I_lt, I_le, I_inj, inB_I, tc_I, Int.toNat_natCast, fkt, rf1, rf0, cq, Nat.reduceAdd, Nat.reduceEqDiff, Int.reduceToNat, eq_self, true_and, and_true, true_or, or_true, bI_0, bI_1, mm, rAm, mF_sF, mR_sR, false_and, and_false, if_false, if_true, false_or, or_false, not_true_eq_false, not_false_eq_true, and_self]
    refine ⟨fun _ => ?_, (fun h => by first | exact False.elim h | exact absurd trivial h | (exfalso; omega) | exact absurd rfl h | cases h)⟩
    have := hk [] T1 M1 rfl C (by rw [List.append_nil]; exact B) (by rw [List.append_nil]; exact P) F
    rw [show l.length = want by omega]
    exact this
  | n' + 1, l, T1, M1, hl, C, B, P, F, ht, hf, hk => by
    have k0 := C.1.1.1
    have k5 := C.1.1.2.2.2.2.2.2.1
    have k6 := C.1.1.2.2.2.2.2.2.2.1
    have k198 := C.1.2.2.2.1.2.2.2
    have kr := C.2.1.2.1.1
    have hm := C.1.2.2.2.2.2.2.2.2.2.2.2.1
    simp (disch := first | (simp only [dd, dr]; done) | omega) only [w_67_12, W_67, k0, k5, k6, I_lt, I_le, I_inj, inB_I, tc_I, Int.toNat_natCast, fkt, rf1, rf0, cq, Nat.reduceAdd, Nat.reduceEqDiff, Int.reduceToNat, eq_self, true_and, and_true, true_or, or_true, bI_0, bI_1, mm, rAm, mF_sF, mR_sR, false_and, and_false, if_false, if_true, false_or, or_false, not_true_eq_false, not_false_eq_true, and_self]
    refine ⟨(fun h => by first | exact False.elim h | exact absurd trivial h | (exfalso; omega) | exact absurd rfl h | cases h), fun _ => ?_⟩
    simp (disch := first | (simp only [dd, dr]; done) | omega) only [W_67, k0, k5, k6, kr, I_lt, I_le, I_inj, inB_I, tc_I, Int.toNat_natCast, fkt, rf1, rf0, cq, Nat.reduceAdd, Nat.reduceEqDiff, Int.reduceToNat, eq_self, true_and, and_true, true_or, or_true, bI_0, bI_1, mm, rAm, mF_sF, mR_sR, false_and, and_false, if_false, if_true, false_or, or_false, not_true_eq_false, not_false_eq_true, and_self]
    refine ca_88 (by omega) (r_take C.2.1.2.1 (fun k k1 k2 k3 => ?_) (fun hall => ?_))
    · obtain ⟨hH, h0⟩ := C.2.2.1.1.free k2
      have hfr : fr (tU T1) m 0 = some k := fr_some k1 k2 k3
      have C2 := C.uu (b := k) (u := true) hH h0 (fun _ => k1)
      rw [bI_t1] at C2
      simp (disch := first | (simp only [dd, dr]; done) | omega) only [W_67, k198, I_lt, I_le, I_inj, inB_I, tc_I, Int.toNat_natCast, fkt, rf1, rf0, cq, Nat.reduceAdd, Nat.reduceEqDiff, Int.reduceToNat, eq_self, true_and, and_true, true_or, or_true, bI_0, bI_1, mm, rAm, mF_sF, mR_sR, false_and, and_false, if_false, if_true, false_or, or_false, not_true_eq_false, not_false_eq_true, and_self]
      have hP3 : Pt (sA (sA M1 (p + 200) k (I 1)) (p + 198) l.length (I (k : Nat))) p (l ++ [k]) := by
        intro i v hv
        rw [mA_sA]
        by_cases e : i = l.length
        · rw [if_pos ⟨rfl, e⟩]
          rw [e, List.getElem?_append_right (Nat.le_refl _), Nat.sub_self] at hv
          rw [Option.some.inj hv]
        · have hi : i < l.length := by have := (List.getElem?_eq_some_iff.mp hv).1; simp at this; omega
          rw [if_neg (fun h => e h.2), mA_sA, if_neg (by omega)]
          rw [List.getElem?_append_left hi] at hv
          exact P i v hv
      have C3 := C2.sc (Sc.sA p (sA M1 (p + 200) k (I 1)) (w := p + 198) ⟨by omega, by omega⟩ l.length (I (k : Nat)))
      have F3 : So p M0 (sA (sA M1 (p + 200) k (I 1)) (p + 198) l.length (I (k : Nat))) := (F.trans (So.sA p M1 (.inr (.inr rfl)) k (I 1))).trans (So.sA p _ (.inr (.inl rfl)) l.length (I (k : Nat)))
      have ih := rf_12 (o := o) (nb := nb) hd hw (M0 := M0) n' (l ++ [k]) (uU T1 k true) (sA (sA M1 (p + 200) k (I 1)) (p + 198) l.length (I (k : Nat))) (by simp; omega) C3 (B.add (by omega) (by omega) k2 hH) hP3 F3 (fun _ _ _ _ => trivial) (fun hn => hf (by rw [tkn, hfr]; simp only [hn]; rfl)) (fun l2 T2 M2 hn C' B' P' F' => hk (k :: l2) T2 M2 (by rw [tkn, hfr]; simp only [hn]; rfl) C' (by rw [List.append_assoc] at B'; exact B') (by rw [List.append_assoc] at P'; exact P') F')
      rw [show (l ++ [k]).length = l.length + 1 by simp] at ih
      exact ih
    · simp (disch := first | (simp only [dd, dr]; done) | omega) only [W_67, I_lt, I_le, I_inj, inB_I, tc_I, Int.toNat_natCast, fkt, rf1, rf0, cq, Nat.reduceAdd, Nat.reduceEqDiff, Int.reduceToNat, eq_self, true_and, and_true, true_or, or_true, bI_0, bI_1, mm, rAm, mF_sF, mR_sR, false_and, and_false, if_false, if_true, false_or, or_false, not_true_eq_false, not_false_eq_true, and_self]
      rw [Th_out (nw_kO M1 14 6) (by decide) (by decide +kernel)]
      refine hf ?_ M1 T1 C F
      rw [tkn, fr_none hall]
end Rf2
