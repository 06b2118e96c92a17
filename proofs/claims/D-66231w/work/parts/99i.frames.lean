/-! ===== FRAMES OF THE WHOLE COMPONENT ===== -/
section Fms
variable {d p m J t r : Nat} {M M' : Mem} {A : Ad} {T : Tr} {X : Ob} {py : Nat → List Nat} {e : Option Nat}
theorem LfIs.sm {q : Nat} {ks : List Nat} (h : LfIs M q ks py) (hK : ∀ a, q ≤ a → a ≤ q + 3 → mK M' a = mK M a) (hF : ∀ f, mF M' f q = mF M f q) (hR : ∀ f, mR M' f q = mR M f q) (hA : ∀ a i, q ≤ a → a ≤ q + 3 → mA M' a i = mA M a i) : LfIs M' q ks py := by
  obtain ⟨⟨a1, a2, a3, a4, a5, a6, a7⟩, b2, b3, b4, b5, b6, b7⟩ := h
  have kO' : ∀ a, q ≤ a → a ≤ q + 3 → kO M' a = kO M a := fun a h1 h2 => by unfold kO; rw [hK a h1 h2]
  have kX' : ∀ a, q ≤ a → a ≤ q + 3 → kX M' a = kX M a := fun a h1 h2 => by unfold kX; rw [hK a h1 h2]
  refine ⟨⟨by rw [kO' _ (by omega) (by omega)]; exact a1, by rw [hR]; exact a2, by rw [hR]; exact a3, by rw [hR]; exact a4, by rw [kX' _ (by omega) (by omega)]; exact a5, by rw [kX' _ (by omega) (by omega)]; exact a6, by rw [kX' _ (by omega) (by omega)]; exact a7⟩, by rw [hF]; exact b2, by rw [hF]; exact b3, b4, b5, fun i k hk => ?_, fun j v hv => ?_⟩
  · rw [hA _ _ (by omega) (by omega), hA _ _ (by omega) (by omega)]; exact b6 i k hk
  · rw [hA _ _ (by omega) (by omega)]; exact b7 j v hv
theorem RM.sm (R : RM M t r m A T py e) (hK : ∀ a, a < mN M → mK M' a = mK M a) (hE : ∀ a, mN M' ≤ a → mK M' a = none)
    (hs : ∀ a, (a = r ∨ Ow t r A a) → (∀ f, ¬ (f = 16 ∧ a = t) → mF M' f a = mF M f a) ∧ (∀ f, ¬ (f = 14 ∧ a = t) → mR M' f a = mR M f a) ∧ (∀ i, mQ M' a i = mQ M a i) ∧ (Ow t r A a → ∀ i, mA M' a i = mA M a i)) : RM M' t r m A T py e := by
  obtain ⟨⟨k1, k2, k3, k4, k5⟩, ⟨u1, u2, u3, u4, u5, u6⟩, r3, r4, r5, r6, r7⟩ := R
  have hk : ∀ a, (kO M a ≠ 0 ∨ kX M a ≠ (9, 0)) → mK M' a = mK M a := by
    intro a ha
    apply hK
    apply Classical.byContradiction
    intro hn
    have := k5 a (by omega)
    rcases ha with ha | ha
    · apply ha; unfold kO; rw [this]
    · apply ha; unfold kX; rw [this]
  have kO' : ∀ a k, kO M a = k → k ≠ 0 → kO M' a = k := by
    intro a k h h0
    have := hk a (.inl (by rw [h]; exact h0))
    unfold kO at h ⊢
    rw [this]; exact h
  have kX' : ∀ a k, kX M a = k → k ≠ (9, 0) → kX M' a = k := by
    intro a k h h0
    have := hk a (.inr (by rw [h]; exact h0))
    unfold kX at h ⊢
    rw [this]; exact h
  have ot : ∀ a, t ≤ a → a ≤ t + 3 → Ow t r A a := fun a h1 h2 => .inl ⟨h1, h2⟩
  have o1 : ∀ b q a, A.1 b = some q → q ≤ a → a ≤ q + 3 → Ow t r A a := fun b q a h h1 h2 => .inr (.inr (.inl ⟨b, q, h, h1, h2⟩))
  have o2 : ∀ b q a, A.2 b = some q → q ≤ a → a ≤ q + 1 → Ow t r A a := fun b q a h h1 h2 => .inr (.inr (.inr ⟨b, q, h, h1, h2⟩))
  obtain ⟨t1, t2, t3, t4, t5, t6, t7, t8⟩ := k1
  have st := hs t (.inr (ot t (by omega) (by omega)))
  have sr := hs r (.inl rfl)
  have sr1 := hs (r + 1) (.inr (.inr (.inl rfl)))
  have nt : ∀ q k, kO M q = k → k ≠ 3 → q ≠ t := by intro q k h h' e; rw [e, t1] at h; exact h' h.symm
  have lk : ∀ b q, A.1 b = some q → ∀ a, q ≤ a → a ≤ q + 3 → mK M' a = mK M a := by
    intro b q hq a h1 h2
    obtain ⟨c1, ⟨a1, a2, a3, a4, a5, a6, a7⟩, c3⟩ := k3 b q hq
    apply hk
    by_cases e0 : a = q
    · left; rw [e0, a1]; omega
    · right
      by_cases e1 : a = q + 1
      · rw [e1, a5]; intro h; cases h
      · by_cases e2 : a = q + 2
        · rw [e2, a6]; intro h; cases h
        · rw [show a = q + 3 by omega, a7]; intro h; cases h
  have lR : ∀ b q, A.1 b = some q → (∀ f, mR M' f q = mR M f q) ∧ (∀ f, mF M' f q = mF M f q) := by
    intro b q hq
    have hne := nt q 5 (k3 b q hq).2.1.1 (by omega)
    have s := hs q (.inr (o1 b q q hq (by omega) (by omega)))
    exact ⟨fun f => s.2.1 f (fun h => hne h.2), fun f => s.1 f (fun h => hne h.2)⟩
  have iR : ∀ b q, A.2 b = some q → (∀ f, mR M' f q = mR M f q) ∧ (∀ f, mF M' f q = mF M f q) := by
    intro b q hq
    have hne := nt q 6 (k4 b q hq).2.1.1 (by omega)
    have s := hs q (.inr (o2 b q q hq (by omega) (by omega)))
    exact ⟨fun f => s.2.1 f (fun h => hne h.2), fun f => s.1 f (fun h => hne h.2)⟩
  have nR : ∀ h b q, na A h b = some q → ∀ f, mR M' f q = mR M f q := by
    intro h b q hq
    unfold na at hq
    split at hq
    · exact (lR b q hq).1
    · exact (iR b q hq).1
  have iK : ∀ b q, A.2 b = some q → InK M' q := by
    intro b q hq
    obtain ⟨c1, ⟨a1, a2, a3⟩, c3⟩ := k4 b q hq
    exact ⟨kO' _ _ a1 (by omega), by rw [(iR b q hq).1]; exact a2, kX' _ _ a3 (by intro h; cases h)⟩
  refine ⟨⟨⟨kO' _ _ t1 (by omega), by rw [st.2.1 _ (by omega)]; exact t2, kX' _ _ t3 (by intro h; cases h), by rw [st.2.1 _ (by omega)]; exact t4, kX' _ _ t5 (by intro h; cases h), by rw [st.2.1 _ (by omega)]; exact t6, kX' _ _ t7 (by intro h; cases h), by rw [st.2.1 _ (by omega)]; exact t8⟩, fun b hb => ?_, fun b q hq => ?_, fun b q hq => ?_, hE⟩, ⟨kO' _ _ u1 (by omega), ?_, ?_, kX' _ _ u4 (by intro h; cases h), u5, fun b hb => ?_⟩, fun b hb => ?_, fun h b hb => ?_, fun h b q h1 h2 h3 => ?_, fun h b q h1 h2 => ?_, ?_⟩
  · rw [(hs (t + 1) (.inr (ot _ (by omega) (by omega)))).2.2.1, (hs (t + 2) (.inr (ot _ (by omega) (by omega)))).2.2.1]; exact k2 b hb
  · obtain ⟨c1, ⟨a1, a2, a3, a4, a5, a6, a7⟩, c3⟩ := k3 b q hq
    have hR := (lR b q hq).1
    exact ⟨c1, ⟨kO' _ _ a1 (by omega), by rw [hR]; exact a2, by rw [hR]; exact a3, by rw [hR]; exact a4, kX' _ _ a5 (by intro h; cases h), kX' _ _ a6 (by intro h; cases h), kX' _ _ a7 (by intro h; cases h)⟩, by rw [(lR b q hq).2]; exact c3⟩
  · exact ⟨(k4 b q hq).1, iK b q hq, by rw [(iR b q hq).2]; exact (k4 b q hq).2.2⟩
  · rw [sr.1 _ (by intro h; have := h.2; rw [this, t1] at u1; omega)]; exact u2
  · rw [sr.2.1 _ (by intro h; have := h.2; rw [this, t1] at u1; omega)]; exact u3
  · rw [sr1.2.2.2 (.inr (.inl rfl))]; exact u6 b hb
  · obtain ⟨q, a1, a2, a3⟩ := r3 b hb
    exact ⟨q, a1, a2.sm (lk b q a1) (lR b q a1).2 (lR b q a1).1 (fun a i h1 h2 => (hs a (.inr (o1 b q a a1 h1 h2))).2.2.2 (o1 b q a a1 h1 h2) i), a3⟩
  · obtain ⟨q, a1, ⟨a2, a4, a5⟩, a3⟩ := r4 h b hb
    refine ⟨q, a1, ⟨iK b q a1, by rw [(iR b q a1).2]; exact a4, ?_⟩, by rw [(iR b q a1).2]; exact a3⟩
    have sQ := (hs (q + 1) (.inr (o2 b q _ a1 (by omega) (by omega)))).2.2.1
    exact ⟨a5.1, fun i c hc => by rw [sQ]; exact a5.2.1 i c hc, fun c hc => (a5.2.2 c hc).elim (fun h => .inl (kO' _ _ h (by omega))) (fun h => .inr (kO' _ _ h (by omega)))⟩
  · rw [nR h b q h3]; exact r5 h b q h1 h2 h3
  · rw [nR h b q h2, nR h b q h2]; exact r6 h b q h1 h2
  · rw [st.2.1 _ (by omega)]; exact r7
/-- the component's cells and its nodes -/
def Cs (p J : Nat) (A : Ad) (a : Nat) : Prop := (p ≤ a ∧ a ≤ p + 402 + J) ∨ (∃ b q, A.1 b = some q ∧ q ≤ a ∧ a ≤ q + 3) ∨ (∃ b q, A.2 b = some q ∧ q ≤ a ∧ a ≤ q + 1)
theorem CX.sm (C : CX M p m J A T X) (hK : ∀ a, a < mN M → mK M' a = mK M a) (hN : mN M ≤ mN M') (hE : ∀ a, mN M' ≤ a → mK M' a = none)
    (hs : ∀ a, Cs p J A a → (∀ f, ¬ (f = 16 ∧ a = p + 201) → ¬ (dfl f = true ∧ a = p + 205) → mF M' f a = mF M f a) ∧ (∀ f, ¬ (f = 14 ∧ a = p + 201) → mR M' f a = mR M f a) ∧ (∀ i, mQ M' a i = mQ M a i) ∧ (¬ PKc p J a → ∀ i, mA M' a i = mA M a i)) : CX M' p m J A T X := by
  obtain ⟨h1, h2, h3, h4, h5⟩ := C
  refine ⟨?_, ?_, h3, h4, by omega⟩
  · have hc : ∀ a, PKc p J a → Cs p J A a := fun a ha => .inl ⟨ha.1, ha.2.1⟩
    exact h1.of (fun a ha => hK a (by have := ha.2.1; omega)) (fun a f ha => (hs a (hc a ha)).2.1 f (by have := ha.2.2; omega)) (fun a i ha => (hs a (hc a ha)).2.2.1 i) ((hs p (.inl ⟨by omega, by omega⟩)).1 7 (by omega) (by omega)) ((hs (p + 205) (.inl ⟨by omega, by omega⟩)).1 28 (by omega) (by intro h; exact absurd h.1 (by decide)))
  · refine h2.sm hK hE (fun a ha => ?_)
    have hc : Cs p J A a := by
      rcases ha with ha | ha | ha | ha | ha
      · exact .inl ⟨by omega, by omega⟩
      · exact .inl ⟨by omega, by omega⟩
      · exact .inl ⟨by omega, by omega⟩
      · exact .inr (.inl ha)
      · exact .inr (.inr ha)
    have s := hs a hc
    have h205 : a ≠ p + 205 := by
      rintro rfl
      rcases ha with ha | ha | ha | ⟨b, q, ha, a1, a2⟩ | ⟨b, q, ha, a1, a2⟩
      · omega
      · omega
      · omega
      · have := h4 b q (.inl ha); omega
      · have := h4 b q (.inr ha); omega
    exact ⟨fun f hf => s.1 f hf (fun h => h205 h.2), s.2.1, s.2.2.1, fun ho => s.2.2.2 (fun hP => notOwP h4 hP ho)⟩
/-- what may change in a call, but for the device -/
def CO (p : Nat) (A : Ad) (a : Nat) : Prop := (p ≤ a ∧ a ≤ p + 204) ∨ (∃ b q, A.1 b = some q ∧ q ≤ a ∧ a ≤ q + 3) ∨ (∃ b q, A.2 b = some q ∧ q ≤ a ∧ a ≤ q + 1)
def CF (p : Nat) (A A' : Ad) (x : Nat) (M M' : Mem) : Prop :=
  (∀ a, a < mN M → mK M' a = mK M a) ∧ (∀ a, a < mN M → ¬ CO p A a → Sm M M' a) ∧
  (∀ b q, A.1 b = some q → A'.1 b = some q) ∧ (∀ b q, A.2 b = some q → A'.2 b = some q) ∧
  (∀ b q, A'.1 b = some q → A.1 b = some q ∨ mN M ≤ q) ∧ (∀ b q, A'.2 b = some q → A.2 b = some q ∨ mN M ≤ q) ∧
  mN M ≤ mN M' ∧ mN M' + nC A ≤ mN M + nC A' + x ∧ mS M' + sC A ≤ mS M + sC A' + 6 * x
theorem CF.refl (p : Nat) (A : Ad) (M : Mem) : CF p A A 0 M M := ⟨fun _ _ => rfl, fun _ _ _ => ⟨fun _ => rfl, fun _ => rfl, fun _ => rfl, fun _ => rfl, fun _ => rfl⟩, fun _ _ h => h, fun _ _ h => h, fun _ _ h => .inl h, fun _ _ h => .inl h, Nat.le_refl _, Nat.le_refl _, Nat.le_refl _⟩
theorem CF.trans {p x x' : Nat} {A A' A'' : Ad} {M M' M'' : Mem} (h : CF p A A' x M M') (h' : CF p A' A'' x' M' M'') : CF p A A'' (x + x') M M'' := by
  obtain ⟨a1, a2, a3, a4, a5, a6, a7, a8, a9⟩ := h
  obtain ⟨b1, b2, b3, b4, b5, b6, b7, b8, b9⟩ := h'
  refine ⟨fun a ha => (b1 a (by omega)).trans (a1 a ha), fun a ha hn => (a2 a ha hn).trans (b2 a (by omega) (fun ho => hn ?_)), fun b q hq => b3 b q (a3 b q hq), fun b q hq => b4 b q (a4 b q hq), fun b q hq => ?_, fun b q hq => ?_, by omega, by omega, by omega⟩
  · rcases ho with h | ⟨b, q, h1, h2, h3⟩ | ⟨b, q, h1, h2, h3⟩
    · exact .inl h
    · rcases a5 b q h1 with h | h
      · exact .inr (.inl ⟨b, q, h, h2, h3⟩)
      · omega
    · rcases a6 b q h1 with h | h
      · exact .inr (.inr ⟨b, q, h, h2, h3⟩)
      · omega
  · rcases b5 b q hq with h | h
    · exact a5 b q h
    · exact .inr (by omega)
  · rcases b6 b q hq with h | h
    · exact a6 b q h
    · exact .inr (by omega)
theorem Fr.cf {p x : Nat} {A A' : Ad} {M M' : Mem} (F : Fr (p + 201) (p + 199) A A' x M M') : CF p A A' x M M' := by
  obtain ⟨a1, a2, a3⟩ := F
  refine ⟨a1, fun a ha hn => a2 a ha (fun ho => hn ?_), a3⟩
  rcases ho with h | h | h | h
  · exact .inl ⟨by omega, by omega⟩
  · exact .inl ⟨by omega, by omega⟩
  · exact .inr (.inl h)
  · exact .inr (.inr h)
/-- only scratch: what find() found, and the arrays changed, body, file, pointers -/
def Sc (p : Nat) (M M' : Mem) : Prop := M'.1 = M.1 ∧ M'.2.2.2.2 = M.2.2.2.2 ∧ (∀ f a, ¬ (f = 16 ∧ a = p + 201) → mF M' f a = mF M f a) ∧ (∀ f a, ¬ (f = 14 ∧ a = p + 201) → mR M' f a = mR M f a) ∧ ∀ a i, ¬ (p + 195 ≤ a ∧ a ≤ p + 198) → mA M' a i = mA M a i
theorem Sc.refl (p : Nat) (M : Mem) : Sc p M M := ⟨rfl, rfl, fun _ _ _ => rfl, fun _ _ _ => rfl, fun _ _ _ => rfl⟩
theorem Sc.trans {p : Nat} {M M' M'' : Mem} (h : Sc p M M') (h' : Sc p M' M'') : Sc p M M'' := ⟨h'.1.trans h.1, h'.2.1.trans h.2.1, fun f a hh => (h'.2.2.1 f a hh).trans (h.2.2.1 f a hh), fun f a hh => (h'.2.2.2.1 f a hh).trans (h.2.2.2.1 f a hh), fun a i hh => (h'.2.2.2.2 a i hh).trans (h.2.2.2.2 a i hh)⟩
theorem Sc.f1 {p : Nat} {M M' : Mem} (h : Sc p M M') : (∀ a, mK M' a = mK M a) ∧ (∀ a, kO M' a = kO M a) ∧ (∀ a, kX M' a = kX M a) ∧ (∀ a i, mQ M' a i = mQ M a i) ∧ (∀ a i, mL M' a i = mL M a i) ∧ mN M' = mN M ∧ mS M' = mS M := by
  obtain ⟨h1, h2, _⟩ := h
  refine ⟨fun a => ?_, fun a => ?_, fun a => ?_, fun a i => ?_, fun a i => ?_, ?_, ?_⟩
  · unfold mK; rw [h1]
  · unfold kO mK; rw [h1]
  · unfold kX mK; rw [h1]
  · unfold mQ; rw [h2]
  · unfold mL; rw [h2]
  · unfold mN; rw [h2]
  · unfold mS; rw [h2]
theorem Tw.sc {p : Nat} {M M' : Mem} (h : Tw (p + 201) M M') : Sc p M M' := by
  have f := h.f1
  obtain ⟨v, z, rfl⟩ := h
  exact ⟨rfl, rfl, fun f' a hh => f.2.2.2.2.2.2.2.2.1 f' a (by omega), fun f' a hh => f.2.2.2.2.2.2.2.2.2 f' a (by omega), fun _ _ _ => rfl⟩
theorem Sc.rA (p : Nat) (M : Mem) {w : Nat} (hw : p + 195 ≤ w ∧ w ≤ p + 198) (g : Nat → Int32) : Sc p M (rA M w g) := ⟨rfl, rfl, fun _ _ _ => rfl, fun _ _ _ => rfl, fun a i hh => by rw [mA_rA, if_neg (by intro e; rw [e] at hh; exact hh hw)]⟩
theorem Sc.sA (p : Nat) (M : Mem) {w : Nat} (hw : p + 195 ≤ w ∧ w ≤ p + 198) (i : Nat) (v : Int32) : Sc p M (sA M w i v) := ⟨rfl, rfl, fun _ _ _ => rfl, fun _ _ _ => rfl, fun a j hh => by rw [mA_sA, if_neg (by intro e; rw [e.1] at hh; exact hh hw)]⟩
theorem CX.sc (C : CX M p m J A T X) (F : Sc p M M') : CX M' p m J A T X := by
  have f := F.f1
  refine C.sm (fun a _ => f.1 a) (by rw [f.2.2.2.2.2.1]; exact Nat.le_refl _) (fun a ha => by rw [f.1]; exact C.2.1.1.2.2.2.2 a (by rw [f.2.2.2.2.2.1] at ha; exact ha)) (fun a ha => ⟨fun g h1 _ => F.2.2.1 g a h1, fun g h1 => F.2.2.2.1 g a h1, fun i => f.2.2.2.1 a i, fun hn i => F.2.2.2.2 a i (fun h => hn ⟨by omega, by omega, by omega⟩)⟩)
theorem Sc.cf {p : Nat} {M M' : Mem} (F : Sc p M M') (A : Ad) : CF p A A 0 M M' := by
  have f := F.f1
  refine ⟨fun a _ => f.1 a, fun a _ hn => ⟨fun g => F.2.2.1 g a (fun h => hn (.inl ⟨by omega, by omega⟩)), fun g => F.2.2.2.1 g a (fun h => hn (.inl ⟨by omega, by omega⟩)), fun i => F.2.2.2.2 a i (fun h => hn (.inl ⟨by omega, by omega⟩)), fun i => f.2.2.2.1 a i, fun i => f.2.2.2.2.1 a i⟩, fun _ _ h => h, fun _ _ h => h, fun _ _ h => .inl h, fun _ _ h => .inl h, ?_, ?_, ?_⟩
  · rw [f.2.2.2.2.2.1]; exact Nat.le_refl _
  · rw [f.2.2.2.2.2.1]; exact Nat.le_refl _
  · rw [f.2.2.2.2.2.2]; exact Nat.le_refl _
theorem DR.sc {dt : Nat → Nat → Nat} (D : DR M p T dt) (hu : ∀ b, tU T b = true → b < 96) (F : Sc p M M') : DR M' p T dt := by
  intro b h1 h2 h3
  have r := D b h1 h2 h3
  have hb := hu b h1
  exact ⟨by rw [F.f1.2.2.1]; exact r.1, fun i hi => by rw [F.2.2.2.2 _ _ (by omega)]; exact r.2 i hi⟩
end Fms
