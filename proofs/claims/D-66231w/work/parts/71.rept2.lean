/-! ===== THE COMPONENT'S TREE IN MEMORY: more steps ===== -/
section RMt
variable {M M' : Mem} {t r m : Nat} {A : Ad} {T : Tr} {py : Nat → List Nat} {e : Option Nat}
theorem inW_f {q : Nat} {v : Int32} {g : Nat → Option Nat} (hM : M' = inW M q v g) : (∀ a, kO M' a = kO M a) ∧ (∀ a, kX M' a = kX M a) ∧ (∀ f a, ¬ (f = 41 ∧ a = q) → mF M' f a = mF M f a) ∧ (∀ a i, mA M' a i = mA M a i) ∧ (∀ a i, a ≠ q + 1 → mQ M' a i = mQ M a i) ∧ (∀ a i, mL M' a i = mL M a i) ∧ mN M' = mN M ∧ mS M' = mS M ∧ (∀ f a, mR M' f a = mR M f a) ∧ ∀ a, mK M' a = mK M a := by
  subst hM
  exact ⟨fun _ => rfl, fun _ => rfl, fun f a h => in_F M q v g h, fun _ _ => rfl, fun a i h => in_Qn M q v g h i, fun _ _ => rfl, rfl, rfl, fun _ _ => rfl, fun _ => rfl⟩
theorem TK.chn {q : Nat} {v : Int32} {g : Nat → Option Nat} (hM : M' = inW M q v g) (Kq : InK M q) (h : TK M t r A) : TK M' t r A := by
  have l := inW_f hM
  obtain ⟨⟨h1, h2, h3, h4, h5, h6, h7, h8⟩, k2, k3, k4, k5⟩ := h
  have lR := l.2.2.2.2.2.2.2.2.1
  have lF := l.2.2.1
  refine ⟨⟨by rw [l.1]; exact h1, by rw [lR]; exact h2, by rw [l.2.1]; exact h3, by rw [lR]; exact h4, by rw [l.2.1]; exact h5, by rw [lR]; exact h6, by rw [l.2.1]; exact h7, by rw [lR]; exact h8⟩, fun b hb => ?_, fun b q' hq => ?_, fun b q' hq => ?_, fun a ha => by rw [l.2.2.2.2.2.2.2.2.2]; rw [l.2.2.2.2.2.2.1] at ha; exact k5 a ha⟩
  · rw [l.2.2.2.2.1 _ _ (by intro e; rw [e, Kq.2.2] at h3; cases h3), l.2.2.2.2.1 _ _ (by intro e; rw [e, Kq.2.2] at h5; cases h5)]; exact k2 b hb
  · obtain ⟨a1, ⟨c1, c2, c3, c4, c5, c6, c7⟩, a3⟩ := k3 b q' hq
    exact ⟨a1, ⟨by rw [l.1]; exact c1, by rw [lR]; exact c2, by rw [lR]; exact c3, by rw [lR]; exact c4, by rw [l.2.1]; exact c5, by rw [l.2.1]; exact c6, by rw [l.2.1]; exact c7⟩, by rw [lF _ _ (by omega)]; exact a3⟩
  · obtain ⟨a1, ⟨c1, c2, c3⟩, a3⟩ := k4 b q' hq
    exact ⟨a1, ⟨by rw [l.1]; exact c1, by rw [lR]; exact c2, by rw [l.2.1]; exact c3⟩, by rw [lF _ _ (by omega)]; exact a3⟩
/-- a node's children change -/
theorem RM.chn (R : RM M t r m A T py e) {h b q : Nat} {l : List Nat} {v : Int32} {g : Nat → Option Nat} (hq : A.2 b = some q) (hb : tH T b = h + 2) (hM : M' = inW M q v g) (hI : InIs M' q (l.map (nd A h))) : RM M' t r m A (uC T b l) py e := by
  have l' := inW_f hM
  obtain ⟨r1, r2, r3, r4, r5, r6, r7⟩ := R
  have Kq := (r1.2.2.2.1 b q hq).2.1
  have lR := l'.2.2.2.2.2.2.2.2.1
  have lF := l'.2.2.1
  simp only [RM, tc]
  refine ⟨r1.chn hM Kq, ?_, fun b' hb' => ?_, fun h' b' hb' => ?_, fun h' b' q' h1 h2 h3 => ?_, fun h' b' q' h1 h2 => ?_, ?_⟩
  · obtain ⟨h1, h2, h3, h4, h5, h6⟩ := r2
    exact ⟨by rw [l'.1]; exact h1, by rw [lF _ _ (by omega)]; exact h2, by rw [lR]; exact h3, by rw [l'.2.1]; exact h4, h5, fun b hb => by rw [l'.2.2.2.1]; exact h6 b hb⟩
  · obtain ⟨q', g1, ⟨⟨c1, c2, c3, c4, c5, c6, c7⟩, d2, d3, d4, d5, d6, d7⟩, g3⟩ := r3 b' hb'
    exact ⟨q', g1, ⟨⟨by rw [l'.1]; exact c1, by rw [lR]; exact c2, by rw [lR]; exact c3, by rw [lR]; exact c4, by rw [l'.2.1]; exact c5, by rw [l'.2.1]; exact c6, by rw [l'.2.1]; exact c7⟩, by rw [lF _ _ (by omega)]; exact d2, by rw [lF _ _ (by omega)]; exact d3, d4, d5, fun i k hk => by rw [l'.2.2.2.1, l'.2.2.2.1]; exact d6 i k hk, fun j v hv => by rw [l'.2.2.2.1]; exact d7 j v hv⟩, g3⟩
  · by_cases eb : b' = b
    · subst eb
      have : h' = h := by omega
      subst this
      rw [fu_s]
      obtain ⟨q', g1, g2, g3⟩ := r4 h' b' hb'
      rw [hq] at g1; cases g1
      exact ⟨q, hq, hI, by rw [lF _ _ (by omega)]; exact g3⟩
    · rw [fu_n _ _ eb]
      obtain ⟨q', g1, ⟨⟨c1, c2, c3⟩, d2, d3, d4, d5⟩, g3⟩ := r4 h' b' hb'
      have hne : q' ≠ q := by
        intro eq; subst eq
        exact eb (r1.inj (h := 1) (h' := 1) (b := b') (b' := b) (q := q') g1 hq).1
      exact ⟨q', g1, ⟨⟨by rw [l'.1]; exact c1, by rw [lR]; exact c2, by rw [l'.2.1]; exact c3⟩, by rw [lF _ _ (by omega)]; exact d2, d3, fun i c hc => by rw [l'.2.2.2.2.1 _ _ (by omega)]; exact d4 i c hc, fun c hc => by rw [l'.1]; exact d5 c hc⟩, by rw [lF _ _ (by omega)]; exact g3⟩
  · rw [lR]; exact r5 h' b' q' h1 h2 h3
  · rw [lR, lR]; exact r6 h' b' q' h1 h2
  · rw [lR]; exact r7
/-- a block's use changes -/
theorem RM.use (R : RM M t r m A T py e) {b : Nat} (v : Bool) : RM (sA M (r + 1) b (I (bI v))) t r m A (uU T b v) py e := by
  obtain ⟨r1, r2, r3, r4, r5, r6, r7⟩ := R
  have hX := r2.2.2.2.1
  simp only [RM, tu]
  refine ⟨r1, r2.set v, fun b' hb' => ?_, fun h' b' hb' => ?_, r5, r6, r7⟩
  · obtain ⟨q', g1, ⟨⟨c1, c2, c3, c4, c5, c6, c7⟩, d2, d3, d4, d5, d6, d7⟩, g3⟩ := r3 b' hb'
    have n1 : q' + 1 ≠ r + 1 := by intro e; rw [e, hX] at c5; cases c5
    have n2 : q' + 2 ≠ r + 1 := by intro e; rw [e, hX] at c6; cases c6
    have n3 : q' + 3 ≠ r + 1 := by intro e; rw [e, hX] at c7; cases c7
    exact ⟨q', g1, ⟨⟨c1, c2, c3, c4, c5, c6, c7⟩, d2, d3, d4, d5, fun i k hk => by rw [mA_sA, mA_sA, if_neg (fun h => n1 h.1), if_neg (fun h => n2 h.1)]; exact d6 i k hk, fun j v hv => by rw [mA_sA, if_neg (fun h => n3 h.1)]; exact d7 j v hv⟩, g3⟩
  · exact r4 h' b' hb'
/-- a block isn't a node any more -/
theorem RM.un (R : RM M t r m A T py e) (x : Nat) : RM M t r m A (uC (uI (uH T x 0) x []) x []) py e := by
  obtain ⟨r1, r2, r3, r4, r5, r6, r7⟩ := R
  simp only [RM, th, ti, tc]
  refine ⟨r1, r2, fun b hb => ?_, fun h b hb => ?_, fun h b q h1 h2 h3 => ?_, r6, r7⟩
  · by_cases eb : b = x
    · subst eb; rw [fu_s] at hb; omega
    · rw [fu_n _ _ eb] at hb ⊢; exact r3 b hb
  · by_cases eb : b = x
    · subst eb; rw [fu_s] at hb; omega
    · rw [fu_n _ _ eb] at hb ⊢; exact r4 h b hb
  · by_cases eb : b = x
    · subst eb; rw [fu_s] at h1; omega
    · rw [fu_n _ _ eb] at h1; exact r5 h b q h1 h2 h3
/-- a parent is told -/
theorem RM.par (R : RM M t r m A T py e) {h x q : Nat} {v : Option Nat} (hx : tH T x = h + 1) (hq : na A h x = some q) (hv : ∀ p, v = some p → (A.2 p).isSome = true) (e' : Option Nat) (he : ∀ b, e' ≠ some b → b ≠ x → e ≠ some b) : RM (sR M 33 q (v.bind A.2)) t r m A (uP T x v) py e' := by
  have K := R.1
  refine R.lk (Lk.sR M 33 q _) (fun f a hf => by rw [hf.1]; rfl) (by simp only [tp]) (by simp only [tp]) (by simp only [tp]) (by simp only [tp]) (fun h' b q' h1 h2 h3 => ?_) (fun h' b q' h1 h2 => ?_) ?_
  · simp only [tp]
    rw [mR_sR]
    by_cases eb : b = x
    · subst eb
      have : h' = h := by omega
      subst this
      rw [hq] at h3; cases h3
      rw [if_pos ⟨rfl, rfl⟩, fu_s]
      exact ⟨rfl, hv⟩
    · rw [if_neg (fun hh => eb (K.inj (h := h') (h' := h) h3 (by rw [hh.2]; exact hq)).1), fu_n _ _ eb]
      exact R.2.2.2.2.1 h' b q' h1 (he b h2 eb) h3
  · simp only [tp] at h1 ⊢
    rw [mR_sR, mR_sR, if_neg (by omega), if_neg (by omega)]
    exact R.2.2.2.2.2.1 h' b q' h1 h2
  · simp only [tp]
    rw [mR_sR, if_neg (by omega)]
    exact R.2.2.2.2.2.2
/-- the root is another one -/
theorem RM.rt (R : RM M t r m A T py e) {x n : Nat} : RM (sR M 18 t (na A (n - 1) x)) t r m A (uN (uR T x) n) py e := by
  refine R.lk (Lk.sR M 18 t _) (fun f a hf => by rw [hf.1]; rfl) (by simp only [tr, tn]) (by simp only [tr, tn]) (by simp only [tr, tn]) (by simp only [tr, tn]) (fun h' b q' h1 h2 h3 => ?_) (fun h' b q' h1 h2 => ?_) ?_
  · simp only [tr, tn]
    rw [mR_sR, if_neg (by omega)]
    exact R.2.2.2.2.1 h' b q' h1 h2 h3
  · simp only [tr, tn] at h1 ⊢
    rw [mR_sR, mR_sR, if_neg (by omega), if_neg (by omega)]
    exact R.2.2.2.2.2.1 h' b q' h1 h2
  · simp only [tr, tn]
    rw [mR_sR, if_pos ⟨rfl, rfl⟩]
end RMt
/-! ===== what stays ===== -/
def Sm (M M' : Mem) (a : Nat) : Prop := (∀ f, mF M' f a = mF M f a) ∧ (∀ f, mR M' f a = mR M f a) ∧ (∀ i, mA M' a i = mA M a i) ∧ (∀ i, mQ M' a i = mQ M a i) ∧ (∀ i, mL M' a i = mL M a i)
/-- cells that are the tree's -/
def Ow (t r : Nat) (A : Ad) (a : Nat) : Prop := (t ≤ a ∧ a ≤ t + 3) ∨ a = r + 1 ∨ (∃ b q, A.1 b = some q ∧ q ≤ a ∧ a ≤ q + 3) ∨ (∃ b q, A.2 b = some q ∧ q ≤ a ∧ a ≤ q + 1)
def cn (u : Nat → Bool) : Nat → Nat
  | 0 => 0
  | n + 1 => cn u n + (if u n = true then 1 else 0)
theorem cn_le (u : Nat → Bool) : ∀ n, cn u n ≤ n
  | 0 => Nat.le_refl _
  | n + 1 => by rw [cn]; have := cn_le u n; split <;> omega
theorem cn_fu {u : Nat → Bool} {b : Nat} (hb : u b = false) : ∀ n, cn (fu u b true) n = cn u n + (if b < n then 1 else 0)
  | 0 => by rw [cn, cn, if_neg (by omega)]
  | n + 1 => by
    rw [cn, cn, cn_fu hb n]
    by_cases e : n = b
    · subst e; simp [fu_s, hb]
    · rw [fu_n _ _ e]
      by_cases h : b < n
      · have h' : b < n + 1 := by omega
        simp only [h, h', if_true]; omega
      · have h' : ¬ b < n + 1 := by omega
        simp only [h, h', if_false]; omega
/-- how many cells and slots the nodes have -/
def nC (A : Ad) : Nat := 4 * cn (fun b => (A.1 b).isSome) 96 + 2 * cn (fun b => (A.2 b).isSome) 96
def sC (A : Ad) : Nat := 300 * cn (fun b => (A.1 b).isSome) 96 + 20 * cn (fun b => (A.2 b).isSome) 96
def Fr (t r : Nat) (A A' : Ad) (x : Nat) (M M' : Mem) : Prop :=
  (∀ a, a < mN M → mK M' a = mK M a) ∧ (∀ a, a < mN M → ¬ Ow t r A a → Sm M M' a) ∧
  (∀ b q, A.1 b = some q → A'.1 b = some q) ∧ (∀ b q, A.2 b = some q → A'.2 b = some q) ∧
  (∀ b q, A'.1 b = some q → A.1 b = some q ∨ mN M ≤ q) ∧ (∀ b q, A'.2 b = some q → A.2 b = some q ∨ mN M ≤ q) ∧
  mN M ≤ mN M' ∧ mN M' + nC A ≤ mN M + nC A' + x ∧ mS M' + sC A ≤ mS M + sC A' + 6 * x
theorem Fr.refl (t r : Nat) (A : Ad) (M : Mem) : Fr t r A A 0 M M := ⟨fun _ _ => rfl, fun _ _ _ => ⟨fun _ => rfl, fun _ => rfl, fun _ => rfl, fun _ => rfl, fun _ => rfl⟩, fun _ _ h => h, fun _ _ h => h, fun _ _ h => .inl h, fun _ _ h => .inl h, Nat.le_refl _, Nat.le_refl _, Nat.le_refl _⟩
theorem Sm.trans {M M' M'' : Mem} {a : Nat} (h : Sm M M' a) (h' : Sm M' M'' a) : Sm M M'' a := ⟨fun f => (h'.1 f).trans (h.1 f), fun f => (h'.2.1 f).trans (h.2.1 f), fun f => (h'.2.2.1 f).trans (h.2.2.1 f), fun f => (h'.2.2.2.1 f).trans (h.2.2.2.1 f), fun f => (h'.2.2.2.2 f).trans (h.2.2.2.2 f)⟩
theorem Fr.trans {t r x x' : Nat} {A A' A'' : Ad} {M M' M'' : Mem} (h : Fr t r A A' x M M') (h' : Fr t r A' A'' x' M' M'') : Fr t r A A'' (x + x') M M'' := by
  obtain ⟨a1, a2, a3, a4, a5, a6, a7, a8, a9⟩ := h
  obtain ⟨b1, b2, b3, b4, b5, b6, b7, b8, b9⟩ := h'
  refine ⟨fun a ha => (b1 a (by omega)).trans (a1 a ha), fun a ha hn => (a2 a ha hn).trans (b2 a (by omega) (fun ho => hn ?_)), fun b q hq => b3 b q (a3 b q hq), fun b q hq => b4 b q (a4 b q hq), fun b q hq => ?_, fun b q hq => ?_, by omega, by omega, by omega⟩
  · rcases ho with h | h | ⟨b, q, h1, h2, h3⟩ | ⟨b, q, h1, h2, h3⟩
    · exact .inl h
    · exact .inr (.inl h)
    · rcases a5 b q h1 with h | h
      · exact .inr (.inr (.inl ⟨b, q, h, h2, h3⟩))
      · omega
    · rcases a6 b q h1 with h | h
      · exact .inr (.inr (.inr ⟨b, q, h, h2, h3⟩))
      · omega
  · rcases b5 b q hq with h | h
    · exact a5 b q h
    · exact .inr (by omega)
  · rcases b6 b q hq with h | h
    · exact a6 b q h
    · exact .inr (by omega)
/-- one step that makes nothing -/
theorem Fr.step {t r : Nat} {A : Ad} {M M' : Mem} (hk : ∀ a, mK M' a = mK M a) (hn : mN M' = mN M) (hs : mS M' = mS M) (h : ∀ a, ¬ Ow t r A a → Sm M M' a) : Fr t r A A 0 M M' :=
  ⟨fun a _ => hk a, fun a _ => h a, fun _ _ h => h, fun _ _ h => h, fun _ _ h => .inl h, fun _ _ h => .inl h, by omega, by omega, by omega⟩
theorem Fr.lk {t r : Nat} {A : Ad} {M M' : Mem} {P : Nat → Nat → Prop} (L : Lk P M M') (hP : ∀ f a, P f a → Ow t r A a) : Fr t r A A 0 M M' := by
  have l := L.f1
  exact Fr.step l.2.2.2.2.2.2.2.2 l.2.2.2.2.2.2.1 l.2.2.2.2.2.2.2.1 (fun a ha => ⟨fun f => l.2.2.1 f a, fun f => L.2.2.2 f a (fun hp => ha (hP f a hp)), fun i => l.2.2.2.1 a i, fun i => l.2.2.2.2.1 a i, fun i => l.2.2.2.2.2.1 a i⟩)
theorem Fr.lf {t r : Nat} {A : Ad} {M M' : Mem} {b q : Nat} (hq : A.1 b = some q) (F : LfFr q M M') : Fr t r A A 0 M M' := by
  have l := F.f1
  have hne : ∀ a, ¬ Ow t r A a → a ≠ q ∧ a ≠ q + 1 ∧ a ≠ q + 2 ∧ a ≠ q + 3 := by
    intro a ha
    refine ⟨?_, ?_, ?_, ?_⟩ <;> intro e <;> exact ha (.inr (.inr (.inl ⟨b, q, hq, by omega, by omega⟩)))
  exact Fr.step l.2.2.2.2.2.2.2.2.2 l.2.2.2.2.2.2.1 l.2.2.2.2.2.2.2.1 (fun a ha => ⟨fun f => l.2.2.1 f a (fun h => (hne a ha).1 h.1), fun f => l.2.2.2.2.2.2.2.2.1 f a, fun i => l.2.2.2.1 a i (hne a ha).2.1 (hne a ha).2.2.1 (hne a ha).2.2.2, fun i => l.2.2.2.2.1 a i, fun i => l.2.2.2.2.2.1 a i⟩)
theorem Fr.iw {t r : Nat} {A : Ad} {M M' : Mem} {b q : Nat} {v : Int32} {g : Nat → Option Nat} (hq : A.2 b = some q) (hM : M' = inW M q v g) : Fr t r A A 0 M M' := by
  have l := inW_f hM
  have hne : ∀ a, ¬ Ow t r A a → a ≠ q ∧ a ≠ q + 1 := by
    intro a ha
    refine ⟨?_, ?_⟩ <;> intro e <;> exact ha (.inr (.inr (.inr ⟨b, q, hq, by omega, by omega⟩)))
  exact Fr.step l.2.2.2.2.2.2.2.2.2 l.2.2.2.2.2.2.1 l.2.2.2.2.2.2.2.1 (fun a ha => ⟨fun f => l.2.2.1 f a (fun h => (hne a ha).1 h.2), fun f => l.2.2.2.2.2.2.2.2.1 f a, fun i => l.2.2.2.1 a i, fun i => l.2.2.2.2.1 a i (hne a ha).2, fun i => l.2.2.2.2.2.1 a i⟩)
theorem Fr.use (t r : Nat) (A : Ad) (M : Mem) (b : Nat) (v : Int32) : Fr t r A A 0 M (sA M (r + 1) b v) :=
  Fr.step (fun _ => rfl) rfl rfl (fun a ha => ⟨fun _ => rfl, fun _ => rfl, fun i => by rw [mA_sA, if_neg (fun h => ha (.inr (.inl h.1)))], fun _ => rfl, fun _ => rfl⟩)
theorem Ow.node {t r : Nat} {A : Ad} {h b q : Nat} (hq : na A h b = some q) : Ow t r A q := by
  unfold na at hq
  by_cases e : h = 0
  · rw [if_pos e] at hq; exact .inr (.inr (.inl ⟨b, q, hq, by omega, by omega⟩))
  · rw [if_neg e] at hq; exact .inr (.inr (.inr ⟨b, q, hq, by omega, by omega⟩))
