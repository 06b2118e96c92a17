/-! ===== THE COMPONENT'S TREE IN MEMORY ===== -/
/-- addresses of leaves and of inner nodes, by blocks -/
abbrev Ad : Type := (Nat → Option Nat) × (Nat → Option Nat)
def na (A : Ad) (h b : Nat) : Option Nat := if h = 0 then A.1 b else A.2 b
def nd (A : Ad) (h b : Nat) : Nat := (na A h b).getD 0
theorem nd_of {A : Ad} {h b q : Nat} (e : na A h b = some q) : nd A h b = q := by unfold nd; rw [e]; rfl
theorem kO_X {M : Mem} {a k : Nat} (h : kO M a = k) (hk : k ≠ 0) : kX M a = (9, 0) := by
  unfold kO at h
  unfold kX
  cases hm : mK M a with
  | none => rfl
  | some κ =>
    cases κ with
    | inl k => rfl
    | inr p => rw [hm] at h; exact absurd h.symm hk
/-- the tree at t with its room at r: what is so for good -/
def TK (M : Mem) (t r : Nat) (A : Ad) : Prop :=
  (kO M t = 3 ∧ mR M 15 t = some (t + 1) ∧ kX M (t + 1) = (5, 96) ∧ mR M 12 t = some (t + 2) ∧ kX M (t + 2) = (6, 96) ∧ mR M 13 t = some (t + 3) ∧ kX M (t + 3) = (7, 8) ∧ mR M 17 t = some r) ∧
  (∀ b, b < 96 → mQ M (t + 1) b = A.1 b ∧ mQ M (t + 2) b = A.2 b) ∧
  (∀ b q, A.1 b = some q → b < 96 ∧ LfK M q ∧ mF M 32 q = I (b : Nat)) ∧ (∀ b q, A.2 b = some q → b < 96 ∧ InK M q ∧ mF M 32 q = I (b : Nat)) ∧ ∀ a, mN M ≤ a → mK M a = none
/-- a reference to a parent that there is -/
def PB (v : Option Nat) (A : Ad) (p : Option Nat) : Prop := v = p.bind A.2 ∧ ∀ x, p = some x → (A.2 x).isSome = true
/-- what the tree says, in memory; e: a node whose parent isn't told yet -/
def RM (M : Mem) (t r m : Nat) (A : Ad) (T : Tr) (py : Nat → List Nat) (e : Option Nat) : Prop :=
  TK M t r A ∧ RmIs M r (r + 1) m (tU T) ∧
  (∀ b, tH T b = 1 → ∃ q, A.1 b = some q ∧ LfIs M q (tI T b) py ∧ ∀ k ∈ tI T b, k < 1000000) ∧
  (∀ h b, tH T b = h + 2 → ∃ q, A.2 b = some q ∧ InIs M q ((tC T b).map (nd A h)) ∧ mF M 40 q = I ((h + 1 : Nat) : Int)) ∧
  (∀ h b q, tH T b = h + 1 → e ≠ some b → na A h b = some q → PB (mR M 33 q) A (tP T b)) ∧
  (∀ h b q, b ∈ tW T h → na A h b = some q → mR M 30 q = (pv (tW T h) b).bind (na A h) ∧ mR M 31 q = (nx (tW T h) b).bind (na A h)) ∧
  mR M 18 t = na A (tN T - 1) (tR T)
/-- what the tree says of itself -/
def SW (T : Tr) : Prop :=
  (∀ h b, b ∈ tW T h → tH T b = h + 1 ∧ b < 96) ∧ (∀ h, (tW T h).Nodup) ∧ (∀ h b c, tH T b = h + 2 → c ∈ tC T b → tH T c = h + 1 ∧ tP T c = some b) ∧ (∀ h b, tH T b = h + 2 → (tC T b).Nodup) ∧ tH T (tR T) = tN T ∧ tP T (tR T) = none ∧ 1 ≤ tN T
section RMs
variable {M M' : Mem} {t r m : Nat} {A : Ad} {T : Tr} {py : Nat → List Nat} {e : Option Nat}
theorem TK.inj (K : TK M t r A) {h h' b b' q : Nat} (e1 : na A h b = some q) (e2 : na A h' b' = some q) : b = b' ∧ (h = 0 ↔ h' = 0) := by
  obtain ⟨_, _, k3, k4, _⟩ := K
  unfold na at e1 e2
  by_cases h0 : h = 0 <;> by_cases h1 : h' = 0
  · rw [if_pos h0] at e1; rw [if_pos h1] at e2
    obtain ⟨a1, _, a2⟩ := k3 b q e1
    obtain ⟨b1, _, b2⟩ := k3 b' q e2
    rw [a2, I_inj (by omega) (by omega) (by omega) (by omega)] at b2
    exact ⟨by omega, by omega⟩
  · rw [if_pos h0] at e1; rw [if_neg h1] at e2
    obtain ⟨a1, a2, _⟩ := k3 b q e1
    obtain ⟨b1, b2, _⟩ := k4 b' q e2
    have := a2.1; rw [b2.1] at this; cases this
  · rw [if_neg h0] at e1; rw [if_pos h1] at e2
    obtain ⟨a1, a2, _⟩ := k4 b q e1
    obtain ⟨b1, b2, _⟩ := k3 b' q e2
    have := a2.1; rw [b2.1] at this; cases this
  · rw [if_neg h0] at e1; rw [if_neg h1] at e2
    obtain ⟨a1, _, a2⟩ := k4 b q e1
    obtain ⟨b1, _, b2⟩ := k4 b' q e2
    rw [a2, I_inj (by omega) (by omega) (by omega) (by omega)] at b2
    exact ⟨by omega, by omega⟩
theorem TK.kind (K : TK M t r A) {h b q : Nat} (e1 : na A h b = some q) : b < 96 ∧ (kO M q = 5 ∨ kO M q = 6) ∧ mF M 32 q = I (b : Nat) ∧ (h = 0 → kO M q = 5) ∧ (h ≠ 0 → kO M q = 6) := by
  obtain ⟨_, _, k3, k4, _⟩ := K
  unfold na at e1
  by_cases h0 : h = 0
  · rw [if_pos h0] at e1
    obtain ⟨a1, a2, a3⟩ := k3 b q e1
    exact ⟨a1, .inl a2.1, a3, fun _ => a2.1, fun h => absurd h0 h⟩
  · rw [if_neg h0] at e1
    obtain ⟨a1, a2, a3⟩ := k4 b q e1
    exact ⟨a1, .inr a2.1, a3, fun h => absurd h h0, fun _ => a2.1⟩
theorem LfK.far {q q' : Nat} (h : LfK M q) (h' : LfK M q') (hn : q ≠ q') : q + 4 ≤ q' ∨ q' + 4 ≤ q := by
  obtain ⟨a0, _, _, _, a1, a2, a3⟩ := h
  obtain ⟨b0, _, _, _, b1, b2, b3⟩ := h'
  have x1 := kO_X a0 (by omega)
  have x2 := kO_X b0 (by omega)
  have n1 : q' ≠ q + 1 := by intro e; rw [e, a1] at x2; cases x2
  have n2 : q' ≠ q + 2 := by intro e; rw [e, a2] at x2; cases x2
  have n3 : q' ≠ q + 3 := by intro e; rw [e, a3] at x2; cases x2
  have n4 : q ≠ q' + 1 := by intro e; rw [e, b1] at x1; cases x1
  have n5 : q ≠ q' + 2 := by intro e; rw [e, b2] at x1; cases x1
  have n6 : q ≠ q' + 3 := by intro e; rw [e, b3] at x1; cases x1
  omega
/-- a node of the tree is there -/
theorem RM.node (R : RM M t r m A T py e) {h b : Nat} (hb : tH T b = h + 1) : ∃ q, na A h b = some q := by
  obtain ⟨_, _, r3, r4, _⟩ := R
  cases h with
  | zero => obtain ⟨q, h1, _⟩ := r3 b hb; exact ⟨q, by unfold na; rw [if_pos rfl]; exact h1⟩
  | succ h => obtain ⟨q, h1, _⟩ := r4 h b hb; exact ⟨q, by unfold na; rw [if_neg (by omega)]; exact h1⟩
/-- references of some fields change: what is so for good stays -/
def nice (f : Nat) : Bool := f == 14 || f == 18 || f == 30 || f == 31 || f == 33
theorem nice_ne {f g : Nat} (h : nice f = true) (hg : nice g = false) : g ≠ f := by intro e; rw [e, h] at hg; cases hg
/-- only references in these fields change -/
def Lk (P : Nat → Nat → Prop) (M M' : Mem) : Prop := M'.1 = M.1 ∧ M'.2.1 = M.2.1 ∧ M'.2.2.2 = M.2.2.2 ∧ ∀ f a, ¬ P f a → mR M' f a = mR M f a
theorem Lk.sR (M : Mem) (f a : Nat) (v : Option Nat) : Lk (fun f' a' => f' = f ∧ a' = a) M (sR M f a v) := ⟨rfl, rfl, rfl, fun f' a' h => by rw [mR_sR, if_neg h]⟩
theorem Lk.trans {P : Nat → Nat → Prop} {M'' : Mem} (h : Lk P M M') (h' : Lk P M' M'') : Lk P M M'' := ⟨h'.1.trans h.1, h'.2.1.trans h.2.1, h'.2.2.1.trans h.2.2.1, fun f a hn => (h'.2.2.2 f a hn).trans (h.2.2.2 f a hn)⟩
theorem Lk.mono {P P' : Nat → Nat → Prop} (h : Lk P M M') (hp : ∀ f a, P f a → P' f a) : Lk P' M M' := ⟨h.1, h.2.1, h.2.2.1, fun f a hn => h.2.2.2 f a (fun hh => hn (hp f a hh))⟩
theorem Lk.f1 {P : Nat → Nat → Prop} (L : Lk P M M') : (∀ a, kO M' a = kO M a) ∧ (∀ a, kX M' a = kX M a) ∧ (∀ f a, mF M' f a = mF M f a) ∧ (∀ a i, mA M' a i = mA M a i) ∧ (∀ a i, mQ M' a i = mQ M a i) ∧ (∀ a i, mL M' a i = mL M a i) ∧ mN M' = mN M ∧ mS M' = mS M ∧ ∀ a, mK M' a = mK M a := by
  obtain ⟨l1, l2, l3, _⟩ := L
  have hk : ∀ a, mK M' a = mK M a := fun a => by unfold mK; rw [l1]
  refine ⟨fun a => by unfold kO; rw [hk], fun a => by unfold kX; rw [hk], fun f a => by unfold mF; rw [l2], fun a i => by unfold mA; rw [l3], fun a i => by unfold mQ; rw [l3], fun a i => by unfold mL; rw [l3], by unfold mN; rw [l3], by unfold mS; rw [l3], hk⟩
theorem LfK.lk {P : Nat → Nat → Prop} (L : Lk P M M') (hP : ∀ f a, P f a → nice f = true) {q : Nat} (h : LfK M q) : LfK M' q := by
  obtain ⟨k0, k1, k2, k3, k4, k5, k6⟩ := h
  have l := L.f1
  have n : ∀ f a, nice f = false → mR M' f a = mR M f a := fun f a hf => L.2.2.2 f a (fun hp => by rw [hP f a hp] at hf; cases hf)
  exact ⟨by rw [l.1]; exact k0, by rw [n _ _ rfl]; exact k1, by rw [n _ _ rfl]; exact k2, by rw [n _ _ rfl]; exact k3, by rw [l.2.1]; exact k4, by rw [l.2.1]; exact k5, by rw [l.2.1]; exact k6⟩
theorem InK.lk {P : Nat → Nat → Prop} (L : Lk P M M') (hP : ∀ f a, P f a → nice f = true) {q : Nat} (h : InK M q) : InK M' q := by
  obtain ⟨k0, k1, k2⟩ := h
  have l := L.f1
  have n : ∀ f a, nice f = false → mR M' f a = mR M f a := fun f a hf => L.2.2.2 f a (fun hp => by rw [hP f a hp] at hf; cases hf)
  exact ⟨by rw [l.1]; exact k0, by rw [n _ _ rfl]; exact k1, by rw [l.2.1]; exact k2⟩
theorem LfIs.lk {P : Nat → Nat → Prop} (L : Lk P M M') (hP : ∀ f a, P f a → nice f = true) {q : Nat} {ks : List Nat} (h : LfIs M q ks py) : LfIs M' q ks py := by
  obtain ⟨h1, h2, h3, h4, h5, h6, h7⟩ := h
  have l := L.f1
  exact ⟨h1.lk L hP, by rw [l.2.2.1]; exact h2, by rw [l.2.2.1]; exact h3, h4, h5, fun i k hk => by rw [l.2.2.2.1, l.2.2.2.1]; exact h6 i k hk, fun j v hv => by rw [l.2.2.2.1]; exact h7 j v hv⟩
theorem InIs.lk {P : Nat → Nat → Prop} (L : Lk P M M') (hP : ∀ f a, P f a → nice f = true) {q : Nat} {cs : List Nat} (h : InIs M q cs) : InIs M' q cs := by
  obtain ⟨h1, h2, h3, h4, h5⟩ := h
  have l := L.f1
  exact ⟨h1.lk L hP, by rw [l.2.2.1]; exact h2, h3, fun i c hc => by rw [l.2.2.2.2.1]; exact h4 i c hc, fun c hc => by rw [l.1]; exact h5 c hc⟩
theorem RmIs.lk {P : Nat → Nat → Prop} (L : Lk P M M') (hP : ∀ f a, P f a → nice f = true) {r ta n : Nat} {u : Nat → Bool} (h : RmIs M r ta n u) : RmIs M' r ta n u := by
  obtain ⟨h1, h2, h3, h4, h5, h6⟩ := h
  have l := L.f1
  have n : ∀ f a, nice f = false → mR M' f a = mR M f a := fun f a hf => L.2.2.2 f a (fun hp => by rw [hP f a hp] at hf; cases hf)
  exact ⟨by rw [l.1]; exact h1, by rw [l.2.2.1]; exact h2, by rw [n _ _ rfl]; exact h3, by rw [l.2.1]; exact h4, h5, fun b hb => by rw [l.2.2.2.1]; exact h6 b hb⟩
theorem TK.lk {P : Nat → Nat → Prop} (L : Lk P M M') (hP : ∀ f a, P f a → nice f = true) (h : TK M t r A) : TK M' t r A := by
  obtain ⟨⟨h1, h2, h3, h4, h5, h6, h7, h8⟩, k2, k3, k4, k5⟩ := h
  have l := L.f1
  have n : ∀ f a, nice f = false → mR M' f a = mR M f a := fun f a hf => L.2.2.2 f a (fun hp => by rw [hP f a hp] at hf; cases hf)
  refine ⟨⟨by rw [l.1]; exact h1, by rw [n _ _ rfl]; exact h2, by rw [l.2.1]; exact h3, by rw [n _ _ rfl]; exact h4, by rw [l.2.1]; exact h5, by rw [n _ _ rfl]; exact h6, by rw [l.2.1]; exact h7, by rw [n _ _ rfl]; exact h8⟩, fun b hb => by rw [l.2.2.2.2.1, l.2.2.2.2.1]; exact k2 b hb, fun b q hq => ?_, fun b q hq => ?_, fun a ha => by rw [l.2.2.2.2.2.2.2.2]; rw [l.2.2.2.2.2.2.1] at ha; exact k5 a ha⟩
  · obtain ⟨a1, a2, a3⟩ := k3 b q hq
    exact ⟨a1, a2.lk L hP, by rw [l.2.2.1]; exact a3⟩
  · obtain ⟨a1, a2, a3⟩ := k4 b q hq
    exact ⟨a1, a2.lk L hP, by rw [l.2.2.1]; exact a3⟩
/-- parents, neighbours, the root change -/
theorem RM.lk {P : Nat → Nat → Prop} {T' : Tr} {e' : Option Nat} (R : RM M t r m A T py e) (L : Lk P M M') (hP : ∀ f a, P f a → nice f = true) (eU : tU T' = tU T) (eH : tH T' = tH T) (eI : tI T' = tI T) (eC : tC T' = tC T)
    (h33 : ∀ h b q, tH T b = h + 1 → e' ≠ some b → na A h b = some q → PB (mR M' 33 q) A (tP T' b))
    (hn : ∀ h b q, b ∈ tW T' h → na A h b = some q → mR M' 30 q = (pv (tW T' h) b).bind (na A h) ∧ mR M' 31 q = (nx (tW T' h) b).bind (na A h))
    (hr : mR M' 18 t = na A (tN T' - 1) (tR T')) : RM M' t r m A T' py e' := by
  obtain ⟨r1, r2, r3, r4, r5, r6, r7⟩ := R
  have l := L.f1
  refine ⟨r1.lk L hP, by rw [eU]; exact r2.lk L hP, fun b hb => ?_, fun h b hb => ?_, by rw [eH]; exact h33, hn, hr⟩
  · rw [eH] at hb; rw [eI]
    obtain ⟨q, g1, g2, g3⟩ := r3 b hb
    exact ⟨q, g1, g2.lk L hP, g3⟩
  · rw [eH] at hb; rw [eC]
    obtain ⟨q, g1, g2, g3⟩ := r4 h b hb
    exact ⟨q, g1, g2.lk L hP, by rw [l.2.2.1]; exact g3⟩
/-- a leaf's contents change -/
theorem LfK.fr {q q' : Nat} (F : LfFr q M M') (h : LfK M q') : LfK M' q' := by
  obtain ⟨m', b', g1, g2, g3, rfl⟩ := F
  simp only [LfK, lfm]; exact h
theorem InK.fr {q q' : Nat} (F : LfFr q M M') (h : InK M q') : InK M' q' := by
  obtain ⟨m', b', g1, g2, g3, rfl⟩ := F
  simp only [InK, lfm]; exact h
theorem LfFr.f1 {q : Nat} (F : LfFr q M M') : (∀ a, kO M' a = kO M a) ∧ (∀ a, kX M' a = kX M a) ∧ (∀ f a, ¬ (a = q ∧ (f = 37 ∨ f = 34)) → mF M' f a = mF M f a) ∧ (∀ a i, a ≠ q + 1 → a ≠ q + 2 → a ≠ q + 3 → mA M' a i = mA M a i) ∧ (∀ a i, mQ M' a i = mQ M a i) ∧ (∀ a i, mL M' a i = mL M a i) ∧ mN M' = mN M ∧ mS M' = mS M ∧ (∀ f a, mR M' f a = mR M f a) ∧ ∀ a, mK M' a = mK M a := by
  obtain ⟨m', b', g1, g2, g3, rfl⟩ := F
  refine ⟨fun _ => rfl, fun _ => rfl, fun f a h => ?_, fun a i h1 h2 h3 => ?_, fun _ _ => rfl, fun _ _ => rfl, rfl, rfl, fun _ _ => rfl, fun _ => rfl⟩
  · show (if a = q then (if f = 37 then m' else if f = 34 then b' else M.2.1 f a) else M.2.1 f a) = M.2.1 f a
    by_cases e : a = q
    · rw [if_pos e, if_neg (fun h' => h ⟨e, .inl h'⟩), if_neg (fun h' => h ⟨e, .inr h'⟩)]
    · rw [if_neg e]
  · show (if a = q + 1 then g1 i else if a = q + 2 then g2 i else if a = q + 3 then g3 i else M.2.2.2.1 a i) = M.2.2.2.1 a i
    rw [if_neg h1, if_neg h2, if_neg h3]
theorem TK.fr {q : Nat} (F : LfFr q M M') (h : TK M t r A) : TK M' t r A := by
  have l := F.f1
  obtain ⟨⟨h1, h2, h3, h4, h5, h6, h7, h8⟩, k2, k3, k4, k5⟩ := h
  refine ⟨⟨by rw [l.1]; exact h1, by rw [l.2.2.2.2.2.2.2.2.1]; exact h2, by rw [l.2.1]; exact h3, by rw [l.2.2.2.2.2.2.2.2.1]; exact h4, by rw [l.2.1]; exact h5, by rw [l.2.2.2.2.2.2.2.2.1]; exact h6, by rw [l.2.1]; exact h7, by rw [l.2.2.2.2.2.2.2.2.1]; exact h8⟩, fun b hb => by rw [l.2.2.2.2.1, l.2.2.2.2.1]; exact k2 b hb, fun b q hq => ?_, fun b q hq => ?_, fun a ha => by rw [l.2.2.2.2.2.2.2.2.2]; rw [l.2.2.2.2.2.2.1] at ha; exact k5 a ha⟩
  · obtain ⟨a1, a2, a3⟩ := k3 b q hq
    exact ⟨a1, a2.fr F, by rw [l.2.2.1 _ _ (by omega)]; exact a3⟩
  · obtain ⟨a1, a2, a3⟩ := k4 b q hq
    exact ⟨a1, a2.fr F, by rw [l.2.2.1 _ _ (by omega)]; exact a3⟩
theorem RmIs.fr {q r n : Nat} {u : Nat → Bool} (F : LfFr q M M') (K : LfK M q) (h : RmIs M r (r + 1) n u) : RmIs M' r (r + 1) n u := by
  have l := F.f1
  obtain ⟨h1, h2, h3, h4, h5, h6⟩ := h
  obtain ⟨k0, k1, k2, k3, k4, k5, k6⟩ := K
  refine ⟨by rw [l.1]; exact h1, ?_, by rw [l.2.2.2.2.2.2.2.2.1]; exact h3, by rw [l.2.1]; exact h4, h5, fun b hb => ?_⟩
  · rw [l.2.2.1 _ _ (by omega)]; exact h2
  · rw [l.2.2.2.1 _ _ (by intro e; rw [e, k4] at h4; cases h4) (by intro e; rw [e, k5] at h4; cases h4) (by intro e; rw [e, k6] at h4; cases h4)]; exact h6 b hb
theorem InIs.fr {q q' : Nat} {cs : List Nat} (F : LfFr q M M') (h : InIs M q' cs) : InIs M' q' cs := by
  have l := F.f1
  obtain ⟨h1, h2, h3, h4, h5⟩ := h
  exact ⟨h1.fr F, by rw [l.2.2.1 _ _ (by omega)]; exact h2, h3, fun i c hc => by rw [l.2.2.2.2.1]; exact h4 i c hc, fun c hc => by rw [l.1]; exact h5 c hc⟩
theorem RM.itm (R : RM M t r m A T py e) {b q : Nat} {l : List Nat} {py' : Nat → List Nat} (hq : A.1 b = some q) (hb : tH T b = 1) (F : LfFr q M M') (hL : LfIs M' q l py') (hl : ∀ k ∈ l, k < 1000000) (hp : ∀ b', b' ≠ b → tH T b' = 1 → ∀ k ∈ tI T b', py' k = py k) : RM M' t r m A (uI T b l) py' e := by
  have f := F.f1
  obtain ⟨r1, r2, r3, r4, r5, r6, r7⟩ := R
  have Kq := (r1.2.2.1 b q hq).2.1
  simp only [RM, ti]
  refine ⟨r1.fr F, r2.fr F Kq, fun b' hb' => ?_, fun h b' hb' => ?_, fun h b' q' h1 h2 h3 => ?_, fun h b' q' h1 h2 => ?_, ?_⟩
  · by_cases eb : b' = b
    · subst eb; rw [fu_s]; exact ⟨q, hq, hL, hl⟩
    · rw [fu_n _ _ eb]
      obtain ⟨q', g1, g2, g3⟩ := r3 b' hb'
      refine ⟨q', g1, ?_, g3⟩
      have hne : q ≠ q' := by
        intro eq; subst eq
        exact eb (r1.inj (h := 0) (h' := 0) (b := b') (b' := b) (q := q) g1 hq).1
      exact (g2.far F (Kq.far g2.1 hne)).py (hp b' eb hb')
  · obtain ⟨q', g1, g2, g3⟩ := r4 h b' hb'
    exact ⟨q', g1, g2.fr F, by rw [f.2.2.1 _ _ (by omega)]; exact g3⟩
  · rw [f.2.2.2.2.2.2.2.2.1]; exact r5 h b' q' h1 h2 h3
  · rw [f.2.2.2.2.2.2.2.2.1, f.2.2.2.2.2.2.2.2.1]; exact r6 h b' q' h1 h2
  · rw [f.2.2.2.2.2.2.2.2.1]; exact r7
end RMs
