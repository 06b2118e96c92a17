/-! ===== THE COMPONENT: nodes are made, or used anew ===== -/
theorem lt_kO {M : Mem} {a k : Nat} (G : ∀ a, mN M ≤ a → mK M a = none) (h : kO M a = k) (hk : k ≠ 0) : a < mN M := by
  by_cases e : a < mN M
  · exact e
  · unfold kO at h; rw [G a (by omega)] at h; exact absurd h.symm hk
theorem lt_kX {M : Mem} {a : Nat} {p : Nat × Nat} (G : ∀ a, mN M ≤ a → mK M a = none) (h : kX M a = p) (hk : p.1 ≠ 9) : a < mN M := by
  by_cases e : a < mN M
  · exact e
  · unfold kX at h; rw [G a (by omega)] at h; rw [← h] at hk; exact absurd rfl hk
/-- old cells are as they were, but for the node at q and one place of a row of nodes -/
def Old (q u b : Nat) (M M' : Mem) : Prop := (∀ a, a < mN M → mK M' a = mK M a) ∧ (∀ a, a < mN M → a ≠ q → (∀ f, mF M' f a = mF M f a) ∧ (∀ f, mR M' f a = mR M f a) ∧ (∀ i, mA M' a i = mA M a i) ∧ (∀ i, ¬ (a = u ∧ i = b) → mQ M' a i = mQ M a i) ∧ (∀ i, mL M' a i = mL M a i)) ∧ mN M ≤ mN M'
section OL
variable {M M' : Mem} {q u b : Nat}
theorem old_kO (O : Old q u b M M') (G : ∀ a, mN M ≤ a → mK M a = none) {a k : Nat} (h : kO M a = k) (hk : k ≠ 0) : kO M' a = k := by
  have hl := lt_kO G h hk
  unfold kO at *
  rw [O.1 a hl]; exact h
theorem old_kX (O : Old q u b M M') (G : ∀ a, mN M ≤ a → mK M a = none) {a : Nat} {p : Nat × Nat} (h : kX M a = p) (hk : p.1 ≠ 9) : kX M' a = p := by
  have hl := lt_kX G h hk
  unfold kX at *
  rw [O.1 a hl]; exact h
theorem old_LfK (O : Old q u b M M') (G : ∀ a, mN M ≤ a → mK M a = none) {a : Nat} (h : LfK M a) (hn : a ≠ q) : LfK M' a := by
  obtain ⟨k0, k1, k2, k3, k4, k5, k6⟩ := h
  have o := O.2.1 a (lt_kO G k0 (by omega)) hn
  exact ⟨old_kO O G k0 (by omega), by rw [o.2.1]; exact k1, by rw [o.2.1]; exact k2, by rw [o.2.1]; exact k3, old_kX O G k4 (by decide), old_kX O G k5 (by decide), old_kX O G k6 (by decide)⟩
theorem old_LfIs (O : Old q u b M M') (G : ∀ a, mN M ≤ a → mK M a = none) {a : Nat} {ks : List Nat} {py : Nat → List Nat} (h : LfIs M a ks py) (hn : a ≠ q) (hk : kO M q = 5 ∨ kO M q = 6 ∨ mN M ≤ q) : LfIs M' a ks py := by
  obtain ⟨h1, h2, h3, h4, h5, h6, h7⟩ := h
  have K := h1
  obtain ⟨k0, k1, k2, k3, k4, k5, k6⟩ := h1
  have o := O.2.1 a (lt_kO G k0 (by omega)) hn
  have ne : ∀ z p, kX M z = p → p.1 ≠ 9 → z ≠ q := by
    intro z p hz hp e
    subst e
    rcases hk with hk | hk | hk
    · rw [kO_X hk (by omega)] at hz; rw [← hz] at hp; exact hp rfl
    · rw [kO_X hk (by omega)] at hz; rw [← hz] at hp; exact hp rfl
    · have := lt_kX G hz hp; omega
  have o1 := O.2.1 (a + 1) (lt_kX G k4 (by decide)) (ne _ _ k4 (by decide))
  have o2 := O.2.1 (a + 2) (lt_kX G k5 (by decide)) (ne _ _ k5 (by decide))
  have o3 := O.2.1 (a + 3) (lt_kX G k6 (by decide)) (ne _ _ k6 (by decide))
  exact ⟨old_LfK O G K hn, by rw [o.1]; exact h2, by rw [o.1]; exact h3, h4, h5, fun i k hk => by rw [o1.2.2.1, o2.2.2.1]; exact h6 i k hk, fun j v hv => by rw [o3.2.2.1]; exact h7 j v hv⟩
theorem old_InK (O : Old q u b M M') (G : ∀ a, mN M ≤ a → mK M a = none) {a : Nat} (h : InK M a) (hn : a ≠ q) : InK M' a := by
  obtain ⟨k0, k1, k2⟩ := h
  have o := O.2.1 a (lt_kO G k0 (by omega)) hn
  exact ⟨old_kO O G k0 (by omega), by rw [o.2.1]; exact k1, old_kX O G k2 (by decide)⟩
theorem old_InIs (O : Old q u b M M') (G : ∀ a, mN M ≤ a → mK M a = none) (hu : kX M u = (5, 96) ∨ kX M u = (6, 96)) {a : Nat} {cs : List Nat} (h : InIs M a cs) (hn : a ≠ q) (hk : kO M q = 5 ∨ kO M q = 6 ∨ mN M ≤ q) : InIs M' a cs := by
  obtain ⟨h1, h2, h3, h4, h5⟩ := h
  have K := h1
  obtain ⟨k0, k1, k2⟩ := h1
  have o := O.2.1 a (lt_kO G k0 (by omega)) hn
  have ne : a + 1 ≠ q := by
    intro e
    rcases hk with hk | hk | hk
    · rw [← e] at hk; rw [kO_X hk (by omega)] at k2; cases k2
    · rw [← e] at hk; rw [kO_X hk (by omega)] at k2; cases k2
    · have := lt_kX G k2 (by decide); omega
  have nu : a + 1 ≠ u := by
    intro e; rw [e] at k2
    rcases hu with h | h <;> rw [h] at k2 <;> cases k2
  have o1 := O.2.1 (a + 1) (lt_kX G k2 (by decide)) ne
  exact ⟨old_InK O G K hn, by rw [o.1]; exact h2, h3, fun i c hc => by rw [o1.2.2.2.1 i (fun h => nu h.1)]; exact h4 i c hc, fun c hc => by rcases h5 c hc with h | h; exact .inl (old_kO O G h (by omega)); exact .inr (old_kO O G h (by omega))⟩
theorem old_RmIs (O : Old q u b M M') (G : ∀ a, mN M ≤ a → mK M a = none) (hk : kO M q = 5 ∨ kO M q = 6 ∨ mN M ≤ q) {r n : Nat} {us : Nat → Bool} (h : RmIs M r (r + 1) n us) : RmIs M' r (r + 1) n us := by
  obtain ⟨h1, h2, h3, h4, h5, h6⟩ := h
  have l1 := lt_kO G h1 (by omega)
  have l2 := lt_kX G h4 (by decide)
  have n1 : r ≠ q := by
    intro e; rw [e] at h1 l1
    rcases hk with hk | hk | hk
    · rw [hk] at h1; cases h1
    · rw [hk] at h1; cases h1
    · omega
  have n2 : r + 1 ≠ q := by
    intro e; rw [e] at h4 l2
    rcases hk with hk | hk | hk
    · rw [kO_X hk (by omega)] at h4; cases h4
    · rw [kO_X hk (by omega)] at h4; cases h4
    · omega
  exact ⟨old_kO O G h1 (by omega), by rw [(O.2.1 r l1 n1).1]; exact h2, by rw [(O.2.1 r l1 n1).2.1]; exact h3, old_kX O G h4 (by decide), h5, fun b hb => by rw [(O.2.1 _ l2 n2).2.2.1]; exact h6 b hb⟩
end OL
section AL
variable {M M' : Mem} {t r m : Nat} {A : Ad} {T : Tr} {py : Nat → List Nat} {e : Option Nat}
/-- a leaf, new or used anew, for a block that isn't a node -/
theorem RM.leaf (R : RM M t r m A T py e) (S : SW T) {b q : Nat} (hb : tH T b = 0) (hb96 : b < 96) (hq : A.1 b = some q ∨ mN M ≤ q) (O : Old q (t + 1) b M M') (hQ : mQ M' (t + 1) b = some q) (hL : LfIs M' q [] py) (h32 : mF M' 32 q = I (b : Nat)) (h33 : mR M' 33 q = none) (G' : ∀ a, mN M' ≤ a → mK M' a = none) (hA : ∀ q', A.1 b = some q' → q' = q) :
    RM M' t r m (fu A.1 b (some q), A.2) (uP (uH (uI T b []) b 1) b none) py e := by
  obtain ⟨r1, r2, r3, r4, r5, r6, r7⟩ := R
  obtain ⟨⟨h1, h2, h3, h4, h5, h6, h7, h8⟩, k2, k3, k4, G⟩ := id r1
  have hk : kO M q = 5 ∨ kO M q = 6 ∨ mN M ≤ q := by
    rcases hq with h | h
    · exact .inl (k3 b q h).2.1.1
    · exact .inr (.inr h)
  have lt := lt_kO G h1 (by omega)
  have tq : t ≠ q := by
    intro e; rw [e] at h1 lt
    rcases hk with hk | hk | hk
    · rw [hk] at h1; cases h1
    · rw [hk] at h1; cases h1
    · omega
  have aq : ∀ z p, kX M z = p → p.1 ≠ 9 → z ≠ q := by
    intro z p hz hp e
    subst e
    rcases hk with hk | hk | hk
    · rw [kO_X hk (by omega)] at hz; rw [← hz] at hp; exact hp rfl
    · rw [kO_X hk (by omega)] at hz; rw [← hz] at hp; exact hp rfl
    · have := lt_kX G hz hp; omega
  have ot := O.2.1 t lt tq
  have o1 := O.2.1 (t + 1) (lt_kX G h3 (by decide)) (aq _ _ h3 (by decide))
  have o2 := O.2.1 (t + 2) (lt_kX G h5 (by decide)) (aq _ _ h5 (by decide))
  -- other nodes are elsewhere
  have nA : ∀ b' q', b' ≠ b → A.1 b' = some q' → q' ≠ q := by
    intro b' q' hne h' e'
    subst e'
    rcases hq with h | h
    · exact hne (r1.inj (h := 0) (h' := 0) (b := b') (b' := b) h' h).1
    · have := lt_kO G (k3 b' q' h').2.1.1 (by omega); omega
  have nB : ∀ b' q', A.2 b' = some q' → q' ≠ q := by
    intro b' q' h' e'
    subst e'
    have := (k4 b' q' h').2.1.1
    rcases hq with h | h
    · rw [(k3 b q' h).2.1.1] at this; cases this
    · have := lt_kO G this (by omega); omega
  have nN : ∀ h b' q', (h ≠ 0 ∨ b' ≠ b) → na A h b' = some q' → q' ≠ q := by
    intro h b' q' hh h'
    unfold na at h'
    by_cases e0 : h = 0
    · rw [if_pos e0] at h'
      rcases hh with hh | hh
      · exact absurd e0 hh
      · exact nA b' q' hh h'
    · rw [if_neg e0] at h'; exact nB b' q' h'
  have lN : ∀ h b' q', na A h b' = some q' → q' < mN M := by
    intro h b' q' h'
    rcases (r1.kind h').2.1 with h | h
    · exact lt_kO G h (by omega)
    · exact lt_kO G h (by omega)
  have naE : ∀ h b', b' ≠ b → na (fu A.1 b (some q), A.2) h b' = na A h b' := by
    intro h b' hne
    unfold na
    by_cases e0 : h = 0
    · rw [if_pos e0, if_pos e0]; exact fu_n _ _ hne
    · rw [if_neg e0, if_neg e0]
  have ndE : ∀ h b', b' ≠ b → nd (fu A.1 b (some q), A.2) h b' = nd A h b' := by
    intro h b' hne; unfold nd; rw [naE h b' hne]
  have rowb : ∀ h b', b' ∈ tW T h → b' ≠ b := by
    intro h b' hm e'; have := (S.1 h b' hm).1; rw [e'] at this; omega
  have TK' : TK M' t r (fu A.1 b (some q), A.2) := by
    refine ⟨⟨old_kO O G h1 (by omega), by rw [ot.2.1]; exact h2, old_kX O G h3 (by decide), by rw [ot.2.1]; exact h4, old_kX O G h5 (by decide), by rw [ot.2.1]; exact h6, old_kX O G h7 (by decide), by rw [ot.2.1]; exact h8⟩, fun b' hb' => ?_, fun b' q' h' => ?_, fun b' q' h' => ?_, G'⟩
    · constructor
      · by_cases eb : b' = b
        · subst eb; show mQ M' (t + 1) b' = fu A.1 b' (some q) b'; rw [fu_s]; exact hQ
        · show mQ M' (t + 1) b' = fu A.1 b (some q) b'
          rw [fu_n _ _ eb, o1.2.2.2.1 _ (fun h => eb h.2)]; exact (k2 b' hb').1
      · rw [o2.2.2.2.1 _ (fun h => by omega)]; exact (k2 b' hb').2
    · by_cases eb : b' = b
      · subst eb
        have : fu A.1 b' (some q) b' = some q' := h'
        rw [fu_s] at this; cases this
        exact ⟨hb96, hL.1, h32⟩
      · have : fu A.1 b (some q) b' = some q' := h'
        rw [fu_n _ _ eb] at this
        obtain ⟨a1, a2, a3⟩ := k3 b' q' this
        have hn := nA b' q' eb this
        exact ⟨a1, old_LfK O G a2 hn, by rw [(O.2.1 q' (lt_kO G a2.1 (by omega)) hn).1]; exact a3⟩
    · obtain ⟨a1, a2, a3⟩ := k4 b' q' h'
      have hn := nB b' q' h'
      exact ⟨a1, old_InK O G a2 hn, by rw [(O.2.1 q' (lt_kO G a2.1 (by omega)) hn).1]; exact a3⟩
  simp only [RM, th, ti, tp]
  refine ⟨TK', old_RmIs O G hk r2, fun b' hb' => ?_, fun h b' hb' => ?_, fun h b' q' g1 g2 g3 => ?_, fun h b' q' g1 g2 => ?_, ?_⟩
  · by_cases eb : b' = b
    · subst eb; refine ⟨q, fu_s _ _ _, ?_⟩; rw [fu_s]; exact ⟨hL, fun k hk => by cases hk⟩
    · rw [fu_n _ _ eb] at hb'
      obtain ⟨q', g1, g2, g3⟩ := r3 b' hb'
      refine ⟨q', (fu_n _ _ eb).trans g1, ?_⟩
      rw [fu_n _ _ eb]
      exact ⟨old_LfIs O G g2 (nA b' q' eb g1) hk, g3⟩
  · by_cases eb : b' = b
    · subst eb; rw [fu_s] at hb'; omega
    · rw [fu_n _ _ eb] at hb'
      obtain ⟨q', g1, g2, g3⟩ := r4 h b' hb'
      refine ⟨q', g1, ?_, ?_⟩
      · have : (tC T b').map (nd (fu A.1 b (some q), A.2) h) = (tC T b').map (nd A h) := List.map_congr_left (fun c hc => ndE h c (by intro e'; have := (S.2.2.1 h b' c hb' hc).1; rw [e'] at this; omega))
        rw [this]
        exact old_InIs O G (.inl h3) g2 (nB b' q' g1) hk
      · rw [(O.2.1 q' (lt_kO G g2.1.1 (by omega)) (nB b' q' g1)).1]; exact g3
  · by_cases eb : b' = b
    · subst eb
      rw [fu_s] at g1 ⊢
      have : h = 0 := by omega
      subst this
      have : fu A.1 b' (some q) b' = some q' := g3
      rw [fu_s] at this; cases this
      exact ⟨h33, fun x hx => by cases hx⟩
    · rw [fu_n _ _ eb] at g1 ⊢
      rw [naE h b' eb] at g3
      have := r5 h b' q' g1 g2 g3
      rw [(O.2.1 q' (lN h b' q' g3) (nN h b' q' (.inr eb) g3)).2.1]
      exact this
  · have hbb := rowb h b' g1
    rw [naE h b' hbb] at g2
    have o := O.2.1 q' (lN h b' q' g2) (nN h b' q' (.inr hbb) g2)
    rw [o.2.1, o.2.1]
    obtain ⟨a1, a2⟩ := r6 h b' q' g1 g2
    have ext : ∀ v : Option Nat, (∀ z, v = some z → z ∈ tW T h) → v.bind (na (fu A.1 b (some q), A.2) h) = v.bind (na A h) := by
      intro v hv
      cases v with
      | none => rfl
      | some z => exact naE h z (rowb h z (hv z rfl))
    rw [ext _ (fun z hz => pv_mem hz), ext _ (fun z hz => nx_mem hz)]
    exact ⟨a1, a2⟩
  · rw [ot.2.1, naE _ _ (by intro e'; have h1 := S.2.2.2.2.1; have h2 := S.2.2.2.2.2.2; rw [e', hb] at h1; omega)]
    exact r7
theorem SW.leaf {T : Tr} (S : SW T) {b : Nat} (hb : tH T b = 0) (l : List Nat) : SW (uP (uH (uI T b l) b 1) b none) := by
  obtain ⟨s1, s2, s3, s4, s5, s6, s7⟩ := S
  have hr : tR T ≠ b := by intro e; rw [e, hb] at s5; omega
  simp only [SW, th, ti, tp]
  refine ⟨fun h b' hm => ?_, s2, fun h b' c hb' hc => ?_, fun h b' hb' => ?_, by rw [fu_n _ _ hr]; exact s5, by rw [fu_n _ _ hr]; exact s6, s7⟩
  · have := s1 h b' hm
    rw [fu_n _ _ (by intro e; rw [e, hb] at this; omega)]; exact this
  · by_cases eb : b' = b
    · subst eb; rw [fu_s] at hb'; omega
    · rw [fu_n _ _ eb] at hb'
      have := s3 h b' c hb' hc
      have hcb : c ≠ b := by intro e; rw [e, hb] at this; omega
      rw [fu_n _ _ hcb, fu_n _ _ hcb]; exact this
  · by_cases eb : b' = b
    · subst eb; rw [fu_s] at hb'; omega
    · rw [fu_n _ _ eb] at hb'; exact s4 h b' hb'
/-- an inner node, new or used anew, for a block that isn't a node -/
theorem RM.inner (R : RM M t r m A T py e) (S : SW T) {b q h0 : Nat} (hb : tH T b = 0) (hb96 : b < 96) (hq : A.2 b = some q ∨ mN M ≤ q) (O : Old q (t + 2) b M M') (hQ : mQ M' (t + 2) b = some q) (hL : InIs M' q []) (h40 : mF M' 40 q = I ((h0 + 1 : Nat) : Int)) (h32 : mF M' 32 q = I (b : Nat)) (h33 : mR M' 33 q = none) (G' : ∀ a, mN M' ≤ a → mK M' a = none) (hA : ∀ q', A.2 b = some q' → q' = q) :
    RM M' t r m (A.1, fu A.2 b (some q)) (uP (uH (uC T b []) b (h0 + 2)) b none) py e := by
  obtain ⟨r1, r2, r3, r4, r5, r6, r7⟩ := R
  obtain ⟨⟨h1, h2, h3, h4, h5, h6, h7, h8⟩, k2, k3, k4, G⟩ := id r1
  have hk : kO M q = 5 ∨ kO M q = 6 ∨ mN M ≤ q := by
    rcases hq with h | h
    · exact .inr (.inl (k4 b q h).2.1.1)
    · exact .inr (.inr h)
  have lt := lt_kO G h1 (by omega)
  have tq : t ≠ q := by
    intro e; rw [e] at h1 lt
    rcases hk with hk | hk | hk
    · rw [hk] at h1; cases h1
    · rw [hk] at h1; cases h1
    · omega
  have aq : ∀ z p, kX M z = p → p.1 ≠ 9 → z ≠ q := by
    intro z p hz hp e
    subst e
    rcases hk with hk | hk | hk
    · rw [kO_X hk (by omega)] at hz; rw [← hz] at hp; exact hp rfl
    · rw [kO_X hk (by omega)] at hz; rw [← hz] at hp; exact hp rfl
    · have := lt_kX G hz hp; omega
  have ot := O.2.1 t lt tq
  have o1 := O.2.1 (t + 1) (lt_kX G h3 (by decide)) (aq _ _ h3 (by decide))
  have o2 := O.2.1 (t + 2) (lt_kX G h5 (by decide)) (aq _ _ h5 (by decide))
  -- other nodes are elsewhere
  have nA : ∀ b' q', A.1 b' = some q' → q' ≠ q := by
    intro b' q' h' e'
    subst e'
    have := (k3 b' q' h').2.1.1
    rcases hq with h | h
    · rw [(k4 b q' h).2.1.1] at this; cases this
    · have := lt_kO G this (by omega); omega
  have nB : ∀ b' q', b' ≠ b → A.2 b' = some q' → q' ≠ q := by
    intro b' q' hne h' e'
    subst e'
    rcases hq with h | h
    · exact hne (r1.inj (h := 1) (h' := 1) (b := b') (b' := b) h' h).1
    · have := lt_kO G (k4 b' q' h').2.1.1 (by omega); omega
  have nN : ∀ h b' q', b' ≠ b → na A h b' = some q' → q' ≠ q := by
    intro h b' q' hh h'
    unfold na at h'
    by_cases e0 : h = 0
    · rw [if_pos e0] at h'; exact nA b' q' h'
    · rw [if_neg e0] at h'; exact nB b' q' hh h'
  have lN : ∀ h b' q', na A h b' = some q' → q' < mN M := by
    intro h b' q' h'
    rcases (r1.kind h').2.1 with h | h
    · exact lt_kO G h (by omega)
    · exact lt_kO G h (by omega)
  have naE : ∀ h b', b' ≠ b → na (A.1, fu A.2 b (some q)) h b' = na A h b' := by
    intro h b' hne
    unfold na
    by_cases e0 : h = 0
    · rw [if_pos e0, if_pos e0]
    · rw [if_neg e0, if_neg e0]; exact fu_n _ _ hne
  have ndE : ∀ h b', b' ≠ b → nd (A.1, fu A.2 b (some q)) h b' = nd A h b' := by
    intro h b' hne; unfold nd; rw [naE h b' hne]
  have rowb : ∀ h b', b' ∈ tW T h → b' ≠ b := by
    intro h b' hm e'; have := (S.1 h b' hm).1; rw [e'] at this; omega
  have TK' : TK M' t r (A.1, fu A.2 b (some q)) := by
    refine ⟨⟨old_kO O G h1 (by omega), by rw [ot.2.1]; exact h2, old_kX O G h3 (by decide), by rw [ot.2.1]; exact h4, old_kX O G h5 (by decide), by rw [ot.2.1]; exact h6, old_kX O G h7 (by decide), by rw [ot.2.1]; exact h8⟩, fun b' hb' => ?_, fun b' q' h' => ?_, fun b' q' h' => ?_, G'⟩
    · constructor
      · rw [o1.2.2.2.1 _ (fun h => by omega)]; exact (k2 b' hb').1
      · by_cases eb : b' = b
        · subst eb; show mQ M' (t + 2) b' = fu A.2 b' (some q) b'; rw [fu_s]; exact hQ
        · show mQ M' (t + 2) b' = fu A.2 b (some q) b'
          rw [fu_n _ _ eb, o2.2.2.2.1 _ (fun h => eb h.2)]; exact (k2 b' hb').2
    · obtain ⟨a1, a2, a3⟩ := k3 b' q' h'
      have hn := nA b' q' h'
      exact ⟨a1, old_LfK O G a2 hn, by rw [(O.2.1 q' (lt_kO G a2.1 (by omega)) hn).1]; exact a3⟩
    · by_cases eb : b' = b
      · subst eb
        have : fu A.2 b' (some q) b' = some q' := h'
        rw [fu_s] at this; cases this
        exact ⟨hb96, hL.1, h32⟩
      · have : fu A.2 b (some q) b' = some q' := h'
        rw [fu_n _ _ eb] at this
        obtain ⟨a1, a2, a3⟩ := k4 b' q' this
        have hn := nB b' q' eb this
        exact ⟨a1, old_InK O G a2 hn, by rw [(O.2.1 q' (lt_kO G a2.1 (by omega)) hn).1]; exact a3⟩
  have exP : ∀ x, (A.2 x).isSome = true → fu A.2 b (some q) x = A.2 x := by
    intro x hx
    by_cases ex : x = b
    · subst ex
      cases hh : A.2 x with
      | none => rw [hh] at hx; cases hx
      | some q' => rw [fu_s, hA q' hh]
    · exact fu_n _ _ ex
  simp only [RM, th, tc, tp]
  refine ⟨TK', old_RmIs O G hk r2, fun b' hb' => ?_, fun h b' hb' => ?_, fun h b' q' g1 g2 g3 => ?_, fun h b' q' g1 g2 => ?_, ?_⟩
  · by_cases eb : b' = b
    · subst eb; rw [fu_s] at hb'; omega
    · rw [fu_n _ _ eb] at hb'
      obtain ⟨q', g1, g2, g3⟩ := r3 b' hb'
      exact ⟨q', g1, old_LfIs O G g2 (nA b' q' g1) hk, g3⟩
  · by_cases eb : b' = b
    · subst eb; rw [fu_s] at hb'
      have : h = h0 := by omega
      subst this
      refine ⟨q, fu_s _ _ _, ?_⟩
      rw [fu_s]
      exact ⟨hL, h40⟩
    · rw [fu_n _ _ eb] at hb'
      obtain ⟨q', g1, g2, g3⟩ := r4 h b' hb'
      refine ⟨q', (fu_n _ _ eb).trans g1, ?_, ?_⟩
      · rw [fu_n _ _ eb]
        have : (tC T b').map (nd (A.1, fu A.2 b (some q)) h) = (tC T b').map (nd A h) := List.map_congr_left (fun c hc => ndE h c (by intro e'; have := (S.2.2.1 h b' c hb' hc).1; rw [e'] at this; omega))
        rw [this]
        exact old_InIs O G (.inr h5) g2 (nB b' q' eb g1) hk
      · rw [(O.2.1 q' (lt_kO G g2.1.1 (by omega)) (nB b' q' eb g1)).1]; exact g3
  · by_cases eb : b' = b
    · subst eb
      rw [fu_s] at g1 ⊢
      have : h = h0 + 1 := by omega
      subst this
      unfold na at g3
      rw [if_neg (by omega)] at g3
      have : fu A.2 b' (some q) b' = some q' := g3
      rw [fu_s] at this; cases this
      exact ⟨h33, fun x hx => by cases hx⟩
    · rw [fu_n _ _ eb] at g1 ⊢
      rw [naE h b' eb] at g3
      obtain ⟨p1, p2⟩ := r5 h b' q' g1 g2 g3
      rw [(O.2.1 q' (lN h b' q' g3) (nN h b' q' eb g3)).2.1]
      refine ⟨?_, fun x hx => ?_⟩
      · rw [p1]
        cases hv : tP T b' with
        | none => rfl
        | some x => exact (exP x (p2 x hv)).symm
      · show (fu A.2 b (some q) x).isSome = true
        rw [exP x (p2 x hx)]; exact p2 x hx
  · have hbb := rowb h b' g1
    rw [naE h b' hbb] at g2
    have o := O.2.1 q' (lN h b' q' g2) (nN h b' q' hbb g2)
    rw [o.2.1, o.2.1]
    obtain ⟨a1, a2⟩ := r6 h b' q' g1 g2
    have ext : ∀ v : Option Nat, (∀ z, v = some z → z ∈ tW T h) → v.bind (na (A.1, fu A.2 b (some q)) h) = v.bind (na A h) := by
      intro v hv
      cases v with
      | none => rfl
      | some z => exact naE h z (rowb h z (hv z rfl))
    rw [ext _ (fun z hz => pv_mem hz), ext _ (fun z hz => nx_mem hz)]
    exact ⟨a1, a2⟩
  · rw [ot.2.1, naE _ _ (by intro e'; have h1 := S.2.2.2.2.1; have h2 := S.2.2.2.2.2.2; rw [e', hb] at h1; omega)]
    exact r7
theorem SW.inner {T : Tr} (S : SW T) {b h0 : Nat} (hb : tH T b = 0) : SW (uP (uH (uC T b []) b (h0 + 2)) b none) := by
  obtain ⟨s1, s2, s3, s4, s5, s6, s7⟩ := S
  have hr : tR T ≠ b := by intro e; rw [e, hb] at s5; omega
  simp only [SW, th, tc, tp]
  refine ⟨fun h b' hm => ?_, s2, fun h b' c hb' hc => ?_, fun h b' hb' => ?_, by rw [fu_n _ _ hr]; exact s5, by rw [fu_n _ _ hr]; exact s6, s7⟩
  · have := s1 h b' hm
    rw [fu_n _ _ (by intro e; rw [e, hb] at this; omega)]; exact this
  · by_cases eb : b' = b
    · subst eb; rw [fu_s] at hc; cases hc
    · rw [fu_n _ _ eb] at hb' hc
      have := s3 h b' c hb' hc
      have hcb : c ≠ b := by intro e; rw [e, hb] at this; omega
      rw [fu_n _ _ hcb, fu_n _ _ hcb]; exact this
  · by_cases eb : b' = b
    · subst eb; rw [fu_s]; exact List.nodup_nil
    · rw [fu_n _ _ eb] at hb' ⊢; exact s4 h b' hb'
end AL
