/-! ===== THE TREE IN MEMORY WHILE IT IS READ: no root yet ===== -/
def RM0 (M : Mem) (t r : Nat) (A : Ad) (T : Tr) (py : Nat → List Nat) : Prop :=
  TK M t r A ∧
  (∀ b, tH T b = 1 → ∃ q, A.1 b = some q ∧ LfIs M q (tI T b) py ∧ ∀ k ∈ tI T b, k < 1000000) ∧
  (∀ h b, tH T b = h + 2 → ∃ q, A.2 b = some q ∧ InIs M q ((tC T b).map (nd A h)) ∧ mF M 40 q = I ((h + 1 : Nat) : Int)) ∧
  (∀ h b q, tH T b = h + 1 → na A h b = some q → PB (mR M 33 q) A (tP T b)) ∧
  (∀ h b q, b ∈ tW T h → na A h b = some q → mR M 30 q = (pv (tW T h) b).bind (na A h) ∧ mR M 31 q = (nx (tW T h) b).bind (na A h))
def SW0 (T : Tr) : Prop :=
  (∀ h b, b ∈ tW T h → tH T b = h + 1 ∧ b < 96) ∧ (∀ h, (tW T h).Nodup) ∧ (∀ h b c, tH T b = h + 2 → c ∈ tC T b → tH T c = h + 1 ∧ tP T c = some b) ∧ (∀ h b, tH T b = h + 2 → (tC T b).Nodup)
section RZ
variable {M M' : Mem} {t r : Nat} {A : Ad} {T : Tr} {py : Nat → List Nat}
theorem RM0.node (R : RM0 M t r A T py) {h b : Nat} (hb : tH T b = h + 1) : ∃ q, na A h b = some q := by
  obtain ⟨_, r3, r4, _⟩ := R
  cases h with
  | zero => obtain ⟨q, h1, _⟩ := r3 b hb; exact ⟨q, by unfold na; rw [if_pos rfl]; exact h1⟩
  | succ h => obtain ⟨q, h1, _⟩ := r4 h b hb; exact ⟨q, by unfold na; rw [if_neg (by omega)]; exact h1⟩
theorem RM0.lk {P : Nat → Nat → Prop} {T' : Tr} (R : RM0 M t r A T py) (L : Lk P M M') (hP : ∀ f a, P f a → nice f = true) (eH : tH T' = tH T) (eI : tI T' = tI T) (eC : tC T' = tC T)
    (h33 : ∀ h b q, tH T b = h + 1 → na A h b = some q → PB (mR M' 33 q) A (tP T' b))
    (hn : ∀ h b q, b ∈ tW T' h → na A h b = some q → mR M' 30 q = (pv (tW T' h) b).bind (na A h) ∧ mR M' 31 q = (nx (tW T' h) b).bind (na A h)) : RM0 M' t r A T' py := by
  obtain ⟨r1, r3, r4, r5, r6⟩ := R
  have l := L.f1
  refine ⟨r1.lk L hP, fun b hb => ?_, fun h b hb => ?_, by rw [eH]; exact h33, hn⟩
  · rw [eH] at hb; rw [eI]
    obtain ⟨q, g1, g2, g3⟩ := r3 b hb
    exact ⟨q, g1, g2.lk L hP, g3⟩
  · rw [eH] at hb; rw [eC]
    obtain ⟨q, g1, g2, g3⟩ := r4 h b hb
    exact ⟨q, g1, g2.lk L hP, by rw [l.2.2.1]; exact g3⟩
theorem RM0.itm (R : RM0 M t r A T py) {b q : Nat} {l : List Nat} {py' : Nat → List Nat} (hq : A.1 b = some q) (hb : tH T b = 1) (F : LfFr q M M') (hL : LfIs M' q l py') (hl : ∀ k ∈ l, k < 1000000) (hp : ∀ b', b' ≠ b → tH T b' = 1 → ∀ k ∈ tI T b', py' k = py k) : RM0 M' t r A (uI T b l) py' := by
  have f := F.f1
  obtain ⟨r1, r3, r4, r5, r6⟩ := R
  have Kq := (r1.2.2.1 b q hq).2.1
  simp only [RM0, ti]
  refine ⟨r1.fr F, fun b' hb' => ?_, fun h b' hb' => ?_, fun h b' q' h1 h3 => ?_, fun h b' q' h1 h2 => ?_⟩
  · by_cases eb : b' = b
    · subst eb; rw [fu_s]; exact ⟨q, hq, hL, hl⟩
    · rw [fu_n _ _ eb]
      obtain ⟨q', g1, g2, g3⟩ := r3 b' hb'
      refine ⟨q', g1, ?_, g3⟩
      have hne : q ≠ q' := by
        intro eq; subst eq
        exact eb (r1.inj (h := 0) (h' := 0) (b := b') (b' := b) (q := q) g1 hq).1
      exact (g2.far F (Kq.far g2.1 hne)).py (hp b' eb hb')
  · obtain ⟨q', g1, g2, g3⟩ := r4 h b' hb'
    exact ⟨q', g1, g2.fr F, by rw [f.2.2.1 _ _ (by omega)]; exact g3⟩
  · rw [f.2.2.2.2.2.2.2.2.1]; exact r5 h b' q' h1 h3
  · rw [f.2.2.2.2.2.2.2.2.1, f.2.2.2.2.2.2.2.2.1]; exact r6 h b' q' h1 h2
theorem RM0.chn (R : RM0 M t r A T py) {h b q : Nat} {l : List Nat} {v : Int32} {g : Nat → Option Nat} (hq : A.2 b = some q) (hb : tH T b = h + 2) (hM : M' = inW M q v g) (hI : InIs M' q (l.map (nd A h))) : RM0 M' t r A (uC T b l) py := by
  have l' := inW_f hM
  obtain ⟨r1, r3, r4, r5, r6⟩ := R
  have Kq := (r1.2.2.2.1 b q hq).2.1
  have lR := l'.2.2.2.2.2.2.2.2.1
  have lF := l'.2.2.1
  simp only [RM0, tc]
  refine ⟨r1.chn hM Kq, fun b' hb' => ?_, fun h' b' hb' => ?_, fun h' b' q' h1 h3 => ?_, fun h' b' q' h1 h2 => ?_⟩
  · obtain ⟨q', g1, ⟨⟨c1, c2, c3, c4, c5, c6, c7⟩, d2, d3, d4, d5, d6, d7⟩, g3⟩ := r3 b' hb'
    exact ⟨q', g1, ⟨⟨by rw [l'.1]; exact c1, by rw [lR]; exact c2, by rw [lR]; exact c3, by rw [lR]; exact c4, by rw [l'.2.1]; exact c5, by rw [l'.2.1]; exact c6, by rw [l'.2.1]; exact c7⟩, by rw [lF _ _ (by omega)]; exact d2, by rw [lF _ _ (by omega)]; exact d3, d4, d5, fun i k hk => by rw [l'.2.2.2.1, l'.2.2.2.1]; exact d6 i k hk, fun j v hv => by rw [l'.2.2.2.1]; exact d7 j v hv⟩, g3⟩
  · by_cases eb : b' = b
    · subst eb
      have : h' = h := by omega
      subst this
      rw [fu_s]
      obtain ⟨q', g1, g2, g3⟩ := r4 h' b' hb'
      rw [hq] at g1; cases g1
      exact ⟨q, hq, hI, by rw [lF _ _ (by omega)]; exact g3⟩
    · rw [fu_n _ _ eb]
      obtain ⟨q', g1, ⟨⟨c1, c2, c3⟩, d2, d3, d4, d5⟩, g3⟩ := r4 h' b' hb'
      have hne : q' ≠ q := by
        intro eq; subst eq
        exact eb (r1.inj (h := 1) (h' := 1) (b := b') (b' := b) (q := q') g1 hq).1
      exact ⟨q', g1, ⟨⟨by rw [l'.1]; exact c1, by rw [lR]; exact c2, by rw [l'.2.1]; exact c3⟩, by rw [lF _ _ (by omega)]; exact d2, d3, fun i c hc => by rw [l'.2.2.2.2.1 _ _ (by omega)]; exact d4 i c hc, fun c hc => by rw [l'.1]; exact d5 c hc⟩, by rw [lF _ _ (by omega)]; exact g3⟩
  · rw [lR]; exact r5 h' b' q' h1 h3
  · rw [lR, lR]; exact r6 h' b' q' h1 h2
theorem RM0.par (R : RM0 M t r A T py) {h x q : Nat} {v : Option Nat} (hx : tH T x = h + 1) (hq : na A h x = some q) (hv : ∀ p, v = some p → (A.2 p).isSome = true) : RM0 (sR M 33 q (v.bind A.2)) t r A (uP T x v) py := by
  have K := R.1
  refine R.lk (Lk.sR M 33 q _) (fun f a hf => by rw [hf.1]; rfl) (by simp only [tp]) (by simp only [tp]) (by simp only [tp]) (fun h' b q' h1 h3 => ?_) (fun h' b q' h1 h2 => ?_)
  · simp only [tp]
    rw [mR_sR]
    by_cases eb : b = x
    · subst eb
      have : h' = h := by omega
      subst this
      rw [hq] at h3; cases h3
      rw [if_pos ⟨rfl, rfl⟩, fu_s]
      exact ⟨rfl, hv⟩
    · rw [if_neg (fun hh => eb (K.inj (h := h') (h' := h) h3 (by rw [hh.2]; exact hq)).1), fu_n _ _ eb]
      exact R.2.2.2.1 h' b q' h1 h3
  · simp only [tp] at h1 ⊢
    rw [mR_sR, mR_sR, if_neg (by omega), if_neg (by omega)]
    exact R.2.2.2.2 h' b q' h1 h2
end RZ
section RZ2
variable {M M' : Mem} {t r : Nat} {A : Ad} {T : Tr} {py : Nat → List Nat}
/-- leaf -/
theorem RM0.leaf (R : RM0 M t r A T py) (S : SW0 T) {b q : Nat} (hb : tH T b = 0) (hb96 : b < 96) (hq : A.1 b = some q ∨ mN M ≤ q) (O : Old q (t + 1) b M M') (hQ : mQ M' (t + 1) b = some q) (hL : LfIs M' q [] py) (h32 : mF M' 32 q = I (b : Nat)) (h33 : mR M' 33 q = none) (G' : ∀ a, mN M' ≤ a → mK M' a = none) (hA : ∀ q', A.1 b = some q' → q' = q) :
    RM0 M' t r (fu A.1 b (some q), A.2) (uP (uH (uI T b []) b 1) b none) py := by
  obtain ⟨r1, r3, r4, r5, r6⟩ := R
  obtain ⟨⟨h1, h2, h3, h4, h5, h6, h7, h8⟩, k2, k3, k4, G⟩ := id r1
  have hk : kO M q = 5 ∨ kO M q = 6 ∨ mN M ≤ q := by
    rcases hq with h | h
    · exact .inl (k3 b q h).2.1.1
    · exact .inr (.inr h)
  have lt := lt_kO G h1 (by omega)
  have tq : t ≠ q := by
    intro e; rw [e] at h1 lt
    rcases hk with hk | hk | hk
    · rw [hk] at h1; cases h1
    · rw [hk] at h1; cases h1
    · omega
  have aq : ∀ z p, kX M z = p → p.1 ≠ 9 → z ≠ q := by
    intro z p hz hp e
    subst e
    rcases hk with hk | hk | hk
    · rw [kO_X hk (by omega)] at hz; rw [← hz] at hp; exact hp rfl
    · rw [kO_X hk (by omega)] at hz; rw [← hz] at hp; exact hp rfl
    · have := lt_kX G hz hp; omega
  have ot := O.2.1 t lt tq
  have o1 := O.2.1 (t + 1) (lt_kX G h3 (by decide)) (aq _ _ h3 (by decide))
  have o2 := O.2.1 (t + 2) (lt_kX G h5 (by decide)) (aq _ _ h5 (by decide))
  -- other nodes are elsewhere
  have nA : ∀ b' q', b' ≠ b → A.1 b' = some q' → q' ≠ q := by
    intro b' q' hne h' e'
    subst e'
    rcases hq with h | h
    · exact hne (r1.inj (h := 0) (h' := 0) (b := b') (b' := b) h' h).1
    · have := lt_kO G (k3 b' q' h').2.1.1 (by omega); omega
  have nB : ∀ b' q', A.2 b' = some q' → q' ≠ q := by
    intro b' q' h' e'
    subst e'
    have := (k4 b' q' h').2.1.1
    rcases hq with h | h
    · rw [(k3 b q' h).2.1.1] at this; cases this
    · have := lt_kO G this (by omega); omega
  have nN : ∀ h b' q', (h ≠ 0 ∨ b' ≠ b) → na A h b' = some q' → q' ≠ q := by
    intro h b' q' hh h'
    unfold na at h'
    by_cases e0 : h = 0
    · rw [if_pos e0] at h'
      rcases hh with hh | hh
      · exact absurd e0 hh
      · exact nA b' q' hh h'
    · rw [if_neg e0] at h'; exact nB b' q' h'
  have lN : ∀ h b' q', na A h b' = some q' → q' < mN M := by
    intro h b' q' h'
    rcases (r1.kind h').2.1 with h | h
    · exact lt_kO G h (by omega)
    · exact lt_kO G h (by omega)
  have naE : ∀ h b', b' ≠ b → na (fu A.1 b (some q), A.2) h b' = na A h b' := by
    intro h b' hne
    unfold na
    by_cases e0 : h = 0
    · rw [if_pos e0, if_pos e0]; exact fu_n _ _ hne
    · rw [if_neg e0, if_neg e0]
  have ndE : ∀ h b', b' ≠ b → nd (fu A.1 b (some q), A.2) h b' = nd A h b' := by
    intro h b' hne; unfold nd; rw [naE h b' hne]
  have rowb : ∀ h b', b' ∈ tW T h → b' ≠ b := by
    intro h b' hm e'; have := (S.1 h b' hm).1; rw [e'] at this; omega
  have TK' : TK M' t r (fu A.1 b (some q), A.2) := by
    refine ⟨⟨old_kO O G h1 (by omega), by rw [ot.2.1]; exact h2, old_kX O G h3 (by decide), by rw [ot.2.1]; exact h4, old_kX O G h5 (by decide), by rw [ot.2.1]; exact h6, old_kX O G h7 (by decide), by rw [ot.2.1]; exact h8⟩, fun b' hb' => ?_, fun b' q' h' => ?_, fun b' q' h' => ?_, G'⟩
    · constructor
      · by_cases eb : b' = b
        · subst eb; show mQ M' (t + 1) b' = fu A.1 b' (some q) b'; rw [fu_s]; exact hQ
        · show mQ M' (t + 1) b' = fu A.1 b (some q) b'
          rw [fu_n _ _ eb, o1.2.2.2.1 _ (fun h => eb h.2)]; exact (k2 b' hb').1
      · rw [o2.2.2.2.1 _ (fun h => by omega)]; exact (k2 b' hb').2
    · by_cases eb : b' = b
      · subst eb
        have : fu A.1 b' (some q) b' = some q' := h'
        rw [fu_s] at this; cases this
        exact ⟨hb96, hL.1, h32⟩
      · have : fu A.1 b (some q) b' = some q' := h'
        rw [fu_n _ _ eb] at this
        obtain ⟨a1, a2, a3⟩ := k3 b' q' this
        have hn := nA b' q' eb this
        exact ⟨a1, old_LfK O G a2 hn, by rw [(O.2.1 q' (lt_kO G a2.1 (by omega)) hn).1]; exact a3⟩
    · obtain ⟨a1, a2, a3⟩ := k4 b' q' h'
      have hn := nB b' q' h'
      exact ⟨a1, old_InK O G a2 hn, by rw [(O.2.1 q' (lt_kO G a2.1 (by omega)) hn).1]; exact a3⟩
  simp only [RM0, th, ti, tp]
  refine ⟨TK', fun b' hb' => ?_, fun h b' hb' => ?_, fun h b' q' g1 g3 => ?_, fun h b' q' g1 g2 => ?_⟩
  · by_cases eb : b' = b
    · subst eb; refine ⟨q, fu_s _ _ _, ?_⟩; rw [fu_s]; exact ⟨hL, fun k hk => by cases hk⟩
    · rw [fu_n _ _ eb] at hb'
      obtain ⟨q', g1, g2, g3⟩ := r3 b' hb'
      refine ⟨q', (fu_n _ _ eb).trans g1, ?_⟩
      rw [fu_n _ _ eb]
      exact ⟨old_LfIs O G g2 (nA b' q' eb g1) hk, g3⟩
  · by_cases eb : b' = b
    · subst eb; rw [fu_s] at hb'; omega
    · rw [fu_n _ _ eb] at hb'
      obtain ⟨q', g1, g2, g3⟩ := r4 h b' hb'
      refine ⟨q', g1, ?_, ?_⟩
      · have : (tC T b').map (nd (fu A.1 b (some q), A.2) h) = (tC T b').map (nd A h) := List.map_congr_left (fun c hc => ndE h c (by intro e'; have := (S.2.2.1 h b' c hb' hc).1; rw [e'] at this; omega))
        rw [this]
        exact old_InIs O G (.inl h3) g2 (nB b' q' g1) hk
      · rw [(O.2.1 q' (lt_kO G g2.1.1 (by omega)) (nB b' q' g1)).1]; exact g3
  · by_cases eb : b' = b
    · subst eb
      rw [fu_s] at g1 ⊢
      have : h = 0 := by omega
      subst this
      have : fu A.1 b' (some q) b' = some q' := g3
      rw [fu_s] at this; cases this
      exact ⟨h33, fun x hx => by cases hx⟩
    · rw [fu_n _ _ eb] at g1 ⊢
      rw [naE h b' eb] at g3
      have := r5 h b' q' g1 g3
      rw [(O.2.1 q' (lN h b' q' g3) (nN h b' q' (.inr eb) g3)).2.1]
      exact this
  · have hbb := rowb h b' g1
    rw [naE h b' hbb] at g2
    have o := O.2.1 q' (lN h b' q' g2) (nN h b' q' (.inr hbb) g2)
    rw [o.2.1, o.2.1]
    obtain ⟨a1, a2⟩ := r6 h b' q' g1 g2
    have ext : ∀ v : Option Nat, (∀ z, v = some z → z ∈ tW T h) → v.bind (na (fu A.1 b (some q), A.2) h) = v.bind (na A h) := by
      intro v hv
      cases v with
      | none => rfl
      | some z => exact naE h z (rowb h z (hv z rfl))
    rw [ext _ (fun z hz => pv_mem hz), ext _ (fun z hz => nx_mem hz)]
    exact ⟨a1, a2⟩
/-- inner -/
theorem RM0.inner (R : RM0 M t r A T py) (S : SW0 T) {b q h0 : Nat} (hb : tH T b = 0) (hb96 : b < 96) (hq : A.2 b = some q ∨ mN M ≤ q) (O : Old q (t + 2) b M M') (hQ : mQ M' (t + 2) b = some q) (hL : InIs M' q []) (h40 : mF M' 40 q = I ((h0 + 1 : Nat) : Int)) (h32 : mF M' 32 q = I (b : Nat)) (h33 : mR M' 33 q = none) (G' : ∀ a, mN M' ≤ a → mK M' a = none) (hA : ∀ q', A.2 b = some q' → q' = q) :
    RM0 M' t r (A.1, fu A.2 b (some q)) (uP (uH (uC T b []) b (h0 + 2)) b none) py := by
  obtain ⟨r1, r3, r4, r5, r6⟩ := R
  obtain ⟨⟨h1, h2, h3, h4, h5, h6, h7, h8⟩, k2, k3, k4, G⟩ := id r1
  have hk : kO M q = 5 ∨ kO M q = 6 ∨ mN M ≤ q := by
    rcases hq with h | h
    · exact .inr (.inl (k4 b q h).2.1.1)
    · exact .inr (.inr h)
  have lt := lt_kO G h1 (by omega)
  have tq : t ≠ q := by
    intro e; rw [e] at h1 lt
    rcases hk with hk | hk | hk
    · rw [hk] at h1; cases h1
    · rw [hk] at h1; cases h1
    · omega
  have aq : ∀ z p, kX M z = p → p.1 ≠ 9 → z ≠ q := by
    intro z p hz hp e
    subst e
    rcases hk with hk | hk | hk
    · rw [kO_X hk (by omega)] at hz; rw [← hz] at hp; exact hp rfl
    · rw [kO_X hk (by omega)] at hz; rw [← hz] at hp; exact hp rfl
    · have := lt_kX G hz hp; omega
  have ot := O.2.1 t lt tq
  have o1 := O.2.1 (t + 1) (lt_kX G h3 (by decide)) (aq _ _ h3 (by decide))
  have o2 := O.2.1 (t + 2) (lt_kX G h5 (by decide)) (aq _ _ h5 (by decide))
  -- other nodes are elsewhere
  have nA : ∀ b' q', A.1 b' = some q' → q' ≠ q := by
    intro b' q' h' e'
    subst e'
    have := (k3 b' q' h').2.1.1
    rcases hq with h | h
    · rw [(k4 b q' h).2.1.1] at this; cases this
    · have := lt_kO G this (by omega); omega
  have nB : ∀ b' q', b' ≠ b → A.2 b' = some q' → q' ≠ q := by
    intro b' q' hne h' e'
    subst e'
    rcases hq with h | h
    · exact hne (r1.inj (h := 1) (h' := 1) (b := b') (b' := b) h' h).1
    · have := lt_kO G (k4 b' q' h').2.1.1 (by omega); omega
  have nN : ∀ h b' q', b' ≠ b → na A h b' = some q' → q' ≠ q := by
    intro h b' q' hh h'
    unfold na at h'
    by_cases e0 : h = 0
    · rw [if_pos e0] at h'; exact nA b' q' h'
    · rw [if_neg e0] at h'; exact nB b' q' hh h'
  have lN : ∀ h b' q', na A h b' = some q' → q' < mN M := by
    intro h b' q' h'
    rcases (r1.kind h').2.1 with h | h
    · exact lt_kO G h (by omega)
    · exact lt_kO G h (by omega)
  have naE : ∀ h b', b' ≠ b → na (A.1, fu A.2 b (some q)) h b' = na A h b' := by
    intro h b' hne
    unfold na
    by_cases e0 : h = 0
    · rw [if_pos e0, if_pos e0]
    · rw [if_neg e0, if_neg e0]; exact fu_n _ _ hne
  have ndE : ∀ h b', b' ≠ b → nd (A.1, fu A.2 b (some q)) h b' = nd A h b' := by
    intro h b' hne; unfold nd; rw [naE h b' hne]
  have rowb : ∀ h b', b' ∈ tW T h → b' ≠ b := by
    intro h b' hm e'; have := (S.1 h b' hm).1; rw [e'] at this; omega
  have TK' : TK M' t r (A.1, fu A.2 b (some q)) := by
    refine ⟨⟨old_kO O G h1 (by omega), by rw [ot.2.1]; exact h2, old_kX O G h3 (by decide), by rw [ot.2.1]; exact h4, old_kX O G h5 (by decide), by rw [ot.2.1]; exact h6, old_kX O G h7 (by decide), by rw [ot.2.1]; exact h8⟩, fun b' hb' => ?_, fun b' q' h' => ?_, fun b' q' h' => ?_, G'⟩
    · constructor
      · rw [o1.2.2.2.1 _ (fun h => by omega)]; exact (k2 b' hb').1
      · by_cases eb : b' = b
        · subst eb; show mQ M' (t + 2) b' = fu A.2 b' (some q) b'; rw [fu_s]; exact hQ
        · show mQ M' (t + 2) b' = fu A.2 b (some q) b'
          rw [fu_n _ _ eb, o2.2.2.2.1 _ (fun h => eb h.2)]; exact (k2 b' hb').2
    · obtain ⟨a1, a2, a3⟩ := k3 b' q' h'
      have hn := nA b' q' h'
      exact ⟨a1, old_LfK O G a2 hn, by rw [(O.2.1 q' (lt_kO G a2.1 (by omega)) hn).1]; exact a3⟩
    · by_cases eb : b' = b
      · subst eb
        have : fu A.2 b' (some q) b' = some q' := h'
        rw [fu_s] at this; cases this
        exact ⟨hb96, hL.1, h32⟩
      · have : fu A.2 b (some q) b' = some q' := h'
        rw [fu_n _ _ eb] at this
        obtain ⟨a1, a2, a3⟩ := k4 b' q' this
        have hn := nB b' q' eb this
        exact ⟨a1, old_InK O G a2 hn, by rw [(O.2.1 q' (lt_kO G a2.1 (by omega)) hn).1]; exact a3⟩
  have exP : ∀ x, (A.2 x).isSome = true → fu A.2 b (some q) x = A.2 x := by
    intro x hx
    by_cases ex : x = b
    · subst ex
      cases hh : A.2 x with
      | none => rw [hh] at hx; cases hx
      | some q' => rw [fu_s, hA q' hh]
    · exact fu_n _ _ ex
  simp only [RM0, th, tc, tp]
  refine ⟨TK', fun b' hb' => ?_, fun h b' hb' => ?_, fun h b' q' g1 g3 => ?_, fun h b' q' g1 g2 => ?_⟩
  · by_cases eb : b' = b
    · subst eb; rw [fu_s] at hb'; omega
    · rw [fu_n _ _ eb] at hb'
      obtain ⟨q', g1, g2, g3⟩ := r3 b' hb'
      exact ⟨q', g1, old_LfIs O G g2 (nA b' q' g1) hk, g3⟩
  · by_cases eb : b' = b
    · subst eb; rw [fu_s] at hb'
      have : h = h0 := by omega
      subst this
      refine ⟨q, fu_s _ _ _, ?_⟩
      rw [fu_s]
      exact ⟨hL, h40⟩
    · rw [fu_n _ _ eb] at hb'
      obtain ⟨q', g1, g2, g3⟩ := r4 h b' hb'
      refine ⟨q', (fu_n _ _ eb).trans g1, ?_, ?_⟩
      · rw [fu_n _ _ eb]
        have : (tC T b').map (nd (A.1, fu A.2 b (some q)) h) = (tC T b').map (nd A h) := List.map_congr_left (fun c hc => ndE h c (by intro e'; have := (S.2.2.1 h b' c hb' hc).1; rw [e'] at this; omega))
        rw [this]
        exact old_InIs O G (.inr h5) g2 (nB b' q' eb g1) hk
      · rw [(O.2.1 q' (lt_kO G g2.1.1 (by omega)) (nB b' q' eb g1)).1]; exact g3
  · by_cases eb : b' = b
    · subst eb
      rw [fu_s] at g1 ⊢
      have : h = h0 + 1 := by omega
      subst this
      unfold na at g3
      rw [if_neg (by omega)] at g3
      have : fu A.2 b' (some q) b' = some q' := g3
      rw [fu_s] at this; cases this
      exact ⟨h33, fun x hx => by cases hx⟩
    · rw [fu_n _ _ eb] at g1 ⊢
      rw [naE h b' eb] at g3
      obtain ⟨p1, p2⟩ := r5 h b' q' g1 g3
      rw [(O.2.1 q' (lN h b' q' g3) (nN h b' q' eb g3)).2.1]
      refine ⟨?_, fun x hx => ?_⟩
      · rw [p1]
        cases hv : tP T b' with
        | none => rfl
        | some x => exact (exP x (p2 x hv)).symm
      · show (fu A.2 b (some q) x).isSome = true
        rw [exP x (p2 x hx)]; exact p2 x hx
  · have hbb := rowb h b' g1
    rw [naE h b' hbb] at g2
    have o := O.2.1 q' (lN h b' q' g2) (nN h b' q' hbb g2)
    rw [o.2.1, o.2.1]
    obtain ⟨a1, a2⟩ := r6 h b' q' g1 g2
    have ext : ∀ v : Option Nat, (∀ z, v = some z → z ∈ tW T h) → v.bind (na (A.1, fu A.2 b (some q)) h) = v.bind (na A h) := by
      intro v hv
      cases v with
      | none => rfl
      | some z => exact naE h z (rowb h z (hv z rfl))
    rw [ext _ (fun z hz => pv_mem hz), ext _ (fun z hz => nx_mem hz)]
    exact ⟨a1, a2⟩
theorem SW0.leaf {T : Tr} (S : SW0 T) {b : Nat} (hb : tH T b = 0) (l : List Nat) : SW0 (uP (uH (uI T b l) b 1) b none) := by
  obtain ⟨s1, s2, s3, s4⟩ := S
  simp only [SW0, th, ti, tp]
  refine ⟨fun h b' hm => ?_, s2, fun h b' c hb' hc => ?_, fun h b' hb' => ?_⟩
  · have := s1 h b' hm
    rw [fu_n _ _ (by intro e; rw [e, hb] at this; omega)]; exact this
  · by_cases eb : b' = b
    · subst eb; rw [fu_s] at hb'; omega
    · rw [fu_n _ _ eb] at hb'
      have := s3 h b' c hb' hc
      have hcb : c ≠ b := by intro e; rw [e, hb] at this; omega
      rw [fu_n _ _ hcb, fu_n _ _ hcb]; exact this
  · by_cases eb : b' = b
    · subst eb; rw [fu_s] at hb'; omega
    · rw [fu_n _ _ eb] at hb'; exact s4 h b' hb'
theorem SW0.inner {T : Tr} (S : SW0 T) {b h0 : Nat} (hb : tH T b = 0) : SW0 (uP (uH (uC T b []) b (h0 + 2)) b none) := by
  obtain ⟨s1, s2, s3, s4⟩ := S
  simp only [SW0, th, tc, tp]
  refine ⟨fun h b' hm => ?_, s2, fun h b' c hb' hc => ?_, fun h b' hb' => ?_⟩
  · have := s1 h b' hm
    rw [fu_n _ _ (by intro e; rw [e, hb] at this; omega)]; exact this
  · by_cases eb : b' = b
    · subst eb; rw [fu_s] at hc; cases hc
    · rw [fu_n _ _ eb] at hb' hc
      have := s3 h b' c hb' hc
      have hcb : c ≠ b := by intro e; rw [e, hb] at this; omega
      rw [fu_n _ _ hcb, fu_n _ _ hcb]; exact this
  · by_cases eb : b' = b
    · subst eb; rw [fu_s]; exact List.nodup_nil
    · rw [fu_n _ _ eb] at hb' ⊢; exact s4 h b' hb'
theorem SW0.put {T : Tr} (S : SW0 T) {h p k x : Nat} (hp : tH T p = h + 2) (hx : tH T x = h + 1) (hn : ∀ h' b, tH T b = h' + 2 → x ∉ tC T b) : SW0 (cp T p k x) := by
  obtain ⟨s1, s2, s3, s4⟩ := S
  have hm : ∀ y, y ∈ (tC T p).take k ++ x :: (tC T p).drop k → y = x ∨ y ∈ tC T p := by
    intro y hy
    rcases List.mem_append.mp hy with h | h
    · exact .inr (List.mem_of_mem_take h)
    · rcases List.mem_cons.mp h with h | h
      · exact .inl h
      · exact .inr (List.mem_of_mem_drop h)
  simp only [SW0, cp, tc, tp]
  refine ⟨s1, s2, fun h' b c hb hc => ?_, fun h' b hb => ?_⟩
  · by_cases e : b = p
    · subst e; rw [fu_s] at hc
      have : h' = h := by omega
      subst this
      by_cases ec : c = x
      · subst ec; rw [fu_s]; exact ⟨hx, rfl⟩
      · rw [fu_n _ _ ec]
        rcases hm c hc with h | h
        · exact absurd h ec
        · exact s3 h' b c hb h
    · rw [fu_n _ _ e] at hc
      rw [fu_n _ _ (by intro e2; rw [e2] at hc; exact hn h' b hb hc)]
      exact s3 h' b c hb hc
  · by_cases e : b = p
    · subst e; rw [fu_s]
      have h1 := s4 h' b hb
      have h2 := hn h' b hb
      rw [← List.take_append_drop k (tC T b)] at h1 h2
      obtain ⟨a1, a2, a3⟩ := List.nodup_append.mp h1
      refine List.nodup_append.mpr ⟨a1, List.nodup_cons.mpr ⟨fun h => h2 (List.mem_append_right _ h), a2⟩, fun u hu v hv => ?_⟩
      rcases List.mem_cons.mp hv with h | h
      · intro e; exact h2 (List.mem_append_left _ (by rw [← h, ← e]; exact hu))
      · exact a3 u hu v h
    · rw [fu_n _ _ e]; exact s4 h' b hb
end RZ2
section RZ3
variable {d t r r2 : Nat} {M : Mem} {Q : Outcome → Mem → Prop} {A : Ad} {T : Tr} {py : Nat → List Nat}
set_option maxHeartbeats 4000000 in
theorem z_leafAt (R : RM0 M t r A T py) (S : SW0 T) {b : Nat} (hd : 5 ≤ d) (hb : tH T b = 0) (hb96 : b < 96) (hQ : ∀ M' A' q, A'.1 b = some q → A'.2 = A.2 → (mR M' 30 q = none ∧ mR M' 31 q = none) → Old q (t + 1) b M M' → RM0 M' t r A' (uP (uH (uI T b []) b 1) b none) py → Fr t r2 A A' 0 M M' → Q (.returned (some (.ref q))) M') : Wp d 96 0 [some (.ref t), some (.int (I (b : Nat)))] [] M Q := by
  have K := R.1
  obtain ⟨⟨h1, h2, h3, h4, h5, h6, h7, h8⟩, k2, k3, k4, G⟩ := id K
  have lt := lt_kO G h1 (by omega)
  have l1 := lt_kX G h3 (by decide)
  have hQ0 := (k2 b hb96).1
  cases hA : A.1 b with
  | some q =>
    rw [hA] at hQ0
    have Kq := (k3 b q hA).2.1
    have kq := Kq.1
    have lq := lt_kO G kq (by omega)
    simp (disch := first | (simp only [dd, dr]; done) | omega) only [W_96, h1, h2, h3, hQ0, kq, I_lt, I_le, I_inj, inB_I, tc_I, Int.toNat_natCast, fkt, rf1, rf0, cq, Nat.reduceAdd, Nat.reduceEqDiff, Int.reduceToNat, eq_self, true_and, and_true, true_or, or_true, bI_0, bI_1, mm, rAm, mF_sF, mR_sR, false_and, and_false, if_false, if_true, false_or, or_false, not_true_eq_false, not_false_eq_true, and_self]
    refine ca_121 (by omega) (c_beginL (by omega) kq ?_)
    have tq : t ≠ q := by intro e; rw [e, kq] at h1; cases h1
    simp (disch := first | (simp only [dd, dr]; done) | omega) only [W_96, h1, h2, h3, hQ0, Nat.reduceEqDiff, I_lt, I_le, I_inj, inB_I, tc_I, Int.toNat_natCast, fkt, rf1, rf0, cq, Nat.reduceAdd, Nat.reduceEqDiff, Int.reduceToNat, eq_self, true_and, and_true, true_or, or_true, bI_0, bI_1, mm, rAm, mF_sF, mR_sR, false_and, and_false, if_false, if_true, false_or, or_false, not_true_eq_false, not_false_eq_true, and_self]
    have e : (fu A.1 b (some q), A.2) = A := by rw [← hA, fu_id]
    obtain ⟨b1, b2, b3, b5⟩ := begL_q Kq py
    have O : Old q (t + 1) b M (begL M q) := ⟨fun a _ => rfl, fun a _ hn => ⟨(begL_o M q hn).1, (begL_o M q hn).2.1, (begL_o M q hn).2.2.1, fun i _ => (begL_o M q hn).2.2.2.1 i, (begL_o M q hn).2.2.2.2⟩, Nat.le_refl _⟩
    have R' := RM0.leaf R S hb hb96 (.inl hA) O hQ0 b1 (by rw [b3]; exact (k3 b q hA).2.2) b2 G (fun q' h' => by rw [hA] at h'; exact (Option.some.inj h').symm)
    rw [e] at R'
    refine hQ (begL M q) A q hA rfl b5 O R' (Fr.step (fun _ => rfl) rfl rfl (fun a ha => begL_o M q (fun e => ha ?_)))
    rw [e]; exact .inr (.inr (.inl ⟨b, q, hA, Nat.le_refl _, by omega⟩))
  | none =>
    rw [hA] at hQ0
    obtain ⟨w1, w2, w3, w4, w5⟩ := newL_new M b
    have o_t := newL_old M b lt
    have o_1 := newL_old M b l1
    have kN : kO (nw M (.inl 5) (cSz 5)) (mN M) = 5 := by rw [kO_nw, if_pos rfl]
    simp (disch := first | (simp only [dd, dr]; done) | omega) only [W_96, h1, h2, h3, hQ0, I_lt, I_le, I_inj, inB_I, tc_I, Int.toNat_natCast, fkt, rf1, rf0, cq, Nat.reduceAdd, Nat.reduceEqDiff, Int.reduceToNat, eq_self, true_and, and_true, true_or, or_true, bI_0, bI_1, mm, rAm, mF_sF, mR_sR, false_and, and_false, if_false, if_true, false_or, or_false, not_true_eq_false, not_false_eq_true, and_self]
    refine ca_120 (by omega) (c_initL (by omega) kN (Nat.lt_succ_self _) ?_)
    have eM : sR (nw (sR (nw (sR (nw (sF (nw M (.inl 5) (cSz 5)) 32 (mN M) (I (b : Nat))) (.inr (0, 24)) 24) 36 (mN M) (some (mN (nw M (.inl 5) (cSz 5))))) (.inr (0, 24)) 24) 38 (mN M) (some (mN (nw M (.inl 5) (cSz 5)) + 1))) (.inr (1, 240)) 240) 35 (mN M) (some (mN (nw M (.inl 5) (cSz 5)) + 2)) = newL M b := rfl
    rw [eM]
    have oM := fun a (ha : a < mN M) => newL_old M b ha
    generalize newL M b = M2 at *
    have x3 : kX M2 (t + 1) = (5, 96) := by unfold kX at h3 ⊢; rw [o_1.1]; exact h3
    have x1 : kO M2 t = 3 := by unfold kO at h1 ⊢; rw [o_t.1]; exact h1
    have x2 : mR M2 15 t = some (t + 1) := by rw [o_t.2.2.1]; exact h2
    have kq := w1.1
    have f5 : fitQ 5 5 = true := rfl
    have eQ : mQ (sQ M2 (t + 1) b (some (mN M))) (t + 1) b = some (mN M) := by rw [mQ_sQ, if_pos ⟨rfl, rfl⟩]
    simp (disch := first | (simp only [dd, dr]; done) | omega) only [W_96, x1, x2, x3, f5, kq, eQ, I_lt, I_le, I_inj, inB_I, tc_I, Int.toNat_natCast, fkt, rf1, rf0, cq, Nat.reduceAdd, Nat.reduceEqDiff, Int.reduceToNat, eq_self, true_and, and_true, true_or, or_true, bI_0, bI_1, mm, rAm, mF_sF, mR_sR, false_and, and_false, if_false, if_true, false_or, or_false, not_true_eq_false, not_false_eq_true, and_self]
    refine ca_121 (by omega) (c_beginL (by omega) (by show kO M2 (mN M) = 5; exact kq) ?_)
    simp (disch := first | (simp only [dd, dr]; done) | omega) only [W_96, x1, x2, x3, f5, kq, eQ, Nat.reduceEqDiff, I_lt, I_le, I_inj, inB_I, tc_I, Int.toNat_natCast, fkt, rf1, rf0, cq, Nat.reduceAdd, Nat.reduceEqDiff, Int.reduceToNat, eq_self, true_and, and_true, true_or, or_true, bI_0, bI_1, mm, rAm, mF_sF, mR_sR, false_and, and_false, if_false, if_true, false_or, or_false, not_true_eq_false, not_false_eq_true, and_self]
    have Kq' : LfK (sQ M2 (t + 1) b (some (mN M))) (mN M) := w1
    obtain ⟨b1, b2, b3, b5⟩ := begL_q Kq' py
    have O : Old (mN M) (t + 1) b M (begL (sQ M2 (t + 1) b (some (mN M))) (mN M)) := by
      refine ⟨fun a ha => ?_, fun a ha hn => ?_, ?_⟩
      · exact (oM a ha).1
      · have o := (oM a ha).2
        have g := begL_o (sQ M2 (t + 1) b (some (mN M))) (mN M) hn
        refine ⟨fun f => (g.1 f).trans (o.1 f), fun f => (g.2.1 f).trans (o.2.1 f), fun i => (g.2.2.1 i).trans (o.2.2.1 i), fun i hi => (g.2.2.2.1 i).trans ?_, fun i => (g.2.2.2.2 i).trans (o.2.2.2.2 i)⟩
        rw [mQ_sQ, if_neg hi]; exact o.2.2.2.1 i
      · show mN M ≤ mN M2
        omega
    have hm4 : mN (begL (sQ M2 (t + 1) b (some (mN M))) (mN M)) = mN M + 4 := w3
    have hs4 : mS (begL (sQ M2 (t + 1) b (some (mN M))) (mN M)) = mS M + 297 := w4
    have R' := RM0.leaf R S hb hb96 (.inr (Nat.le_refl _)) O ((begL_o _ (mN M) (by omega)).2.2.2.1 b |>.trans eQ) b1 (by rw [b3]; exact w2) b2 (by rw [hm4]; exact w5 G) (fun q' h' => by rw [hA] at h'; cases h')
    obtain ⟨c1, c2⟩ := cnA (q := mN M) hb96 hA
    refine hQ (begL (sQ M2 (t + 1) b (some (mN M))) (mN M)) (fu A.1 b (some (mN M)), A.2) (mN M) (fu_s _ _ _) rfl b5 O R' ⟨O.1, fun a ha hn => ?_, fun b' q' h' => ?_, fun b' q' h' => h', fun b' q' h' => ?_, fun b' q' h' => .inl h', O.2.2, by omega, by omega⟩
    · have hat : a ≠ t + 1 := fun e => hn (.inl ⟨by omega, by omega⟩)
      have o := O.2.1 a ha (by omega)
      exact ⟨o.1, o.2.1, o.2.2.1, fun i => o.2.2.2.1 i (fun h => hat h.1), o.2.2.2.2⟩
    · show fu A.1 b (some (mN M)) b' = some q'
      by_cases eb : b' = b
      · subst eb; rw [hA] at h'; cases h'
      · rw [fu_n _ _ eb]; exact h'
    · have h'' : fu A.1 b (some (mN M)) b' = some q' := h'
      by_cases eb : b' = b
      · subst eb; rw [fu_s] at h''; cases h''; exact .inr (Nat.le_refl _)
      · rw [fu_n _ _ eb] at h''; exact .inl h''
set_option maxHeartbeats 4000000 in
theorem z_innerAt (R : RM0 M t r A T py) (S : SW0 T) {b h0 : Nat} (hd : 5 ≤ d) (hb : tH T b = 0) (hb96 : b < 96) (hQ : ∀ M' A' q, A'.2 b = some q → A'.1 = A.1 → (∀ b' q', A.2 b' = some q' → A'.2 b' = some q') → (mR M' 30 q = none ∧ mR M' 31 q = none) → Old q (t + 2) b M M' → RM0 M' t r A' (uP (uH (uC T b []) b (h0 + 2)) b none) py → Fr t r2 A A' 0 M M' → Q (.returned (some (.ref q))) M') : Wp d 102 0 [some (.ref t), some (.int (I (b : Nat))), some (.int (I ((h0 + 1 : Nat) : Int)))] [] M Q := by
  have K := R.1
  obtain ⟨⟨h1, h2, h3, h4, h5, h6, h7, h8⟩, k2, k3, k4, G⟩ := id K
  have lt := lt_kO G h1 (by omega)
  have l1 := lt_kX G h5 (by decide)
  have hQ0 := (k2 b hb96).2
  cases hA : A.2 b with
  | some q =>
    rw [hA] at hQ0
    have Kq := (k4 b q hA).2.1
    have kq := Kq.1
    have lq := lt_kO G kq (by omega)
    simp (disch := first | (simp only [dd, dr]; done) | omega) only [W_102, h1, h4, h5, hQ0, kq, I_lt, I_le, I_inj, inB_I, tc_I, Int.toNat_natCast, fkt, rf1, rf0, cq, Nat.reduceAdd, Nat.reduceEqDiff, Int.reduceToNat, eq_self, true_and, and_true, true_or, or_true, bI_0, bI_1, mm, rAm, mF_sF, mR_sR, false_and, and_false, if_false, if_true, false_or, or_false, not_true_eq_false, not_false_eq_true, and_self]
    refine ca_141 (by omega) (c_beginI (by omega) kq ?_)
    have tq : t ≠ q := by intro e; rw [e, kq] at h1; cases h1
    simp (disch := first | (simp only [dd, dr]; done) | omega) only [W_102, h1, h4, h5, hQ0, Nat.reduceEqDiff, I_lt, I_le, I_inj, inB_I, tc_I, Int.toNat_natCast, fkt, rf1, rf0, cq, Nat.reduceAdd, Nat.reduceEqDiff, Int.reduceToNat, eq_self, true_and, and_true, true_or, or_true, bI_0, bI_1, mm, rAm, mF_sF, mR_sR, false_and, and_false, if_false, if_true, false_or, or_false, not_true_eq_false, not_false_eq_true, and_self]
    have e : (A.1, fu A.2 b (some q)) = A := by rw [← hA, fu_id]
    obtain ⟨b1, b2, b3, b4, b5⟩ := begI_q (z := ((h0 + 1 : Nat) : Int)) Kq
    have O : Old q (t + 2) b M (begI M q ((h0 + 1 : Nat) : Int)) := ⟨fun a _ => rfl, fun a _ hn => ⟨(begI_o M q _ hn).1, (begI_o M q _ hn).2.1, (begI_o M q _ hn).2.2.1, fun i _ => (begI_o M q _ hn).2.2.2.1 i, (begI_o M q _ hn).2.2.2.2⟩, Nat.le_refl _⟩
    have R' := RM0.inner R S hb hb96 (.inl hA) O hQ0 b1 b4 (by rw [b3]; exact (k4 b q hA).2.2) b2 G (fun q' h' => by rw [hA] at h'; exact (Option.some.inj h').symm)
    rw [e] at R'
    refine hQ (begI M q ((h0 + 1 : Nat) : Int)) A q hA rfl (fun _ _ h => h) b5 O R' (Fr.step (fun _ => rfl) rfl rfl (fun a ha => begI_o M q _ (fun e => ha ?_)))
    rw [e]; exact .inr (.inr (.inr ⟨b, q, hA, Nat.le_refl _, by omega⟩))
  | none =>
    rw [hA] at hQ0
    obtain ⟨w1, w2, w3, w4, w5⟩ := newI_new M b
    have o_t := newI_old M b lt
    have o_1 := newI_old M b l1
    have kN : kO (nw M (.inl 6) (cSz 6)) (mN M) = 6 := by rw [kO_nw, if_pos rfl]
    simp (disch := first | (simp only [dd, dr]; done) | omega) only [W_102, h1, h4, h5, hQ0, I_lt, I_le, I_inj, inB_I, tc_I, Int.toNat_natCast, fkt, rf1, rf0, cq, Nat.reduceAdd, Nat.reduceEqDiff, Int.reduceToNat, eq_self, true_and, and_true, true_or, or_true, bI_0, bI_1, mm, rAm, mF_sF, mR_sR, false_and, and_false, if_false, if_true, false_or, or_false, not_true_eq_false, not_false_eq_true, and_self]
    refine ca_140 (by omega) (c_initI (by omega) kN (Nat.lt_succ_self _) ?_)
    have eM : sR (nw (sF (nw M (.inl 6) (cSz 6)) 32 (mN M) (I (b : Nat))) (.inr (7, 6)) 6) 39 (mN M) (some (mN (nw M (.inl 6) (cSz 6)))) = newI M b := rfl
    rw [eM]
    have oM := fun a (ha : a < mN M) => newI_old M b ha
    generalize newI M b = M2 at *
    have x3 : kX M2 (t + 2) = (6, 96) := by unfold kX at h5 ⊢; rw [o_1.1]; exact h5
    have x1 : kO M2 t = 3 := by unfold kO at h1 ⊢; rw [o_t.1]; exact h1
    have x2 : mR M2 12 t = some (t + 2) := by rw [o_t.2.2.1]; exact h4
    have kq := w1.1
    have f5 : fitQ 6 6 = true := rfl
    have eQ : mQ (sQ M2 (t + 2) b (some (mN M))) (t + 2) b = some (mN M) := by rw [mQ_sQ, if_pos ⟨rfl, rfl⟩]
    simp (disch := first | (simp only [dd, dr]; done) | omega) only [W_102, x1, x2, x3, f5, kq, eQ, I_lt, I_le, I_inj, inB_I, tc_I, Int.toNat_natCast, fkt, rf1, rf0, cq, Nat.reduceAdd, Nat.reduceEqDiff, Int.reduceToNat, eq_self, true_and, and_true, true_or, or_true, bI_0, bI_1, mm, rAm, mF_sF, mR_sR, false_and, and_false, if_false, if_true, false_or, or_false, not_true_eq_false, not_false_eq_true, and_self]
    refine ca_141 (by omega) (c_beginI (by omega) (by show kO M2 (mN M) = 6; exact kq) ?_)
    simp (disch := first | (simp only [dd, dr]; done) | omega) only [W_102, x1, x2, x3, f5, kq, eQ, Nat.reduceEqDiff, I_lt, I_le, I_inj, inB_I, tc_I, Int.toNat_natCast, fkt, rf1, rf0, cq, Nat.reduceAdd, Nat.reduceEqDiff, Int.reduceToNat, eq_self, true_and, and_true, true_or, or_true, bI_0, bI_1, mm, rAm, mF_sF, mR_sR, false_and, and_false, if_false, if_true, false_or, or_false, not_true_eq_false, not_false_eq_true, and_self]
    have Kq' : InK (sQ M2 (t + 2) b (some (mN M))) (mN M) := w1
    obtain ⟨b1, b2, b3, b4, b5⟩ := begI_q (z := ((h0 + 1 : Nat) : Int)) Kq'
    have O : Old (mN M) (t + 2) b M (begI (sQ M2 (t + 2) b (some (mN M))) (mN M) ((h0 + 1 : Nat) : Int)) := by
      refine ⟨fun a ha => ?_, fun a ha hn => ?_, ?_⟩
      · exact (oM a ha).1
      · have o := (oM a ha).2
        have g := begI_o (sQ M2 (t + 2) b (some (mN M))) (mN M) ((h0 + 1 : Nat) : Int) hn
        refine ⟨fun f => (g.1 f).trans (o.1 f), fun f => (g.2.1 f).trans (o.2.1 f), fun i => (g.2.2.1 i).trans (o.2.2.1 i), fun i hi => (g.2.2.2.1 i).trans ?_, fun i => (g.2.2.2.2 i).trans (o.2.2.2.2 i)⟩
        rw [mQ_sQ, if_neg hi]; exact o.2.2.2.1 i
      · show mN M ≤ mN M2
        omega
    have hm4 : mN (begI (sQ M2 (t + 2) b (some (mN M))) (mN M) ((h0 + 1 : Nat) : Int)) = mN M + 2 := w3
    have hs4 : mS (begI (sQ M2 (t + 2) b (some (mN M))) (mN M) ((h0 + 1 : Nat) : Int)) ≤ mS M + 20 := w4
    have R' := RM0.inner R S hb hb96 (.inr (Nat.le_refl _)) O ((begI_o _ (mN M) _ (by omega)).2.2.2.1 b |>.trans eQ) b1 b4 (by rw [b3]; exact w2) b2 (by rw [hm4]; exact w5 G) (fun q' h' => by rw [hA] at h'; cases h')
    obtain ⟨c1, c2⟩ := cnB (q := mN M) hb96 hA
    have exA : ∀ b' q', A.2 b' = some q' → fu A.2 b (some (mN M)) b' = some q' := by
      intro b' q' h'
      by_cases eb : b' = b
      · subst eb; rw [hA] at h'; cases h'
      · rw [fu_n _ _ eb]; exact h'
    refine hQ (begI (sQ M2 (t + 2) b (some (mN M))) (mN M) ((h0 + 1 : Nat) : Int)) (A.1, fu A.2 b (some (mN M))) (mN M) (fu_s _ _ _) rfl exA b5 O R' ⟨O.1, fun a ha hn => ?_, fun b' q' h' => h', exA, fun b' q' h' => .inl h', fun b' q' h' => ?_, O.2.2, by omega, by omega⟩
    · have hat : a ≠ t + 2 := fun e => hn (.inl ⟨by omega, by omega⟩)
      have o := O.2.1 a ha (by omega)
      exact ⟨o.1, o.2.1, o.2.2.1, fun i => o.2.2.2.1 i (fun h => hat h.1), o.2.2.2.2⟩
    · have h'' : fu A.2 b (some (mN M)) b' = some q' := h'
      by_cases eb : b' = b
      · subst eb; rw [fu_s] at h''; cases h''; exact .inr (Nat.le_refl _)
      · rw [fu_n _ _ eb] at h''; exact .inl h''
theorem z_put (R : RM0 M t r A T py) {h p qp x qx k : Nat} (hp : tH T p = h + 2) (hqp : A.2 p = some qp) (hx : tH T x = h + 1) (hqx : na A h x = some qx) (hk : k ≤ (tC T p).length) (h5 : (tC T p).length ≤ 5) (hQ : ∀ M', RM0 M' t r A (cp T p k x) py → (∀ f a, f ≠ 33 → mR M' f a = mR M f a) → (∀ a i, a ≠ qp + 1 → mQ M' a i = mQ M a i) → (∀ a i, mA M' a i = mA M a i) → Fr t r2 A A 0 M M' → Q (.returned none) M') : Wp d 142 0 [some (.ref qp), some (.int (I (k : Nat))), some (.ref qx), none] [] M Q := by
  obtain ⟨q', g1, g2, g3⟩ := R.2.2.1 h p hp
  rw [hqp] at g1; cases g1
  refine i_put g2 (by rw [List.length_map]; exact hk) (by rw [List.length_map]; exact h5) (R.1.kind hqx).2.1 ?_
  rintro M' ⟨v, g, hM⟩ hI
  have R1 := R.par (v := some p) hx hqx (fun p' hp' => by cases hp'; rw [hqp]; rfl)
  have R1' : RM0 (sR M 33 qx (some qp)) t r A (uP T x (some p)) py := by
    have : (some p).bind A.2 = some qp := hqp
    rw [this] at R1; exact R1
  have R2 := R1'.chn (h := h) (b := p) (l := (tC T p).take k ++ x :: (tC T p).drop k) hqp (by simp only [tp]; exact hp) hM (by rw [map_ins, nd_of hqx]; exact hI)
  refine hQ M' R2 (fun f a hf => by rw [(inW_f hM).2.2.2.2.2.2.2.2.1, mR_sR, if_neg (fun hh => hf hh.1)]) (fun a i ha => by rw [(inW_f hM).2.2.2.2.1 a i ha]; rfl) (fun a i => by rw [(inW_f hM).2.2.2.1]; rfl) ?_
  have F1 : Fr t r2 A A 0 M (sR M 33 qx (some qp)) := Fr.lk (Lk.sR M 33 qx _) (fun f a hf => by rw [hf.2]; exact Ow.node hqx)
  exact F1.trans (Fr.iw hqp hM)
end RZ3
