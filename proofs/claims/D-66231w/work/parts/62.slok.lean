/-! ===== SETTLE: ALL STAYS WELL ===== -/
def its (T : Tr) : List Nat := (tW T 0).flatMap (tI T)
/-- leaves have no more than fits, and something -/
def Lv (sz : Nat → Nat) (T : Tr) (e : Option Nat) : Prop := ∀ y, y ∈ tW T 0 → e ≠ some y → uz sz (tI T y) ≤ 120 ∧ (tI T y = [] → tW T 0 = [y])
/-- blocks in use stay so, and what isn't a node isn't one -/
def DF (T T' : Tr) : Prop := ∀ b, tU T b = true → tH T b = 0 → tU T' b = true ∧ tH T' b = 0
theorem Sh.it {T : Tr} {R : Nat → List Nat} (S : Sh T R) {x : Nat} (hx : x ∈ tW T 0) (l : List Nat) : Sh (uI T x l) R := by
  have S' := S
  obtain ⟨s1, s2, s3, s4, s5, s6, s7, s8, s9, s10⟩ := S
  simp only [Sh, ti]
  refine ⟨s1, s2, s3, s4, s5, fun h y hy => ?_, s7, s8, s9, fun b hb => ?_⟩
  · rw [fu_n _ _ (S'.ne hy hx (by omega))]; exact s6 h y hy
  · rw [fu_n _ _ (by intro e; rw [e, (s1 0 x hx).2.1] at hb; omega)]; exact s10 b hb
theorem mvL_spec {sz : Nat → Nat} : ∀ (l a : List Nat), (∀ k ∈ l, sz k ≤ 40) → l ≠ [] →
    (mvL sz l a).2 ++ (mvL sz l a).1 = a ++ l ∧ (mvL sz l a).1 ≠ [] ∧ (uz sz a ≤ 120 → uz sz (mvL sz l a).2 ≤ 120) ∧ (a ≠ [] → (mvL sz l a).2 ≠ []) ∧ uz sz (mvL sz l a).1 ≤ uz sz l ∧ (∀ k ∈ (mvL sz l a).1, sz k ≤ 40)
  | [], a, _, h => absurd rfl h
  | k :: l, a, hs, _ => by
    by_cases hc : 120 < uz sz (k :: l) ∧ uz sz a + (8 + sz k) ≤ 120
    · have hk := hs k (List.mem_cons_self ..)
      have hl : l ≠ [] := by intro e; subst e; simp only [uz] at hc; omega
      obtain ⟨h1, h2, h3, h4, h5, h6⟩ := mvL_spec (sz := sz) l (a ++ [k]) (fun z hz => hs z (List.mem_cons_of_mem _ hz)) hl
      rw [mvL, if_pos hc]
      refine ⟨by rw [h1]; simp, h2, fun _ => h3 (by rw [uz_app]; simp only [uz]; omega), fun _ => h4 (by simp), by simp only [uz]; omega, h6⟩
    · rw [mvL, if_neg hc]
      exact ⟨rfl, by simp, fun h => h, fun h => h, Nat.le_refl _, hs⟩
theorem mvR_spec {sz : Nat → Nat} : ∀ (n : Nat) (l a : List Nat), (∀ k ∈ l, sz k ≤ 40) → l ≠ [] →
    (mvR sz n l a).1 ++ (mvR sz n l a).2 = l ++ a ∧ (mvR sz n l a).1 ≠ [] ∧ (uz sz a ≤ 120 → uz sz (mvR sz n l a).2 ≤ 120) ∧ (a ≠ [] → (mvR sz n l a).2 ≠ []) ∧ uz sz (mvR sz n l a).1 ≤ uz sz l ∧ (∀ k ∈ (mvR sz n l a).1, sz k ≤ 40)
  | 0, l, a, hs, hl => ⟨rfl, hl, fun h => h, fun h => h, Nat.le_refl _, hs⟩
  | n + 1, l, a, hs, hl => by
    rw [mvR]
    cases hk : l[l.length - 1]? with
    | none => exact ⟨rfl, hl, fun h => h, fun h => h, Nat.le_refl _, hs⟩
    | some k =>
      simp only []
      by_cases hc : 120 < uz sz l ∧ uz sz a + (8 + sz k) ≤ 120
      · obtain ⟨hsp, _⟩ := last_split hk
        have hk40 := hs k (List.mem_of_getElem? hk)
        have hu : uz sz l = uz sz (l.take (l.length - 1)) + (8 + sz k) := by
          have := congrArg (uz sz) hsp; rw [uz_app] at this; simpa [uz] using this
        have hl' : l.take (l.length - 1) ≠ [] := by intro e; rw [e] at hu; simp only [uz] at hu; omega
        obtain ⟨h1, h2, h3, h4, h5, h6⟩ := mvR_spec (sz := sz) n (l.take (l.length - 1)) (k :: a) (fun z hz => hs z (List.mem_of_mem_take hz)) hl'
        rw [if_pos hc]
        refine ⟨?_, h2, fun _ => h3 (by simp only [uz]; omega), fun _ => h4 (by simp), by omega, h6⟩
        rw [h1]
        have : l ++ a = (l.take (l.length - 1) ++ [k]) ++ a := by rw [← hsp]
        rw [this]; simp
      · rw [if_neg hc]
        exact ⟨rfl, hl, fun h => h, fun h => h, Nat.le_refl _, hs⟩
theorem mvF_spec {sz : Nat → Nat} : ∀ (n : Nat) (l a : List Nat), (∀ k ∈ l, sz k ≤ 40) → l ≠ [] → l.length ≤ n →
    (mvF sz n l a).1 ++ (mvF sz n l a).2 = l ++ a ∧ uz sz (mvF sz n l a).1 ≤ 120 ∧ (mvF sz n l a).1 ≠ [] ∧ (120 < uz sz l → 72 < uz sz (mvF sz n l a).1 ∧ (mvF sz n l a).2 ≠ []) ∧ (a ≠ [] → (mvF sz n l a).2 ≠ [])
  | 0, l, a, _, hl, hn => absurd (List.eq_nil_of_length_eq_zero (by omega)) hl
  | n + 1, l, a, hs, hl, hn => by
    rw [mvF]
    cases hk : l[l.length - 1]? with
    | none =>
      rw [List.getElem?_eq_none_iff] at hk
      exact absurd (List.eq_nil_of_length_eq_zero (by omega)) hl
    | some k =>
      simp only []
      by_cases hc : 120 < uz sz l
      · obtain ⟨hsp, hpos⟩ := last_split hk
        have hk40 := hs k (List.mem_of_getElem? hk)
        have hu : uz sz l = uz sz (l.take (l.length - 1)) + (8 + sz k) := by
          have := congrArg (uz sz) hsp; rw [uz_app] at this; simpa [uz] using this
        have hl' : l.take (l.length - 1) ≠ [] := by intro e; rw [e] at hu; simp only [uz] at hu; omega
        obtain ⟨h1, h2, h3, h4, h5⟩ := mvF_spec (sz := sz) n (l.take (l.length - 1)) (k :: a) (fun z hz => hs z (List.mem_of_mem_take hz)) hl' (by rw [List.length_take]; omega)
        rw [if_pos hc]
        refine ⟨?_, h2, h3, fun _ => ⟨?_, h5 (by simp)⟩, fun _ => h5 (by simp)⟩
        · rw [h1]
          have : l ++ a = (l.take (l.length - 1) ++ [k]) ++ a := by rw [← hsp]
          rw [this]; simp
        · by_cases h6 : 120 < uz sz (l.take (l.length - 1))
          · exact (h4 h6).1
          · have : mvF sz n (l.take (l.length - 1)) (k :: a) = (l.take (l.length - 1), k :: a) := by
              cases n with
              | zero => rfl
              | succ n =>
                rw [mvF]
                cases (l.take (l.length - 1))[(l.take (l.length - 1)).length - 1]? with
                | none => rfl
                | some k' => simp only []; rw [if_neg h6]
            rw [this]; simp only []; omega
      · rw [if_neg hc]
        exact ⟨rfl, (by show uz sz l ≤ 120; omega), hl, fun h => absurd h hc, fun h => h⟩
/-- what settle needs: all is well but for a leaf x that may have too much -/
def SlP (sz : Nat → Nat) (T : Tr) (x : Nat) : Prop := Sh T (tW T) ∧ Ct T none ∧ Lv sz T (some x) ∧ x ∈ tW T 0 ∧ tI T x ≠ [] ∧ uz sz (tI T x) ≤ 168 ∧ (∀ k ∈ tI T x, sz k ≤ 40)
theorem slStep {sz : Nat → Nat} {T : Tr} {x a : Nat} {lx la A B : List Nat} (P : SlP sz T x) (hrow : (tW T 0 = A ++ a :: x :: B ∧ la ++ lx = tI T a ++ tI T x) ∨ (tW T 0 = A ++ x :: a :: B ∧ lx ++ la = tI T x ++ tI T a)) (h1 : lx ≠ []) (h2 : uz sz la ≤ 120) (h3 : la ≠ []) (h4 : uz sz lx ≤ 168) (h5 : ∀ k ∈ lx, sz k ≤ 40) :
    SlP sz (uI (uI T x lx) a la) x ∧ its (uI (uI T x lx) a la) = its T ∧ a ≠ x := by
  obtain ⟨S, C, L, hx, p1, p2, p3⟩ := P
  have nd := S.2.1 0
  have ham : a ∈ tW T 0 := by rcases hrow with ⟨e, _⟩ | ⟨e, _⟩ <;> rw [e] <;> simp
  have hax : a ≠ x := by
    intro e; subst e
    rcases hrow with ⟨e, _⟩ | ⟨e, _⟩
    all_goals (rw [e] at nd; have := (List.nodup_append.mp nd).2.1; simp at this)
  have eI : tI (uI (uI T x lx) a la) = fu (fu (tI T) x lx) a la := by simp only [ti]
  have eW : tW (uI (uI T x lx) a la) = tW T := by simp only [ti]
  refine ⟨⟨?_, ?_, ?_, by rw [eW]; exact hx, ?_, ?_, ?_⟩, ?_, hax⟩
  · rw [eW]; exact Sh.it (Sh.it S hx lx) (by simp only [ti]; exact ham) la
  · intro h p hp he
    simp only [ti] at hp ⊢; exact C h p hp he
  · intro y hy he
    rw [eW] at hy ⊢
    have hyx : y ≠ x := fun e => he (by rw [e])
    rw [eI]
    by_cases e : y = a
    · subst e; rw [fu_s]; exact ⟨h2, fun h => absurd h h3⟩
    · rw [fu_n _ _ e, fu_n _ _ hyx]; exact L y hy he
  · rw [eI, fu_n _ _ (Ne.symm hax), fu_s]; exact h1
  · rw [eI, fu_n _ _ (Ne.symm hax), fu_s]; exact h4
  · rw [eI, fu_n _ _ (Ne.symm hax), fu_s]; exact h5
  · unfold its
    rw [eW, eI]
    rcases hrow with ⟨e, h⟩ | ⟨e, h⟩
    · rw [e] at nd ⊢
      have nA : ∀ z, z ∈ A → z ≠ a ∧ z ≠ x := fun z hz => ⟨fun e => (List.nodup_append.mp nd).2.2 z hz z (by simp [e]) rfl, fun e => (List.nodup_append.mp nd).2.2 z hz z (by simp [e]) rfl⟩
      have nB := (List.nodup_append.mp nd).2.1
      simp only [List.nodup_cons, List.mem_cons, not_or] at nB
      have n1 : a ∉ A := fun h => (nA a h).1 rfl
      have n2 : x ∉ A := fun h => (nA x h).2 rfl
      simp only [List.flatMap_append, List.flatMap_cons, fm_fu n1, fm_fu n2, fm_fu nB.1.2, fm_fu nB.2.1, fu_s, fu_n _ _ (Ne.symm hax)]
      rw [← List.append_assoc la, h]; simp
    · rw [e] at nd ⊢
      have nA : ∀ z, z ∈ A → z ≠ a ∧ z ≠ x := fun z hz => ⟨fun e => (List.nodup_append.mp nd).2.2 z hz z (by simp [e]) rfl, fun e => (List.nodup_append.mp nd).2.2 z hz z (by simp [e]) rfl⟩
      have nB := (List.nodup_append.mp nd).2.1
      simp only [List.nodup_cons, List.mem_cons, not_or] at nB
      have n1 : a ∉ A := fun h => (nA a h).1 rfl
      have n2 : x ∉ A := fun h => (nA x h).2 rfl
      simp only [List.flatMap_append, List.flatMap_cons, fm_fu n1, fm_fu n2, fm_fu nB.1.2, fm_fu nB.2.1, fu_s, fu_n _ _ (Ne.symm hax)]
      rw [← List.append_assoc lx, h]; simp
/-- what stays in both steps -/
def SlF (T T' : Tr) : Prop := tU T' = tU T ∧ tH T' = tH T ∧ tW T' = tW T ∧ tC T' = tC T ∧ tN T' = tN T ∧ its T' = its T
theorem adjP {l : List Nat} {x a : Nat} (hl : l.Nodup) (hx : x ∈ l) (h : pv l x = some a) : ∃ A B, l = A ++ a :: x :: B := by
  obtain ⟨l1, l2, rfl, h1⟩ := mem_dec hx
  rw [pv_dec h1] at h
  obtain ⟨A, e⟩ := List.getLast?_eq_some_iff.mp h
  exact ⟨A, l2, by rw [e]; simp⟩
theorem adjN {l : List Nat} {x a : Nat} (hl : l.Nodup) (hx : x ∈ l) (h : nx l x = some a) : ∃ A B, l = A ++ x :: a :: B := by
  obtain ⟨l1, l2, rfl, h1⟩ := mem_dec hx
  rw [nx_dec h1] at h
  cases l2 with
  | nil => cases h
  | cons b l2 => cases h; exact ⟨l1, l2, rfl⟩
theorem Lv.ne {sz : Nat → Nat} {T : Tr} {x a : Nat} (L : Lv sz T (some x)) (hx : x ∈ tW T 0) (ha : a ∈ tW T 0) (hax : a ≠ x) : uz sz (tI T a) ≤ 120 ∧ tI T a ≠ [] := by
  obtain ⟨h1, h2⟩ := L a ha (fun e => hax (Option.some.inj e).symm)
  refine ⟨h1, fun e => ?_⟩
  have := h2 e
  rw [this] at hx
  exact hax ((List.mem_singleton.mp hx).symm)
theorem slL_ok {sz : Nat → Nat} {T : Tr} {x : Nat} (P : SlP sz T x) : SlP sz (slL sz T x) x ∧ SlF T (slL sz T x) ∧ okL sz T x (pv (tW T 0) x) = true := by
  obtain ⟨S, C, L, hx, p1, p2, p3⟩ := id P
  unfold slL
  cases h : pv (tW T 0) x with
  | none => exact ⟨P, ⟨rfl, rfl, rfl, rfl, rfl, rfl⟩, rfl⟩
  | some a =>
    obtain ⟨A, B, e⟩ := adjP (S.2.1 0) hx h
    have ham : a ∈ tW T 0 := by rw [e]; simp
    have hax : a ≠ x := by
      intro e2; subst e2; have nd := S.2.1 0; rw [e] at nd; have := (List.nodup_append.mp nd).2.1; simp at this
    obtain ⟨l1, l2⟩ := L.ne hx ham hax
    obtain ⟨m1, m2, m3, m4, m5, m6⟩ := mvL_spec (sz := sz) (tI T x) (tI T a) p3 p1
    simp only []
    obtain ⟨q1, q2, q3⟩ := slStep P (.inl ⟨e, m1⟩) m2 (m3 l1) (m4 l2) (by omega) m6
    refine ⟨q1, ⟨by simp only [ti], by simp only [ti], by simp only [ti], by simp only [ti], by simp only [ti], q2⟩, ?_⟩
    exact decide_eq_true ⟨hax, (S.1 0 a ham).1, S.2.2.2.2.1 a ham, l1⟩
theorem slR_ok {sz : Nat → Nat} {T : Tr} {x : Nat} (P : SlP sz T x) : SlP sz (slR sz T x) x ∧ SlF T (slR sz T x) ∧ okL sz T x (nx (tW T 0) x) = true := by
  obtain ⟨S, C, L, hx, p1, p2, p3⟩ := id P
  unfold slR
  cases h : nx (tW T 0) x with
  | none => exact ⟨P, ⟨rfl, rfl, rfl, rfl, rfl, rfl⟩, rfl⟩
  | some a =>
    obtain ⟨A, B, e⟩ := adjN (S.2.1 0) hx h
    have ham : a ∈ tW T 0 := by rw [e]; simp
    have hax : a ≠ x := by
      intro e2; subst e2; have nd := S.2.1 0; rw [e] at nd; have := (List.nodup_append.mp nd).2.1; simp at this
    obtain ⟨l1, l2⟩ := L.ne hx ham hax
    obtain ⟨m1, m2, m3, m4, m5, m6⟩ := mvR_spec (sz := sz) (tI T x).length (tI T x) (tI T a) p3 p1
    simp only []
    obtain ⟨q1, q2, q3⟩ := slStep P (.inr ⟨e, m1⟩) m2 (m3 l1) (m4 l2) (by omega) m6
    refine ⟨q1, ⟨by simp only [ti], by simp only [ti], by simp only [ti], by simp only [ti], by simp only [ti], q2⟩, ?_⟩
    exact decide_eq_true ⟨hax, (S.1 0 a ham).1, S.2.2.2.2.1 a ham, l1⟩
theorem slF_ok {sz : Nat → Nat} {T : Tr} {x r : Nat} (P : SlP sz T x) (hu : 120 < uz sz (tI T x)) (hr : tU T r = false) (hr96 : r < 96) :
    Sh (slF sz T x r) (fu (tW (slF sz T x r)) 0 (tW T 0)) ∧ Ct (slF sz T x r) none ∧ Lv sz (slF sz T x r) none ∧ its (slF sz T x r) = its T ∧ tW (slF sz T x r) 0 = inA (tW T 0) x r ∧ tN (slF sz T x r) = tN T ∧ r ∉ tW T 0 ∧ (∀ b, tU T b = true → tU (slF sz T x r) b = true ∧ (tH T b = 0 → tH (slF sz T x r) b = 0)) ∧ tU (slF sz T x r) = fu (tU T) r true := by
  obtain ⟨S, C, L, hx, p1, p2, p3⟩ := P
  have S' := S
  obtain ⟨s1, s2, s3, s4, s5, s6, s7, s8, s9, s10⟩ := S
  obtain ⟨m1, m2, m3, m4, m5⟩ := mvF_spec (sz := sz) (tI T x).length (tI T x) [] p3 p1 (Nat.le_refl _)
  obtain ⟨m4a, m4b⟩ := m4 hu
  rw [List.append_nil] at m1
  have hrH : tH T r = 0 := by
    cases e : tH T r with
    | zero => rfl
    | succ k => have := (s1 k r (s3 k r e)).2.2; rw [hr] at this; cases this
  have hrn : ∀ k z, z ∈ tW T k → z ≠ r := by
    intro k z hz e; have := (s1 k z hz).2.2; rw [e, hr] at this; cases this
  have hr0 : r ∉ tW T 0 := fun hm => hrn 0 r hm rfl
  have hrx : r ≠ x := fun e => hr0 (e ▸ hx)
  have eC : fu (tC T) r [] = tC T := by rw [← (s10 r hrH).1]; exact fu_id _ _
  have eI : fu (tI T) r [] = tI T := by rw [← (s10 r hrH).2]; exact fu_id _ _
  have hnc : ∀ q c, c ∈ tC T q → c ≠ r := by
    intro q c hc
    obtain ⟨k, _, _, hk⟩ := S'.child hc
    exact hrn k c hk
  have hsum : uz sz (tI T x) = uz sz (mvF sz (tI T x).length (tI T x) []).1 + uz sz (mvF sz (tI T x).length (tI T x) []).2 := by
    rw [← uz_app, m1]
  generalize hl1 : (mvF sz (tI T x).length (tI T x) []).1 = l1 at *
  generalize hl2 : (mvF sz (tI T x).length (tI T x) []).2 = l2 at *
  have eT : slF sz T x r = uW (uI (uI (uP (uH (tk T r) r 1) r none) x l1) r l2) 0 (inA (tW T 0) x r) := by unfold slF; rw [hl1, hl2]
  have fU : tU (slF sz T x r) = fu (tU T) r true := by rw [eT]; simp only [tk, tu, th, ti, tc, tw, tp]
  have fH : tH (slF sz T x r) = fu (tH T) r 1 := by rw [eT]; simp only [tk, tu, th, ti, tc, tw, tp, fu_fu]
  have fI : tI (slF sz T x r) = fu (fu (tI T) x l1) r l2 := by rw [eT]; simp only [tk, tu, th, ti, tc, tw, tp, eI]
  have fC : tC (slF sz T x r) = tC T := by rw [eT]; simp only [tk, tu, th, ti, tc, tw, tp, eC]
  have fP : tP (slF sz T x r) = fu (tP T) r none := by rw [eT]; simp only [tk, tu, th, ti, tc, tw, tp]
  have fW : tW (slF sz T x r) = fu (tW T) 0 (inA (tW T 0) x r) := by rw [eT]; simp only [tk, tu, th, ti, tc, tw, tp]
  have fR : tR (slF sz T x r) = tR T := by rw [eT]; simp only [tk, tu, th, ti, tc, tw, tp]
  have fN : tN (slF sz T x r) = tN T := by rw [eT]; simp only [tk, tu, th, ti, tc, tw, tp]
  have fW0 : tW (slF sz T x r) 0 = inA (tW T 0) x r := by rw [fW, fu_s]
  refine ⟨?_, ?_, ?_, ?_, fW0, fN, hr0, fun b hb => ?_, fU⟩
  · simp only [Sh, fU, fH, fI, fC, fP, fW, fR, fN, fu_fu]
    rw [show fu (tW T) 0 (tW T 0) = tW T from fu_id _ _]
    refine ⟨fun k z hz => ?_, fun k => ?_, fun k z hz => ?_, fun q c hc => ?_, fun z hz => ?_, fun k z hz => ?_, fun k hk => ?_, ?_, ?_, fun b hb => ?_⟩
    · by_cases ek : k = 0
      · subst ek
        rw [fu_s] at hz
        rcases (inA_mem hx).mp hz with e | hz
        · subst e; rw [fu_s, fu_s]; exact ⟨hr96, rfl, rfl⟩
        · rw [fu_n _ _ (hrn _ z hz), fu_n _ _ (hrn _ z hz)]; exact s1 _ z hz
      · rw [fu_n _ _ ek] at hz
        rw [fu_n _ _ (hrn _ z hz), fu_n _ _ (hrn _ z hz)]; exact s1 _ z hz
    · by_cases ek : k = 0
      · subst ek; rw [fu_s]; exact inA_nodup hx (s2 _) hr0
      · rw [fu_n _ _ ek]; exact s2 k
    · by_cases ez : z = r
      · subst ez; rw [fu_s] at hz
        have : k = 0 := by omega
        subst this; rw [fu_s]; exact (inA_mem hx).mpr (.inl rfl)
      · rw [fu_n _ _ ez] at hz
        by_cases ek : k = 0
        · subst ek; rw [fu_s]; exact (inA_mem hx).mpr (.inr (s3 _ z hz))
        · rw [fu_n _ _ ek]; exact s3 k z hz
    · rw [fu_n _ _ (hnc q c hc)]; exact s4 q c hc
    · rw [fu_s] at hz
      rcases (inA_mem hx).mp hz with e | hz
      · subst e; exact (s10 z hrH).1
      · exact s5 z hz
    · rw [fu_n _ _ (by omega)] at hz
      rw [fu_n _ _ (hrn _ z hz), fu_n _ _ (S'.ne hz hx (by omega))]; exact s6 k z hz
    · rw [fu_n _ _ (by omega)]; exact s7 k hk
    · refine ⟨s8.1, ?_, s8.2.2.1, fun k hk => ?_⟩
      · have hm : tR T ∈ tW T (tN T - 1) := by rw [s8.1]; exact List.mem_cons_self ..
        rw [fu_n _ _ (hrn _ _ hm)]; exact s8.2.1
      · have := s8.2.2.1
        rw [fu_n _ _ (by omega)]; exact s8.2.2.2 k hk
    · have : (0 : Nat) ≠ r := by intro e; rw [← e, s9.1] at hr; cases hr
      rw [fu_n _ _ this, fu_n _ _ this]; exact s9
    · by_cases eb : b = r
      · subst eb; rw [fu_s] at hb; omega
      · rw [fu_n _ _ eb] at hb
        rw [fu_n _ _ eb, fu_n _ _ (by intro e; rw [e, (s1 0 x hx).2.1] at hb; omega)]; exact s10 b hb
  · intro k q hq _
    rw [fW, fu_n _ _ (by omega)] at hq
    rw [fC]; exact C k q hq (by simp)
  · intro y hy _
    rw [fW0] at hy ⊢
    rw [fI]
    by_cases e1 : y = r
    · subst e1; rw [fu_s]; exact ⟨by omega, fun h => absurd h m4b⟩
    · rw [fu_n _ _ e1]
      by_cases e2 : y = x
      · subst e2; rw [fu_s]; exact ⟨m2, fun h => absurd h m3⟩
      · rw [fu_n _ _ e2]
        rcases (inA_mem hx).mp hy with e | hy
        · exact absurd e e1
        · obtain ⟨h1, h2⟩ := L.ne hx hy e2
          exact ⟨h1, fun h => absurd h h2⟩
  · unfold its
    rw [fW0, fI]
    obtain ⟨A, B, e, hA⟩ := mem_dec hx
    have nd := s2 0
    rw [e] at nd hr0 ⊢
    obtain ⟨n1, n2, _⟩ := nd_mid nd
    have r1 : r ∉ A := fun h => hr0 (List.mem_append_left _ h)
    have r2 : r ∉ B := fun h => hr0 (List.mem_append_right _ (List.mem_cons_of_mem _ h))
    rw [inA_dec hA]
    simp only [List.flatMap_append, List.flatMap_cons, fm_fu n1, fm_fu n2, fm_fu r1, fm_fu r2, fu_s, fu_n _ _ (Ne.symm hrx)]
    rw [← List.append_assoc l1, m1]
  · rw [fU, fH]
    have : b ≠ r := by intro e; rw [e, hr] at hb; cases hb
    rw [fu_n _ _ this, fu_n _ _ this]; exact ⟨hb, fun h => h⟩
theorem sl_ok {m : Nat} {sz : Nat → Nat} {T : Tr} {x : Nat} (hm : m ≤ 96) (P : SlP sz T x) :
    ∃ ok T', sl m sz T x = some (ok, T') ∧ (ok = true → Sh T' (tW T') ∧ Ct T' none ∧ Lv sz T' none ∧ its T' = its T ∧ DF T T' ∧ ∀ b, m ≤ b → tU T' b = tU T b) := by
  have P0 := P
  obtain ⟨P1, F1, o1⟩ := slL_ok P
  obtain ⟨P2, F2, o2⟩ := slR_ok P1
  obtain ⟨S, C, L, hx, p1, p2, p3⟩ := P
  have s9 := S.2.2.2.2.2.2.2.2.1
  have cond : x ∈ tW T 0 ∧ tH T x = 1 ∧ x < 96 ∧ tC T x = [] ∧ uz sz (tI T x) ≤ 240 ∧ okL sz T x (pv (tW T 0) x) = true ∧ okL sz (slL sz T x) x (nx (tW T 0) x) = true ∧ tU T 0 = true ∧ (tW T 0).length ≤ 95 := by
    refine ⟨hx, (S.1 0 x hx).2.1, (S.1 0 x hx).1, S.2.2.2.2.1 x hx, by omega, o1, ?_, s9.1, S.row_le 0⟩
    rw [← F1.2.2.1]; exact o2
  unfold sl
  rw [if_pos cond]
  generalize hT2 : slR sz (slL sz T x) x = T2 at *
  have eU : tU T2 = tU T := F2.1.trans F1.1
  have eH : tH T2 = tH T := F2.2.1.trans F1.2.1
  have eW : tW T2 = tW T := F2.2.2.1.trans F1.2.2.1
  have eits : its T2 = its T := F2.2.2.2.2.2.trans F1.2.2.2.2.2
  by_cases h120 : uz sz (tI T2 x) ≤ 120
  · rw [if_pos h120]
    refine ⟨true, T2, rfl, fun _ => ⟨P2.1, P2.2.1, fun y hy _ => ?_, eits, (fun b hb h0 => by rw [eU, eH]; exact ⟨hb, h0⟩), fun b _ => by rw [eU]⟩⟩
    by_cases e : y = x
    · subst e; exact ⟨h120, fun h => absurd h P2.2.2.2.2.1⟩
    · exact P2.2.2.1 y hy (fun e2 => e (Option.some.inj e2).symm)
  · rw [if_neg h120]
    cases hf : fr (tU T) m 0 with
    | none => exact ⟨false, T2, rfl, fun h => by cases h⟩
    | some r =>
      have frOk : tU T r = false ∧ r < 96 ∧ r < m := by
        rcases fr_spec (tU T) m 0 with ⟨h1, _⟩ | ⟨k, h1, h2, h3, h4, _⟩
        · rw [h1] at hf; cases hf
        · rw [h1] at hf; cases hf
          exact ⟨h4, by omega, by omega⟩
      have hrH : tH T r = 0 := by
        cases e : tH T r with
        | zero => rfl
        | succ k => have := (S.1 k r (S.2.2.1 k r e)).2.2; rw [frOk.1] at this; cases this
      have hrx : r ≠ x := by intro e; rw [e, (S.1 0 x hx).2.1] at hrH; omega
      simp only []
      rw [if_pos ⟨hrx, frOk.2.1, hrH⟩]
      obtain ⟨a1, a2, a3, a4, a5, a6, a7, a8, a9⟩ := slF_ok (r := r) P2 (by omega) (by rw [eU]; exact frOk.1) frOk.2.1
      have hN := P2.1.tN7 P2.2.1
      have hN1 := P2.1.2.2.2.2.2.2.2.1.2.2.1
      obtain ⟨ok, T', b1, b2⟩ := ad_ok hm 8 (slF sz T2 x r) 0 x r (tW T2 0) a1 a2 P2.2.2.2.1 a7 a5 (by rw [a6]; omega) (by rw [a6]; omega)
      refine ⟨ok, T', b1, fun hok => ?_⟩
      obtain ⟨c1, c2, c3⟩ := b2 hok
      refine ⟨c1, c2, ?_, ?_, fun b hb h0 => ?_, fun b hb => ?_⟩
      · intro y hy he
        rw [c3.2.2.1] at hy ⊢
        rw [c3.2.1]
        exact a3 y hy he
      · unfold its
        rw [c3.2.2.1, c3.2.1]
        exact a4.trans eits
      · have h1 := a8 b (by rw [eU]; exact hb)
        have h2 := c3.1 b h1.1
        exact ⟨h2.1, h2.2 (h1.2 (by rw [eH]; exact h0))⟩
      · have := frOk.2.2
        rw [c3.2.2.2 b hb, a9, fu_n _ _ (by omega), eU]
/-! ===== LOOKAT: ALL STAYS WELL ===== -/
theorem Ct.some {T : Tr} (C : Ct T none) (e : Option Nat) : Ct T e := fun h p hp _ => C h p hp (by simp)
theorem Sh.row0 {T : Tr} (S : Sh T (tW T)) (C : Ct T none) {x : Nat} (hx : x ∈ tW T 0) : (1 < (tW T 0).length ↔ tR T ≠ x) ∧ (1 < (tW T 0).length → 0 + 1 < tN T) := by
  have s8 := S.2.2.2.2.2.2.2.1
  have hri := S.rootIff (h := 0) (by omega) hx
  by_cases e : tN T = 1
  · have hrow := s8.1
    rw [e] at hrow
    have hrow : tW T 0 = [tR T] := hrow
    rw [hrow]
    have : x = tR T := hri.2.mpr (by omega)
    simp [this]
  · obtain ⟨p, h1, h2, h3⟩ := S.up (h := 0) (by omega) hx
    have hc := C 0 p h1 (by simp)
    have := fm_len (f := tC T) h1
    rw [S.2.2.2.2.2.2.1 0 (by omega)] at this
    refine ⟨⟨fun _ h => ?_, fun _ => by omega⟩, fun _ => by omega⟩
    have := hri.2.mp h.symm
    omega
def LkP (sz : Nat → Nat) (T : Tr) (x : Nat) : Prop := Sh T (tW T) ∧ Ct T none ∧ Lv sz T (some x) ∧ x ∈ tW T 0 ∧ uz sz (tI T x) ≤ 120
def LkF (T T' : Tr) : Prop := (∀ b, tH T b = 0 → tH T' b = 0 ∧ tU T' b = tU T b) ∧ (∀ b, tU T' b = true → tU T b = true) ∧ its T' = its T
theorem LkF.trans {T T' T'' : Tr} (h : LkF T T') (h' : LkF T' T'') : LkF T T'' :=
  ⟨fun b hb => ⟨(h'.1 b (h.1 b hb).1).1, ((h'.1 b (h.1 b hb).1).2).trans (h.1 b hb).2⟩, fun b hb => h.2.1 b (h'.2.1 b hb), h'.2.2.trans h.2.2⟩
/-- a leaf with nothing goes; then all is well -/
theorem lk1 {sz : Nat → Nat} {T : Tr} {x : Nat} (S : Sh T (tW T)) (C : Ct T none) (L : Lv sz T (some x)) (hx : x ∈ tW T 0) (hi : tI T x = []) (hr : 1 < (tW T 0).length) :
    ∃ T', gn 8 T x = some T' ∧ Sh T' (tW T') ∧ Ct T' none ∧ Lv sz T' none ∧ LkF T T' ∧ tW T' 0 = out (tW T 0) x := by
  obtain ⟨T', g1, g2, g3, g4, g5⟩ := gn_ok 8 T 0 x S (C.some _) hx (S.2.2.2.2.1 x hx) hi ((S.row0 C hx).2 hr) (S.tN7 C) (by have := S.tN7 C; omega)
  rw [if_pos rfl] at g5
  refine ⟨T', g1, g2, g3, ?_, ⟨g4.2.1, g4.2.2.1, ?_⟩, g5⟩
  · intro y hy _
    rw [g5] at hy
    rw [g4.2.2.2]
    obtain ⟨h1, h2⟩ := (out_mem_iff hx (S.2.1 0)).mp hy
    obtain ⟨h3, h4⟩ := L.ne hx h1 h2
    exact ⟨h3, fun h => absurd h h4⟩
  · unfold its
    rw [g5, g4.2.2.2]
    exact fm_nil_out hx hi
theorem okL_ok {sz : Nat → Nat} {T : Tr} {x : Nat} (P : LkP sz T x) : okL sz T x (pv (tW T 0) x) = true ∧ okL sz T x (nx (tW T 0) x) = true := by
  obtain ⟨S, C, L, hx, hu⟩ := P
  constructor
  · cases h : pv (tW T 0) x with
    | none => rfl
    | some a =>
      obtain ⟨A, B, e⟩ := adjP (S.2.1 0) hx h
      have ham : a ∈ tW T 0 := by rw [e]; simp
      have hax : a ≠ x := by
        intro e2; subst e2; have nd := S.2.1 0; rw [e] at nd; have := (List.nodup_append.mp nd).2.1; simp at this
      exact decide_eq_true ⟨hax, (S.1 0 a ham).1, S.2.2.2.2.1 a ham, (L.ne hx ham hax).1⟩
  · cases h : nx (tW T 0) x with
    | none => rfl
    | some a =>
      obtain ⟨A, B, e⟩ := adjN (S.2.1 0) hx h
      have ham : a ∈ tW T 0 := by rw [e]; simp
      have hax : a ≠ x := by
        intro e2; subst e2; have nd := S.2.1 0; rw [e] at nd; have := (List.nodup_append.mp nd).2.1; simp at this
      exact decide_eq_true ⟨hax, (S.1 0 a ham).1, S.2.2.2.2.1 a ham, (L.ne hx ham hax).1⟩
/-- all of x goes to its neighbour a, and x goes -/
theorem lk2 {sz : Nat → Nat} {T : Tr} {x a : Nat} {A B la : List Nat} (S : Sh T (tW T)) (C : Ct T none) (L : ∀ y, y ∈ tW T 0 → y ≠ x → y ≠ a → uz sz (tI T y) ≤ 120 ∧ tI T y ≠ []) (hrow : (tW T 0 = A ++ a :: x :: B ∧ la = tI T a ++ tI T x) ∨ (tW T 0 = A ++ x :: a :: B ∧ la = tI T x ++ tI T a)) (hu : uz sz la ≤ 120) (hl : la ≠ []) :
    ∃ T', gn 8 (uI (uI T x []) a la) x = some T' ∧ Sh T' (tW T') ∧ Ct T' none ∧ Lv sz T' none ∧ LkF T T' ∧ tW T' 0 = out (tW T 0) x ∧ a ∈ tW T' 0 := by
  have nd := S.2.1 0
  have ham : a ∈ tW T 0 := by rcases hrow with ⟨e, _⟩ | ⟨e, _⟩ <;> rw [e] <;> simp
  have hxm : x ∈ tW T 0 := by rcases hrow with ⟨e, _⟩ | ⟨e, _⟩ <;> rw [e] <;> simp
  have hax : a ≠ x := by
    intro e; subst e
    rcases hrow with ⟨e, _⟩ | ⟨e, _⟩
    all_goals (rw [e] at nd; have := (List.nodup_append.mp nd).2.1; simp at this)
  have h2 : 1 < (tW T 0).length := by
    rcases hrow with ⟨e, _⟩ | ⟨e, _⟩ <;> rw [e] <;> simp only [List.length_append, List.length_cons] <;> omega
  have eI : tI (uI (uI T x []) a la) = fu (fu (tI T) x []) a la := by simp only [ti]
  have eW : tW (uI (uI T x []) a la) = tW T := by simp only [ti]
  have eU : tU (uI (uI T x []) a la) = tU T := by simp only [ti]
  have eH : tH (uI (uI T x []) a la) = tH T := by simp only [ti]
  have eits : its (uI (uI T x []) a la) = its T := by
    unfold its
    rw [eW, eI]
    rcases hrow with ⟨e, h⟩ | ⟨e, h⟩
    all_goals (
      rw [e] at nd ⊢
      have nA : ∀ z, z ∈ A → z ≠ a ∧ z ≠ x := fun z hz => ⟨fun e => (List.nodup_append.mp nd).2.2 z hz z (by simp [e]) rfl, fun e => (List.nodup_append.mp nd).2.2 z hz z (by simp [e]) rfl⟩
      have nB := (List.nodup_append.mp nd).2.1
      simp only [List.nodup_cons, List.mem_cons, not_or] at nB
      have n1 : a ∉ A := fun h => (nA a h).1 rfl
      have n2 : x ∉ A := fun h => (nA x h).2 rfl
      simp only [List.flatMap_append, List.flatMap_cons, fm_fu n1, fm_fu n2, fm_fu nB.1.2, fm_fu nB.2.1, fu_s, fu_n _ _ (Ne.symm hax), h]
      simp)
  obtain ⟨T', g1, g2, g3, g4, g5, g6⟩ := lk1 (sz := sz) (T := uI (uI T x []) a la) (x := x)
    (by rw [eW]; exact Sh.it (Sh.it S hxm []) (by simp only [ti]; exact ham) la) (fun h p hp he => by simp only [ti] at hp ⊢; exact C h p hp he)
    (by
      intro y hy he
      rw [eW] at hy ⊢
      have hyx : y ≠ x := fun e => he (by rw [e])
      rw [eI]
      by_cases e : y = a
      · subst e; rw [fu_s]; exact ⟨hu, fun h => absurd h hl⟩
      · rw [fu_n _ _ e, fu_n _ _ hyx]
        exact ⟨(L y hy hyx e).1, fun h => absurd h (L y hy hyx e).2⟩)
    (by rw [eW]; exact hxm) (by rw [eI, fu_n _ _ (Ne.symm hax), fu_s]) (by rw [eW]; exact h2)
  rw [eW] at g6
  refine ⟨T', g1, g2, g3, g4, ⟨?_, ?_, g5.2.2.trans eits⟩, g6, ?_⟩
  · intro b hb
    have := g5.1 b (by rw [eH]; exact hb)
    rw [eU] at this; exact this
  · intro b hb
    have := g5.2.1 b hb
    rw [eU] at this; exact this
  · rw [g6]; exact (out_mem_iff hxm (S.2.1 0)).mpr ⟨ham, hax⟩
theorem lkA_ok {sz : Nat → Nat} : ∀ (n : Nat) (T : Tr) (x : Nat), LkP sz T x → (tW T 0).length ≤ n →
    ∃ T', lkA sz n T x = some T' ∧ Sh T' (tW T') ∧ Ct T' none ∧ Lv sz T' none ∧ LkF T T' := by
  intro n
  induction n with
  | zero =>
    intro T x P hn
    have := P.2.2.2.1
    rw [List.eq_nil_of_length_eq_zero (l := tW T 0) (by omega)] at this; cases this
  | succ n ih =>
    intro T x P hn
    obtain ⟨o1, o2⟩ := okL_ok P
    obtain ⟨S, C, L, hx, hu⟩ := id P
    obtain ⟨r1, r2⟩ := S.row0 C hx
    have cond : x ∈ tW T 0 ∧ tH T x = 1 ∧ x < 96 ∧ tC T x = [] ∧ uz sz (tI T x) ≤ 120 ∧ okL sz T x (pv (tW T 0) x) = true ∧ okL sz T x (nx (tW T 0) x) = true ∧ (1 < (tW T 0).length ↔ tR T ≠ x) :=
      ⟨hx, (S.1 0 x hx).2.1, (S.1 0 x hx).1, S.2.2.2.2.1 x hx, hu, o1, o2, r1⟩
    rw [lkA, if_pos cond]
    have cont : ∀ T' a, Sh T' (tW T') → Ct T' none → Lv sz T' none → LkF T T' → (tW T' 0).length ≤ n → a ∈ tW T' 0 → ∃ T'', lkA sz n T' a = some T'' ∧ Sh T'' (tW T'') ∧ Ct T'' none ∧ Lv sz T'' none ∧ LkF T T'' := by
      intro T' a S' C' L' F' hl ha
      obtain ⟨T'', k1, k2, k3, k4, k5⟩ := ih T' a ⟨S', C', fun y hy he => L' y hy (by simp), ha, (L' a ha (by simp)).1⟩ hl
      exact ⟨T'', k1, k2, k3, k4, F'.trans k5⟩
    by_cases h1 : tI T x = [] ∧ 1 < (tW T 0).length
    · rw [if_pos h1]
      obtain ⟨T', g1, g2, g3, g4, g5, g6⟩ := lk1 S C L hx h1.1 h1.2
      have hlen := out_len hx
      rw [← g6] at hlen
      rw [g1]
      cases hp : pv (tW T 0) x with
      | some a =>
        obtain ⟨A, B, e⟩ := adjP (S.2.1 0) hx hp
        have ham : a ∈ tW T 0 := by rw [e]; simp
        have hax : a ≠ x := by
          intro e2; subst e2; have nd := S.2.1 0; rw [e] at nd; have := (List.nodup_append.mp nd).2.1; simp at this
        simp only []
        exact cont T' a g2 g3 g4 g5 (by omega) (by rw [g6]; exact (out_mem_iff hx (S.2.1 0)).mpr ⟨ham, hax⟩)
      | none =>
        cases hnx : nx (tW T 0) x with
        | some a =>
          obtain ⟨A, B, e⟩ := adjN (S.2.1 0) hx hnx
          have ham : a ∈ tW T 0 := by rw [e]; simp
          have hax : a ≠ x := by
            intro e2; subst e2; have nd := S.2.1 0; rw [e] at nd; have := (List.nodup_append.mp nd).2.1; simp at this
          simp only []
          exact cont T' a g2 g3 g4 g5 (by omega) (by rw [g6]; exact (out_mem_iff hx (S.2.1 0)).mpr ⟨ham, hax⟩)
        | none =>
          obtain ⟨l1, l2, e, hl1⟩ := mem_dec hx
          rw [e, pv_dec hl1] at hp
          rw [e, nx_dec hl1] at hnx
          have e1 := List.getLast?_eq_none_iff.mp hp
          have e2 := List.head?_eq_none_iff.mp hnx
          have := h1.2
          rw [e, e1, e2] at this
          simp at this
    · rw [if_neg h1]
      have Lne : ∀ y, y ∈ tW T 0 → y ≠ x → uz sz (tI T y) ≤ 120 ∧ tI T y ≠ [] := fun y hy hyx => L.ne hx hy hyx
      cases hp : (pv (tW T 0) x).filter (fun a => decide (uz sz (tI T x) + uz sz (tI T a) ≤ 72)) with
      | some a =>
        obtain ⟨f1, f2⟩ := Option.filter_eq_some_iff.mp hp
        have f2 := of_decide_eq_true f2
        obtain ⟨A, B, e⟩ := adjP (S.2.1 0) hx f1
        have ham : a ∈ tW T 0 := by rw [e]; simp
        have hax : a ≠ x := by
          intro e2; subst e2; have nd := S.2.1 0; rw [e] at nd; have := (List.nodup_append.mp nd).2.1; simp at this
        obtain ⟨T', g1, g2, g3, g4, g5, g6, g7⟩ := lk2 (sz := sz) (la := tI T a ++ tI T x) S C (fun y hy h1 _ => Lne y hy h1) (.inl ⟨e, rfl⟩) (by rw [uz_app]; omega) (by have := (Lne a ham hax).2; simp [this])
        have hlen := out_len hx
        rw [← g6] at hlen
        simp only [g1]
        exact cont T' a g2 g3 g4 g5 (by omega) g7
      | none =>
        cases hq : (nx (tW T 0) x).filter (fun a => decide (uz sz (tI T x) + uz sz (tI T a) ≤ 72)) with
        | some a =>
          obtain ⟨f1, f2⟩ := Option.filter_eq_some_iff.mp hq
          have f2 := of_decide_eq_true f2
          obtain ⟨A, B, e⟩ := adjN (S.2.1 0) hx f1
          have ham : a ∈ tW T 0 := by rw [e]; simp
          have hax : a ≠ x := by
            intro e2; subst e2; have nd := S.2.1 0; rw [e] at nd; have := (List.nodup_append.mp nd).2.1; simp at this
          obtain ⟨T', g1, g2, g3, g4, g5, g6, g7⟩ := lk2 (sz := sz) (x := a) (a := x) (la := tI T x ++ tI T a) S C (fun y hy _ h2 => Lne y hy h2) (.inl ⟨e, rfl⟩) (by rw [uz_app]; omega) (by have := (Lne a ham hax).2; simp [this])
          have hlen := out_len ham
          rw [← g6] at hlen
          simp only [g1]
          exact cont T' x g2 g3 g4 g5 (by omega) g7
        | none =>
          refine ⟨T, rfl, S, C, fun y hy _ => ?_, ⟨fun b hb => ⟨hb, rfl⟩, fun b hb => hb, rfl⟩⟩
          by_cases e : y = x
          · subst e
            refine ⟨hu, fun h => ?_⟩
            have : ¬ 1 < (tW T 0).length := fun h2 => h1 ⟨h, h2⟩
            match hrow : tW T 0, hy with
            | [z], hz => rw [List.mem_singleton.mp hz]
            | _ :: _ :: _, _ => rw [hrow] at this; simp at this
          · obtain ⟨h3, h4⟩ := Lne y hy e
            exact ⟨h3, fun h => absurd h h4⟩
