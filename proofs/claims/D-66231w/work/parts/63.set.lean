def lfk (f : Nat → List Nat) (key : Nat) : List Nat → Nat → Nat
  | [], d => d
  | x :: r, d => lfk f key r (match (f x).head? with
    | some k => if k ≤ key then x else d
    | none => d)
def lfT (T : Tr) (key : Nat) : Nat := lfk (tI T) key (tW T 0) ((tW T 0).headD 0)
/-- all leaves have something, or there is one alone -/
def full1 (f : Nat → List Nat) (l : List Nat) : Prop := ∀ x ∈ l, f x = [] → l = [x]
theorem lfk_tail {f : Nat → List Nat} {key : Nat} : ∀ (l : List Nat) (d : Nat), (∀ x ∈ l, ∀ k ∈ f x, key < k) → lfk f key l d = d
  | [], _, _ => rfl
  | x :: l, d, h => by
    rw [lfk]
    have hx := h x (List.mem_cons_self ..)
    rw [lfk_tail l _ (fun y hy => h y (List.mem_cons_of_mem _ hy))]
    cases hh : (f x).head? with
    | none => rfl
    | some k =>
      have := hx k (List.mem_of_head? hh)
      simp only []
      rw [if_neg (by omega)]
theorem lfk_app {f : Nat → List Nat} {key : Nat} : ∀ (l l' : List Nat) (d : Nat), lfk f key (l ++ l') d = lfk f key l' (lfk f key l d)
  | [], _, _ => rfl
  | x :: l, l', d => by rw [List.cons_append, lfk, lfk_app l l', lfk]
/-- the leaf x is the one: the first one, or its first key is not behind; all behind it are behind -/
theorem lfk_is {f : Nat → List Nat} {key x : Nat} {A B : List Nat} (hB : ∀ y ∈ B, ∀ k ∈ f y, key < k) (hA : A = [] ∨ ∃ k, (f x).head? = some k ∧ k ≤ key) : lfk f key (A ++ x :: B) ((A ++ x :: B).headD 0) = x := by
  rw [lfk_app, lfk, lfk_tail B _ hB]
  rcases hA with hA | ⟨k, h1, h2⟩
  · subst hA
    simp only [lfk, List.nil_append, List.headD_cons]
    cases (f x).head? with
    | none => rfl
    | some k => simp only []; split <;> rfl
  · rw [h1]; simp only []; rw [if_pos h2]
/-- there is such a leaf -/
theorem lf_ex {f : Nat → List Nat} (key : Nat) : ∀ (l : List Nat), l ≠ [] → (l.flatMap f).Pairwise (· < ·) → (∀ x ∈ l, f x = [] → l = [x]) → ∃ A x B, l = A ++ x :: B ∧ (∀ y ∈ B, ∀ k ∈ f y, key < k) ∧ (A = [] ∨ ∃ k, (f x).head? = some k ∧ k ≤ key) := by
  intro l
  induction l with
  | nil => intro h; exact absurd rfl h
  | cons x l ih =>
    intro _ hs hf
    cases l with
    | nil => exact ⟨[], x, [], rfl, (fun y hy => by cases hy), .inl rfl⟩
    | cons y l =>
      have hne : ∀ z, z ∈ x :: y :: l → f z ≠ [] := by
        intro z hz e; have := hf z hz e; simp at this
      have hs' : ((y :: l).flatMap f).Pairwise (· < ·) := by
        rw [List.flatMap_cons] at hs; exact (List.pairwise_append.mp hs).2.1
      obtain ⟨A, z, B, h1, h2, h3⟩ := ih (by simp) hs' (fun z hz e => absurd e (hne z (List.mem_cons_of_mem _ hz)))
      by_cases hz : ∃ k, (f z).head? = some k ∧ k ≤ key
      · exact ⟨x :: A, z, B, by rw [h1]; rfl, h2, .inr hz⟩
      · have hA : A = [] := by rcases h3 with h | h; exact h; exact absurd h hz
        subst hA
        rw [List.nil_append] at h1
        refine ⟨[], x, y :: l, rfl, fun w hw k hk => ?_, .inl rfl⟩
        rw [h1] at hw
        rcases List.mem_cons.mp hw with e | hw
        · subst e
          have hzm : w ∈ x :: y :: l := by rw [h1]; simp
          cases hfz : f w with
          | nil => exact absurd hfz (hne w hzm)
          | cons a t =>
            have ha : ¬ a ≤ key := fun h => hz ⟨a, by rw [hfz]; rfl, h⟩
            rw [hfz] at hk
            rcases List.mem_cons.mp hk with e | hk
            · omega
            · have hp : (f w).Pairwise (· < ·) := by
                rw [h1, List.flatMap_cons] at hs'; exact (List.pairwise_append.mp hs').1
              rw [hfz] at hp
              have := (List.pairwise_cons.mp hp).1 k hk
              omega
        · exact h2 w hw k hk
/-- where a key stands in a sorted list -/
theorem pl_spec (key : Nat) : ∀ (l : List Nat), l.Pairwise (· < ·) → (∀ k ∈ l.take (pl key l), k < key) ∧ (∀ k ∈ l.drop (pl key l), key ≤ k)
  | [], _ => ⟨fun k hk => by simp [pl] at hk, fun k hk => by simp [pl] at hk⟩
  | a :: l, h => by
    obtain ⟨h1, h2⟩ := List.pairwise_cons.mp h
    obtain ⟨i1, i2⟩ := pl_spec key l h2
    rw [pl]
    by_cases e : a < key
    · rw [if_pos e, List.take_succ_cons, List.drop_succ_cons]
      refine ⟨fun k hk => ?_, i2⟩
      rcases List.mem_cons.mp hk with h | h
      · omega
      · exact i1 k h
    · rw [if_neg e]
      refine ⟨fun k hk => by simp at hk, fun k hk => ?_⟩
      rw [List.drop_zero] at hk
      rcases List.mem_cons.mp hk with h | h
      · omega
      · have := h1 k h; omega
theorem pl_has {key : Nat} {l : List Nat} (hl : l.Pairwise (· < ·)) : l[pl key l]? = some key ↔ key ∈ l := by
  obtain ⟨h1, h2⟩ := pl_spec key l hl
  constructor
  · exact fun h => List.mem_of_getElem? h
  · intro h
    have : key ∈ l.drop (pl key l) := by
      rw [← List.take_append_drop (pl key l) l] at h
      rcases List.mem_append.mp h with h | h
      · exact absurd (h1 key h) (by omega)
      · exact h
    have hp : (l.drop (pl key l)).Pairwise (· < ·) := hl.sublist (List.drop_sublist ..)
    cases hd : l.drop (pl key l) with
    | nil => rw [hd] at this; cases this
    | cons a t =>
      rw [hd] at this hp
      have ha := h2 a (by rw [hd]; exact List.mem_cons_self ..)
      have : a = key := by
        rcases List.mem_cons.mp this with h | h
        · exact h.symm
        · have := (List.pairwise_cons.mp hp).1 key h; omega
      have h3 : (l.drop (pl key l))[0]? = some key := by rw [hd, this]; rfl
      rw [List.getElem?_drop] at h3
      exact h3
theorem sorted_mid {A X B Y : List Nat} (h : (A ++ (X ++ B)).Pairwise (· < ·)) (hY : Y.Pairwise (· < ·)) (h1 : ∀ a ∈ A, ∀ y ∈ Y, a < y) (h2 : ∀ y ∈ Y, ∀ b ∈ B, y < b) : (A ++ (Y ++ B)).Pairwise (· < ·) := by
  obtain ⟨a1, a2, a3⟩ := List.pairwise_append.mp h
  obtain ⟨b1, b2, b3⟩ := List.pairwise_append.mp a2
  refine List.pairwise_append.mpr ⟨a1, List.pairwise_append.mpr ⟨hY, b2, h2⟩, fun a ha y hy => ?_⟩
  rcases List.mem_append.mp hy with hy | hy
  · exact h1 a ha y hy
  · exact a3 a ha y (List.mem_append_right _ hy)
/-! ===== WELL-FORMED TREES, AND AN ITEM SET IN THEM ===== -/
def Wf (m : Nat) (sz : Nat → Nat) (T : Tr) : Prop := Sh T (tW T) ∧ Ct T none ∧ Lv sz T none ∧ (its T).Pairwise (· < ·) ∧ (∀ k ∈ its T, 1 ≤ sz k ∧ sz k ≤ 40) ∧ ∀ b, tU T b = true → b < m
theorem uz_same {sz sz' : Nat → Nat} : ∀ {l : List Nat}, (∀ k ∈ l, sz' k = sz k) → uz sz' l = uz sz l
  | [], _ => rfl
  | k :: l, h => by rw [uz, uz, h k (List.mem_cons_self ..), uz_same (fun x hx => h x (List.mem_cons_of_mem _ hx))]
theorem Sh.rowne {T : Tr} (S : Sh T (tW T)) (C : Ct T none) {h : Nat} (hh : h < tN T) : tW T h ≠ [] := by
  have s8 := S.2.2.2.2.2.2.2.1
  have : ∀ j, j < tN T → tW T (tN T - 1 - j) ≠ [] := by
    intro j
    induction j with
    | zero => intro _; rw [Nat.sub_zero, s8.1]; simp
    | succ j ih =>
      intro hj
      have h1 := ih (by omega)
      have h2 := S.2.2.2.2.2.2.1 (tN T - 1 - (j + 1)) (by omega)
      rw [show tN T - 1 - (j + 1) + 1 = tN T - 1 - j by omega] at h2
      rw [← h2]
      cases hr : tW T (tN T - 1 - j) with
      | nil => exact absurd hr h1
      | cons p l =>
        have hp : p ∈ tW T (tN T - 1 - (j + 1) + 1) := by rw [show tN T - 1 - (j + 1) + 1 = tN T - 1 - j by omega, hr]; exact List.mem_cons_self ..
        have := (C _ p hp (by simp)).1
        rw [List.flatMap_cons]
        intro e
        rw [(List.append_eq_nil_iff.mp e).1] at this
        simp at this
  have := this (tN T - 1 - h) (by omega)
  rw [show tN T - 1 - (tN T - 1 - h) = h by omega] at this
  exact this
/-- the leaf of a key: what is before it, what behind it -/
theorem lf_spec {m : Nat} {sz : Nat → Nat} {T : Tr} (W : Wf m sz T) (key : Nat) : lfT T key ∈ tW T 0 ∧ ∃ A B, tW T 0 = A ++ lfT T key :: B ∧ its T = A.flatMap (tI T) ++ (tI T (lfT T key) ++ B.flatMap (tI T)) ∧ (∀ k ∈ A.flatMap (tI T), k < key) ∧ (∀ k ∈ B.flatMap (tI T), key < k) ∧ (tI T (lfT T key)).Pairwise (· < ·) ∧ lfT T key ∉ A ∧ lfT T key ∉ B := by
  obtain ⟨S, C, L, hs, hz, hm⟩ := W
  have s8 := S.2.2.2.2.2.2.2.1
  obtain ⟨A, x, B, h1, h2, h3⟩ := lf_ex key (tW T 0) (S.rowne C (by omega)) hs (fun x hx e => (L x hx (by simp)).2 e)
  have hx : lfT T key = x := by unfold lfT; rw [h1]; exact lfk_is h2 h3
  have hits : its T = A.flatMap (tI T) ++ (tI T x ++ B.flatMap (tI T)) := by unfold its; rw [h1]; simp
  rw [hx]
  rw [hits] at hs
  obtain ⟨p1, p2, p3⟩ := List.pairwise_append.mp hs
  have nd := S.2.1 0
  rw [h1] at nd
  obtain ⟨n1, n2, _⟩ := nd_mid nd
  refine ⟨by rw [h1]; simp, A, B, h1, hits, fun k hk => ?_, fun k hk => ?_, (List.pairwise_append.mp p2).1, n1, n2⟩
  · rcases h3 with h | ⟨k', h4, h5⟩
    · subst h; cases hk
    · have := p3 k hk k' (List.mem_append_left _ (List.mem_of_head? h4))
      omega
  · obtain ⟨y, hy, hk⟩ := List.mem_flatMap.mp hk
    exact h2 y hy k hk
theorem lf_mem {m : Nat} {sz : Nat → Nat} {T : Tr} (W : Wf m sz T) (key : Nat) : key ∈ its T ↔ key ∈ tI T (lfT T key) := by
  obtain ⟨_, A, B, _, h2, h3, h4, _, _, _⟩ := lf_spec W key
  rw [h2]
  constructor
  · intro h
    rcases List.mem_append.mp h with h | h
    · exact absurd (h3 key h) (by omega)
    · rcases List.mem_append.mp h with h | h
      · exact h
      · exact absurd (h4 key h) (by omega)
  · exact fun h => List.mem_append_right _ (List.mem_append_left _ h)
theorem its_uI {T : Tr} {x : Nat} {A B l : List Nat} (h : tW T 0 = A ++ x :: B) (hA : x ∉ A) (hB : x ∉ B) : its (uI T x l) = A.flatMap (tI T) ++ (l ++ B.flatMap (tI T)) := by
  unfold its
  simp only [ti]
  rw [h, List.flatMap_append, List.flatMap_cons, fm_fu hA, fm_fu hB, fu_s]
theorem Ct.it {T : Tr} {e : Option Nat} (C : Ct T e) (x : Nat) (l : List Nat) : Ct (uI T x l) e := fun h p hp he => by simp only [ti] at hp ⊢; exact C h p hp he
/-- a key that isn't there comes in: what settle needs -/
theorem ins_ok {m : Nat} {sz sz' : Nat → Nat} {T : Tr} {key : Nat} (W : Wf m sz T) (hk : key ∉ its T) (hs : ∀ k ∈ its T, sz' k = sz k) (h1 : sz' key ≤ 40) :
    SlP sz' (uI T (lfT T key) ((tI T (lfT T key)).take (pl key (tI T (lfT T key))) ++ key :: (tI T (lfT T key)).drop (pl key (tI T (lfT T key))))) (lfT T key) ∧
    ∃ A B, its T = A ++ B ∧ its (uI T (lfT T key) ((tI T (lfT T key)).take (pl key (tI T (lfT T key))) ++ key :: (tI T (lfT T key)).drop (pl key (tI T (lfT T key))))) = A ++ key :: B ∧ (A ++ key :: B).Pairwise (· < ·) := by
  obtain ⟨hx, A, B, e1, e2, e3, e4, e5, e6, e7⟩ := lf_spec W key
  have hkx : key ∉ tI T (lfT T key) := fun h => hk ((lf_mem W key).mpr h)
  obtain ⟨S, C, L, hsr, hz, hm⟩ := W
  generalize lfT T key = x at *
  obtain ⟨q1, q2⟩ := pl_spec key (tI T x) e5
  generalize hp : pl key (tI T x) = p at *
  have hsub : ∀ k, k ∈ tI T x → k ∈ its T := fun k h => by rw [e2]; exact List.mem_append_right _ (List.mem_append_left _ h)
  have hI : tI (uI T x ((tI T x).take p ++ key :: (tI T x).drop p)) x = (tI T x).take p ++ key :: (tI T x).drop p := by simp only [ti]; exact fu_s _ _ _
  have hu : uz sz' ((tI T x).take p ++ key :: (tI T x).drop p) = uz sz (tI T x) + (8 + sz' key) := by
    have h2 : uz sz' (tI T x) = uz sz (tI T x) := uz_same (fun k h => hs k (hsub k h))
    have h3 : uz sz' (tI T x) = uz sz' ((tI T x).take p) + uz sz' ((tI T x).drop p) := by rw [← uz_app, List.take_append_drop]
    rw [uz_app, uz]; omega
  have hq2 : ∀ k ∈ (tI T x).drop p, key < k := by
    intro k h
    have h1 := q2 k h
    have : k ≠ key := fun e => hkx (by rw [← e]; exact List.mem_of_mem_drop h)
    omega
  refine ⟨⟨by simp only [ti]; exact Sh.it S hx _, C.it _ _, ?_, by simp only [ti]; exact hx, by rw [hI]; simp, ?_, ?_⟩, A.flatMap (tI T) ++ (tI T x).take p, (tI T x).drop p ++ B.flatMap (tI T), ?_, ?_, ?_⟩
  · intro y hy he
    have hyx : y ≠ x := fun e => he (by rw [e])
    simp only [ti] at hy ⊢
    rw [fu_n _ _ hyx, uz_same (sz := sz) (fun k h => hs k (List.mem_flatMap.mpr ⟨y, hy, h⟩))]
    exact L y hy (by simp)
  · rw [hI, hu]; have := (L x hx (by simp)).1; omega
  · intro k h
    rw [hI] at h
    rcases List.mem_append.mp h with h | h
    · rw [hs k (hsub k (List.mem_of_mem_take h))]; exact (hz k (hsub k (List.mem_of_mem_take h))).2
    · rcases List.mem_cons.mp h with h | h
      · rw [h]; exact h1
      · rw [hs k (hsub k (List.mem_of_mem_drop h))]; exact (hz k (hsub k (List.mem_of_mem_drop h))).2
  · rw [e2]
    have : tI T x = (tI T x).take p ++ (tI T x).drop p := (List.take_append_drop _ _).symm
    conv => lhs; rw [this]
    simp only [List.append_assoc]
  · rw [its_uI e1 e6 e7]; simp
  · rw [e2] at hsr
    have hY : ((tI T x).take p ++ key :: (tI T x).drop p).Pairwise (· < ·) := by
      rw [← List.take_append_drop p (tI T x)] at e5
      obtain ⟨g1, g2, g3⟩ := List.pairwise_append.mp e5
      refine List.pairwise_append.mpr ⟨g1, List.pairwise_cons.mpr ⟨hq2, g2⟩, fun a ha b hb => ?_⟩
      rcases List.mem_cons.mp hb with h | h
      · rw [h]; exact q1 a ha
      · exact g3 a ha b h
    have := sorted_mid hsr hY (fun a ha y hy => ?_) (fun y hy b hb => ?_)
    · simpa using this
    · rcases List.mem_append.mp hy with h | h
      · exact (List.pairwise_append.mp hsr).2.2 a ha y (List.mem_append_left _ (List.mem_of_mem_take h))
      · rcases List.mem_cons.mp h with h | h
        · rw [h]; exact e3 a ha
        · exact (List.pairwise_append.mp hsr).2.2 a ha y (List.mem_append_left _ (List.mem_of_mem_drop h))
    · rcases List.mem_append.mp hy with h | h
      · exact (List.pairwise_append.mp (List.pairwise_append.mp hsr).2.1).2.2 y (List.mem_of_mem_take h) b hb
      · rcases List.mem_cons.mp h with h | h
        · rw [h]; exact e4 b hb
        · exact (List.pairwise_append.mp (List.pairwise_append.mp hsr).2.1).2.2 y (List.mem_of_mem_drop h) b hb
theorem pl_split {key : Nat} {l : List Nat} (hl : l.Pairwise (· < ·)) (h : key ∈ l) : l = l.take (pl key l) ++ key :: l.drop (pl key l + 1) := by
  have h1 := (pl_has hl).mpr h
  have h2 := (List.getElem?_eq_some_iff.mp h1)
  obtain ⟨h3, h4⟩ := h2
  conv => lhs; rw [← List.take_append_drop (pl key l) l]
  rw [List.drop_eq_getElem_cons h3, h4]
theorem uz_chg {sz sz' : Nat → Nat} {key : Nat} {l : List Nat} (hl : l.Pairwise (· < ·)) (h : key ∈ l) (hs : ∀ k ∈ l, k ≠ key → sz' k = sz k) : uz sz' l + sz key = uz sz l + sz' key := by
  have e := pl_split hl h
  rw [e] at hl hs ⊢
  obtain ⟨g1, g2, g3⟩ := List.pairwise_append.mp hl
  obtain ⟨g4, g5⟩ := List.pairwise_cons.mp g2
  rw [uz_app, uz_app, uz, uz, uz_same (sz' := sz') (sz := sz) (l := l.take (pl key l)) (fun k hk => hs k (List.mem_append_left _ hk) (by have := g3 k hk key (List.mem_cons_self ..); omega)), uz_same (sz' := sz') (sz := sz) (l := l.drop (pl key l + 1)) (fun k hk => hs k (List.mem_append_right _ (List.mem_cons_of_mem _ hk)) (by have := g4 k hk; omega))]
  omega
/-- an item grows, or gets less -/
theorem chg_ok {m : Nat} {sz sz' : Nat → Nat} {T : Tr} {key : Nat} (W : Wf m sz T) (hk : key ∈ its T) (hs : ∀ k ∈ its T, k ≠ key → sz' k = sz k) (h1 : sz' key ≤ 40) :
    (sz key ≤ sz' key → SlP sz' T (lfT T key)) ∧ (sz' key ≤ sz key → LkP sz' T (lfT T key)) := by
  obtain ⟨hx, A, B, e1, e2, e3, e4, e5, e6, e7⟩ := lf_spec W key
  have hkx := (lf_mem W key).mp hk
  obtain ⟨S, C, L, hsr, hz, hm⟩ := W
  generalize lfT T key = x at *
  have hsub : ∀ k, k ∈ tI T x → k ∈ its T := fun k h => by rw [e2]; exact List.mem_append_right _ (List.mem_append_left _ h)
  have hu := uz_chg e5 hkx (fun k h hne => hs k (hsub k h) hne)
  have hLv : Lv sz' T (some x) := by
    intro y hy he
    have hyx : y ≠ x := fun e => he (by rw [e])
    rw [uz_same (sz := sz) (fun k h => hs k (List.mem_flatMap.mpr ⟨y, hy, h⟩) (fun e => ?_))]
    · exact L y hy (by simp)
    · rw [e] at h
      rw [e1] at hy
      rcases List.mem_append.mp hy with hy | hy
      · exact absurd (e3 key (List.mem_flatMap.mpr ⟨y, hy, h⟩)) (by omega)
      · rcases List.mem_cons.mp hy with hy | hy
        · exact hyx hy
        · exact absurd (e4 key (List.mem_flatMap.mpr ⟨y, hy, h⟩)) (by omega)
  have h120 := (L x hx (by simp)).1
  have h1s := hz key hk
  refine ⟨fun _ => ⟨S, C, hLv, hx, (fun e => by rw [e] at hkx; cases hkx), by omega, fun k h => ?_⟩, fun _ => ⟨S, C, hLv, hx, by omega⟩⟩
  by_cases e : k = key
  · rw [e]; exact h1
  · rw [hs k (hsub k h) e]; exact (hz k (hsub k h)).2
/-- an item goes -/
theorem del_ok {m : Nat} {sz : Nat → Nat} {T : Tr} {key : Nat} (W : Wf m sz T) (hk : key ∈ its T) :
    LkP sz (uI T (lfT T key) ((tI T (lfT T key)).take (pl key (tI T (lfT T key))) ++ (tI T (lfT T key)).drop (pl key (tI T (lfT T key)) + 1))) (lfT T key) ∧
    ∃ A B, its T = A ++ key :: B ∧ its (uI T (lfT T key) ((tI T (lfT T key)).take (pl key (tI T (lfT T key))) ++ (tI T (lfT T key)).drop (pl key (tI T (lfT T key)) + 1))) = A ++ B := by
  obtain ⟨hx, A, B, e1, e2, e3, e4, e5, e6, e7⟩ := lf_spec W key
  have hkx := (lf_mem W key).mp hk
  obtain ⟨S, C, L, hsr, hz, hm⟩ := W
  generalize lfT T key = x at *
  have hsp := pl_split e5 hkx
  generalize pl key (tI T x) = p at *
  have hI : tI (uI T x ((tI T x).take p ++ (tI T x).drop (p + 1))) x = (tI T x).take p ++ (tI T x).drop (p + 1) := by simp only [ti]; exact fu_s _ _ _
  refine ⟨⟨by simp only [ti]; exact Sh.it S hx _, C.it _ _, ?_, by simp only [ti]; exact hx, ?_⟩, A.flatMap (tI T) ++ (tI T x).take p, (tI T x).drop (p + 1) ++ B.flatMap (tI T), ?_, ?_⟩
  · intro y hy he
    have hyx : y ≠ x := fun e => he (by rw [e])
    simp only [ti] at hy ⊢
    rw [fu_n _ _ hyx]
    exact L y hy (by simp)
  · rw [hI]
    have h1 := (L x hx (by simp)).1
    have h2 := congrArg (uz sz) hsp
    rw [uz_app, uz] at h2
    rw [uz_app]; omega
  · rw [e2]
    conv => lhs; rw [hsp]
    simp
  · rw [its_uI e1 e6 e7]; simp
def insT (T : Tr) (key : Nat) : Tr := uI T (lfT T key) ((tI T (lfT T key)).take (pl key (tI T (lfT T key))) ++ key :: (tI T (lfT T key)).drop (pl key (tI T (lfT T key))))
def delT (T : Tr) (key : Nat) : Tr := uI T (lfT T key) ((tI T (lfT T key)).take (pl key (tI T (lfT T key))) ++ (tI T (lfT T key)).drop (pl key (tI T (lfT T key)) + 1))
theorem Wf.of {m : Nat} {sz' : Nat → Nat} {T T' : Tr} (hU : ∀ b, tU T b = true → b < m) (S : Sh T' (tW T')) (C : Ct T' none) (L : Lv sz' T' none) (hs : (its T').Pairwise (· < ·)) (hz : ∀ k ∈ its T', 1 ≤ sz' k ∧ sz' k ≤ 40) (h : ∀ b, m ≤ b → tU T' b = true → tU T b = true) : Wf m sz' T' := by
  refine ⟨S, C, L, hs, hz, fun b hb => ?_⟩
  by_cases e : b < m
  · exact e
  · have := hU b (h b (by omega) hb); omega
theorem set_ins {m : Nat} {sz sz' : Nat → Nat} {T : Tr} {key : Nat} (hm : m ≤ 96) (W : Wf m sz T) (hk : key ∉ its T) (hs : ∀ k ∈ its T, sz' k = sz k) (h0 : 1 ≤ sz' key) (h1 : sz' key ≤ 40) :
    ∃ ok T', sl m sz' (insT T key) (lfT T key) = some (ok, T') ∧ (ok = true → Wf m sz' T' ∧ DF T T' ∧ ∃ A B, its T = A ++ B ∧ its T' = A ++ key :: B) := by
  obtain ⟨P, A, B, a1, a2, a3⟩ := ins_ok W hk hs h1
  obtain ⟨ok, T', b1, b2⟩ := sl_ok hm P
  refine ⟨ok, T', b1, fun hok => ?_⟩
  obtain ⟨c1, c2, c3, c4, c5, c6⟩ := b2 hok
  rw [a2] at c4
  refine ⟨Wf.of W.2.2.2.2.2 c1 c2 c3 (by rw [c4]; exact a3) (fun k h => ?_) (fun b hb h => ?_), c5, A, B, a1, c4⟩
  · rw [c4] at h
    have : k = key ∨ k ∈ its T := by
      rw [a1]
      rcases List.mem_append.mp h with h | h
      · exact .inr (List.mem_append_left _ h)
      · rcases List.mem_cons.mp h with h | h
        · exact .inl h
        · exact .inr (List.mem_append_right _ h)
    rcases this with e | e
    · rw [e]; exact ⟨h0, h1⟩
    · rw [hs k e]; exact W.2.2.2.2.1 k e
  · rw [c6 b hb] at h
    simpa only [ti] using h
theorem set_grow {m : Nat} {sz sz' : Nat → Nat} {T : Tr} {key : Nat} (hm : m ≤ 96) (W : Wf m sz T) (hk : key ∈ its T) (hs : ∀ k ∈ its T, k ≠ key → sz' k = sz k) (h0 : sz key ≤ sz' key) (h1 : sz' key ≤ 40) :
    ∃ ok T', sl m sz' T (lfT T key) = some (ok, T') ∧ (ok = true → Wf m sz' T' ∧ DF T T' ∧ its T' = its T) := by
  have P := (chg_ok W hk hs h1).1 h0
  obtain ⟨ok, T', b1, b2⟩ := sl_ok hm P
  refine ⟨ok, T', b1, fun hok => ?_⟩
  obtain ⟨c1, c2, c3, c4, c5, c6⟩ := b2 hok
  refine ⟨Wf.of W.2.2.2.2.2 c1 c2 c3 (by rw [c4]; exact W.2.2.2.1) (fun k h => ?_) (fun b hb h => ?_), c5, c4⟩
  · rw [c4] at h
    by_cases e : k = key
    · rw [e]; have := W.2.2.2.2.1 key hk; omega
    · rw [hs k h e]; exact W.2.2.2.2.1 k h
  · rw [c6 b hb] at h; exact h
theorem set_less {m : Nat} {sz sz' : Nat → Nat} {T : Tr} {key : Nat} (W : Wf m sz T) (hk : key ∈ its T) (hs : ∀ k ∈ its T, k ≠ key → sz' k = sz k) (h0 : sz' key ≤ sz key) (h1 : 1 ≤ sz' key) :
    ∃ T', lkA sz' 96 T (lfT T key) = some T' ∧ Wf m sz' T' ∧ LkF T T' := by
  have hz := W.2.2.2.2.1 key hk
  have P := (chg_ok W hk hs (by omega)).2 h0
  obtain ⟨T', b1, b2, b3, b4, b5⟩ := lkA_ok 96 T _ P (by have := P.1.row_le 0; omega)
  refine ⟨T', b1, Wf.of W.2.2.2.2.2 b2 b3 b4 (by rw [b5.2.2]; exact W.2.2.2.1) (fun k h => ?_) (fun b _ h => b5.2.1 b h), b5⟩
  rw [b5.2.2] at h
  by_cases e : k = key
  · rw [e]; omega
  · rw [hs k h e]; exact W.2.2.2.2.1 k h
theorem set_del {m : Nat} {sz : Nat → Nat} {T : Tr} {key : Nat} (W : Wf m sz T) (hk : key ∈ its T) :
    ∃ T', lkA sz 96 (delT T key) (lfT T key) = some T' ∧ Wf m sz T' ∧ (∀ b, tH T b = 0 → tH T' b = 0 ∧ tU T' b = tU T b) ∧ (∀ b, tU T' b = true → tU T b = true) ∧ ∃ A B, its T = A ++ key :: B ∧ its T' = A ++ B := by
  obtain ⟨P, A, B, a1, a2⟩ := del_ok W hk
  obtain ⟨T', b1, b2, b3, b4, b5⟩ := lkA_ok 96 _ _ P (by have := P.1.row_le 0; omega)
  have e : its T' = A ++ B := b5.2.2.trans a2
  have hmem : ∀ k, k ∈ its T' → k ∈ its T := by
    intro k h
    rw [e] at h; rw [a1]
    rcases List.mem_append.mp h with h | h
    · exact List.mem_append_left _ h
    · exact List.mem_append_right _ (List.mem_cons_of_mem _ h)
  have b6 : (∀ b, tH T b = 0 → tH T' b = 0 ∧ tU T' b = tU T b) ∧ (∀ b, tU T' b = true → tU T b = true) := ⟨fun b hb => by simpa only [ti] using b5.1 b (by simpa only [ti] using hb), fun b hb => by simpa only [ti] using b5.2.1 b hb⟩
  refine ⟨T', b1, Wf.of W.2.2.2.2.2 b2 b3 b4 ?_ (fun k h => W.2.2.2.2.1 k (hmem k h)) (fun b _ h => b6.2 b h), b6.1, b6.2, A, B, a1, e⟩
  have := W.2.2.2.1
  rw [a1] at this
  rw [e]
  exact this.sublist (List.Sublist.append (List.Sublist.refl _) (List.sublist_cons_self ..))
