/-! ===== FIRST KEYS BELOW NODES; THE WAY DOWN ===== -/
def fkey (T : Tr) : Nat → Nat → Nat
  | 0, x => (tI T x).headD 0
  | h + 1, x => fkey T h ((tC T x).headD 0)
theorem heads_sorted : ∀ {l : List Nat} {f : Nat → List Nat}, (l.flatMap f).Pairwise (· < ·) → (∀ x ∈ l, f x ≠ []) → (l.map (fun x => (f x).headD 0)).Pairwise (· < ·)
  | [], _, _, _ => List.Pairwise.nil
  | x :: l, f, hs, hn => by
    rw [List.flatMap_cons] at hs
    obtain ⟨h1, h2, h3⟩ := List.pairwise_append.mp hs
    rw [List.map_cons]
    refine List.pairwise_cons.mpr ⟨fun y hy => ?_, heads_sorted h2 (fun z hz => hn z (List.mem_cons_of_mem _ hz))⟩
    obtain ⟨z, hz, rfl⟩ := List.mem_map.mp hy
    have hzn := hn z (List.mem_cons_of_mem _ hz)
    have hxn := hn x (List.mem_cons_self ..)
    refine h3 _ ?_ _ (List.mem_flatMap.mpr ⟨z, hz, ?_⟩)
    · cases hfx : f x with
      | nil => exact absurd hfx hxn
      | cons a t => exact List.mem_cons_self ..
    · cases hfz : f z with
      | nil => exact absurd hfz hzn
      | cons a t => exact List.mem_cons_self ..
theorem heads_sub {g : Nat → Nat} {f : Nat → List Nat} : ∀ {l : List Nat}, (∀ x ∈ l, f x ≠ []) → (l.map (fun x => g ((f x).headD 0))).Sublist ((l.flatMap f).map g)
  | [], _ => by simp
  | x :: l, h => by
    rw [List.map_cons, List.flatMap_cons, List.map_append]
    have ih := heads_sub (g := g) (f := f) (l := l) (fun y hy => h y (List.mem_cons_of_mem _ hy))
    have hx := h x (List.mem_cons_self ..)
    cases hfx : f x with
    | nil => exact absurd hfx hx
    | cons a t =>
      rw [List.map_cons, List.cons_append]
      exact (ih.trans (List.sublist_append_right _ _)).cons_cons _
theorem fk_sorted {m : Nat} {sz : Nat → Nat} {T : Tr} (W : Wf m sz T) (hne : ∀ x ∈ tW T 0, tI T x ≠ []) : ∀ h, h < tN T → ((tW T h).map (fkey T h)).Pairwise (· < ·)
  | 0, _ => heads_sorted W.2.2.2.1 hne
  | h + 1, hh => by
    have ih := fk_sorted W hne h (by omega)
    have h1 := W.1.2.2.2.2.2.2.1 h hh
    have hc : ∀ x ∈ tW T (h + 1), tC T x ≠ [] := by
      intro x hx e
      have := (W.2.1 h x hx (by simp)).1
      rw [e] at this; simp at this
    rw [← h1] at ih
    exact ih.sublist (heads_sub (g := fkey T h) hc)
/-- a node on the way to a key -/
def On (T : Tr) (key h c : Nat) : Prop := ∃ A B, tW T h = A ++ c :: B ∧ (A = [] ∨ fkey T h c ≤ key) ∧ ∀ y ∈ B, key < fkey T h y
theorem on_root {T : Tr} (S : Sh T (tW T)) (key : Nat) : On T key (tN T - 1) (tR T) := ⟨[], [], S.2.2.2.2.2.2.2.1.1, .inl rfl, fun y hy => by cases hy⟩
theorem on_down {m : Nat} {sz : Nat → Nat} {T : Tr} (W : Wf m sz T) (hne : ∀ x ∈ tW T 0, tI T x ≠ []) {key h p c : Nat} {C1 C2 : List Nat} (hh : h + 1 < tN T) (O : On T key (h + 1) p) (hC : tC T p = C1 ++ c :: C2) (h1 : C1 = [] ∨ fkey T h c ≤ key) (h2 : ∀ y ∈ C2, key < fkey T h y) : On T key h c := by
  obtain ⟨A, B, e, a1, a2⟩ := O
  have hrow := W.1.2.2.2.2.2.2.1 h hh
  refine ⟨A.flatMap (tC T) ++ C1, C2 ++ B.flatMap (tC T), ?_, ?_, fun y hy => ?_⟩
  · rw [← hrow, e]; simp [hC]
  · rcases a1 with a1 | a1
    · subst a1
      rcases h1 with h1 | h1
      · left; rw [h1]; rfl
      · exact .inr h1
    · right
      rcases h1 with h1 | h1
      · subst h1
        have : fkey T (h + 1) p = fkey T h c := by rw [fkey, hC]; rfl
        rw [← this]; exact a1
      · exact h1
  · rcases List.mem_append.mp hy with hy | hy
    · exact h2 y hy
    · obtain ⟨b, hb, hyb⟩ := List.mem_flatMap.mp hy
      have hk := a2 b hb
      have hbm : b ∈ tW T (h + 1) := by rw [e]; exact List.mem_append_right _ (List.mem_cons_of_mem _ hb)
      have hs := fk_sorted W hne h (by omega)
      rw [← hrow] at hs
      obtain ⟨l1, l2, el, _⟩ := mem_dec hbm
      rw [el, List.flatMap_append, List.flatMap_cons, List.map_append, List.map_append] at hs
      have hs' := (List.pairwise_append.mp (List.pairwise_append.mp hs).2.1).1
      have hkb : fkey T (h + 1) b = fkey T h ((tC T b).headD 0) := rfl
      rw [hkb] at hk
      cases hcb : tC T b with
      | nil => rw [hcb] at hyb; cases hyb
      | cons z zs =>
        rw [hcb] at hyb hk hs'
        rcases List.mem_cons.mp hyb with hz | hz
        · rw [hz]; exact hk
        · have := (List.pairwise_cons.mp (by rw [List.map_cons] at hs'; exact hs')).1 (fkey T h y) (List.mem_map.mpr ⟨y, hz, rfl⟩)
          have hk' : key < fkey T h z := hk
          omega
theorem on_leaf {m : Nat} {sz : Nat → Nat} {T : Tr} (W : Wf m sz T) (hne : ∀ x ∈ tW T 0, tI T x ≠ []) {key x : Nat} (O : On T key 0 x) : lfT T key = x := by
  obtain ⟨A, B, e, a1, a2⟩ := O
  unfold lfT
  rw [e]
  refine lfk_is (fun y hy k hk => ?_) ?_
  · have h1 := a2 y hy
    have hym : y ∈ tW T 0 := by rw [e]; exact List.mem_append_right _ (List.mem_cons_of_mem _ hy)
    have hs : (tI T y).Pairwise (· < ·) := by
      have := W.2.2.2.1
      unfold its at this
      obtain ⟨l1, l2, el, _⟩ := mem_dec hym
      rw [el, List.flatMap_append, List.flatMap_cons] at this
      exact (List.pairwise_append.mp (List.pairwise_append.mp this).2.1).1
    rw [fkey] at h1
    cases hf : tI T y with
    | nil => rw [hf] at hk; cases hk
    | cons z zs =>
      rw [hf] at hk hs h1
      have h1 : key < z := h1
      rcases List.mem_cons.mp hk with h | h
      · omega
      · have := (List.pairwise_cons.mp hs).1 k h; omega
  · rcases a1 with a1 | a1
    · exact .inl a1
    · right
      have hxm : x ∈ tW T 0 := by rw [e]; simp
      have := hne x hxm
      rw [fkey] at a1
      cases hf : tI T x with
      | nil => exact absurd hf this
      | cons z zs => rw [hf] at a1; exact ⟨z, rfl, a1⟩
