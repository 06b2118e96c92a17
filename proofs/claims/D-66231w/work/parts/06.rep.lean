/-! ===== the heap that a memory pictures ===== -/
abbrev Dn : Type := (Nat → ClassId) × (Nat → Nat) × (Nat → ClassId)
/-- what a place of an array holds -/
def aV (M : Mem) (t a j : Nat) : Value := if t = 3 then .long (mL M a j) else if t = 4 ∨ t = 5 ∨ t = 6 ∨ t = 7 then va_rf (mQ M a j) else .int (mA M a j)
def RepC (D : Dn) (U : State) (bs : Nat) (M : Mem) (a : Nat) (H : Heap) : Kd → Prop
  | .inl k => k ∈ cOb ∧ bs ≤ a ∧ ∃ cell : Cell, H[a]? = some cell ∧ cell.cls = D.1 k ∧ cell.vm = .none ∧ ∀ f ∈ cFl k, cell.slots[D.2.1 f]? = some (fV M f a)
  | .inr (t, n) => (t = 8 ∧ a < bs ∧ ∃ scr : Cell, H[a]? = some scr ∧ U.isArrayOf scr .int ∧ scr.vm ≠ .unknown ∧ scr.slots.size = n ∧ ∀ j : Nat, j < n → scr.slots[j]? = some (.int (mA M a j))) ∨
      (t < 8 ∧ bs ≤ a ∧ H[a]? = some (arrV (D.2.2 t) n (aV M t a)))
def Rep (D : Dn) (U : State) (bs : Nat) (H0 : Heap) (M : Mem) (H : Heap) : Prop :=
  H.size = mN M ∧ bs ≤ mN M ∧ (∀ q : Nat, q < bs → H[q]? = H0[q]?) ∧ (∀ q : Nat, bs ≤ q → q < H.size → ∃ cell : Cell, H[q]? = some cell ∧ cell.vm = .none) ∧ ∀ (a : Nat) (κ : Kd), mK M a = some κ → RepC D U bs M a H κ
theorem RepC.keep {D : Dn} {U : State} {bs : Nat} {M M' : Mem} {a : Nat} {H H' : Heap} {κ : Kd} (h : RepC D U bs M a H κ) (hH : H'[a]? = H[a]?) (hf : ∀ g, fV M' g a = fV M g a) (ha : ∀ t j, aV M' t a j = aV M t a j) (hm : ∀ j, mA M' a j = mA M a j) : RepC D U bs M' a H' κ := by
  cases κ with
  | inl k =>
    obtain ⟨h0, h1, cell, h2, h3, h4, h5⟩ := h
    exact ⟨h0, h1, cell, hH.trans h2, h3, h4, fun f hf' => by rw [hf]; exact h5 f hf'⟩
  | inr q =>
    obtain ⟨t, n⟩ := q
    rcases h with ⟨h1, h2, scr, h3, h4, h5, h6, h7⟩ | ⟨h1, h2, h3⟩
    · exact Or.inl ⟨h1, h2, scr, hH.trans h3, h4, h5, h6, fun j hj => by rw [hm]; exact h7 j hj⟩
    · refine Or.inr ⟨h1, h2, ?_⟩
      rw [hH, h3]
      congr 2
      funext j
      exact (ha t j).symm
theorem RepC.moved {D : Dn} {u U : State} {bs : Nat} {M : Mem} {a : Nat} {H : Heap} {κ : Kd} (hvm : u.vm.Alike U.vm) (h : RepC D u bs M a H κ) : RepC D U bs M a H κ := by
  cases κ with
  | inl k => exact h
  | inr q =>
    obtain ⟨t, n⟩ := q
    rcases h with ⟨h1, h2, scr, h3, h4, h5⟩ | h
    · exact Or.inl ⟨h1, h2, scr, h3, State.isArrayOf_alike hvm h4, h5⟩
    · exact Or.inr h
theorem Rep.moved {D : Dn} {u U : State} {bs : Nat} {H0 H : Heap} {M : Mem} (hvm : u.vm.Alike U.vm) (h : Rep D u bs H0 M H) : Rep D U bs H0 M H := ⟨h.1, h.2.1, h.2.2.1, h.2.2.2.1, fun a κ hk => (h.2.2.2.2 a κ hk).moved hvm⟩
theorem RepC.lt {D : Dn} {U : State} {bs : Nat} {M : Mem} {a : Nat} {H : Heap} {κ : Kd} (h : RepC D U bs M a H κ) : a < H.size := by
  cases κ with
  | inl k =>
    obtain ⟨h0, h1, cell, h2, -⟩ := h
    exact (Array.getElem?_eq_some_iff.mp h2).1
  | inr q =>
    obtain ⟨t, n⟩ := q
    rcases h with ⟨h1, h2, scr, h3, -⟩ | ⟨h1, h2, h3⟩
    · exact (Array.getElem?_eq_some_iff.mp h3).1
    · exact (Array.getElem?_eq_some_iff.mp h3).1
/-- a field of an object was written -/
theorem Rep.obj {D : Dn} {U : State} {bs : Nat} {H0 H H' : Heap} {M M' : Mem} {a k f : Nat} {v : Value} {cell : Cell} (h : Rep D U bs H0 M H) (hk : mK M a = some (.inl k)) (hf : f ∈ cFl k) (hap : ∀ g ∈ cFl k, g ≠ f → D.2.1 g ≠ D.2.1 f)
    (hK : ∀ b, mK M' b = mK M b) (hN : mN M' = mN M) (hv : fV M' f a = v) (ho : ∀ g b, ¬ (g = f ∧ b = a) → fV M' g b = fV M g b) (hA : ∀ t b j, aV M' t b j = aV M t b j) (hs : ∀ b j, mA M' b j = mA M b j)
    (hc : H[a]? = some cell) (e1 : H'[a]? = some (cell.setSlot (D.2.1 f) v)) (e2 : H'.size = H.size) (e3 : ∀ q, q ≠ a → H'[q]? = H[q]?) : Rep D U bs H0 M' H' := by
  obtain ⟨g1, g2, g3, g4, g5⟩ := h
  obtain ⟨r0, r1, cell', r2, r3, r4, r5⟩ := g5 a _ hk
  cases hc.symm.trans r2
  refine ⟨by rw [e2, hN]; exact g1, by rw [hN]; exact g2, fun q hq => by rw [e3 q (by omega)]; exact g3 q hq, fun q h1 h2 => ?_, fun b κ hb => ?_⟩
  · by_cases hq : q = a
    · subst hq
      exact ⟨_, e1, r4⟩
    · obtain ⟨cq, hcq, hvq⟩ := g4 q h1 (by omega)
      exact ⟨cq, by rw [e3 q hq]; exact hcq, hvq⟩
  · rw [hK] at hb
    by_cases hba : b = a
    · subst hba
      cases hk.symm.trans hb
      refine ⟨r0, r1, _, e1, r3, r4, fun g hg => ?_⟩
      by_cases hgf : g = f
      · subst hgf
        rw [hv]
        exact Cell.slots_setSlot_self v (k2_hasslot (r5 g hg))
      · rw [slot_ne _ _ (fun q => hap g hg hgf q.symm), ho g b (fun q => hgf q.1)]
        exact r5 g hg
    · exact (g5 b κ hb).keep (e3 b hba) (fun g => ho g b (fun q => hba q.2)) (fun t j => hA t b j) (fun j => hs b j)
/-- a place of an array was written -/
theorem Rep.arr {D : Dn} {U : State} {bs : Nat} {H0 H H' : Heap} {M M' : Mem} {a t n j : Nat} {v : Value} (h : Rep D U bs H0 M H) (hk : mK M a = some (.inr (t, n))) (ht : t < 8)
    (hK : ∀ b, mK M' b = mK M b) (hN : mN M' = mN M) (hF : ∀ g b, fV M' g b = fV M g b) (hv : aV M' t a j = v) (ho : ∀ i, i ≠ j → aV M' t a i = aV M t a i) (hA : ∀ t' b i, b ≠ a → aV M' t' b i = aV M t' b i) (hs : ∀ b i, b ≠ a → mA M' b i = mA M b i)
    (e1 : H'[a]? = some ((arrV (D.2.2 t) n (aV M t a)).setSlot j v)) (e2 : H'.size = H.size) (e3 : ∀ q, q ≠ a → H'[q]? = H[q]?) : Rep D U bs H0 M' H' := by
  obtain ⟨g1, g2, g3, g4, g5⟩ := h
  rcases g5 a _ hk with ⟨r1, -⟩ | ⟨r1, r2, r3⟩
  · omega
  refine ⟨by rw [e2, hN]; exact g1, by rw [hN]; exact g2, fun q hq => by rw [e3 q (by omega)]; exact g3 q hq, fun q h1 h2 => ?_, fun b κ hb => ?_⟩
  · by_cases hq : q = a
    · subst hq
      exact ⟨_, e1, rfl⟩
    · obtain ⟨cq, hcq, hvq⟩ := g4 q h1 (by omega)
      exact ⟨cq, by rw [e3 q hq]; exact hcq, hvq⟩
  · rw [hK] at hb
    by_cases hba : b = a
    · subst hba
      cases hk.symm.trans hb
      refine Or.inr ⟨r1, r2, ?_⟩
      rw [e1, arrV_store]
      congr 2
      funext i
      by_cases hi : i = j
      · subst hi
        simp [updV, hv]
      · simp [updV, hi, ho i hi]
    · exact (g5 b κ hb).keep (e3 b hba) (fun g => hF g b) (fun t' i => hA t' b i hba) (fun i => hs b i hba)
/-- a new cell -/
theorem nw_N (M : Mem) (κ : Kd) (n : Nat) : mN (nw M κ n) = mN M + 1 := rfl
theorem nw_S (M : Mem) (κ : Kd) (n : Nat) : mS (nw M κ n) = mS M + n := rfl
theorem Rep.new {D : Dn} {U : State} {bs : Nat} {H0 H H' : Heap} {M : Mem} {κ : Kd} {n : Nat} {cell : Cell} (h : Rep D U bs H0 M H) (e1 : H'[mN M]? = some cell) (e2 : H'.size = mN M + 1) (e3 : ∀ q, q < mN M → H'[q]? = H[q]?) (hvm : cell.vm = .none) (hr : RepC D U bs (nw M κ n) (mN M) H' κ) : Rep D U bs H0 (nw M κ n) H' := by
  obtain ⟨g1, g2, g3, g4, g5⟩ := h
  refine ⟨by rw [e2, nw_N], by rw [nw_N]; omega, fun q hq => by rw [e3 q (by omega)]; exact g3 q hq, fun q h1 h2 => ?_, fun b κ' hb => ?_⟩
  · by_cases hq : q = mN M
    · subst hq
      exact ⟨_, e1, hvm⟩
    · obtain ⟨cq, hcq, hvq⟩ := g4 q h1 (by omega)
      exact ⟨cq, by rw [e3 q (by omega)]; exact hcq, hvq⟩
  · by_cases hba : b = mN M
    · subst hba
      have h1 : mK (nw M κ n) (mN M) = some κ := by simp [mK, nw]
      cases h1.symm.trans hb
      exact hr
    · have h1 : mK (nw M κ n) b = mK M b := by simp [mK, nw, hba]
      rw [h1] at hb
      have hlt := (g5 b κ' hb).lt
      refine (g5 b κ' hb).keep (e3 b (by omega)) (fun g => ?_) (fun t i => ?_) (fun i => ?_)
      · simp [fV, mR, mF, nw, hba]
      · simp [aV, mL, mQ, mA, nw, hba]
      · simp [mA, nw, hba]
