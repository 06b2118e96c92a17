/-! ===== THE COMPONENT: its constructor, what the device's makes ===== -/
def NWe (M M' : Mem) (v J : Nat) (z : Int32) : Prop := mN M' = v + 198 + J ∧ mS M' = mS M + 25056 + 131 * J ∧
  (∀ a, mK M' a = if a = v + 197 + J then some (.inr (0, J)) else if a = v + 196 then some (.inr (4, J)) else if v + 196 < a ∧ a ≤ v + 196 + J then some (.inr (1, 129)) else if a = v + 195 then some (.inr (2, 96)) else if a = v + 98 then some (.inr (4, 96)) else if v + 98 < a ∧ a ≤ v + 98 + 96 then some (.inr (1, 129)) else if a = v + 1 then some (.inr (4, 96)) else if v + 1 < a ∧ a ≤ v + 1 + 96 then some (.inr (1, 129)) else mK M a) ∧
  (∀ f a, mF M' f a = if a = v + 197 + J then 0 else if v + 196 ≤ a ∧ a ≤ v + 196 + J then 0 else if a = v + 195 then 0 else if f = 28 ∧ a = v then z else if f = 23 ∧ a = v then I (-1) else if v + 98 ≤ a ∧ a ≤ v + 98 + 96 then 0 else if v + 1 ≤ a ∧ a ≤ v + 1 + 96 then 0 else mF M f a) ∧
  (∀ f a, mR M' f a = if f = 27 ∧ a = v then some (v + 197 + J) else if a = v + 197 + J then none else if f = 26 ∧ a = v then some (v + 196) else if v + 196 ≤ a ∧ a ≤ v + 196 + J then none else if a = v + 195 then none else if f = 24 ∧ a = v then some (v + 195) else if f = 22 ∧ a = v then some (v + 98) else if v + 98 ≤ a ∧ a ≤ v + 98 + 96 then none else if f = 21 ∧ a = v then some (v + 1) else if v + 1 ≤ a ∧ a ≤ v + 1 + 96 then none else mR M f a) ∧
  (∀ a i, mA M' a i = if a = v + 197 + J then 0 else if v + 196 ≤ a ∧ a ≤ v + 196 + J then 0 else if a = v + 195 then 0 else if v + 98 ≤ a ∧ a ≤ v + 98 + 96 then 0 else if v + 1 ≤ a ∧ a ≤ v + 1 + 96 then 0 else mA M a i) ∧ (∀ a i, mL M' a i = if a = v + 197 + J then 0 else if v + 196 ≤ a ∧ a ≤ v + 196 + J then 0 else if a = v + 195 then 0 else if v + 98 ≤ a ∧ a ≤ v + 98 + 96 then 0 else if v + 1 ≤ a ∧ a ≤ v + 1 + 96 then 0 else mL M a i) ∧
  (∀ a i, mQ M' a i = if a = v + 197 + J then none else if a = v + 196 ∧ i < J then some (v + 196 + 1 + i) else if v + 196 ≤ a ∧ a ≤ v + 196 + J then none else if a = v + 195 then none else if a = v + 98 ∧ i < 96 then some (v + 98 + 1 + i) else if v + 98 ≤ a ∧ a ≤ v + 98 + 96 then none else if a = v + 1 ∧ i < 96 then some (v + 1 + 1 + i) else if v + 1 ≤ a ∧ a ≤ v + 1 + 96 then none else mQ M a i)
def NWf (M M' : Mem) (v : Nat) (z : Int32) : Prop := mN M' = v + 196 ∧ mS M' = mS M + 96 ∧
  (∀ a, mK M' a = if a = v + 195 then some (.inr (2, 96)) else mK M a) ∧
  (∀ f a, mF M' f a = if a = v + 195 then 0 else if f = 28 ∧ a = v then z else if f = 23 ∧ a = v then I (-1) else mF M f a) ∧
  (∀ f a, mR M' f a = if a = v + 195 then none else if f = 24 ∧ a = v then some (v + 195) else if f = 22 ∧ a = v then some (v + 98) else mR M f a) ∧
  (∀ a i, mA M' a i = if a = v + 195 then 0 else mA M a i) ∧ (∀ a i, mL M' a i = if a = v + 195 then 0 else mL M a i) ∧ (∀ a i, mQ M' a i = if a = v + 195 then none else mQ M a i)
theorem NWf.of {M : Mem} {v : Nat} {z : Int32} (hN : mN M = v + 195) : NWf M (nwE M v z) v z := by
  unfold nwE
  refine ⟨?_, ?_, fun a => ?_, fun f a => ?_, fun f a => ?_, fun a i => ?_, fun a i => ?_, fun a i => ?_⟩
  · simp only [mm, mN_nw, hN]
  · simp only [mm, nw_S]
  all_goals simp only [mm, mN_nw, mK_nw, mF_nw, mR_nw, rR_sR, rF_sF, mA_nw, mL_nw, mQ_nw, hN]
  all_goals repeat' split
  all_goals first | rfl | omega
theorem NWe.of {M M1 M2 M3 : Mem} {v J : Nat} {z : Int32} (hN : mN M = v + 1) (h1 : N2 M M1 96 129) (h2 : N2 (sR M1 21 v (some (v + 1))) M2 96 129) (h3 : N2 (nwE M2 v z) M3 J 129) : NWe M (sR (nw (sR M3 26 v (some (v + 196))) (.inr (0, J)) J) 27 v (some (v + 197 + J))) v J z := by
  obtain ⟨a1, a2, a3, a4, a5, a6, a7, a8⟩ := h1
  obtain ⟨b1, b2, b3, b4, b5, b6, b7, b8⟩ := h2
  have e : mN (sR M1 21 v (some (v + 1))) = v + 98 := by show mN M1 = _; rw [a1, hN]
  rw [e] at b1
  simp only [Nat.reduceMul, mm] at a2 b2
  rw [a2] at b2
  obtain ⟨g1, g2, g3, g4, g5, g6, g7, g8⟩ := NWf.of (M := M2) (v := v) (z := z) (by omega)
  obtain ⟨c1, c2, c3, c4, c5, c6, c7, c8⟩ := h3
  generalize nwE M2 v z = M9 at *
  rw [g1] at c1
  rw [g2] at c2
  simp only [e, mm] at b3 b4 b5 b6 b7 b8
  simp only [hN] at a3 a4 a5 a6 a7 a8
  simp only [g1] at c3 c4 c5 c6 c7 c8
  have n3 : mN M3 = v + 197 + J := by omega
  refine ⟨?_, ?_, fun a => ?_, fun f a => ?_, fun f a => ?_, fun a i => ?_, fun a i => ?_, fun a i => ?_⟩
  · simp only [mm, mN_nw]; omega
  · simp only [mm, nw_S, c2, g2, b2, Nat.add_assoc, Nat.reduceAdd]; rw [show J + (J * 129 + J) = 131 * J by omega]
  · simp only [mm, mK_nw, n3]; rw [c3, g3, b3, a3]
  · simp only [mm, mF_nw, n3]; rw [c4, g4, b4, a4]
  · simp only [mm, mR_nw, rR_sR, n3]; rw [c5, g5, b5, rR_sR, a5]
  · simp only [mm, mA_nw, n3]; rw [c6, g6, b6, a6]
  · simp only [mm, mL_nw, n3]; rw [c7, g7, b7, a7]
  · simp only [mm, mQ_nw, n3]; rw [c8, g8, b8, a8]
