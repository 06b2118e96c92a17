/-! ===== THE COMPONENT: its constructor, what each stage makes ===== -/
theorem kX_of {M : Mem} {a : Nat} {q : Nat × Nat} (h : mK M a = some (.inr q)) : kX M a = q := by unfold kX; rw [h]
theorem kO_of {M : Mem} {a k : Nat} (h : mK M a = some (.inl k)) : kO M a = k := by unfold kO; rw [h]
theorem rF_sF (M : Mem) (f a : Nat) (v : Int32) (g b : Nat) : mF (sF M f a v) g b = if g = f ∧ b = a then v else mF M g b := rfl
theorem rR_sR (M : Mem) (f a : Nat) (v : Option Nat) (g b : Nat) : mR (sR M f a v) g b = if g = f ∧ b = a then v else mR M g b := rfl
def NWa (M M' : Mem) (p : Nat) : Prop := mN M' = p + 195 ∧ mS M' = mS M + 24960 ∧
  (∀ a, mK M' a = if a = p + 98 then some (.inr (4, 96)) else if p + 98 < a ∧ a ≤ p + 98 + 96 then some (.inr (1, 129)) else if a = p + 1 then some (.inr (4, 96)) else if p + 1 < a ∧ a ≤ p + 1 + 96 then some (.inr (1, 129)) else mK M a) ∧
  (∀ f a, mF M' f a = if p + 1 ≤ a ∧ a ≤ p + 194 then 0 else mF M f a) ∧
  (∀ f a, mR M' f a = if p + 1 ≤ a ∧ a ≤ p + 194 then none else if f = 4 ∧ a = p then some (p + 1) else mR M f a) ∧
  (∀ a i, mA M' a i = if p + 1 ≤ a ∧ a ≤ p + 194 then 0 else mA M a i) ∧ (∀ a i, mL M' a i = if p + 1 ≤ a ∧ a ≤ p + 194 then 0 else mL M a i) ∧
  (∀ a i, mQ M' a i = if a = p + 98 ∧ i < 96 then some (p + 98 + 1 + i) else if a = p + 1 ∧ i < 96 then some (p + 1 + 1 + i) else if p + 1 ≤ a ∧ a ≤ p + 194 then none else mQ M a i)
theorem NWa.of {M M1 M2 : Mem} {p : Nat} (hN : mN M = p + 1) (h1 : N2 M M1 96 129) (h2 : N2 (sR M1 4 p (some (p + 1))) M2 96 129) : NWa M M2 p := by
  obtain ⟨a1, a2, a3, a4, a5, a6, a7, a8⟩ := h1
  obtain ⟨b1, b2, b3, b4, b5, b6, b7, b8⟩ := h2
  have e : mN (sR M1 4 p (some (p + 1))) = p + 98 := by show mN M1 = _; rw [a1, hN]
  rw [e] at b1
  simp only [Nat.reduceMul, mm] at a2 b2
  rw [a2] at b2
  simp only [e, mm] at b3 b4 b5 b6 b7 b8
  simp only [hN] at a3 a4 a5 a6 a7 a8
  refine ⟨by omega, by simp only [b2, Nat.add_assoc, Nat.reduceAdd], fun a => ?_, fun f a => ?_, fun f a => ?_, fun a i => ?_, fun a i => ?_, fun a i => ?_⟩
  · rw [b3, a3]
  · rw [b4, a4]; repeat' split
    all_goals first | rfl | omega
  · rw [b5, rR_sR, a5]; repeat' split
    all_goals first | rfl | omega
  · rw [b6, a6]; repeat' split
    all_goals first | rfl | omega
  · rw [b7, a7]; repeat' split
    all_goals first | rfl | omega
  · rw [b8, a8]; repeat' split
    all_goals first | rfl | omega
def NWb (M M' : Mem) (p : Nat) : Prop := mN M' = p + 199 ∧ mS M' = mS M + 2208 ∧
  (∀ a, mK M' a = if a = p + 198 then some (.inr (0, 16)) else if a = p + 197 then some (.inr (1, 2048)) else if a = p + 196 then some (.inr (1, 48)) else if a = p + 195 then some (.inr (2, 96)) else mK M a) ∧
  (∀ f a, mF M' f a = if p + 195 ≤ a ∧ a ≤ p + 198 then 0 else mF M f a) ∧
  (∀ f a, mR M' f a = if p + 195 ≤ a ∧ a ≤ p + 198 then none else if f = 5 ∧ a = p then some (p + 198) else if f = 3 ∧ a = p then some (p + 197) else if f = 0 ∧ a = p then some (p + 196) else if f = 1 ∧ a = p then some (p + 195) else if f = 8 ∧ a = p then some (p + 98) else mR M f a) ∧
  (∀ a i, mA M' a i = if p + 195 ≤ a ∧ a ≤ p + 198 then 0 else mA M a i) ∧ (∀ a i, mL M' a i = if p + 195 ≤ a ∧ a ≤ p + 198 then 0 else mL M a i) ∧ (∀ a i, mQ M' a i = if p + 195 ≤ a ∧ a ≤ p + 198 then none else mQ M a i)
theorem NWb.of {M : Mem} {p : Nat} (hN : mN M = p + 195) : NWb M (nwB M p) p := by
  unfold nwB
  refine ⟨?_, ?_, fun a => ?_, fun f a => ?_, fun f a => ?_, fun a i => ?_, fun a i => ?_, fun a i => ?_⟩
  · simp only [mm, mN_nw, hN]
  · simp only [mm, nw_S]
  all_goals simp only [mm, mN_nw, mK_nw, mF_nw, mR_nw, rR_sR, mA_nw, mL_nw, mQ_nw, hN]
  all_goals repeat' split
  all_goals first | rfl | omega
def NWc (M M' : Mem) (p m : Nat) : Prop := mN M' = p + 202 ∧ mS M' = mS M + 105 ∧
  (∀ a, mK M' a = if a = p + 201 then some (.inl 3) else if a = p + 200 then some (.inr (2, 96)) else if a = p + 199 then some (.inl 2) else mK M a) ∧
  (∀ f a, mF M' f a = if f = 10 ∧ a = p + 199 then I (m : Nat) else if p + 199 ≤ a ∧ a ≤ p + 201 then 0 else if f = 7 ∧ a = p then I (m : Nat) else mF M f a) ∧
  (∀ f a, mR M' f a = if f = 11 ∧ a = p + 199 then some (p + 200) else if p + 199 ≤ a ∧ a ≤ p + 201 then none else if f = 6 ∧ a = p then some (p + 199) else mR M f a) ∧
  (∀ a i, mA M' a i = if p + 199 ≤ a ∧ a ≤ p + 201 then 0 else mA M a i) ∧ (∀ a i, mL M' a i = if p + 199 ≤ a ∧ a ≤ p + 201 then 0 else mL M a i) ∧ (∀ a i, mQ M' a i = if p + 199 ≤ a ∧ a ≤ p + 201 then none else mQ M a i)
theorem NWc.of {M : Mem} {p m : Nat} (hN : mN M = p + 199) : NWc M (nwC M p m) p m := by
  unfold nwC
  refine ⟨?_, ?_, fun a => ?_, fun f a => ?_, fun f a => ?_, fun a i => ?_, fun a i => ?_, fun a i => ?_⟩
  · simp only [mm, mN_nw, hN]
  · simp only [mm, nw_S, cSz]
  all_goals simp only [mm, mN_nw, mK_nw, mF_nw, mR_nw, rR_sR, rF_sF, mA_nw, mL_nw, mQ_nw, hN]
  all_goals repeat' split
  all_goals first | rfl | omega
def NWd (M M' : Mem) (p : Nat) : Prop := mN M' = p + 206 ∧ mS M' = mS M + 211 ∧
  (∀ a, mK M' a = if a = p + 205 then some (.inl 4) else if a = p + 204 then some (.inr (7, 8)) else if a = p + 203 then some (.inr (6, 96)) else if a = p + 202 then some (.inr (5, 96)) else mK M a) ∧
  (∀ f a, mF M' f a = if p + 202 ≤ a ∧ a ≤ p + 205 then 0 else mF M f a) ∧
  (∀ f a, mR M' f a = if p + 202 ≤ a ∧ a ≤ p + 205 then none else if f = 9 ∧ a = p then some (p + 201) else if f = 17 ∧ a = p + 201 then some (p + 199) else if f = 13 ∧ a = p + 201 then some (p + 204) else if f = 12 ∧ a = p + 201 then some (p + 203) else if f = 15 ∧ a = p + 201 then some (p + 202) else mR M f a) ∧
  (∀ a i, mA M' a i = if p + 202 ≤ a ∧ a ≤ p + 205 then 0 else mA M a i) ∧ (∀ a i, mL M' a i = if p + 202 ≤ a ∧ a ≤ p + 205 then 0 else mL M a i) ∧ (∀ a i, mQ M' a i = if p + 202 ≤ a ∧ a ≤ p + 205 then none else mQ M a i)
theorem NWd.of {M : Mem} {p : Nat} (hN : mN M = p + 202) : NWd M (nwD M p) p := by
  unfold nwD
  refine ⟨?_, ?_, fun a => ?_, fun f a => ?_, fun f a => ?_, fun a i => ?_, fun a i => ?_, fun a i => ?_⟩
  · simp only [mm, mN_nw, hN]
  · simp only [mm, nw_S, cSz]
  all_goals simp only [mm, mN_nw, mK_nw, mF_nw, mR_nw, rR_sR, mA_nw, mL_nw, mQ_nw, hN]
  all_goals repeat' split
  all_goals first | rfl | omega
