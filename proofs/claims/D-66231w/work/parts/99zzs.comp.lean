/-! ===== THE COMPONENT: its constructor in one word ===== -/
section Cn12
variable {d p m J : Nat} {M : Mem} {Q : Outcome → Mem → Prop}
def v9d : Dv := (0, -1, false, 0, 0, fun _ => false)
theorem c_comp (hd : 70 ≤ d) (hk : mK M p = some (.inl 1)) (hN : mN M = p + 1) {z y : Int} (z0 : -2147483648 ≤ z) (z1 : z < 2147483648) (y0 : -2147483648 ≤ y) (y1 : y < 2147483648) (hm : (m : Int) = if z < 16 then 16 else if 96 < z then 96 else z) (hJ : (J : Int) = if y < 6 then 6 else if 64 < y then 64 else y)
    (hE : ∀ a, mN M ≤ a → mK M a = none) (hQ : ∀ M' A la, CX M' p m J A (T9 [4096]) X9 → DR M' p (T9 [4096]) (fun _ _ => 0) → DJv M' p m J v9d la → CMt m (T9 [4096]) X9 (fun _ _ => 0) la → (∀ x, x < p → mK M' x = mK M x ∧ Sm M M' x) → mN M' ≤ p + 403 + J + nC A → mS M' ≤ mS M + 61000 + sC A → Q (.returned none) M') :
    Wp d 20 0 [some (.ref p), some (.int (I z)), some (.int (I y)), none, none] [] M Q := by
  refine c_new20 (by omega) hk hN z0 z1 y0 y1 hm hJ hE (fun M1 K1 L1 S1 => c_new20y (by omega) K1 (fun M2 A C2 g2 F2 v3 => c_new20x (by omega) C2 g2 (fun M3 C3 R3 h1 h2 h3 => ?_)))
  obtain ⟨P, U, Kt, h18, ⟨d1, d2, d3, d4, d5⟩, hz, n1⟩ := K1
  obtain ⟨m0, m1, j0, j1⟩ := P.2.2.2.2.2.2.2.2.2.2
  have f3 := R3.f1
  have hno : ∀ a, (a < p ∨ p + 204 < a) → ¬ CO p A9 a := by
    intro a ha ho
    rcases ho with h | ⟨b, q, h, _⟩ | ⟨b, q, h, _⟩
    · omega
    · cases h
    · cases h
  have s205 := F2.2.1 (p + 205) (by omega) (hno _ (by omega))
  have F : ∀ f, mF M3 f (p + 205) = mF M1 f (p + 205) := fun f => by rw [f3.2.2.1, s205.1]
  have hn9 := nC_A9
  refine hQ M3 A (g9 m) C3 ?_ ?_ ?_ (fun x hx => ?_) ?_ ?_
  · intro b b1 b2 b3
    rcases T9_mU b1 with e | e
    · exact absurd e b3
    · subst e; exact absurd b2 (by decide)
  · refine ⟨0, fun _ => 0, fun _ _ => 0, g9 m, [], ⟨⟨by rw [F]; exact d1, by rw [F]; exact d2, by rw [F]; exact d3, by rw [F]; exact d4, by rw [F]; exact d5, Nat.zero_le _, by decide, by decide⟩, fun i hi => absurd hi (Nat.not_lt_zero _), fun i hi => absurd hi (Nat.not_lt_zero _), fun b hb => (h2 b hb).1, fun b hb => (h2 b hb).2⟩, rfl, Nat.le_refl _, fun i h1 h2 => absurd h2 (Nat.not_lt_zero _), fun g hg => (by cases hg), fun b i _ _ => rfl, fun _ => rfl, fun b => rfl⟩
  · refine ⟨X9_gt (by omega), fun b hb i => ?_⟩
    unfold g9
    rw [if_pos (by rcases T9_mU hb with e | e <;> omega)]
  · have l1 := L1 x hx
    have s2 := F2.2.1 x (by omega) (hno x (.inl hx))
    have k2 := F2.1 x (by omega)
    refine ⟨by rw [f3.2.2.2.2.2.2.2.2, k2]; exact l1.1, fun f => ?_, fun f => ?_, fun i => ?_, fun i => ?_, fun i => ?_⟩
    · rw [f3.2.2.1, s2.1]; exact l1.2.1 f
    · rw [f3.2.2.2.1, s2.2.1]; exact l1.2.2.1 f
    · rw [h3 _ _ (by omega), s2.2.2.1]; exact l1.2.2.2.1 i
    · rw [f3.2.2.2.2.1, s2.2.2.2.1]; exact l1.2.2.2.2.1 i
    · rw [f3.2.2.2.2.2.1, s2.2.2.2.2]; exact l1.2.2.2.2.2 i
  · have := F2.2.2.2.2.2.2.2.1
    rw [f3.2.2.2.2.2.2.1]; omega
  · have := F2.2.2.2.2.2.2.2.2
    rw [f3.2.2.2.2.2.2.2.1]; omega
end Cn12
