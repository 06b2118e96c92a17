/-! ===== THE COMPONENT: add ===== -/
/-- what is left of a tree when there was no room -/
def JT (M : Mem) (t r m : Nat) (A : Ad) : Prop := TK M t r A ∧ ∃ u, RmIs M r (r + 1) m u
theorem RM.jt {M : Mem} {t r m : Nat} {A : Ad} {T : Tr} {py : Nat → List Nat} {e : Option Nat} (R : RM M t r m A T py e) : JT M t r m A := ⟨R.1, _, R.2.1⟩
/-- an exception is made -/
theorem JT.exc {M : Mem} {t r m : Nat} {A : Ad} (J : JT M t r m A) : JT (nw M (.inl 14) 6) t r m A ∧ Fr t r A A 1 M (nw M (.inl 14) 6) ∧ kO (nw M (.inl 14) 6) (mN M) = 14 := by
  obtain ⟨⟨⟨h1, h2, h3, h4, h5, h6, h7, h8⟩, k2, k3, k4, G⟩, u, g1, g2, g3, g4, g5, g6⟩ := J
  have kO' : ∀ {a k : Nat}, kO M a = k → k ≠ 0 → kO (nw M (.inl 14) 6) a = k := by
    intro a k h hk; have := lt_kO G h hk
    rw [kO_nw, if_neg (by omega)]; exact h
  have kX' : ∀ {a : Nat} {p : Nat × Nat}, kX M a = p → p.1 ≠ 9 → kX (nw M (.inl 14) 6) a = p := by
    intro a p h hk; have := lt_kX G h hk
    rw [kX_nw, if_neg (by omega)]; exact h
  have oF : ∀ {a : Nat} (f : Nat), a < mN M → mF (nw M (.inl 14) 6) f a = mF M f a := fun f h => by rw [mF_nw, if_neg (by omega)]
  have oR : ∀ {a : Nat} (f : Nat), a < mN M → mR (nw M (.inl 14) 6) f a = mR M f a := fun f h => by rw [mR_nw, if_neg (by omega)]
  have oA : ∀ {a : Nat} (i : Nat), a < mN M → mA (nw M (.inl 14) 6) a i = mA M a i := fun f h => by rw [mA_nw, if_neg (by omega)]
  have oQ : ∀ {a : Nat} (i : Nat), a < mN M → mQ (nw M (.inl 14) 6) a i = mQ M a i := fun f h => by rw [mQ_nw, if_neg (by omega)]
  have lt := lt_kO G h1 (by omega)
  refine ⟨⟨⟨⟨kO' h1 (by omega), by rw [oR _ lt]; exact h2, kX' h3 (by decide), by rw [oR _ lt]; exact h4, kX' h5 (by decide), by rw [oR _ lt]; exact h6, kX' h7 (by decide), by rw [oR _ lt]; exact h8⟩, fun b hb => ?_, fun b q hq => ?_, fun b q hq => ?_, fun a ha => ?_⟩, u, kO' g1 (by omega), ?_, ?_, kX' g4 (by decide), g5, fun b hb => ?_⟩, ⟨fun a ha => ?_, fun a ha _ => ⟨fun f => oF f ha, fun f => oR f ha, fun i => oA i ha, fun i => oQ i ha, fun i => by rw [mL_nw, if_neg (by omega)]⟩, fun _ _ h => h, fun _ _ h => h, fun _ _ h => .inl h, fun _ _ h => .inl h, by rw [mN_nw]; omega, by rw [mN_nw]; omega, by rw [mS_nw]; omega⟩, by rw [kO_nw, if_pos rfl]⟩
  · rw [oQ _ (lt_kX G h3 (by decide)), oQ _ (lt_kX G h5 (by decide))]; exact k2 b hb
  · obtain ⟨a1, ⟨c0, c1, c2, c3, c4, c5, c6⟩, a3⟩ := k3 b q hq
    have l := lt_kO G c0 (by omega)
    exact ⟨a1, ⟨kO' c0 (by omega), by rw [oR _ l]; exact c1, by rw [oR _ l]; exact c2, by rw [oR _ l]; exact c3, kX' c4 (by decide), kX' c5 (by decide), kX' c6 (by decide)⟩, by rw [oF _ l]; exact a3⟩
  · obtain ⟨a1, ⟨c0, c1, c2⟩, a3⟩ := k4 b q hq
    have l := lt_kO G c0 (by omega)
    exact ⟨a1, ⟨kO' c0 (by omega), by rw [oR _ l]; exact c1, kX' c2 (by decide)⟩, by rw [oF _ l]; exact a3⟩
  · rw [mN_nw] at ha; rw [mK_nw, if_neg (by omega)]; exact G a (by omega)
  · rw [oF _ (lt_kO G g1 (by omega))]; exact g2
  · rw [oR _ (lt_kO G g1 (by omega))]; exact g3
  · rw [oA _ (lt_kX G g4 (by decide))]; exact g6 b hb
  · rw [mK_nw, if_neg (by omega)]
theorem RM.exm {M : Mem} {t r m : Nat} {A : Ad} {T : Tr} {py : Nat → List Nat} {b : Nat} (R : RM M t r m A (uP T b none) py none) : RM M t r m A T py (some b) := by
  obtain ⟨r1, r2, r3, r4, r5, r6, r7⟩ := R
  refine ⟨r1, r2, r3, r4, fun h b' q h1 h2 h3 => ?_, r6, r7⟩
  have := r5 h b' q h1 (by simp) h3
  simp only [tp] at this
  rw [fu_n _ _ (by intro e; exact h2 (by rw [e]))] at this
  exact this
section CA
variable {t r m : Nat} {py : Nat → List Nat}
/-- a block is taken: the tree has it, and it isn't a node -/
theorem n_take {d : Nat} {M : Mem} {Q : Outcome → Mem → Prop} {A : Ad} {T : Tr} {e : Option Nat} (R : RM M t r m A T py e) (hQ1 : ∀ k M', fr (tU T) m 0 = some k → k < 96 → RM M' t r m A (tk T k) py e → Fr t r A A 0 M M' → Q (.returned (some (.int (I (k : Nat))))) M') (hQ2 : fr (tU T) m 0 = none → ∀ M' a, JT M' t r m A → Fr t r A A 1 M M' → kO M' a = 14 → Q (.threw a) M') : Wp d 88 0 [some (.ref r), none] [] M Q := by
  have h96 := R.2.1.2.2.2.2.1
  refine r_take R.2.1 (fun k hk h1 h2 => ?_) (fun h => ?_)
  · refine hQ1 k _ (fr_some hk h1 h2) (by omega) ?_ (Fr.use t r A M k _)
    exact (R.use (b := k) true).un k
  · obtain ⟨j1, j2, j3⟩ := R.jt.exc
    exact hQ2 (fr_none h) _ _ j1 j2 j3
end CA
