/-! ===== THE COMPONENT: the object and what it has for good ===== -/
def PK (M : Mem) (p m J : Nat) : Prop :=
  (kO M p = 1 ∧ mR M 4 p = some (p + 1) ∧ mR M 8 p = some (p + 98) ∧ mR M 1 p = some (p + 195) ∧ mR M 0 p = some (p + 196) ∧ mR M 3 p = some (p + 197) ∧ mR M 5 p = some (p + 198) ∧ mR M 6 p = some (p + 199) ∧ mR M 9 p = some (p + 201) ∧ mR M 2 p = some (p + 205) ∧ mF M 7 p = I (m : Nat)) ∧
  Rows M (p + 1) (fun b => p + 2 + b) ∧ Rows M (p + 98) (fun b => p + 99 + b) ∧ (kX M (p + 195) = (2, 96) ∧ kX M (p + 196) = (1, 48) ∧ kX M (p + 197) = (1, 2048) ∧ kX M (p + 198) = (0, 16)) ∧
  (kO M (p + 205) = 4 ∧ mR M 21 (p + 205) = some (p + 206) ∧ mR M 22 (p + 205) = some (p + 303) ∧ mR M 24 (p + 205) = some (p + 400) ∧ mR M 26 (p + 205) = some (p + 401) ∧ mR M 27 (p + 205) = some (p + 402 + J) ∧ mF M 28 (p + 205) = I (m : Nat)) ∧
  Rows M (p + 206) (fun b => p + 207 + b) ∧ Rows M (p + 303) (fun b => p + 304 + b) ∧ kX M (p + 400) = (2, 96) ∧ (kX M (p + 401) = (4, J) ∧ ∀ k, k < J → mQ M (p + 401) k = some (p + 402 + k) ∧ kX M (p + 402 + k) = (1, 129)) ∧ kX M (p + 402 + J) = (0, J) ∧ (16 ≤ m ∧ m ≤ 96 ∧ 6 ≤ J ∧ J ≤ 64)
/-- cells that are the object's for good -/
def PKc (p J a : Nat) : Prop := p ≤ a ∧ a ≤ p + 402 + J ∧ ¬ (p + 200 ≤ a ∧ a ≤ p + 204)
theorem Rows.of {M M' : Mem} {a : Nat} {f : Nat → Nat} (h : Rows M a f) (h1 : mK M' a = mK M a) (h2 : ∀ i, mQ M' a i = mQ M a i) (h3 : ∀ b, b < 96 → mK M' (f b) = mK M (f b)) : Rows M' a f := by
  refine ⟨?_, fun b hb => ⟨by rw [h2]; exact (h.2.1 b hb).1, ?_⟩, h.2.2⟩
  · have := h.1; unfold kX at this ⊢; rw [h1]; exact this
  · have := (h.2.1 b hb).2; unfold kX at this ⊢; rw [h3 b hb]; exact this
theorem PK.of {M M' : Mem} {p m J : Nat} (h : PK M p m J) (hk : ∀ a, PKc p J a → mK M' a = mK M a) (hR : ∀ a f, PKc p J a → mR M' f a = mR M f a) (hQ : ∀ a i, PKc p J a → mQ M' a i = mQ M a i) (h7 : mF M' 7 p = mF M 7 p) (h28 : mF M' 28 (p + 205) = mF M 28 (p + 205)) : PK M' p m J := by
  obtain ⟨⟨a1, a2, a3, a4, a5, a6, a7, a8, a9, a10, a11⟩, b1, b2, ⟨c1, c2, c3, c4⟩, ⟨d1, d2, d3, d4, d5, d6, d7⟩, e1, e2, e3, ⟨f1, f2⟩, g1, g2⟩ := h
  have kO' : ∀ a, PKc p J a → kO M' a = kO M a := fun a ha => by unfold kO; rw [hk a ha]
  have kX' : ∀ a, PKc p J a → kX M' a = kX M a := fun a ha => by unfold kX; rw [hk a ha]
  have cp : PKc p J p := ⟨by omega, by omega, by omega⟩
  have cd : PKc p J (p + 205) := ⟨by omega, by omega, by omega⟩
  refine ⟨⟨by rw [kO' _ cp]; exact a1, by rw [hR _ _ cp]; exact a2, by rw [hR _ _ cp]; exact a3, by rw [hR _ _ cp]; exact a4, by rw [hR _ _ cp]; exact a5, by rw [hR _ _ cp]; exact a6, by rw [hR _ _ cp]; exact a7, by rw [hR _ _ cp]; exact a8, by rw [hR _ _ cp]; exact a9, by rw [hR _ _ cp]; exact a10, by rw [h7]; exact a11⟩, ?_, ?_, ⟨?_, ?_, ?_, ?_⟩, ⟨by rw [kO' _ cd]; exact d1, by rw [hR _ _ cd]; exact d2, by rw [hR _ _ cd]; exact d3, by rw [hR _ _ cd]; exact d4, by rw [hR _ _ cd]; exact d5, by rw [hR _ _ cd]; exact d6, by rw [h28]; exact d7⟩, ?_, ?_, ?_, ⟨?_, fun k hk' => ⟨?_, ?_⟩⟩, ?_, g2⟩
  · exact b1.of (hk _ ⟨by omega, by omega, by omega⟩) (fun i => hQ _ i ⟨by omega, by omega, by omega⟩) (fun b hb => hk _ ⟨by omega, by omega, by omega⟩)
  · exact b2.of (hk _ ⟨by omega, by omega, by omega⟩) (fun i => hQ _ i ⟨by omega, by omega, by omega⟩) (fun b hb => hk _ ⟨by omega, by omega, by omega⟩)
  · rw [kX' _ ⟨by omega, by omega, by omega⟩]; exact c1
  · rw [kX' _ ⟨by omega, by omega, by omega⟩]; exact c2
  · rw [kX' _ ⟨by omega, by omega, by omega⟩]; exact c3
  · rw [kX' _ ⟨by omega, by omega, by omega⟩]; exact c4
  · exact e1.of (hk _ ⟨by omega, by omega, by omega⟩) (fun i => hQ _ i ⟨by omega, by omega, by omega⟩) (fun b hb => hk _ ⟨by omega, by omega, by omega⟩)
  · exact e2.of (hk _ ⟨by omega, by omega, by omega⟩) (fun i => hQ _ i ⟨by omega, by omega, by omega⟩) (fun b hb => hk _ ⟨by omega, by omega, by omega⟩)
  · rw [kX' _ ⟨by omega, by omega, by omega⟩]; exact e3
  · rw [kX' _ ⟨by omega, by omega, by omega⟩]; exact f1
  · rw [hQ _ _ ⟨by omega, by omega, by omega⟩]; exact (f2 k hk').1
  · rw [kX' _ ⟨by omega, by omega, by omega⟩]; exact (f2 k hk').2
  · rw [kX' _ ⟨by omega, by omega, by omega⟩]; exact g1
/-- nodes lie behind -/
def NB (A : Ad) (lo : Nat) : Prop := ∀ b q, (A.1 b = some q ∨ A.2 b = some q) → lo ≤ q
theorem NB.fr {t r x lo : Nat} {A A' : Ad} {M M' : Mem} (h : NB A lo) (F : Fr t r A A' x M M') (hl : lo ≤ mN M) : NB A' lo := by
  intro b q hq
  rcases hq with hq | hq
  · rcases F.2.2.2.2.1 b q hq with h1 | h1
    · exact h b q (.inl h1)
    · omega
  · rcases F.2.2.2.2.2.1 b q hq with h1 | h1
    · exact h b q (.inr h1)
    · omega
theorem notOwP {p J a : Nat} {A : Ad} (h : NB A (p + 403 + J)) (ha : PKc p J a) : ¬ Ow (p + 201) (p + 199) A a := by
  obtain ⟨h1, h2, h3⟩ := ha
  rintro (ho | ho | ⟨b, q, hq, a1, a2⟩ | ⟨b, q, hq, a1, a2⟩)
  · omega
  · omega
  · have := h b q (.inl hq); omega
  · have := h b q (.inr hq); omega
theorem PK.fr {M M' : Mem} {p m J x : Nat} {A A' : Ad} (h : PK M p m J) (N : NB A (p + 403 + J)) (F : Fr (p + 201) (p + 199) A A' x M M') (hl : p + 403 + J ≤ mN M) : PK M' p m J := by
  have s : ∀ a, PKc p J a → Sm M M' a := fun a ha => F.2.1 a (by have := ha.2.1; omega) (notOwP N ha)
  exact h.of (fun a ha => F.1 a (by have := ha.2.1; omega)) (fun a f ha => (s a ha).2.1 f) (fun a i ha => (s a ha).2.2.2.1 i) ((s p ⟨by omega, by omega, by omega⟩).1 7) ((s (p + 205) ⟨by omega, by omega, by omega⟩).1 28)
theorem PK.ro {M M' : Mem} {p m J : Nat} (h : PK M p m J) (F : Ro M M') : PK M' p m J := by
  have f := F.f1
  exact h.of (fun a _ => f.2.2.2.2.2.2.2.2 a) (fun a g _ => f.2.2.2.1 g a) (fun a i _ => f.2.2.2.2.1 a i) (f.2.2.1 7 p) (f.2.2.1 28 _)
theorem Fr.up {t r x : Nat} {A A' : Ad} {M M' : Mem} (F : Fr t (t - 1) A A' x M M') (ht : 1 ≤ t) : Fr t r A A' x M M' := by
  obtain ⟨a1, a2, a3⟩ := F
  refine ⟨a1, fun a ha hn => a2 a ha (fun ho => hn ?_), a3⟩
  rcases ho with h | h | h | h
  · exact .inl h
  · exact .inl ⟨by omega, by omega⟩
  · exact .inr (.inr (.inl h))
  · exact .inr (.inr (.inr h))
section CTf
variable {d r m w rt : Nat} {M : Mem} {u u0 : Nat → Bool} {Q : Outcome → Mem → Prop}
theorem c_takeFrom (hd : 1 ≤ d) (h : RmIs M r (r + 1) m u0) (hr : Rw M w (frw m u rt)) (hQ : ∀ g, (∀ b, b < m → g b = I (bI (u b))) → Q (.returned none) (rA M (r + 1) g)) : Wp d 92 0 [some (.ref r), some (.ref w), none] [] M Q := by
  obtain ⟨h1, h2, h3, h4, h5, h6⟩ := h
  have kw := hr.1
  have n1 : w ≠ r + 1 := by intro e; rw [e, h4] at kw; cases kw
  simp (disch := first | (simp only [dd, dr]; done) | omega) only [W_92, I_lt, I_le, I_inj, inB_I, tc_I, Int.toNat_natCast, fkt, rf1, rf0, cq, Nat.reduceAdd, Nat.reduceEqDiff, Int.reduceToNat, eq_self, true_and, and_true, true_or, or_true, bI_0, bI_1, mm, rAm, mF_sF, mR_sR, false_and, and_false, if_false, if_true, false_or, or_false, not_true_eq_false, not_false_eq_true, and_self]
  suffices H : ∀ n' (k : Nat) (G : Nat → Int32), k + n' = m → (∀ b, b < k → G b = I (bI (u b))) → Wp d 92 2 [some (.ref r), some (.ref w), some (.int (I (k : Nat)))] [] (rA M (r + 1) G) Q by
    have := H m 0 (fun q => mA M (r + 1) q) (by omega) (fun b hb => by omega)
    rw [rA_id] at this
    exact this
  intro n'
  induction n' with
  | zero =>
    intro k G hk hG
    simp (disch := first | (simp only [dd, dr]; done) | omega) only [w_92_2, W_92, h1, h2, I_lt, I_le, I_inj, inB_I, tc_I, Int.toNat_natCast, fkt, rf1, rf0, cq, Nat.reduceAdd, Nat.reduceEqDiff, Int.reduceToNat, eq_self, true_and, and_true, true_or, or_true, bI_0, bI_1, mm, rAm, mF_sF, mR_sR, false_and, and_false, if_false, if_true, false_or, or_false, not_true_eq_false, not_false_eq_true, and_self]
    refine ⟨fun _ => ?_, (fun h => by first | exact False.elim h | exact absurd trivial h | (exfalso; omega) | exact absurd rfl h | cases h)⟩
    simp (disch := first | (simp only [dd, dr]; done) | omega) only [W_92, I_lt, I_le, I_inj, inB_I, tc_I, Int.toNat_natCast, fkt, rf1, rf0, cq, Nat.reduceAdd, Nat.reduceEqDiff, Int.reduceToNat, eq_self, true_and, and_true, true_or, or_true, bI_0, bI_1, mm, rAm, mF_sF, mR_sR, false_and, and_false, if_false, if_true, false_or, or_false, not_true_eq_false, not_false_eq_true, and_self]
    exact hQ G (fun b hb => hG b (by omega))
  | succ n' ih =>
    intro k G hk hG
    have e1 : mA (rA M (r + 1) G) w (1 + k) = bB ((frw m u rt (1 + k) : Nat) : Int) := by rw [mA_rA, if_neg n1]; exact hr.2 _ (by omega)
    have ef : frw m u rt (1 + k) = if u k = true then 1 else 0 := by
      unfold frw
      rw [if_neg (by omega), if_neg (by omega), if_pos (by omega), show 1 + k - 1 = k by omega]
    have ev : decide (bB ((frw m u rt (1 + k) : Nat) : Int) = I 1) = u k := by
      rw [ef]
      cases hu : u k with
      | true => decide
      | false => decide
    simp (disch := first | (simp only [dd, dr]; done) | omega) only [w_92_2, W_92, h1, h2, I_lt, I_le, I_inj, inB_I, tc_I, Int.toNat_natCast, fkt, rf1, rf0, cq, Nat.reduceAdd, Nat.reduceEqDiff, Int.reduceToNat, eq_self, true_and, and_true, true_or, or_true, bI_0, bI_1, mm, rAm, mF_sF, mR_sR, false_and, and_false, if_false, if_true, false_or, or_false, not_true_eq_false, not_false_eq_true, and_self]
    refine ⟨(fun h => by first | exact False.elim h | exact absurd trivial h | (exfalso; omega) | exact absurd rfl h | cases h), fun _ => ?_⟩
    simp (disch := first | (simp only [dd, dr]; done) | omega) only [W_92, h1, h3, I_lt, I_le, I_inj, inB_I, tc_I, Int.toNat_natCast, fkt, rf1, rf0, cq, Nat.reduceAdd, Nat.reduceEqDiff, Int.reduceToNat, eq_self, true_and, and_true, true_or, or_true, bI_0, bI_1, mm, rAm, mF_sF, mR_sR, false_and, and_false, if_false, if_true, false_or, or_false, not_true_eq_false, not_false_eq_true, and_self]
    refine cr_91 (by omega) (c_isTaken (by rw [rAm.2.2.2.2.2.2.1]; exact kw) (by omega) e1 ?_)
    rw [ev]
    simp (disch := first | (simp only [dd, dr]; done) | omega) only [W_92, h4, nrw_2b, sA_rA, I_lt, I_le, I_inj, inB_I, tc_I, Int.toNat_natCast, fkt, rf1, rf0, cq, Nat.reduceAdd, Nat.reduceEqDiff, Int.reduceToNat, eq_self, true_and, and_true, true_or, or_true, bI_0, bI_1, mm, rAm, mF_sF, mR_sR, false_and, and_false, if_false, if_true, false_or, or_false, not_true_eq_false, not_false_eq_true, and_self]
    rw [show ((k : Int) + 1) = ((k + 1 : Nat) : Int) by omega]
    refine ih (k + 1) _ (by omega) (fun b hb => ?_)
    by_cases e : b = k
    · rw [if_pos e, e]
    · rw [if_neg e]; exact hG b (by omega)
end CTf
