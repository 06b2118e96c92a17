/-! ===== THE COMPONENT: a node comes behind another one in its row ===== -/
theorem SW.inr {T : Tr} (S : SW T) {h x n : Nat} (hx : x ∈ tW T h) (hn : n ∉ tW T h) (hH : tH T n = h + 1) (h96 : n < 96) : SW (uW T h (inA (tW T h) x n)) := by
  obtain ⟨s1, s2, s3, s4, s5⟩ := S
  simp only [SW, tw]
  refine ⟨fun k b hb => ?_, fun k => ?_, s3, s4, s5⟩
  · by_cases e : k = h
    · subst e; rw [fu_s] at hb
      rcases (inA_mem hx).mp hb with h | h
      · rw [h]; exact ⟨hH, h96⟩
      · exact s1 k b h
    · rw [fu_n _ _ e] at hb; exact s1 k b hb
  · by_cases e : k = h
    · subst e; rw [fu_s]; exact inA_nodup hx (s2 k) hn
    · rw [fu_n _ _ e]; exact s2 k
section NC
variable {d t r m : Nat} {M : Mem} {Q : Outcome → Mem → Prop} {A : Ad} {T : Tr} {py : Nat → List Nat} {e : Option Nat}
set_option maxHeartbeats 4000000 in
theorem n_comes (R : RM M t r m A T py e) (S : SW T) {h x n q qn : Nat} (hx : x ∈ tW T h) (hn : n ∉ tW T h) (hnn : ∀ h', n ∉ tW T h') (hq : na A h x = some q) (hqn : na A h n = some qn) (hQ : ∀ M', RM M' t r m A (uW T h (inA (tW T h) x n)) py e → Fr t r A A 0 M M' → Q (.returned none) M') : Wp d 151 0 [some (.ref qn), some (.ref q)] [] M Q := by
  have K := R.1
  obtain ⟨f30, f31, f32, f33⟩ := fkN (K.kind hq).2.1
  obtain ⟨n30, n31, n32, n33⟩ := fkN (K.kind hqn).2.1
  have nd := S.2.1 h
  obtain ⟨l30, l31⟩ := R.2.2.2.2.2.1 h x q hx hq
  have inj : ∀ y z qy, na A h y = some qy → na A h z = some qy → y = z := fun y z qy h1 h2 => (K.inj h1 h2).1
  have hxn : x ≠ n := fun e => hn (e ▸ hx)
  have hqq : q ≠ qn := fun e => hxn (inj x n q hq (by rw [e]; exact hqn))
  have fin : ∀ M', Lk (fun f a => (f = 30 ∨ f = 31) ∧ ∃ y, (y ∈ tW T h ∨ y = n) ∧ na A h y = some a) M M' → (∀ y qy, y ∈ tW T h → na A h y = some qy → mR M' 30 qy = (if pv (tW T h) y = some x then some qn else mR M 30 qy) ∧ mR M' 31 qy = (if y = x then some qn else mR M 31 qy)) → mR M' 30 qn = some q → mR M' 31 qn = mR M 31 q → Q (.returned none) M' := by
    intro M' L hM m30 m31
    have L2 : ∀ f a, f ≠ 30 → f ≠ 31 → mR M' f a = mR M f a := fun f a h1 h2 => L.2.2.2 f a (fun hh => by rcases hh.1 with h | h; exact h1 h; exact h2 h)
    obtain ⟨i1, i2, i3⟩ := nx_in nd hx hn
    obtain ⟨j1, j2⟩ := pv_in nd hx hn
    refine hQ M' (R.lk L (fun f a hf => by rcases hf.1 with h | h <;> rw [h] <;> rfl) (by simp only [tw]) (by simp only [tw]) (by simp only [tw]) (by simp only [tw]) (fun h' b q' h1 h2 h3 => ?_) (fun h' b q' h1 h2 => ?_) ?_) (Fr.lk L (fun f a hf => ?_))
    · simp only [tw]
      rw [L2 _ _ (by omega) (by omega)]
      exact R.2.2.2.2.1 h' b q' h1 h2 h3
    · simp only [tw] at h1 ⊢
      by_cases eh : h' = h
      · subst eh
        rw [fu_s] at h1 ⊢
        rcases (inA_mem hx).mp h1 with hb | hb
        · subst hb
          rw [hqn] at h2; cases h2
          rw [m30, m31, i1, j1, l31]
          exact ⟨hq.symm, rfl⟩
        · obtain ⟨m1, m2⟩ := hM b q' hb h2
          obtain ⟨b30, b31⟩ := R.2.2.2.2.2.1 h' b q' hb h2
          rw [m1, m2, j2 b hb, b30, b31]
          constructor
          · by_cases e1 : pv (tW T h') b = some x
            · rw [if_pos e1, if_pos e1]; exact hqn.symm
            · rw [if_neg e1, if_neg e1]
          · by_cases e1 : b = x
            · subst e1; rw [if_pos rfl, i2]; exact hqn.symm
            · rw [if_neg e1, i3 b hb e1]
      · rw [fu_n _ _ eh] at h1 ⊢
        have hno : ∀ f, ¬ ((f = 30 ∨ f = 31) ∧ ∃ y, (y ∈ tW T h ∨ y = n) ∧ na A h y = some q') := by
          rintro f ⟨_, y, hy, hyq⟩
          have := (K.inj h2 hyq).1
          subst this
          rcases hy with hy | hy
          · have a1 := (S.1 h' b h1).1
            have a2 := (S.1 h b hy).1
            omega
          · subst hy; exact hnn h' h1
        rw [L.2.2.2 _ _ (hno 30), L.2.2.2 _ _ (hno 31)]
        exact R.2.2.2.2.2.1 h' b q' h1 h2
    · simp only [tw]
      rw [L2 _ _ (by omega) (by omega)]
      exact R.2.2.2.2.2.2
    · obtain ⟨_, y, _, hy⟩ := hf
      exact Ow.node hy
  have LA : Lk (fun f a => (f = 30 ∨ f = 31) ∧ ∃ y, (y ∈ tW T h ∨ y = n) ∧ na A h y = some a) M (sR M 30 qn (some q)) := (Lk.sR M 30 qn _).mono (fun f a hf => ⟨.inl hf.1, n, .inr rfl, by rw [hf.2]; exact hqn⟩)
  cases hb : nx (tW T h) x with
  | none =>
    rw [hb] at l31
    have l31' : mR M 31 q = none := l31
    have e1 : mR (sR M 30 qn (some q)) 31 q = none := by rw [mR_sR, if_neg (by omega)]; exact l31'
    have e2 : mR (sR (sR M 30 qn (some q)) 31 qn none) 31 qn = none := by rw [mR_sR, if_pos ⟨rfl, rfl⟩]
    simp (disch := first | (simp only [dd, dr]; done) | omega) only [W_151, n30, n31, f30, f31, e1, e2, I_lt, I_le, I_inj, inB_I, tc_I, Int.toNat_natCast, fkt, rf1, rf0, cq, Nat.reduceAdd, Nat.reduceEqDiff, Int.reduceToNat, eq_self, true_and, and_true, true_or, or_true, bI_0, bI_1, mm, rAm, mF_sF, mR_sR, false_and, and_false, if_false, if_true, false_or, or_false, not_true_eq_false, not_false_eq_true, and_self]
    refine fin _ ((LA.trans ((Lk.sR _ 31 qn _).mono (fun f a hf => ⟨.inr hf.1, n, .inr rfl, by rw [hf.2]; exact hqn⟩))).trans ((Lk.sR _ 31 q _).mono (fun f a hf => ⟨.inr hf.1, x, .inl hx, by rw [hf.2]; exact hq⟩))) (fun y qy hy hyq => ?_) ?_ ?_
    · have hyn : qy ≠ qn := by intro e; subst e; exact hn (inj y n qy hyq hqn ▸ hy)
      rw [mR_sR, mR_sR, mR_sR, mR_sR, mR_sR, mR_sR, if_neg (show ¬ (30 = 31 ∧ qy = q) by omega), if_neg (show ¬ (30 = 31 ∧ qy = qn) by omega), if_neg (show ¬ (30 = 30 ∧ qy = qn) by omega), if_neg (show ¬ (31 = 31 ∧ qy = qn) by omega), if_neg (show ¬ (31 = 30 ∧ qy = qn) by omega), if_neg (fun e => ?_)]
      · refine ⟨rfl, ?_⟩
        by_cases ey : y = x
        · subst ey; rw [hq] at hyq; cases hyq; rw [if_pos ⟨rfl, rfl⟩, if_pos rfl]
        · rw [if_neg (fun hh => ey (inj y x q (by rw [← hh.2]; exact hyq) hq)), if_neg ey]
      · rw [(nx_pv nd hx hy).mpr e] at hb; cases hb
    · rw [mR_sR, mR_sR, mR_sR, if_neg (by omega), if_neg (by omega), if_pos ⟨rfl, rfl⟩]
    · rw [mR_sR, mR_sR, mR_sR, if_neg (fun hh => hqq hh.2.symm), if_pos ⟨rfl, rfl⟩, l31']
  | some b =>
    obtain ⟨qb, hqb⟩ := R.row S (nx_mem hb)
    rw [hb] at l31
    have l31' : mR M 31 q = some qb := by rw [l31]; exact hqb
    obtain ⟨g30, g31, g32, g33⟩ := fkN (K.kind hqb).2.1
    have hbx := nx_ne nd hx hb
    have hbn : b ≠ n := fun e => hn (by rw [← e]; exact nx_mem hb)
    have hqbn : qb ≠ qn := fun e => hbn (inj b n qb hqb (by rw [e]; exact hqn))
    have e1 : mR (sR M 30 qn (some q)) 31 q = some qb := by rw [mR_sR, if_neg (by omega)]; exact l31'
    have e2 : mR (sR (sR M 30 qn (some q)) 31 qn (some qb)) 31 qn = some qb := by rw [mR_sR, if_pos ⟨rfl, rfl⟩]
    simp (disch := first | (simp only [dd, dr]; done) | omega) only [W_151, n30, n31, f30, f31, g30, g31, e1, e2, I_lt, I_le, I_inj, inB_I, tc_I, Int.toNat_natCast, fkt, rf1, rf0, cq, Nat.reduceAdd, Nat.reduceEqDiff, Int.reduceToNat, eq_self, true_and, and_true, true_or, or_true, bI_0, bI_1, mm, rAm, mF_sF, mR_sR, false_and, and_false, if_false, if_true, false_or, or_false, not_true_eq_false, not_false_eq_true, and_self]
    refine fin _ (((LA.trans ((Lk.sR _ 31 qn _).mono (fun f a hf => ⟨.inr hf.1, n, .inr rfl, by rw [hf.2]; exact hqn⟩))).trans ((Lk.sR _ 30 qb _).mono (fun f a hf => ⟨.inl hf.1, b, .inl (nx_mem hb), by rw [hf.2]; exact hqb⟩))).trans ((Lk.sR _ 31 q _).mono (fun f a hf => ⟨.inr hf.1, x, .inl hx, by rw [hf.2]; exact hq⟩))) (fun y qy hy hyq => ?_) ?_ ?_
    · have hyn : qy ≠ qn := by intro e; subst e; exact hn (inj y n qy hyq hqn ▸ hy)
      rw [mR_sR, mR_sR, mR_sR, mR_sR, mR_sR, mR_sR, mR_sR, mR_sR, if_neg (show ¬ (30 = 31 ∧ qy = q) by omega), if_neg (show ¬ (30 = 31 ∧ qy = qn) by omega), if_neg (show ¬ (30 = 30 ∧ qy = qn) by omega), if_neg (show ¬ (31 = 30 ∧ qy = qb) by omega), if_neg (show ¬ (31 = 31 ∧ qy = qn) by omega), if_neg (show ¬ (31 = 30 ∧ qy = qn) by omega)]
      constructor
      · by_cases ey : y = b
        · subst ey; rw [hqb] at hyq; cases hyq; rw [if_pos ⟨rfl, rfl⟩, if_pos ((nx_pv nd hx hy).mp hb)]
        · rw [if_neg (fun hh => ey (inj y b qb (by rw [← hh.2]; exact hyq) hqb)), if_neg (fun e => ?_)]
          rw [(nx_pv nd hx hy).mpr e] at hb; exact ey (Option.some.inj hb)
      · by_cases ey : y = x
        · subst ey; rw [hq] at hyq; cases hyq; rw [if_pos ⟨rfl, rfl⟩, if_pos rfl]
        · rw [if_neg (fun hh => ey (inj y x q (by rw [← hh.2]; exact hyq) hq)), if_neg ey]
    · rw [mR_sR, mR_sR, mR_sR, mR_sR, if_neg (by omega), if_neg (fun hh => hqbn hh.2.symm), if_neg (by omega), if_pos ⟨rfl, rfl⟩]
    · rw [mR_sR, mR_sR, mR_sR, if_neg (fun hh => hqq hh.2.symm), if_neg (by omega), if_pos ⟨rfl, rfl⟩, l31']
end NC
