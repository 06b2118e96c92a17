/-! ===== THE COMPONENT: neighbours ===== -/
theorem fkN {M : Mem} {c : Nat} (h : kO M c = 5 ∨ kO M c = 6) : fk 30 (kO M c) = true ∧ fk 31 (kO M c) = true ∧ fk 32 (kO M c) = true ∧ fk 33 (kO M c) = true := by rcases h with h | h <;> rw [h] <;> decide
theorem virt2 {M : Mem} {c : Nat} (h : kO M c = 5 ∨ kO M c = 6) (P : Prop) : ((kO M c = 5 ∧ P) ∨ (kO M c = 6 ∧ P)) = P := by
  refine propext ⟨fun hp => ?_, fun hp => ?_⟩
  · rcases hp with hp | hp <;> exact hp.2
  · rcases h with h | h
    · exact .inl ⟨h, hp⟩
    · exact .inr ⟨h, hp⟩
theorem SW.off {T : Tr} (S : SW T) {h x : Nat} (hx : x ∈ tW T h) : SW (uW T h (out (tW T h) x)) := by
  obtain ⟨s1, s2, s3, s4, s5⟩ := S
  simp only [SW, tw]
  refine ⟨fun k b hb => ?_, fun k => ?_, s3, s4, s5⟩
  · by_cases e : k = h
    · subst e; rw [fu_s] at hb; exact s1 k b (out_mem hb)
    · rw [fu_n _ _ e] at hb; exact s1 k b hb
  · by_cases e : k = h
    · subst e; rw [fu_s]; exact out_nodup hx (s2 k)
    · rw [fu_n _ _ e]; exact s2 k
section NG
variable {d t r m : Nat} {M : Mem} {Q : Outcome → Mem → Prop} {A : Ad} {T : Tr} {py : Nat → List Nat} {e : Option Nat}
/-- neighbours in a row are there -/
theorem RM.row (R : RM M t r m A T py e) (S : SW T) {h b : Nat} (hb : b ∈ tW T h) : ∃ q, na A h b = some q := R.node (S.1 h b hb).1
set_option maxHeartbeats 4000000 in
theorem n_goes (R : RM M t r m A T py e) (S : SW T) {h x q : Nat} (hx : x ∈ tW T h) (hq : na A h x = some q) (hQ : ∀ M', RM M' t r m A (uW T h (out (tW T h) x)) py e → Fr t r A A 0 M M' → Q (.returned none) M') : Wp d 152 0 [some (.ref q)] [] M Q := by
  have K := R.1
  have kq := (K.kind hq).2.1
  obtain ⟨f30, f31, f32, f33⟩ := fkN kq
  have nd := S.2.1 h
  obtain ⟨l30, l31⟩ := R.2.2.2.2.2.1 h x q hx hq
  have hout := fun y (hy : y ∈ out (tW T h) x) => (out_mem_iff hx nd).mp hy
  -- what is left to say of the last memory
  have fin : ∀ M', Lk (fun f a => (f = 30 ∨ f = 31) ∧ ∃ y, y ∈ tW T h ∧ na A h y = some a) M M' → (∀ y qy, y ∈ tW T h → y ≠ x → na A h y = some qy → mR M' 30 qy = (if pv (tW T h) y = some x then mR M 30 q else mR M 30 qy) ∧ mR M' 31 qy = (if nx (tW T h) y = some x then mR M 31 q else mR M 31 qy)) → Q (.returned none) M' := by
    intro M' L hM
    have L2 : ∀ f a, f ≠ 30 → f ≠ 31 → mR M' f a = mR M f a := fun f a h1 h2 => L.2.2.2 f a (fun hh => by rcases hh.1 with h | h; exact h1 h; exact h2 h)
    refine hQ M' (R.lk L (fun f a hf => by rcases hf.1 with h | h <;> rw [h] <;> rfl) (by simp only [tw]) (by simp only [tw]) (by simp only [tw]) (by simp only [tw]) (fun h' b q' h1 h2 h3 => ?_) (fun h' b q' h1 h2 => ?_) ?_) (Fr.lk L (fun f a hf => ?_))
    · simp only [tw]
      rw [L2 _ _ (by omega) (by omega)]
      exact R.2.2.2.2.1 h' b q' h1 h2 h3
    · simp only [tw] at h1 ⊢
      by_cases eh : h' = h
      · subst eh
        rw [fu_s] at h1 ⊢
        obtain ⟨hb, hbx⟩ := hout b h1
        obtain ⟨m1, m2⟩ := hM b q' hb hbx h2
        obtain ⟨b30, b31⟩ := R.2.2.2.2.2.1 h' b q' hb h2
        rw [m1, m2, pv_out nd hx h1, nx_out nd hx h1, b30, b31, l30, l31]
        constructor <;> split <;> rfl
      · rw [fu_n _ _ eh] at h1 ⊢
        have hno : ∀ f, ¬ ((f = 30 ∨ f = 31) ∧ ∃ y, y ∈ tW T h ∧ na A h y = some q') := by
          rintro f ⟨_, y, hy, hyq⟩
          have := (K.inj h2 hyq).1
          subst this
          have a1 := (S.1 h' b h1).1
          have a2 := (S.1 h b hy).1
          omega
        rw [L.2.2.2 _ _ (hno 30), L.2.2.2 _ _ (hno 31)]
        exact R.2.2.2.2.2.1 h' b q' h1 h2
    · simp only [tw]
      rw [L2 _ _ (by omega) (by omega)]
      exact R.2.2.2.2.2.2
    · obtain ⟨_, y, _, hy⟩ := hf
      exact Ow.node hy
  have inj : ∀ y z qy, na A h y = some qy → na A h z = some qy → y = z := fun y z qy h1 h2 => (K.inj h1 h2).1
  cases hp : pv (tW T h) x with
  | none =>
    rw [hp] at l30
    have l30' : mR M 30 q = none := l30
    cases hn : nx (tW T h) x with
    | none =>
      rw [hn] at l31
      have l31' : mR M 31 q = none := l31
      simp (disch := first | (simp only [dd, dr]; done) | omega) only [W_152, f30, f31, l30', l31', I_lt, I_le, I_inj, inB_I, tc_I, Int.toNat_natCast, fkt, rf1, rf0, cq, Nat.reduceAdd, Nat.reduceEqDiff, Int.reduceToNat, eq_self, true_and, and_true, true_or, or_true, bI_0, bI_1, mm, rAm, mF_sF, mR_sR, false_and, and_false, if_false, if_true, false_or, or_false, not_true_eq_false, not_false_eq_true, and_self]
      refine fin M ⟨rfl, rfl, rfl, fun _ _ _ => rfl⟩ (fun y qy hy hyx hyq => ?_)
      rw [if_neg (fun e => ?_), if_neg (fun e => ?_)]
      · exact ⟨rfl, rfl⟩
      · rw [(nx_pv nd hy hx).mp e] at hp; cases hp
      · rw [(nx_pv nd hx hy).mpr e] at hn; cases hn
    | some b =>
      obtain ⟨qb, hqb⟩ := R.row S (nx_mem hn)
      rw [hn] at l31
      have l31' : mR M 31 q = some qb := by rw [l31]; exact hqb
      have kb := (K.kind hqb).2.1
      obtain ⟨g30, g31, g32, g33⟩ := fkN kb
      simp (disch := first | (simp only [dd, dr]; done) | omega) only [W_152, f30, f31, l30', l31', g30, g31, I_lt, I_le, I_inj, inB_I, tc_I, Int.toNat_natCast, fkt, rf1, rf0, cq, Nat.reduceAdd, Nat.reduceEqDiff, Int.reduceToNat, eq_self, true_and, and_true, true_or, or_true, bI_0, bI_1, mm, rAm, mF_sF, mR_sR, false_and, and_false, if_false, if_true, false_or, or_false, not_true_eq_false, not_false_eq_true, and_self]
      refine fin _ ((Lk.sR M 30 qb none).mono (fun f a hf => ⟨.inl hf.1, b, nx_mem hn, by rw [hf.2]; exact hqb⟩)) (fun y qy hy hyx hyq => ?_)
      rw [mR_sR, mR_sR, if_neg (show ¬ (31 = 30 ∧ qy = qb) by omega), l30']
      constructor
      · by_cases ey : y = b
        · subst ey
          rw [hqb] at hyq; cases hyq
          rw [if_pos ⟨rfl, rfl⟩, if_pos ((nx_pv nd hx hy).mp hn)]
        · rw [if_neg (fun hh => ey (inj y b qb (by rw [← hh.2]; exact hyq) hqb)), if_neg (fun e => ?_)]
          rw [(nx_pv nd hx hy).mpr e] at hn; exact ey (Option.some.inj hn)
      · rw [if_neg (fun e => ?_)]
        rw [(nx_pv nd hy hx).mp e] at hp; cases hp
  | some a =>
    obtain ⟨qa, hqa⟩ := R.row S (pv_mem hp)
    rw [hp] at l30
    have l30' : mR M 30 q = some qa := by rw [l30]; exact hqa
    have ka := (K.kind hqa).2.1
    obtain ⟨g30, g31, g32, g33⟩ := fkN ka
    have hax := pv_ne nd hx hp
    have hqaq : ¬ (31 = 31 ∧ q = qa) := fun hh => hax (inj a x qa hqa (by rw [← hh.2]; exact hq))
    cases hn : nx (tW T h) x with
    | none =>
      rw [hn] at l31
      have l31' : mR M 31 q = none := l31
      have e31 : mR (sR M 31 qa none) 31 q = none := by rw [mR_sR, if_neg hqaq]; exact l31'
      simp (disch := first | (simp only [dd, dr]; done) | omega) only [W_152, f30, f31, l30', l31', g30, g31, e31, I_lt, I_le, I_inj, inB_I, tc_I, Int.toNat_natCast, fkt, rf1, rf0, cq, Nat.reduceAdd, Nat.reduceEqDiff, Int.reduceToNat, eq_self, true_and, and_true, true_or, or_true, bI_0, bI_1, mm, rAm, mF_sF, mR_sR, false_and, and_false, if_false, if_true, false_or, or_false, not_true_eq_false, not_false_eq_true, and_self]
      refine fin _ ((Lk.sR M 31 qa none).mono (fun f a' hf => ⟨.inr hf.1, a, pv_mem hp, by rw [hf.2]; exact hqa⟩)) (fun y qy hy hyx hyq => ?_)
      rw [mR_sR, mR_sR, if_neg (show ¬ (30 = 31 ∧ qy = qa) by omega), l31']
      constructor
      · rw [if_neg (fun e => ?_)]
        rw [(nx_pv nd hx hy).mpr e] at hn; cases hn
      · by_cases ey : y = a
        · subst ey
          rw [hqa] at hyq; cases hyq
          rw [if_pos ⟨rfl, rfl⟩, if_pos ((nx_pv nd hy hx).mpr hp)]
        · rw [if_neg (fun hh => ey (inj y a qa (by rw [← hh.2]; exact hyq) hqa)), if_neg (fun e => ?_)]
          rw [(nx_pv nd hy hx).mp e] at hp; exact ey (Option.some.inj hp)
    | some b =>
      obtain ⟨qb, hqb⟩ := R.row S (nx_mem hn)
      rw [hn] at l31
      have l31' : mR M 31 q = some qb := by rw [l31]; exact hqb
      have kb := (K.kind hqb).2.1
      obtain ⟨u30, u31, u32, u33⟩ := fkN kb
      have e31 : mR (sR M 31 qa (some qb)) 31 q = some qb := by rw [mR_sR, if_neg hqaq]; exact l31'
      have e30 : mR (sR M 31 qa (some qb)) 30 q = some qa := by rw [mR_sR, if_neg (by omega)]; exact l30'
      simp (disch := first | (simp only [dd, dr]; done) | omega) only [W_152, f30, f31, l30', l31', g30, g31, u30, u31, e31, e30, I_lt, I_le, I_inj, inB_I, tc_I, Int.toNat_natCast, fkt, rf1, rf0, cq, Nat.reduceAdd, Nat.reduceEqDiff, Int.reduceToNat, eq_self, true_and, and_true, true_or, or_true, bI_0, bI_1, mm, rAm, mF_sF, mR_sR, false_and, and_false, if_false, if_true, false_or, or_false, not_true_eq_false, not_false_eq_true, and_self]
      refine fin _ (((Lk.sR M 31 qa (some qb)).mono (fun f a' hf => ⟨.inr hf.1, a, pv_mem hp, by rw [hf.2]; exact hqa⟩)).trans ((Lk.sR _ 30 qb (some qa)).mono (fun f a' hf => ⟨.inl hf.1, b, nx_mem hn, by rw [hf.2]; exact hqb⟩))) (fun y qy hy hyx hyq => ?_)
      rw [mR_sR, mR_sR, mR_sR, mR_sR, if_neg (show ¬ (31 = 30 ∧ qy = qb) by omega), if_neg (show ¬ (30 = 31 ∧ qy = qa) by omega), l30', l31']
      constructor
      · by_cases ey : y = b
        · subst ey
          rw [hqb] at hyq; cases hyq
          rw [if_pos ⟨rfl, rfl⟩, if_pos ((nx_pv nd hx hy).mp hn)]
        · rw [if_neg (fun hh => ey (inj y b qb (by rw [← hh.2]; exact hyq) hqb)), if_neg (fun e => ?_)]
          rw [(nx_pv nd hx hy).mpr e] at hn; exact ey (Option.some.inj hn)
      · by_cases ey : y = a
        · subst ey
          rw [hqa] at hyq; cases hyq
          rw [if_pos ⟨rfl, rfl⟩, if_pos ((nx_pv nd hy hx).mpr hp)]
        · rw [if_neg (fun hh => ey (inj y a qa (by rw [← hh.2]; exact hyq) hqa)), if_neg (fun e => ?_)]
          rw [(nx_pv nd hy hx).mp e] at hp; exact ey (Option.some.inj hp)
end NG
