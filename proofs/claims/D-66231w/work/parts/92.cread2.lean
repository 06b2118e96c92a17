/-! ===== THE COMPONENT: a node that was read comes to the end of its row ===== -/
theorem pv_app {l : List Nat} {x : Nat} (h : (l ++ [x]).Nodup) : pv (l ++ [x]) x = l.getLast? ∧ nx (l ++ [x]) x = none := by
  have h1 := pv_at (l1 := l) (l2 := []) (y := x) h
  have h2 := nx_at (l1 := l) (l2 := []) (y := x) h
  exact ⟨h1, h2⟩
theorem pv_app_o {l : List Nat} {x y : Nat} (h : (l ++ [x]).Nodup) (hy : y ∈ l) : pv (l ++ [x]) y = pv l y ∧ nx (l ++ [x]) y = (if l.getLast? = some y then some x else nx l y) := by
  obtain ⟨A, B, rfl, hA⟩ := mem_dec hy
  have hl : (A ++ y :: B).Nodup := (List.nodup_append.mp h).1
  have e : A ++ y :: B ++ [x] = A ++ y :: (B ++ [x]) := by simp
  rw [e] at h ⊢
  rw [pv_at h, nx_at h, pv_at hl, nx_at hl]
  refine ⟨rfl, ?_⟩
  cases B with
  | nil => simp
  | cons b B =>
    have : (A ++ y :: b :: B).getLast? ≠ some y := by
      intro e2
      have hyn := (nd_mid hl).2.1
      rw [List.getLast?_append] at e2
      simp at e2
      have := List.mem_of_getLast? e2
      simp at this
      exact hyn (by simp [this])
    rw [if_neg this]; rfl
/-- the last node of each height that was read -/
def Ls (M : Mem) (t : Nat) (A : Ad) (T : Tr) : Prop := ∀ k, k < 8 → mQ M (t + 3) k = ((tW T k).getLast?).bind (na A k)
theorem SW0.app {T : Tr} (S : SW0 T) {h x : Nat} (hx : tH T x = h + 1) (h96 : x < 96) (hn : x ∉ tW T h) : SW0 (uW T h (tW T h ++ [x])) := by
  obtain ⟨s1, s2, s3, s4⟩ := S
  simp only [SW0, tw]
  refine ⟨fun k b hb => ?_, fun k => ?_, s3, s4⟩
  · by_cases e : k = h
    · subst e; rw [fu_s] at hb
      rcases List.mem_append.mp hb with h1 | h1
      · exact s1 k b h1
      · rw [List.mem_singleton.mp h1]; exact ⟨hx, h96⟩
    · rw [fu_n _ _ e] at hb; exact s1 k b hb
  · by_cases e : k = h
    · subst e; rw [fu_s]
      refine List.nodup_append.mpr ⟨s2 k, by simp, fun u hu v hv e => hn ?_⟩
      rw [List.mem_singleton.mp hv] at e; rw [← e]; exact hu
    · rw [fu_n _ _ e]; exact s2 k
theorem RM0.sQ3 {M : Mem} {t r : Nat} {A : Ad} {T : Tr} {py : Nat → List Nat} (R : RM0 M t r A T py) (i : Nat) (v : Option Nat) : RM0 (sQ M (t + 3) i v) t r A T py := by
  obtain ⟨⟨⟨h1, h2, h3, h4, h5, h6, h7, h8⟩, k2, k3, k4, k5⟩, r3, r4, r5, r6⟩ := R
  refine ⟨⟨⟨h1, h2, h3, h4, h5, h6, h7, h8⟩, fun b hb => ?_, k3, k4, k5⟩, r3, fun h b hb => ?_, r5, r6⟩
  · rw [mQ_sQ, mQ_sQ, if_neg (by omega), if_neg (by omega)]; exact k2 b hb
  · obtain ⟨q, g1, ⟨i1, i2, i3, i4, i5⟩, g3⟩ := r4 h b hb
    refine ⟨q, g1, ⟨i1, i2, i3, fun j c hc => ?_, i5⟩, g3⟩
    rw [mQ_sQ, if_neg (fun hh => by have := i1.2.2; rw [hh.1, h7] at this; cases this)]
    exact i4 j c hc
section ZA
variable {d t r : Nat} {M : Mem} {Q : Outcome → Mem → Prop} {A : Ad} {T : Tr} {py : Nat → List Nat}
set_option maxHeartbeats 8000000 in
theorem z_app (R : RM0 M t r A T py) (S : SW0 T) {h x q : Nat} {v1 v2 v3 v6 v7 v8 : Option Value} (l1 : lo v1 = false) (l2 : lo v2 = false) (l3 : lo v3 = false) (l6 : lo v6 = false) (l7 : lo v7 = false) (l8 : lo v8 = false) (hx : tH T x = h + 1) (hq : na A h x = some q) (hno : ∀ k, x ∉ tW T k) (h31 : mR M 31 q = none) (L : Ls M t A T) (h8 : h < 8)
    (hQ : ∀ M', RM0 M' t r A (uW T h (tW T h ++ [x])) py → Ls M' t A (uW T h (tW T h ++ [x])) → Fr t (t - 1) A A 0 M M' → (∀ b k q', na A k b = some q' → b ∉ tW T h → mR M' 31 q' = mR M 31 q') → (∀ z i, mA M' z i = mA M z i) → Q (.returned (some (.ref q))) M') :
    Wp d 109 94 [some (.ref t), v1, v2, v3, some (.int (I (h : Nat))), some (.ref q), v6, v7, v8] [] M Q := by
  have K := R.1
  obtain ⟨⟨t0, _, _, _, _, t13, kX3, _⟩, _⟩ := id K
  obtain ⟨hx96, kq, _, _, _⟩ := K.kind hq
  obtain ⟨f30, f31, _, _⟩ := fkN kq
  have e3 := L h h8
  have nd : (tW T h ++ [x]).Nodup := List.nodup_append.mpr ⟨S.2.1 h, by simp, fun u hu v hv e => hno h (by rw [List.mem_singleton.mp hv] at e; rw [← e]; exact hu)⟩
  obtain ⟨pa1, pa2⟩ := pv_app nd
  have inj : ∀ y z qy, na A h y = some qy → na A h z = some qy → y = z := fun y z qy a1 a2 => (K.inj a1 a2).1
  have fit : ∀ o : Option Nat, fitQ 7 (kO M q) = true := fun _ => fit7 kq
  have fq := fit7 kq
  -- whatever the last one was
  have fin : ∀ M', Lk (fun f a => (f = 30 ∧ a = q) ∨ (f = 31 ∧ ∃ y, (tW T h).getLast? = some y ∧ na A h y = some a)) M M' → mR M' 30 q = ((tW T h).getLast?).bind (na A h) → (∀ y qy, (tW T h).getLast? = some y → na A h y = some qy → mR M' 31 qy = some q) → Q (.returned (some (.ref q))) (sQ M' (t + 3) h (some q)) := by
    intro M' Lk' m30 m31
    have f1 := Lk'.f1
    have hP : ∀ f a, ((f = 30 ∧ a = q) ∨ (f = 31 ∧ ∃ y, (tW T h).getLast? = some y ∧ na A h y = some a)) → nice f = true := fun f a hf => by rcases hf with ⟨h, _⟩ | ⟨h, _⟩ <;> rw [h] <;> rfl
    have R1 : RM0 M' t r A (uW T h (tW T h ++ [x])) py := by
      refine R.lk Lk' hP (by simp only [tw]) (by simp only [tw]) (by simp only [tw]) (fun h' b q' g1 g3 => ?_) (fun h' b q' g1 g2 => ?_)
      · simp only [tw]
        rw [Lk'.2.2.2 _ _ (fun hh => by rcases hh with ⟨h, _⟩ | ⟨h, _⟩ <;> omega)]
        exact R.2.2.2.1 h' b q' g1 g3
      · simp only [tw] at g1 ⊢
        by_cases eh : h' = h
        · subst eh
          rw [fu_s] at g1 ⊢
          rcases List.mem_append.mp g1 with hb | hb
          · obtain ⟨b1, b2⟩ := pv_app_o nd hb
            obtain ⟨o30, o31⟩ := R.2.2.2.2 h' b q' hb g2
            have hbx : b ≠ x := fun e => hno h' (e ▸ hb)
            have hqq : q' ≠ q := fun e => hbx (inj b x q' g2 (by rw [e]; exact hq))
            rw [b1, b2]
            constructor
            · rw [Lk'.2.2.2 _ _ (fun hh => by rcases hh with ⟨_, h⟩ | ⟨h, _⟩; exact hqq h; omega)]; exact o30
            · by_cases el : (tW T h').getLast? = some b
              · rw [if_pos el, m31 b q' el g2]; exact hq.symm
              · rw [if_neg el, Lk'.2.2.2 _ _ (fun hh => ?_)]
                · exact o31
                · rcases hh with ⟨h, _⟩ | ⟨_, y, hy1, hy2⟩
                  · omega
                  · have := inj b y q' g2 hy2; rw [← this] at hy1; exact el hy1
          · have hbe := List.mem_singleton.mp hb
            subst hbe
            rw [hq] at g2; cases g2
            rw [pa1, pa2]
            refine ⟨m30, ?_⟩
            rw [Lk'.2.2.2 _ _ (fun hh => ?_)]
            · exact h31
            · rcases hh with ⟨h, _⟩ | ⟨_, y, hy1, hy2⟩
              · omega
              · have hyb := inj y b q hy2 hq
                have := List.mem_of_getLast? hy1
                rw [hyb] at this; exact hno h' this
        · rw [fu_n _ _ eh] at g1 ⊢
          have hne : ∀ f, ¬ ((f = 30 ∧ q' = q) ∨ (f = 31 ∧ ∃ y, (tW T h).getLast? = some y ∧ na A h y = some q')) := by
            intro f hh
            rcases hh with ⟨_, h2⟩ | ⟨_, y, hy1, hy2⟩
            · rw [h2] at g2
              have := (K.inj g2 hq).1
              rw [this] at g1; exact hno h' g1
            · have := (K.inj g2 hy2).1
              rw [← this] at hy1
              have a1 := (S.1 h b (List.mem_of_getLast? hy1)).1
              have a2 := (S.1 h' b g1).1
              omega
          rw [Lk'.2.2.2 _ _ (hne 30), Lk'.2.2.2 _ _ (hne 31)]
          exact R.2.2.2.2 h' b q' g1 g2
    have F1 : Fr t (t - 1) A A 0 M M' := Fr.lk Lk' (fun f a hf => by
      rcases hf with ⟨_, h2⟩ | ⟨_, y, _, hy2⟩
      · rw [h2]; exact Ow.node hq
      · exact Ow.node hy2)
    have F2 : Fr t (t - 1) A A 0 M' (sQ M' (t + 3) h (some q)) := Fr.step (fun _ => rfl) rfl rfl (fun a ha => ⟨fun _ => rfl, fun _ => rfl, fun _ => rfl, fun i => by rw [mQ_sQ, if_neg (fun hh => ha (.inl ⟨by omega, by omega⟩))], fun _ => rfl⟩)
    refine hQ _ (R1.sQ3 h (some q)) (fun k hk => ?_) (F1.trans F2) (fun b k q' hb hbn => ?_) (fun z i => f1.2.2.2.1 z i)
    · simp only [tw]
      by_cases ek : k = h
      · subst ek; rw [mQ_sQ, if_pos ⟨rfl, rfl⟩, fu_s]; simp; exact hq.symm
      · rw [mQ_sQ, if_neg (fun hh => ek hh.2), fu_n _ _ ek, f1.2.2.2.2.1]; exact L k hk
    · show mR M' 31 q' = mR M 31 q'
      refine Lk'.2.2.2 _ _ (fun hh => ?_)
      rcases hh with ⟨h, _⟩ | ⟨_, y, hy1, hy2⟩
      · omega
      · have := (K.inj hb hy2).1
        rw [← this] at hy1; exact hbn (List.mem_of_getLast? hy1)
  cases hl : (tW T h).getLast? with
  | none =>
    rw [hl] at e3
    have e3' : mQ M (t + 3) h = none := e3
    simp (disch := first | (simp only [dd, dr]; done) | omega) only [W_109, t0, t13, kX3, e3', f30, f31, fq, I_lt, I_le, I_inj, inB_I, tc_I, Int.toNat_natCast, fkt, rf1, rf0, cq, Nat.reduceAdd, Nat.reduceEqDiff, Int.reduceToNat, eq_self, true_and, and_true, true_or, or_true, bI_0, bI_1, mm, rAm, mF_sF, mR_sR, false_and, and_false, if_false, if_true, false_or, or_false, not_true_eq_false, not_false_eq_true, and_self]
    refine fin _ ((Lk.sR M 30 q none).mono (fun f a hf => .inl hf)) ?_ (fun y qy hy _ => by rw [hl] at hy; cases hy)
    rw [mR_sR, if_pos ⟨rfl, rfl⟩, hl]; rfl
  | some y =>
    have hym := List.mem_of_getLast? hl
    obtain ⟨qy, hqy⟩ := R.node (S.1 h y hym).1
    rw [hl] at e3
    have e3' : mQ M (t + 3) h = some qy := by rw [e3]; exact hqy
    obtain ⟨g30, g31, _, _⟩ := fkN (K.kind hqy).2.1
    have hqq : qy ≠ q := fun e => hno h (by rw [inj x y q hq (by rw [← e]; exact hqy)]; exact hym)
    simp (disch := first | (simp only [dd, dr]; done) | omega) only [W_109, t0, t13, kX3, e3', f30, f31, g30, g31, fq, I_lt, I_le, I_inj, inB_I, tc_I, Int.toNat_natCast, fkt, rf1, rf0, cq, Nat.reduceAdd, Nat.reduceEqDiff, Int.reduceToNat, eq_self, true_and, and_true, true_or, or_true, bI_0, bI_1, mm, rAm, mF_sF, mR_sR, false_and, and_false, if_false, if_true, false_or, or_false, not_true_eq_false, not_false_eq_true, and_self]
    refine fin _ (((Lk.sR M 30 q (some qy)).mono (fun f a hf => .inl hf)).trans ((Lk.sR _ 31 qy (some q)).mono (fun f a hf => .inr ⟨hf.1, y, hl, by rw [hf.2]; exact hqy⟩))) ?_ (fun y' qy' hy' hqy' => ?_)
    · rw [mR_sR, if_neg (by omega), mR_sR, if_pos ⟨rfl, rfl⟩, hl]; exact hqy.symm
    · rw [hl] at hy'; cases hy'
      rw [hqy] at hqy'; cases hqy'
      rw [mR_sR, if_pos ⟨rfl, rfl⟩]
end ZA
