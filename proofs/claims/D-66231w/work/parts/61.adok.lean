/-! ===== A NODE IS ADDED: THE SHAPE STAYS ===== -/
theorem Sh.row_le {T : Tr} {R : Nat → List Nat} (S : Sh T R) (h : Nat) : (tW T h).length ≤ 95 := by
  have h0 : (0 :: tW T h).Nodup := by
    refine List.nodup_cons.mpr ⟨fun hm => ?_, S.2.1 h⟩
    have := (S.1 h 0 hm).2.1
    rw [S.2.2.2.2.2.2.2.2.1.2] at this; omega
  have := nodup_le 96 _ h0 (fun x hx => by
    rcases List.mem_cons.mp hx with h | h
    · omega
    · exact (S.1 _ x h).1)
  rw [List.length_cons] at this; omega
theorem fm_ge2 {f : Nat → List Nat} : ∀ {l : List Nat}, (∀ x ∈ l, 2 ≤ (f x).length) → 2 * l.length ≤ (l.flatMap f).length
  | [], _ => by simp
  | a :: l, h => by
    have h1 := fm_ge2 (fun x hx => h x (List.mem_cons_of_mem _ hx))
    have h2 := h a (List.mem_cons_self ..)
    rw [List.flatMap_cons, List.length_append, List.length_cons]; omega
theorem Sh.pow {T : Tr} {R : Nat → List Nat} (S : Sh T R) (C : Ct T none) (hR : ∀ k, (R k).length ≤ (tW T k).length) : ∀ j, j < tN T → 2 ^ j * (tW T (tN T - 1)).length ≤ (tW T (tN T - 1 - j)).length
  | 0, _ => by simp
  | j + 1, hj => by
    have ih := S.pow C hR j (by omega)
    have h1 := S.2.2.2.2.2.2.1 (tN T - 1 - (j + 1)) (by omega)
    have h2 := fm_ge2 (f := tC T) (l := tW T (tN T - 1 - (j + 1) + 1)) (fun x hx => (C _ x hx (by simp)).1)
    have h3 := hR (tN T - 1 - (j + 1))
    rw [h1, show tN T - 1 - (j + 1) + 1 = tN T - 1 - j by omega] at h2
    rw [Nat.pow_succ]
    have : 2 ^ j * 2 * (tW T (tN T - 1)).length = 2 * (2 ^ j * (tW T (tN T - 1)).length) := by rw [Nat.mul_comm (2 ^ j) 2, Nat.mul_assoc]
    omega
theorem pow_96 {n k : Nat} (h : 2 ^ n * k ≤ 95) (hk : 1 ≤ k) : n ≤ 6 := by
  by_cases e : n ≤ 6
  · exact e
  · have h1 : 2 ^ 7 ≤ 2 ^ n := Nat.pow_le_pow_right (by omega) (by omega)
    have h2 : 2 ^ n * 1 ≤ 2 ^ n * k := Nat.mul_le_mul_left _ hk
    omega
theorem Sh.tN7 {T : Tr} (S : Sh T (tW T)) (C : Ct T none) : tN T ≤ 7 := by
  have h1 := S.2.2.2.2.2.2.2.1.2.2.1
  have := S.pow C (fun k => Nat.le_refl _) (tN T - 1) (by omega)
  rw [S.2.2.2.2.2.2.2.1.1] at this
  have h2 := S.row_le (tN T - 1 - (tN T - 1))
  have := pow_96 (n := tN T - 1) (k := 1) (by simp only [List.length_cons, List.length_nil] at this; omega) (Nat.le_refl _)
  omega
theorem inA_mem {l : List Nat} {x y z : Nat} (hx : x ∈ l) : z ∈ inA l x y ↔ z = y ∨ z ∈ l := by
  obtain ⟨l1, l2, rfl, h1⟩ := mem_dec hx
  rw [inA_dec h1]
  simp only [List.mem_append, List.mem_cons]
  constructor
  · rintro (h | h | h | h)
    · exact .inr (.inl h)
    · exact .inr (.inr (.inl h))
    · exact .inl h
    · exact .inr (.inr (.inr h))
  · rintro (h | h | h | h)
    · exact .inr (.inr (.inl h))
    · exact .inl h
    · exact .inr (.inl h)
    · exact .inr (.inr (.inr h))
theorem inA_len {l : List Nat} {x y : Nat} (hx : x ∈ l) : (inA l x y).length = l.length + 1 := by
  obtain ⟨l1, l2, rfl, h1⟩ := mem_dec hx
  rw [inA_dec h1]; simp only [List.length_append, List.length_cons]; omega
theorem inA_nodup {l : List Nat} {x y : Nat} (hx : x ∈ l) (hl : l.Nodup) (hy : y ∉ l) : (inA l x y).Nodup := by
  obtain ⟨l1, l2, rfl, h1⟩ := mem_dec hx
  rw [inA_dec h1]
  have hA := List.nodup_append.mp hl
  have hB := List.nodup_cons.mp hA.2.1
  refine List.nodup_append.mpr ⟨hA.1, ?_, fun a ha b hb => ?_⟩
  · refine List.nodup_cons.mpr ⟨fun h => ?_, List.nodup_cons.mpr ⟨fun h => hy (by simp [h]), hB.2⟩⟩
    rcases List.mem_cons.mp h with h | h
    · exact hy (by rw [← h]; exact hx)
    · exact hB.1 h
  · rcases List.mem_cons.mp hb with h | h
    · exact hA.2.2 a ha b (by rw [h]; exact List.mem_cons_self ..)
    · rcases List.mem_cons.mp h with h | h
      · intro e; exact hy (by rw [← h, ← e]; simp [ha])
      · exact hA.2.2 a ha b (List.mem_cons_of_mem _ h)
/-- what else is said of a tree to which nodes came -/
def AdF (m : Nat) (T T' : Tr) : Prop := (∀ b, tU T b = true → tU T' b = true ∧ (tH T b = 0 → tH T' b = 0)) ∧ tI T' = tI T ∧ tW T' 0 = tW T 0 ∧ ∀ b, m ≤ b → tU T' b = tU T b
theorem AdF.trans {m : Nat} {T T' T'' : Tr} (h : AdF m T T') (h' : AdF m T' T'') : AdF m T T'' :=
  ⟨fun b hb => ⟨(h'.1 b (h.1 b hb).1).1, fun h0 => (h'.1 b (h.1 b hb).1).2 ((h.1 b hb).2 h0)⟩, h'.2.1.trans h.2.1, h'.2.2.1.trans h.2.2.1, fun b hb => (h'.2.2.2 b hb).trans (h.2.2.2 b hb)⟩
theorem fu_fu {α : Type} (f : Nat → α) (b : Nat) (v w : α) : fu (fu f b v) b w = fu f b w := by
  funext x; unfold fu; by_cases e : x = b
  · rw [if_pos e, if_pos e]
  · rw [if_neg e, if_neg e, if_neg e]
/-- a new root -/
theorem ad1 {T : Tr} {h x y r : Nat} {Rh : List Nat} (S : Sh T (fu (tW T) h Rh)) (C : Ct T none) (hW : tW T h = [x, y]) (hh : h + 1 = tN T) (hr : tU T r = false) (hr96 : r < 96) :
    Sh (uN (uR (uW (cp (cp (uH (uP (tk T r) r none) r (tH T x + 1)) r 0 x) r 1 y) (tH T x) [r]) r) (tN T + 1)) (tW (uN (uR (uW (cp (cp (uH (uP (tk T r) r none) r (tH T x + 1)) r 0 x) r 1 y) (tH T x) [r]) r) (tN T + 1))) ∧ Ct (uN (uR (uW (cp (cp (uH (uP (tk T r) r none) r (tH T x + 1)) r 0 x) r 1 y) (tH T x) [r]) r) (tN T + 1)) none := by
  have S' := S
  obtain ⟨s1, s2, s3, s4, s5, s6, s7, s8, s9, s10⟩ := S
  have hxm : x ∈ tW T h := by rw [hW]; simp
  have hym : y ∈ tW T h := by rw [hW]; simp
  have xH := (s1 h x hxm).2.1
  have hrH : tH T r = 0 := by
    cases e : tH T r with
    | zero => rfl
    | succ k => have := (s1 k r (s3 k r e)).2.2; rw [hr] at this; cases this
  have hrn : ∀ k z, z ∈ tW T k → z ≠ r := by
    intro k z hz e; have := (s1 k z hz).2.2; rw [e, hr] at this; cases this
  have eI : fu (tI T) r [] = tI T := by rw [← (s10 r hrH).2]; exact fu_id _ _
  have eC : fu (tC T) r [] = tC T := by rw [← (s10 r hrH).1]; exact fu_id _ _
  have hxr := hrn h x hxm
  have hyr := hrn h y hym
  have hxy : x ≠ y := by
    have := s2 h; rw [hW] at this
    have := (List.nodup_cons.mp this).1
    simpa using this
  have eCr : tC T r = [] := (s10 r hrH).1
  have eC2 : tC (uN (uR (uW (cp (cp (uH (uP (tk T r) r none) r (tH T x + 1)) r 0 x) r 1 y) (tH T x) [r]) r) (tN T + 1)) = fu (tC T) r [x, y] := by
    simp only [tk, cp, tu, th, ti, tc, tw, tp, tr, tn, eI, eC, fu_s, eCr, List.take_nil, List.drop_nil, List.nil_append, fu_fu]
    rfl
  have eP2 : tP (uN (uR (uW (cp (cp (uH (uP (tk T r) r none) r (tH T x + 1)) r 0 x) r 1 y) (tH T x) [r]) r) (tN T + 1)) = fu (fu (fu (tP T) r none) x (some r)) y (some r) := by
    simp only [tk, cp, tu, th, ti, tc, tw, tp, tr, tn]
  have hN0 : tN T ≠ 0 := by omega
  have hnot : ∀ q c, c ∈ tC T q → c ≠ x ∧ c ≠ y ∧ c ≠ r := by
    intro q c hc
    have hqH : ∃ k, q ∈ tW T (k + 1) := by
      cases e : tH T q with
      | zero => rw [(s10 q e).1] at hc; cases hc
      | succ k =>
        cases k with
        | zero => rw [s5 q (s3 0 q e)] at hc; cases hc
        | succ k => exact ⟨k, s3 _ q e⟩
    obtain ⟨k, hq⟩ := hqH
    have hk : k + 1 < tN T := by
      by_cases e : k + 1 < tN T
      · exact e
      · rw [s8.2.2.2 (k + 1) (by omega)] at hq; cases hq
    have hcm : c ∈ fu (tW T) h Rh k := by rw [← s7 k hk]; exact List.mem_flatMap.mpr ⟨q, hq, hc⟩
    rw [fu_n _ _ (by omega)] at hcm
    exact ⟨S'.ne hcm hxm (by omega), S'.ne hcm hym (by omega), hrn k c hcm⟩
  constructor
  · simp only [Sh]
    rw [eC2, eP2]
    simp only [tk, cp, tu, th, ti, tc, tw, tp, tr, tn, eI, xH, fu_fu]
    refine ⟨fun k z hz => ?_, fun k => ?_, fun k z hz => ?_, fun q c hc => ?_, fun z hz => ?_, fun k z hz => ?_, fun k hk => ?_, ?_, ?_, fun b hb => ?_⟩
    · by_cases e : k = h + 1
      · subst e
        rw [fu_s] at hz
        have : z = r := by simpa using hz
        subst this
        rw [fu_s, fu_s]; exact ⟨hr96, rfl, rfl⟩
      · rw [fu_n _ _ e] at hz
        rw [fu_n _ _ (hrn k z hz), fu_n _ _ (hrn k z hz)]; exact s1 k z hz
    · by_cases e : k = h + 1
      · subst e; rw [fu_s]; simp
      · rw [fu_n _ _ e]; exact s2 k
    · by_cases e : z = r
      · subst e; rw [fu_s] at hz
        have : k = h + 1 := by omega
        subst this; rw [fu_s]; simp
      · rw [fu_n _ _ e] at hz
        have hm := s3 k z hz
        have : k ≠ h + 1 := by intro e2; rw [e2, s8.2.2.2 _ (by omega)] at hm; cases hm
        rw [fu_n _ _ this]; exact hm
    · by_cases e : q = r
      · subst e; rw [fu_s] at hc
        by_cases e2 : c = y
        · subst e2; rw [fu_s]
        · rw [fu_n _ _ e2]
          have : c = x := by simp [e2] at hc; exact hc
          subst this; rw [fu_s]
      · rw [fu_n _ _ e] at hc
        obtain ⟨n1, n2, n3⟩ := hnot q c hc
        rw [fu_n _ _ n2, fu_n _ _ n1, fu_n _ _ n3]; exact s4 q c hc
    · rw [fu_n _ _ (by omega)] at hz
      rw [fu_n _ _ (hrn _ z hz)]; exact s5 z hz
    · by_cases e : k = h
      · subst e; rw [fu_s] at hz
        have : z = r := by simpa using hz
        subst this; exact (s10 z hrH).2
      · rw [fu_n _ _ (by omega)] at hz; exact s6 k z hz
    · by_cases e : k = h
      · subst e
        rw [fu_s, fu_n _ _ (by omega), hW]
        simp [fu_s]
      · rw [fu_n _ _ (by omega), fu_n _ _ (by omega), fm_fu (fun hm => hrn _ r hm rfl)]
        rw [s7 k (by omega), fu_n _ _ (by omega)]
    · rw [show tN T + 1 - 1 = h + 1 by omega, fu_s, fu_n _ _ (Ne.symm hyr), fu_n _ _ (Ne.symm hxr), fu_s]
      exact ⟨rfl, rfl, by omega, fun k hk => by rw [fu_n _ _ (by omega)]; exact s8.2.2.2 k (by omega)⟩
    · have : (0 : Nat) ≠ r := by intro e; rw [← e, s9.1] at hr; cases hr
      rw [fu_n _ _ this, fu_n _ _ this]; exact s9
    · by_cases e : b = r
      · subst e; rw [fu_s] at hb; omega
      · rw [fu_n _ _ e] at hb
        rw [fu_n _ _ e]; exact s10 b hb
  · intro k q hq _
    rw [eC2]
    simp only [tk, cp, tu, th, ti, tc, tw, tp, tr, tn, xH] at hq
    by_cases e : k = h
    · subst e; rw [fu_s] at hq
      have : q = r := by simpa using hq
      subst this; rw [fu_s]; simp
    · rw [fu_n _ _ (by omega)] at hq
      rw [fu_n _ _ (hrn _ q hq)]; exact C k q hq (by simp)
theorem Sh.ch' {T T2 : Tr} {R R' : Nat → List Nat} (S : Sh T R) {h : Nat} (hh : h + 1 < tN T) (hR : ∀ k, k ≠ h → R' k = R k) (e1 : tU T2 = tU T) (e2 : tH T2 = tH T) (e3 : tI T2 = tI T) (e4 : tW T2 = tW T) (e5 : tR T2 = tR T) (e6 : tN T2 = tN T)
    (hC : ∀ b, b ∉ tW T (h + 1) → tC T2 b = tC T b) (hF : (tW T (h + 1)).flatMap (tC T2) = R' h) (hP : ∀ p c, c ∈ tC T2 p → tP T2 c = some p) (hr : tP T2 (tR T) = none) : Sh T2 R' := by
  obtain ⟨s1, s2, s3, s4, s5, s6, s7, s8, s9, s10⟩ := S
  refine ⟨?_, ?_, ?_, hP, ?_, ?_, ?_, ?_, ?_, ?_⟩
  · rw [e1, e2, e4]; exact s1
  · rw [e4]; exact s2
  · rw [e2, e4]; exact s3
  · intro x hx
    rw [e4] at hx
    rw [hC x (fun hx' => by have a := (s1 _ x hx).2.1; have b := (s1 _ x hx').2.1; omega)]
    exact s5 x hx
  · rw [e3, e4]; exact s6
  · intro k hk
    rw [e4]
    rw [e6] at hk
    by_cases e : k = h
    · subst e; exact hF
    · rw [hR k e, ← s7 k hk]
      refine fm_congr (fun x hx => hC x (fun hx' => ?_))
      have a := (s1 _ x hx).2.1; have b := (s1 _ x hx').2.1; omega
  · rw [e4, e5, e6, hR _ (by omega)]
    exact ⟨s8.1, hr, s8.2.2⟩
  · rw [e1, e2]; exact s9
  · intro b hb
    rw [e2] at hb
    rw [e3, hC b (fun hx' => by have b := (s1 _ b hx').2.1; omega)]
    exact s10 b hb
/-- a child is in a row below its parent's -/
theorem Sh.child {T : Tr} {R : Nat → List Nat} (S : Sh T R) {q c : Nat} (hc : c ∈ tC T q) : ∃ k, q ∈ tW T (k + 1) ∧ k + 1 < tN T ∧ c ∈ R k := by
  obtain ⟨s1, s2, s3, s4, s5, s6, s7, s8, s9, s10⟩ := S
  have hqH : ∃ k, q ∈ tW T (k + 1) := by
    cases e : tH T q with
    | zero => rw [(s10 q e).1] at hc; cases hc
    | succ k =>
      cases k with
      | zero => rw [s5 q (s3 0 q e)] at hc; cases hc
      | succ k => exact ⟨k, s3 _ q e⟩
  obtain ⟨k, hq⟩ := hqH
  have hk : k + 1 < tN T := by
    by_cases e : k + 1 < tN T
    · exact e
    · rw [s8.2.2.2 (k + 1) (by omega)] at hq; cases hq
  exact ⟨k, hq, hk, by rw [← s7 k hk]; exact List.mem_flatMap.mpr ⟨q, hq, hc⟩⟩
/-- y becomes a child of p behind x -/
theorem ad2 {T : Tr} {h x y p : Nat} {Rh : List Nat} (S : Sh T (fu (tW T) h Rh)) (hx : x ∈ Rh) (hy : y ∉ Rh) (hW : tW T h = inA Rh x y) (hh : h + 1 < tN T) (hp : p ∈ tW T (h + 1)) (hxp : x ∈ tC T p) :
    Sh (cp T p (ix x (tC T p) + 1) y) (tW T) := by
  have hym : y ∈ tW T h := by rw [hW]; exact (inA_mem hx).mpr (.inl rfl)
  have hfm := S.2.2.2.2.2.2.1 h hh
  rw [fu_s] at hfm
  have hRn : Rh.Nodup := by
    have := S.2.1 h; rw [hW] at this
    obtain ⟨l1, l2, e, h1⟩ := mem_dec hx
    rw [e, inA_dec h1, show l1 ++ x :: y :: l2 = (l1 ++ [x]) ++ y :: l2 by simp] at this
    have := (nd_mid this).2.2
    rw [e]; simpa using this
  have hroot : tR T ≠ y := by
    have := S.2.2.2.2.2.2.2.1.1
    rw [fu_n _ _ (by omega)] at this
    have hm : tR T ∈ tW T (tN T - 1) := by rw [this]; exact List.mem_cons_self ..
    exact S.ne hm hym (by omega)
  obtain ⟨P1, P2, hrow, hP1⟩ := mem_dec hp
  obtain ⟨C1, C2, hC, hC1⟩ := mem_dec hxp
  have hnd := S.2.1 (h + 1)
  rw [hrow] at hnd
  have hP2 := (nd_mid hnd).2.1
  refine Sh.ch' S hh (fun k hk => (fu_n _ _ hk).symm) (by simp only [cp, tc, tp]) (by simp only [cp, tc, tp]) (by simp only [cp, tc, tp]) (by simp only [cp, tc, tp]) (by simp only [cp, tc, tp]) (by simp only [cp, tc, tp]) (fun b hb => ?_) ?_ (fun q d hd => ?_) ?_
  · simp only [cp, tc, tp]
    rw [fu_n _ _ (by intro e; rw [e] at hb; exact hb hp)]
  · simp only [cp, tc, tp]
    rw [hW, ← hfm, hrow]
    have hCe : (tC T p).take (ix x (tC T p) + 1) ++ y :: (tC T p).drop (ix x (tC T p) + 1) = C1 ++ x :: y :: C2 := by
      have := inA_dec (y := y) (l2 := C2) hC1
      rw [← hC] at this
      exact this
    rw [hCe]
    simp only [List.flatMap_append, List.flatMap_cons, fm_fu hP1, fm_fu hP2, fu_s, hC]
    have hxn : x ∉ P1.flatMap (tC T) ++ C1 := by
      rw [← hfm, hrow] at hRn
      simp only [List.flatMap_append, List.flatMap_cons, hC] at hRn
      rw [show List.flatMap (tC T) P1 ++ (C1 ++ x :: C2 ++ List.flatMap (tC T) P2) = (List.flatMap (tC T) P1 ++ C1) ++ x :: (C2 ++ List.flatMap (tC T) P2) by simp] at hRn
      exact (nd_mid hRn).1
    rw [show List.flatMap (tC T) P1 ++ (C1 ++ x :: C2 ++ List.flatMap (tC T) P2) = (List.flatMap (tC T) P1 ++ C1) ++ x :: (C2 ++ List.flatMap (tC T) P2) by simp, inA_dec hxn]
    simp
  · simp only [cp, tc, tp] at hd ⊢
    by_cases e : q = p
    · subst e
      rw [fu_s] at hd
      by_cases e2 : d = y
      · subst e2; rw [fu_s]
      · rw [fu_n _ _ e2]
        refine S.2.2.2.1 q d ?_
        rcases List.mem_append.mp hd with h | h
        · exact List.mem_of_mem_take h
        · rcases List.mem_cons.mp h with h | h
          · exact absurd h e2
          · exact List.mem_of_mem_drop h
    · rw [fu_n _ _ e] at hd
      obtain ⟨k, hk1, hk2, hk3⟩ := S.child hd
      have : d ≠ y := by
        by_cases ek : k = h
        · subst ek; rw [fu_s] at hk3; intro e2; rw [e2] at hk3; exact hy hk3
        · rw [fu_n _ _ ek] at hk3; exact S.ne hk3 hym ek
      rw [fu_n _ _ this]
      exact S.2.2.2.1 q d hd
  · simp only [cp, tc, tp]
    rw [fu_n _ _ hroot]; exact S.2.2.2.2.2.2.2.1.2.1
theorem sp1_eq {T : Tr} {p q z : Nat} {l : List Nat} (h : tC T p = l ++ [z]) : sp1 T p q = cp (uC T p l) q 0 z := by
  unfold sp1
  rw [h, List.length_append, List.length_cons, List.length_nil, show l.length + (0 + 1) - 1 = l.length by omega, List.getElem?_append_right (Nat.le_refl _), Nat.sub_self, List.take_left]
  rfl
theorem cpC {T : Tr} {p q z : Nat} {l : List Nat} (hq : q ≠ p) : tC (cp (uC T p l) q 0 z) = fu (fu (tC T) p l) q (z :: tC T q) := by
  simp only [cp, tc, tp]; rw [fu_n _ _ hq]; rfl
theorem spl_eq {T : Tr} {p q a b c d e f : Nat} (hq : q ≠ p) (h0 : tC T q = []) (h : tC T p = [a, b, c, d, e, f]) :
    tU (spl T p q) = fu (tU T) q true ∧ tH (spl T p q) = fu (tH T) q (tH T p) ∧ tI (spl T p q) = fu (tI T) q [] ∧ tC (spl T p q) = fu (fu (tC T) p [a, b, c]) q [d, e, f] ∧ tP (spl T p q) = fu (fu (fu (tP T) f (some q)) e (some q)) d (some q) ∧ tW (spl T p q) = tW T ∧ tR (spl T p q) = tR T ∧ tN (spl T p q) = tN T := by
  have eC : fu (tC T) q [] = tC T := by rw [← h0]; exact fu_id _ _
  have b1 : tC (uH (tk T q) q (tH T p)) = tC T := by simp only [tk, tu, th, ti, tc]; exact eC
  have c1 : sp1 (uH (tk T q) q (tH T p)) p q = cp (uC (uH (tk T q) q (tH T p)) p [a, b, c, d, e]) q 0 f := sp1_eq (by rw [b1, h]; rfl)
  have b2 : tC (cp (uC (uH (tk T q) q (tH T p)) p [a, b, c, d, e]) q 0 f) = fu (fu (tC T) p [a, b, c, d, e]) q [f] := by
    simp only [cp, tc, tp, b1]; rw [fu_n _ _ hq, h0]; rfl
  have c2 : sp1 (cp (uC (uH (tk T q) q (tH T p)) p [a, b, c, d, e]) q 0 f) p q = cp (uC (cp (uC (uH (tk T q) q (tH T p)) p [a, b, c, d, e]) q 0 f) p [a, b, c, d]) q 0 e := sp1_eq (by rw [b2, fu_n _ _ (Ne.symm hq), fu_s]; rfl)
  have b3 : tC (cp (uC (cp (uC (uH (tk T q) q (tH T p)) p [a, b, c, d, e]) q 0 f) p [a, b, c, d]) q 0 e) = fu (fu (tC T) p [a, b, c, d]) q [e, f] := by
    rw [cpC hq, b2, fu_s, fu_comm _ _ _ hq, fu_fu, fu_fu]
  have c3 : spl T p q = cp (uC (cp (uC (cp (uC (uH (tk T q) q (tH T p)) p [a, b, c, d, e]) q 0 f) p [a, b, c, d]) q 0 e) p [a, b, c]) q 0 d := by
    unfold spl
    rw [c1, c2]
    exact sp1_eq (by rw [b3, fu_n _ _ (Ne.symm hq), fu_s]; rfl)
  have b4 : tC (spl T p q) = fu (fu (tC T) p [a, b, c]) q [d, e, f] := by
    rw [c3, cpC hq, b3, fu_s, fu_comm _ _ _ hq, fu_fu, fu_fu]
  refine ⟨?_, ?_, ?_, b4, ?_, ?_, ?_, ?_⟩ <;> rw [c3] <;> simp only [cp, tk, tu, th, ti, tc, tp, fu_fu]

/-- a node p with six children is split: q gets the last three -/
theorem ad3 {T : Tr} {h p q a b c d e f : Nat} (S : Sh T (tW T)) (C : Ct T (some p)) (hp : p ∈ tW T (h + 1)) (hh : h + 1 < tN T) (hC6 : tC T p = [a, b, c, d, e, f]) (hq : tU T q = false) (hq96 : q < 96) :
    Sh (uW (spl T p q) (h + 1) (inA (tW T (h + 1)) p q)) (fu (tW (uW (spl T p q) (h + 1) (inA (tW T (h + 1)) p q))) (h + 1) (tW T (h + 1))) ∧ Ct (uW (spl T p q) (h + 1) (inA (tW T (h + 1)) p q)) none := by
  have S' := S
  obtain ⟨s1, s2, s3, s4, s5, s6, s7, s8, s9, s10⟩ := S
  have hqH : tH T q = 0 := by
    cases e : tH T q with
    | zero => rfl
    | succ k => have := (s1 k q (s3 k q e)).2.2; rw [hq] at this; cases this
  have hqn : ∀ k z, z ∈ tW T k → z ≠ q := by
    intro k z hz e; have := (s1 k z hz).2.2; rw [e, hq] at this; cases this
  have hqp : q ≠ p := Ne.symm (hqn _ p hp)
  have eI : fu (tI T) q [] = tI T := by rw [← (s10 q hqH).2]; exact fu_id _ _
  have pH := (s1 _ p hp).2.1
  obtain ⟨g1, g2, g3, g4, g5, g6, g7, g8⟩ := spl_eq hqp (s10 q hqH).1 hC6
  have hnp : (tC T p).Nodup := by
    have hnd1 := s2 h
    rw [← s7 h (by omega)] at hnd1
    obtain ⟨l1, l2, e, _⟩ := mem_dec hp
    rw [e, List.flatMap_append, List.flatMap_cons] at hnd1
    exact (List.nodup_append.mp (List.nodup_append.mp hnd1).2.1).1
  rw [hC6] at hnp
  obtain ⟨P1, P2, hrow, hP1⟩ := mem_dec hp
  have hnd := s2 (h + 1)
  rw [hrow] at hnd
  have hP2 := (nd_mid hnd).2.1
  constructor
  · simp only [Sh, tw, g1, g2, g3, g4, g5, g6, g7, g8, eI, pH]
    refine ⟨fun k z hz => ?_, fun k => ?_, fun k z hz => ?_, fun r z hz => ?_, fun z hz => ?_, fun k z hz => ?_, fun k hk => ?_, ?_, ?_, fun z hz => ?_⟩
    · by_cases ek : k = h + 1
      · subst ek
        rw [fu_s] at hz
        rcases (inA_mem hp).mp hz with e | hz
        · subst e; rw [fu_s, fu_s]; exact ⟨hq96, rfl, rfl⟩
        · rw [fu_n _ _ (hqn _ z hz), fu_n _ _ (hqn _ z hz)]; exact s1 _ z hz
      · rw [fu_n _ _ ek] at hz
        rw [fu_n _ _ (hqn _ z hz), fu_n _ _ (hqn _ z hz)]; exact s1 _ z hz
    · by_cases ek : k = h + 1
      · subst ek; rw [fu_s]; exact inA_nodup hp (s2 _) (fun hm => hqn _ q hm rfl)
      · rw [fu_n _ _ ek]; exact s2 k
    · by_cases ez : z = q
      · subst ez; rw [fu_s] at hz
        have : k = h + 1 := by omega
        subst this; rw [fu_s]; exact (inA_mem hp).mpr (.inl rfl)
      · rw [fu_n _ _ ez] at hz
        by_cases ek : k = h + 1
        · subst ek; rw [fu_s]; exact (inA_mem hp).mpr (.inr (s3 _ z hz))
        · rw [fu_n _ _ ek]; exact s3 k z hz
    · by_cases er : r = q
      · subst er; rw [fu_s] at hz
        by_cases ed : z = d
        · subst ed; rw [fu_s]
        · rw [fu_n _ _ ed]
          by_cases ee : z = e
          · subst ee; rw [fu_s]
          · rw [fu_n _ _ ee]
            have : z = f := by simp [ed, ee] at hz; exact hz
            subst this; rw [fu_s]
      · rw [fu_n _ _ er] at hz
        by_cases erp : r = p
        · subst erp
          rw [fu_s] at hz
          have hzp : tP T z = some r := s4 r z (by rw [hC6]; simp at hz ⊢; omega)
          have nd := hnp
          simp only [List.nodup_cons, List.mem_cons, List.not_mem_nil, or_false, not_or] at nd
          have : z ≠ d ∧ z ≠ e ∧ z ≠ f := by
            simp only [List.mem_cons, List.not_mem_nil, or_false] at hz
            rcases hz with rfl | rfl | rfl
            · exact ⟨nd.1.2.2.1, nd.1.2.2.2.1, nd.1.2.2.2.2⟩
            · exact ⟨nd.2.1.2.1, nd.2.1.2.2.1, nd.2.1.2.2.2⟩
            · exact ⟨nd.2.2.1.1, nd.2.2.1.2.1, nd.2.2.1.2.2⟩
          rw [fu_n _ _ this.1, fu_n _ _ this.2.1, fu_n _ _ this.2.2]; exact hzp
        · rw [fu_n _ _ erp] at hz
          have hzr := s4 r z hz
          have key : ∀ w, w ∈ tC T p → z ≠ w := by
            intro w hw e; rw [e, s4 p w hw] at hzr; exact erp (Option.some.inj hzr).symm
          rw [fu_n _ _ (key d (by rw [hC6]; simp)), fu_n _ _ (key e (by rw [hC6]; simp)), fu_n _ _ (key f (by rw [hC6]; simp))]; exact hzr
    · rw [fu_n _ _ (by omega)] at hz
      rw [fu_n _ _ (hqn _ z hz), fu_n _ _ (S'.ne hz hp (by omega))]; exact s5 z hz
    · by_cases ek : k = h
      · subst ek
        rw [fu_s] at hz
        rcases (inA_mem hp).mp hz with e | hz
        · subst e; exact (s10 z hqH).2
        · exact s6 _ z hz
      · rw [fu_n _ _ (by omega)] at hz; exact s6 k z hz
    · by_cases ek : k = h
      · subst ek
        rw [fu_s, fu_n _ _ (show k ≠ k + 1 by omega), fu_n _ _ (show k ≠ k + 1 by omega), hrow, inA_dec hP1]
        have n1 : q ∉ P1 := fun hm => hqn (k + 1) q (by rw [hrow]; exact List.mem_append_left _ hm) rfl
        have n2 : q ∉ P2 := fun hm => hqn (k + 1) q (by rw [hrow]; exact List.mem_append_right _ (List.mem_cons_of_mem _ hm)) rfl
        rw [← s7 k hk, hrow]
        simp only [List.flatMap_append, List.flatMap_cons, fm_fu n1, fm_fu n2, fm_fu hP1, fm_fu hP2, fu_s, fu_n _ _ (Ne.symm hqp), hC6]
        simp
      · by_cases ek1 : k = h + 1
        · subst ek1
          rw [fu_s, fu_n _ _ (by omega), fm_fu (fun hm => hqn _ q hm rfl), fm_fu (fun hm => S'.ne hm hp (by omega) rfl)]
          exact s7 _ hk
        · rw [fu_n _ _ (by omega), fu_n _ _ ek1, fu_n _ _ ek1, fm_fu (fun hm => hqn _ q hm rfl), fm_fu (fun hm => S'.ne hm hp (by omega) rfl)]
          exact s7 k hk
    · have hrt : tP T (tR T) = none := s8.2.1
      have key : ∀ w, w ∈ tC T p → tR T ≠ w := by
        intro w hw e; rw [e, s4 p w hw] at hrt; cases hrt
      refine ⟨?_, ?_, s8.2.2.1, fun k hk => ?_⟩
      · by_cases e1 : tN T - 1 = h + 1
        · rw [e1, fu_s, ← e1]; exact s8.1
        · rw [fu_n _ _ e1, fu_n _ _ e1]; exact s8.1
      · rw [fu_n _ _ (key d (by rw [hC6]; simp)), fu_n _ _ (key e (by rw [hC6]; simp)), fu_n _ _ (key f (by rw [hC6]; simp))]; exact hrt
      · rw [fu_n _ _ (by omega)]; exact s8.2.2.2 k hk
    · have : (0 : Nat) ≠ q := by intro e; rw [← e, s9.1] at hq; cases hq
      rw [fu_n _ _ this, fu_n _ _ this]; exact s9
    · by_cases ez : z = q
      · subst ez; rw [fu_s] at hz; omega
      · rw [fu_n _ _ ez] at hz
        rw [fu_n _ _ ez, fu_n _ _ (by intro e; rw [e] at hz; omega)]; exact s10 z hz
  · intro k r hr _
    simp only [tw, g4, g6] at hr ⊢
    by_cases er : r = q
    · subst er; rw [fu_s]; simp
    · rw [fu_n _ _ er]
      by_cases erp : r = p
      · subst erp; rw [fu_s]; simp
      · rw [fu_n _ _ erp]
        have hm : r ∈ tW T (k + 1) := by
          by_cases ek : k + 1 = h + 1
          · rw [ek, fu_s] at hr
            rcases (inA_mem hp).mp hr with e | hm
            · exact absurd e er
            · rw [ek]; exact hm
          · rw [fu_n _ _ ek] at hr; exact hr
        exact C k r hm (fun e => erp (Option.some.inj e).symm)
theorem len6 {l : List Nat} (h : l.length = 6) : ∃ a b c d e f, l = [a, b, c, d, e, f] := by
  match l, h with
  | [a, b, c, d, e, f], _ => exact ⟨a, b, c, d, e, f, rfl⟩
theorem ad_ok {m : Nat} (hm : m ≤ 96) : ∀ (n : Nat) (T : Tr) (h x y : Nat) (Rh : List Nat), Sh T (fu (tW T) h Rh) → Ct T none → x ∈ Rh → y ∉ Rh → tW T h = inA Rh x y → tN T ≤ h + n → h < tN T →
    ∃ ok T', ad m n T x y = some (ok, T') ∧ (ok = true → Sh T' (tW T') ∧ Ct T' none ∧ AdF m T T') := by
  intro n
  induction n with
  | zero => intro T h x y Rh S C hx hy hW hN hlt; omega
  | succ n ih =>
    intro T h x y Rh S C hx hy hW hN hlt
    have hxm : x ∈ tW T h := by rw [hW]; exact (inA_mem hx).mpr (.inr hx)
    have hym : y ∈ tW T h := by rw [hW]; exact (inA_mem hx).mpr (.inl rfl)
    have hxy : x ≠ y := fun e => hy (e ▸ hx)
    have xH := (S.1 h x hxm).2.1
    have cond : tU T 0 = true ∧ x < 96 ∧ y < 96 ∧ x ≠ y ∧ 1 ≤ tH T x := ⟨S.2.2.2.2.2.2.2.2.1.1, (S.1 h x hxm).1, (S.1 h y hym).1, hxy, by omega⟩
    have frOk : ∀ r, fr (tU T) m 0 = some r → tU T r = false ∧ r < 96 ∧ (∀ k z, z ∈ tW T k → r ≠ z) ∧ r < m := by
      intro r hr
      rcases fr_spec (tU T) m 0 with ⟨h1, _⟩ | ⟨k, h1, h2, h3, h4, _⟩
      · rw [h1] at hr; cases hr
      · rw [h1] at hr; cases hr
        refine ⟨h4, by omega, fun k' z hz e => ?_, by omega⟩
        have := (S.1 k' z hz).2.2; rw [← e, h4] at this; cases this
    have s8 := S.2.2.2.2.2.2.2.1
    simp only [ad]
    rw [if_pos cond]
    cases hP : tP T x with
    | none =>
      have hN1 : h + 1 = tN T := by
        by_cases e : h + 1 = tN T
        · exact e
        · obtain ⟨q, _, _, h3⟩ := S.up (h := h) (by omega) (by rw [fu_s]; exact hx)
          rw [hP] at h3; cases h3
      have hRh : Rh = [x] := by
        have := s8.1
        rw [show tN T - 1 = h by omega, fu_s] at this
        rw [this] at hx
        have e : x = tR T := by simpa using hx
        rw [this, e]
      have hW2 : tW T h = [x, y] := by rw [hW, hRh]; simp [inA, ix]
      have h8 : tH T x < 8 := by
        have hle : ∀ k, (fu (tW T) h Rh k).length ≤ (tW T k).length := by
          intro k
          by_cases e : k = h
          · subst e; rw [fu_s, hW, inA_len hx]; omega
          · rw [fu_n _ _ e]; exact Nat.le_refl _
        have hp := S.pow C hle (tN T - 1) (by omega)
        have hr := S.row_le (tN T - 1 - (tN T - 1))
        have := pow_96 (n := tN T - 1) (k := 2) (by rw [show tN T - 1 = h by omega, hW2] at hp; rw [show tN T - 1 = h by omega] at hr ⊢; simp only [List.length_cons, List.length_nil] at hp; omega) (by omega)
        omega
      simp only []
      rw [if_pos h8]
      cases hf : fr (tU T) m 0 with
      | none => exact ⟨false, T, rfl, fun h => by cases h⟩
      | some r =>
        obtain ⟨f1, f2, f3, f4⟩ := frOk r hf
        simp only []
        rw [if_pos ⟨f3 h x hxm, f3 h y hym, f2⟩]
        obtain ⟨S2, C2⟩ := ad1 S C hW2 hN1 f1 f2
        refine ⟨true, _, rfl, fun _ => ⟨S2, C2, ?_⟩⟩
        have hrH : tH T r = 0 := by
          cases e : tH T r with
          | zero => rfl
          | succ k => have := (S.1 k r (S.2.2.1 k r e)).2.2; rw [f1] at this; cases this
        have eI : fu (tI T) r [] = tI T := by rw [← (S.2.2.2.2.2.2.2.2.2 r hrH).2]; exact fu_id _ _
        simp only [AdF, tk, cp, tu, th, ti, tc, tw, tp, tr, tn, eI]
        refine ⟨fun b hb => ?_, trivial, ?_, fun b hb => fu_n _ _ (by omega)⟩
        · have : b ≠ r := by intro e; rw [e, f1] at hb; cases hb
          rw [fu_n _ _ this, fu_n _ _ this, fu_n _ _ this]; exact ⟨hb, fun h => h⟩
        · rw [fu_n _ _ (by omega)]
    | some p =>
      have hN1 : h + 1 < tN T := by
        by_cases e : h + 1 = tN T
        · have := s8.1
          rw [show tN T - 1 = h by omega, fu_s] at this
          rw [this] at hx
          have e : x = tR T := by simpa using hx
          rw [e, s8.2.1] at hP; cases hP
        · omega
      obtain ⟨p', hp, hxp, h3⟩ := S.up (h := h) hN1 (by rw [fu_s]; exact hx)
      have : p' = p := by rw [hP] at h3; exact (Option.some.inj h3).symm
      subst this
      have hct := C h p' hp (by simp)
      have pH := (S.1 _ p' hp).2.1
      have cond2 : x ∈ tC T p' ∧ (tC T p').length ≤ 5 ∧ p' < 96 ∧ tI T p' = [] := ⟨hxp, hct.2, (S.1 _ p' hp).1, S.2.2.2.2.2.1 h p' hp⟩
      simp only []
      rw [if_pos cond2]
      have S2 := ad2 S hx hy hW hN1 hp hxp
      have eW : tW (cp T p' (ix x (tC T p') + 1) y) = tW T := by simp only [cp, tc, tp]
      have eU : tU (cp T p' (ix x (tC T p') + 1) y) = tU T := by simp only [cp, tc, tp]
      have eH : tH (cp T p' (ix x (tC T p') + 1) y) = tH T := by simp only [cp, tc, tp]
      have eI : tI (cp T p' (ix x (tC T p') + 1) y) = tI T := by simp only [cp, tc, tp]
      have eN : tN (cp T p' (ix x (tC T p') + 1) y) = tN T := by simp only [cp, tc, tp]
      have hixl := ix_lt hxp
      have eL : (tC (cp T p' (ix x (tC T p') + 1) y) p').length = (tC T p').length + 1 := by
        simp only [cp, tc, tp]; rw [fu_s]
        simp only [List.length_append, List.length_cons, List.length_take, List.length_drop]; omega
      have C2 : Ct (cp T p' (ix x (tC T p') + 1) y) (some p') := by
        intro k q hq hne
        rw [eW] at hq
        simp only [cp, tc, tp]
        rw [fu_n _ _ (by intro e; exact hne (by rw [e]))]; exact C k q hq (by simp)
      have mz : ∀ z, z ∈ tC (cp T p' (ix x (tC T p') + 1) y) p' → z = y ∨ z ∈ tC T p' := by
        intro z hz
        simp only [cp, tc, tp] at hz; rw [fu_s] at hz
        rcases List.mem_append.mp hz with h | h
        · exact .inr (List.mem_of_mem_take h)
        · rcases List.mem_cons.mp h with h | h
          · exact .inl h
          · exact .inr (List.mem_of_mem_drop h)
      by_cases h4 : (tC T p').length ≤ 4
      · rw [if_pos h4]
        refine ⟨true, _, rfl, fun _ => ⟨by rw [eW]; exact S2, ?_, ?_⟩⟩
        · intro k q hq _
          by_cases e : q = p'
          · subst e; rw [eL]; omega
          · exact C2 k q hq (fun e2 => e (Option.some.inj e2).symm)
        · exact ⟨fun b hb => by rw [eU, eH]; exact ⟨hb, fun h => h⟩, eI, by rw [eW], fun b _ => by rw [eU]⟩
      · rw [if_neg h4]
        cases hf : fr (tU T) m 0 with
        | none => exact ⟨false, T, rfl, fun h => by cases h⟩
        | some q =>
          obtain ⟨f1, f2, f3, f4⟩ := frOk q hf
          have hokS : okS (cp T p' (ix x (tC T p') + 1) y) p' q = true := by
            refine decide_eq_true ?_
            rw [eH, eW, eI, eL, pH]
            refine ⟨f3 _ p' hp, f2, by omega, ?_, ?_, ?_, ?_, by omega, cond2.2.2.2⟩
            · have := (show Sh (cp T p' (ix x (tC T p') + 1) y) (tW T) from S2).pow
              -- heights: by the rows
              have hle : ∀ k, (fu (tW T) h Rh k).length ≤ (tW T k).length := by
                intro k
                by_cases e : k = h
                · subst e; rw [fu_s, hW, inA_len hx]; omega
                · rw [fu_n _ _ e]; exact Nat.le_refl _
              have hp' := S.pow C hle (tN T - 1) (by omega)
              have hr := S.row_le (tN T - 1 - (tN T - 1))
              have hrow1 : 1 ≤ (tW T (tN T - 1)).length := by
                have := s8.1
                rw [fu_n _ _ (by omega)] at this
                rw [this]; simp
              have := pow_96 (n := tN T - 1) (k := (tW T (tN T - 1)).length) (by omega) hrow1
              omega
            · rw [show h + 1 + 1 - 1 = h + 1 by omega]; exact hp
            · exact S.row_le _
            · intro z hz e
              rcases mz z hz with hz' | hz'
              · exact f3 _ y hym (by rw [← e, hz'])
              · obtain ⟨k, _, _, hk3⟩ := S.child hz'
                by_cases ek : k = h
                · have : z ∈ tW T k := by
                    subst ek; rw [hW]
                    rw [fu_s] at hk3
                    exact (inA_mem hx).mpr (.inr hk3)
                  exact f3 _ z this e.symm
                · rw [fu_n _ _ ek] at hk3; exact f3 _ z hk3 e.symm
          simp only []
          rw [if_pos hokS, show tH T p' - 1 = h + 1 by omega]
          obtain ⟨a, b, c, d, e, f, hC6⟩ := len6 (show (tC (cp T p' (ix x (tC T p') + 1) y) p').length = 6 by rw [eL]; omega)
          obtain ⟨S3, C3⟩ := ad3 (q := q) (h := h) (by rw [eW]; exact S2) C2 (by rw [eW]; exact hp) (by rw [eN]; exact hN1) hC6 (by rw [eU]; exact f1) f2
          have hqp : q ≠ p' := f3 _ p' hp
          have hqH : tH T q = 0 := by
            cases e : tH T q with
            | zero => rfl
            | succ k => have := (S.1 k q (S.2.2.1 k q e)).2.2; rw [f1] at this; cases this
          have hCq : tC (cp T p' (ix x (tC T p') + 1) y) q = [] := by
            simp only [cp, tc, tp]; rw [fu_n _ _ hqp]; exact (S.2.2.2.2.2.2.2.2.2 q hqH).1
          obtain ⟨g1, g2, g3, g4, g5, g6, g7, g8⟩ := spl_eq hqp hCq hC6
          rw [eW] at S3 C3
          rw [eW] at g6
          obtain ⟨ok, T', i1, i2⟩ := ih (uW (spl (cp T p' (ix x (tC T p') + 1) y) p' q) (h + 1) (inA (tW T (h + 1)) p' q)) (h + 1) p' q (tW T (h + 1)) S3 C3 hp (fun hm => f3 _ q hm rfl) (by simp only [tw, g6]; rw [fu_s]) (by simp only [tw, g8, eN]; omega) (by simp only [tw, g8, eN]; exact hN1)
          refine ⟨ok, T', i1, fun hok => ?_⟩
          obtain ⟨j1, j2, j3⟩ := i2 hok
          refine ⟨j1, j2, AdF.trans ?_ j3⟩
          have eIq : fu (tI T) q [] = tI T := by rw [← (S.2.2.2.2.2.2.2.2.2 q hqH).2]; exact fu_id _ _
          refine ⟨fun b hb => ?_, ?_, ?_, fun b hb => by simp only [tw, g1, eU]; exact fu_n _ _ (by omega)⟩
          · simp only [tw, g1, g2, eU, eH]
            have : b ≠ q := by intro e; rw [e, f1] at hb; cases hb
            rw [fu_n _ _ this, fu_n _ _ this]; exact ⟨hb, fun h => h⟩
          · simp only [tw, g3, eI]; exact eIq
          · simp only [tw, g6]; rw [fu_n _ _ (by omega)]
