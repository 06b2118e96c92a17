/-! ===== LISTS ===== -/
theorem ix_dec {x : Nat} {l2 : List Nat} : ∀ {l1 : List Nat}, x ∉ l1 → ix x (l1 ++ x :: l2) = l1.length
  | [], _ => by simp [ix]
  | a :: l1, h => by
    rw [List.cons_append, ix, if_neg (fun e => h (by rw [e]; exact List.mem_cons_self ..)), ix_dec (fun e => h (List.mem_cons_of_mem _ e)), List.length_cons]
theorem out_dec {x : Nat} {l1 l2 : List Nat} (h : x ∉ l1) : out (l1 ++ x :: l2) x = l1 ++ l2 := by
  unfold out
  rw [ix_dec h, List.take_left, show l1 ++ x :: l2 = (l1 ++ [x]) ++ l2 by simp, show l1.length + 1 = (l1 ++ [x]).length by simp, List.drop_left]
theorem inA_dec {x y : Nat} {l1 l2 : List Nat} (h : x ∉ l1) : inA (l1 ++ x :: l2) x y = l1 ++ x :: y :: l2 := by
  unfold inA
  rw [ix_dec h, show l1 ++ x :: l2 = (l1 ++ [x]) ++ l2 by simp, show l1.length + 1 = (l1 ++ [x]).length by simp, List.drop_left, List.take_left]
  simp
theorem nx_dec {x : Nat} {l1 l2 : List Nat} (h : x ∉ l1) : nx (l1 ++ x :: l2) x = l2.head? := by
  unfold nx
  rw [ix_dec h, List.getElem?_append_right (by omega), show l1.length + 1 - l1.length = 1 by omega, List.getElem?_cons_succ, List.head?_eq_getElem?]
theorem pv_dec {x : Nat} {l1 l2 : List Nat} (h : x ∉ l1) : pv (l1 ++ x :: l2) x = l1.getLast? := by
  unfold pv
  rw [ix_dec h, List.getLast?_eq_getElem?]
  by_cases e : l1.length = 0
  · rw [if_pos e, List.eq_nil_of_length_eq_zero e]; rfl
  · rw [if_neg e, List.getElem?_append_left (by omega)]
theorem mem_dec {x : Nat} : ∀ {l : List Nat}, x ∈ l → ∃ l1 l2, l = l1 ++ x :: l2 ∧ x ∉ l1
  | [], h => by cases h
  | a :: l, h => by
    by_cases e : a = x
    · exact ⟨[], l, by rw [e]; rfl, by simp⟩
    · rcases List.mem_cons.mp h with h | h
      · exact absurd h.symm e
      · obtain ⟨l1, l2, h1, h2⟩ := mem_dec h
        refine ⟨a :: l1, l2, by rw [h1]; rfl, fun h3 => ?_⟩
        rcases List.mem_cons.mp h3 with h3 | h3
        · exact e h3.symm
        · exact h2 h3
theorem fm_fu {f : Nat → List Nat} {x : Nat} {v : List Nat} : ∀ {l : List Nat}, x ∉ l → l.flatMap (fu f x v) = l.flatMap f
  | [], _ => rfl
  | a :: l, h => by
    rw [List.flatMap_cons, List.flatMap_cons, fm_fu (fun e => h (List.mem_cons_of_mem _ e)), fu_n _ _ (fun e => h (by rw [e]; exact List.mem_cons_self ..))]
theorem fm_congr {f g : Nat → List Nat} : ∀ {l : List Nat}, (∀ x ∈ l, f x = g x) → l.flatMap f = l.flatMap g
  | [], _ => rfl
  | a :: l, h => by rw [List.flatMap_cons, List.flatMap_cons, h a (List.mem_cons_self ..), fm_congr (fun x hx => h x (List.mem_cons_of_mem _ hx))]
theorem nodup_le : ∀ (n : Nat) (l : List Nat), l.Nodup → (∀ x ∈ l, x < n) → l.length ≤ n
  | 0, l, _, h => by
    cases l with
    | nil => exact Nat.le_refl _
    | cons a l => exact absurd (h a (List.mem_cons_self ..)) (by omega)
  | n + 1, l, hd, h => by
    by_cases e : n ∈ l
    · obtain ⟨l1, l2, h1, h2⟩ := mem_dec e
      subst h1
      have hd' : (l1 ++ l2).Nodup := hd.sublist (List.Sublist.append (List.Sublist.refl _) (List.sublist_cons_self ..))
      have hn2 : n ∉ l2 := by
        have := (List.nodup_append.mp hd).2.1
        exact (List.nodup_cons.mp this).1
      have := nodup_le n (l1 ++ l2) hd' (fun x hx => by
        have h1 := h x (by rcases List.mem_append.mp hx with h | h; exact List.mem_append_left _ h; exact List.mem_append_right _ (List.mem_cons_of_mem _ h))
        have h3 : x ≠ n := by
          intro e; subst e
          rcases List.mem_append.mp hx with h | h
          · exact h2 h
          · exact hn2 h
        omega)
      simp only [List.length_append, List.length_cons] at this ⊢
      omega
    · have := nodup_le n l hd (fun x hx => by
        have h1 := h x hx
        have : x ≠ n := fun e2 => e (e2 ▸ hx)
        omega)
      omega
theorem nd_mid {x : Nat} {l1 l2 : List Nat} (h : (l1 ++ x :: l2).Nodup) : x ∉ l1 ∧ x ∉ l2 ∧ (l1 ++ l2).Nodup := by
  have h2 := (List.nodup_append.mp h)
  refine ⟨fun e => ?_, (List.nodup_cons.mp h2.2.1).1, h.sublist (List.Sublist.append (List.Sublist.refl _) (List.sublist_cons_self ..))⟩
  exact h2.2.2 x e x (List.mem_cons_self ..) rfl
theorem fm_out {f : Nat → List Nat} {p x : Nat} {l : List Nat} (hl : l.Nodup) (hL : (l.flatMap f).Nodup) (hp : p ∈ l) (hx : x ∈ f p) : l.flatMap (fu f p (out (f p) x)) = out (l.flatMap f) x := by
  obtain ⟨l1, l2, rfl, h1⟩ := mem_dec hp
  obtain ⟨c1, c2, e, h2⟩ := mem_dec hx
  have h3 := (nd_mid hl).2.1
  rw [List.flatMap_append, List.flatMap_cons, fm_fu h1, fm_fu h3, fu_s, List.flatMap_append, List.flatMap_cons, e, out_dec h2]
  rw [show List.flatMap f l1 ++ (c1 ++ x :: c2 ++ List.flatMap f l2) = (List.flatMap f l1 ++ c1) ++ x :: (c2 ++ List.flatMap f l2) by simp, out_dec, List.append_assoc, List.append_assoc]
  rw [List.flatMap_append, List.flatMap_cons, e, show List.flatMap f l1 ++ (c1 ++ x :: c2 ++ List.flatMap f l2) = (List.flatMap f l1 ++ c1) ++ x :: (c2 ++ List.flatMap f l2) by simp] at hL
  exact (nd_mid hL).1
theorem out_mem {x y : Nat} {l : List Nat} (h : y ∈ out l x) : y ∈ l := by
  unfold out at h
  rcases List.mem_append.mp h with h | h
  · exact List.mem_of_mem_take h
  · exact List.mem_of_mem_drop h
theorem out_mem_iff {x y : Nat} {l : List Nat} (hx : x ∈ l) (hl : l.Nodup) : y ∈ out l x ↔ y ∈ l ∧ y ≠ x := by
  obtain ⟨l1, l2, rfl, h1⟩ := mem_dec hx
  have h2 := (nd_mid hl).2.1
  rw [out_dec h1]
  constructor
  · intro h
    rcases List.mem_append.mp h with h | h
    · exact ⟨List.mem_append_left _ h, fun e => h1 (e ▸ h)⟩
    · exact ⟨List.mem_append_right _ (List.mem_cons_of_mem _ h), fun e => h2 (e ▸ h)⟩
  · rintro ⟨h, e⟩
    rcases List.mem_append.mp h with h | h
    · exact List.mem_append_left _ h
    · rcases List.mem_cons.mp h with h | h
      · exact absurd h e
      · exact List.mem_append_right _ h
theorem out_nodup {x : Nat} {l : List Nat} (hx : x ∈ l) (hl : l.Nodup) : (out l x).Nodup := by
  obtain ⟨l1, l2, rfl, h1⟩ := mem_dec hx
  rw [out_dec h1]
  exact (nd_mid hl).2.2
theorem out_len {x : Nat} {l : List Nat} (hx : x ∈ l) : (out l x).length + 1 = l.length := by
  obtain ⟨l1, l2, rfl, h1⟩ := mem_dec hx
  rw [out_dec h1]
  simp only [List.length_append, List.length_cons]; omega
theorem fm_nil_out {f : Nat → List Nat} {x : Nat} {l : List Nat} (hx : x ∈ l) (hf : f x = []) : (out l x).flatMap f = l.flatMap f := by
  obtain ⟨l1, l2, rfl, h1⟩ := mem_dec hx
  rw [out_dec h1, List.flatMap_append, List.flatMap_append, List.flatMap_cons, hf, List.nil_append]
/-! ===== THE SHAPE OF A TREE ===== -/
/-- rows and children agree; R: the rows as they are seen from above -/
def Sh (T : Tr) (R : Nat → List Nat) : Prop :=
  (∀ h x, x ∈ tW T h → x < 96 ∧ tH T x = h + 1 ∧ tU T x = true) ∧
  (∀ h, (tW T h).Nodup) ∧
  (∀ h x, tH T x = h + 1 → x ∈ tW T h) ∧
  (∀ p c, c ∈ tC T p → tP T c = some p) ∧
  (∀ x, x ∈ tW T 0 → tC T x = []) ∧
  (∀ h x, x ∈ tW T (h + 1) → tI T x = []) ∧
  (∀ h, h + 1 < tN T → (tW T (h + 1)).flatMap (tC T) = R h) ∧
  (R (tN T - 1) = [tR T] ∧ tP T (tR T) = none ∧ 1 ≤ tN T ∧ ∀ h, tN T ≤ h → tW T h = []) ∧
  (tU T 0 = true ∧ tH T 0 = 0) ∧
  (∀ b, tH T b = 0 → tC T b = [] ∧ tI T b = [])
/-- how many children -/
def Ct (T : Tr) (e : Option Nat) : Prop := ∀ h p, p ∈ tW T (h + 1) → e ≠ some p → 2 ≤ (tC T p).length ∧ (tC T p).length ≤ 5
theorem Sh.ne {T : Tr} {R : Nat → List Nat} (S : Sh T R) {h h' x y : Nat} (hx : x ∈ tW T h) (hy : y ∈ tW T h') (hh : h ≠ h') : x ≠ y := by
  intro e; subst e
  have h1 := (S.1 h x hx).2.1
  have h2 := (S.1 h' x hy).2.1
  omega
/-- children of one height change places -/
theorem Sh.ch {T T2 : Tr} {R : Nat → List Nat} (S : Sh T R) {h : Nat} (e1 : tU T2 = tU T) (e2 : tH T2 = tH T) (e3 : tI T2 = tI T) (e4 : tW T2 = tW T) (e5 : tR T2 = tR T) (e6 : tN T2 = tN T)
    (hC : ∀ b, b ∉ tW T (h + 1) → tC T2 b = tC T b) (hF : h + 1 < tN T → (tW T (h + 1)).flatMap (tC T2) = R h) (hP : ∀ p c, c ∈ tC T2 p → tP T2 c = some p) (hr : tP T2 (tR T) = none) : Sh T2 R := by
  obtain ⟨s1, s2, s3, s4, s5, s6, s7, s8, s9, s10⟩ := S
  refine ⟨?_, ?_, ?_, hP, ?_, ?_, ?_, ?_, ?_, ?_⟩
  · rw [e1, e2, e4]; exact s1
  · rw [e4]; exact s2
  · rw [e2, e4]; exact s3
  · intro x hx
    rw [e4] at hx
    rw [hC x (fun hx' => by have a := (s1 _ x hx).2.1; have b := (s1 _ x hx').2.1; omega)]
    exact s5 x hx
  · rw [e3, e4]; exact s6
  · intro k hk
    rw [e4]
    rw [e6] at hk
    by_cases e : k = h
    · subst e; exact hF hk
    · rw [← s7 k hk]
      refine fm_congr (fun x hx => hC x (fun hx' => ?_))
      have a := (s1 _ x hx).2.1; have b := (s1 _ x hx').2.1; omega
  · rw [e4, e5, e6]
    exact ⟨s8.1, hr, s8.2.2⟩
  · rw [e1, e2]; exact s9
  · intro b hb
    rw [e2] at hb
    rw [e3, hC b (fun hx' => by have b := (s1 _ b hx').2.1; omega)]
    exact s10 b hb
/-! ===== A NODE GOES: THE SHAPE STAYS ===== -/
theorem fm_len {f : Nat → List Nat} {p : Nat} {l : List Nat} (h : p ∈ l) : (f p).length ≤ (l.flatMap f).length := by
  obtain ⟨l1, l2, rfl, _⟩ := mem_dec h
  rw [List.flatMap_append, List.flatMap_cons]; simp only [List.length_append]; omega
theorem Sh.up {T : Tr} {R : Nat → List Nat} (S : Sh T R) {h x : Nat} (hh : h + 1 < tN T) (hx : x ∈ R h) : ∃ p, p ∈ tW T (h + 1) ∧ x ∈ tC T p ∧ tP T x = some p := by
  rw [← S.2.2.2.2.2.2.1 h hh] at hx
  obtain ⟨p, h1, h2⟩ := List.mem_flatMap.mp hx
  exact ⟨p, h1, h2, S.2.2.2.1 p x h2⟩
theorem Sh.rootIff {T : Tr} (S : Sh T (tW T)) {h p : Nat} (hh : h < tN T) (hp : p ∈ tW T h) : (tP T p = none ↔ p = tR T) ∧ (p = tR T ↔ h + 1 = tN T) := by
  have s8 := S.2.2.2.2.2.2.2.1
  have hr : tR T ∈ tW T (tN T - 1) := by rw [s8.1]; exact List.mem_cons_self ..
  by_cases e : h + 1 = tN T
  · have : p = tR T := by
      have h2 := s8.1
      rw [show tN T - 1 = h by omega] at h2
      rw [h2] at hp
      simpa using hp
    exact ⟨⟨fun _ => this, fun _ => by rw [this]; exact s8.2.1⟩, ⟨fun _ => e, fun _ => this⟩⟩
  · obtain ⟨q, _, _, h3⟩ := S.up (by omega) hp
    have hne : p ≠ tR T := S.ne hp hr (by omega)
    exact ⟨⟨fun h => absurd (h3.symm.trans h) (by simp), fun h => absurd h hne⟩, ⟨fun h => absurd h hne, fun h => absurd h e⟩⟩
theorem gn1 {T : Tr} {h x p : Nat} (S : Sh T (tW T)) (C : Ct T (some x)) (hx : x ∈ tW T h) (hc : tC T x = []) (hi : tI T x = []) (hh : h + 1 < tN T) (hp : p ∈ tW T (h + 1)) (hxp : x ∈ tC T p) :
    Sh (uC (fe (uW T h (out (tW T h) x)) x) p (out (tC T p) x)) (tW (uC (fe (uW T h (out (tW T h) x)) x) p (out (tC T p) x))) ∧ Ct (uC (fe (uW T h (out (tW T h) x)) x) p (out (tC T p) x)) (some p) := by
  have S' := S
  obtain ⟨s1, s2, s3, s4, s5, s6, s7, s8, s9, s10⟩ := S
  have eC : fu (tC T) x [] = tC T := by rw [← hc]; exact fu_id _ _
  have eI : fu (tI T) x [] = tI T := by rw [← hi]; exact fu_id _ _
  have xH := (s1 h x hx).2.1
  have pH := (s1 _ p hp).2.1
  have hxp' : x ≠ p := by intro e; rw [e] at xH; omega
  have hx0 : x ≠ 0 := by intro e; rw [e, s9.2] at xH; omega
  constructor
  · simp only [Sh, fe, tu, th, ti, tc, tw, eC, eI]
    refine ⟨fun k y hy => ?_, fun k => ?_, fun k y hy => ?_, fun q c hc' => ?_, fun y hy => ?_, fun k y hy => ?_, fun k hk => ?_, ?_, ?_, fun b hb => ?_⟩
    · by_cases e : k = h
      · subst e
        rw [fu_s] at hy
        obtain ⟨h1, h2⟩ := (out_mem_iff hx (s2 k)).mp hy
        rw [fu_n _ _ h2, fu_n _ _ h2]; exact s1 k y h1
      · rw [fu_n _ _ e] at hy
        have := S'.ne hy hx e
        rw [fu_n _ _ this, fu_n _ _ this]; exact s1 k y hy
    · by_cases e : k = h
      · subst e; rw [fu_s]; exact out_nodup hx (s2 k)
      · rw [fu_n _ _ e]; exact s2 k
    · by_cases e' : y = x
      · subst e'; rw [fu_s] at hy; omega
      rw [fu_n _ _ e'] at hy
      by_cases e : k = h
      · subst e; rw [fu_s]; exact (out_mem_iff hx (s2 k)).mpr ⟨s3 k y hy, e'⟩
      · rw [fu_n _ _ e]; exact s3 k y hy
    · by_cases e : q = p
      · subst e; rw [fu_s] at hc'; exact s4 q c (out_mem hc')
      · rw [fu_n _ _ e] at hc'; exact s4 q c hc'
    · have hy0 : y ∈ tW T 0 := by
        by_cases e : (0 : Nat) = h
        · subst e; rw [fu_s] at hy; exact out_mem hy
        · rw [fu_n _ _ e] at hy; exact hy
      rw [fu_n _ _ (S'.ne hy0 hp (by omega))]; exact s5 y hy0
    · have hy0 : y ∈ tW T (k + 1) := by
        by_cases e : k + 1 = h
        · subst e; rw [fu_s] at hy; exact out_mem hy
        · rw [fu_n _ _ e] at hy; exact hy
      exact s6 k y hy0
    · by_cases e : k = h
      · subst e
        rw [fu_s, fu_n _ _ (by omega)]
        have e7 := s7 k hk
        rw [fm_out (s2 (k + 1)) (by rw [e7]; exact s2 k) hp hxp, e7]
      · rw [fu_n _ _ e]
        by_cases e2 : k + 1 = h
        · subst e2
          rw [fu_s, fm_fu (fun hp' => S'.ne (out_mem hp') hp (by omega) rfl), fm_nil_out hx hc]
          exact s7 k hk
        · rw [fu_n _ _ e2, fm_fu (fun hp' => S'.ne hp' hp (by omega) rfl)]
          exact s7 k hk
    · rw [fu_n _ _ (show tN T - 1 ≠ h by omega)]
      exact ⟨s8.1, s8.2.1, s8.2.2.1, fun k hk => by rw [fu_n _ _ (by omega)]; exact s8.2.2.2 k hk⟩
    · rw [fu_n _ _ (Ne.symm hx0), fu_n _ _ (Ne.symm hx0)]; exact s9
    · by_cases e : b = x
      · subst e; rw [fu_n _ _ hxp']; exact ⟨hc, hi⟩
      · rw [fu_n _ _ e] at hb
        rw [fu_n _ _ (by intro e2; rw [e2] at hb; omega)]; exact s10 b hb
  · intro k q hq hne
    simp only [fe, tu, th, ti, tc, tw, eC] at hq ⊢
    have hqp : q ≠ p := fun e => hne (by rw [e])
    rw [fu_n _ _ hqp]
    by_cases e : k + 1 = h
    · subst e
      rw [fu_s] at hq
      obtain ⟨h1, h2⟩ := (out_mem_iff hx (s2 _)).mp hq
      exact C k q h1 (fun e => h2 (Option.some.inj e).symm)
    · rw [fu_n _ _ e] at hq
      exact C k q hq (fun e2 => S'.ne hq hx e (Option.some.inj e2).symm)
/-- the root has one child: that becomes the root -/
theorem gn2 {T : Tr} {h p c : Nat} (S : Sh T (tW T)) (C : Ct T (some p)) (hp : p ∈ tW T (h + 1)) (hh : h + 2 = tN T) (hc : tC T p = [c]) :
    Sh (uN (uR (uP (fe (uW T (h + 1) []) p) c none) c) (tN T - 1)) (tW (uN (uR (uP (fe (uW T (h + 1) []) p) c none) c) (tN T - 1))) ∧ Ct (uN (uR (uP (fe (uW T (h + 1) []) p) c none) c) (tN T - 1)) none := by
  have S' := S
  have hr : p = tR T := ((S.rootIff (by omega) hp).2).mpr hh
  obtain ⟨s1, s2, s3, s4, s5, s6, s7, s8, s9, s10⟩ := S
  have eI : fu (tI T) p [] = tI T := by rw [← s6 h p hp]; exact fu_id _ _
  have pH := (s1 _ p hp).2.1
  have hp0 : p ≠ 0 := by intro e; rw [e, s9.2] at pH; omega
  have hrow : tW T (h + 1) = [p] := by have := s8.1; rw [← hh, ← hr] at this; exact this
  have hrow2 : tW T h = [c] := by
    have := s7 h (by omega)
    rw [hrow] at this
    simpa [hc] using this.symm
  have hcP : tP T c = some p := s4 p c (by rw [hc]; exact List.mem_cons_self ..)
  constructor
  · simp only [Sh, fe, tu, th, ti, tc, tw, tp, tr, tn, eI]
    refine ⟨fun k y hy => ?_, fun k => ?_, fun k y hy => ?_, fun q d hd => ?_, fun y hy => ?_, fun k y hy => ?_, fun k hk => ?_, ?_, ?_, fun b hb => ?_⟩
    · by_cases e : k = h + 1
      · subst e; rw [fu_s] at hy; cases hy
      · rw [fu_n _ _ e] at hy
        have := S'.ne hy hp e
        rw [fu_n _ _ this, fu_n _ _ this]; exact s1 k y hy
    · by_cases e : k = h + 1
      · subst e; rw [fu_s]; exact List.nodup_nil
      · rw [fu_n _ _ e]; exact s2 k
    · by_cases e' : y = p
      · subst e'; rw [fu_s] at hy; omega
      rw [fu_n _ _ e'] at hy
      by_cases e : k = h + 1
      · subst e
        have := s3 _ y hy
        rw [hrow] at this
        exact absurd (by simpa using this) e'
      · rw [fu_n _ _ e]; exact s3 k y hy
    · by_cases e : q = p
      · subst e; rw [fu_s] at hd; cases hd
      · rw [fu_n _ _ e] at hd
        have := s4 q d hd
        rw [fu_n _ _ (by intro e2; rw [e2, hcP] at this; exact e (Option.some.inj this).symm)]
        exact this
    · rw [fu_n _ _ (by omega)] at hy
      rw [fu_n _ _ (S'.ne hy hp (by omega))]; exact s5 y hy
    · by_cases e : k = h
      · subst e; rw [fu_s] at hy; cases hy
      · rw [fu_n _ _ (by omega)] at hy; exact s6 k y hy
    · rw [fu_n _ _ (by omega), fu_n _ _ (by omega), fm_fu (fun hp' => S'.ne hp' hp (by omega) rfl)]
      exact s7 k (by omega)
    · rw [fu_s, fu_n _ _ (by omega), show tN T - 1 - 1 = h by omega, hrow2]
      refine ⟨rfl, rfl, by omega, fun k hk => ?_⟩
      by_cases e : k = h + 1
      · subst e; rw [fu_s]
      · rw [fu_n _ _ e]; exact s8.2.2.2 k (by omega)
    · rw [fu_n _ _ (Ne.symm hp0), fu_n _ _ (Ne.symm hp0)]; exact s9
    · by_cases e : b = p
      · subst e; rw [fu_s]; exact ⟨rfl, s6 h b hp⟩
      · rw [fu_n _ _ e] at hb
        rw [fu_n _ _ e]; exact s10 b hb
  · intro k q hq _
    simp only [fe, tu, th, ti, tc, tw, tp, tr, tn] at hq ⊢
    by_cases e : k = h
    · subst e; rw [fu_s] at hq; cases hq
    · rw [fu_n _ _ (by omega)] at hq
      have := S'.ne hq hp (by omega)
      rw [fu_n _ _ this]
      exact C k q hq (fun e2 => this (Option.some.inj e2).symm)
/-- the only child of p goes to a neighbour a -/
theorem gn3 {T : Tr} {h p c a k : Nat} (S : Sh T (tW T)) (C : Ct T (some p)) (hp : p ∈ tW T (h + 1)) (ha : a ∈ tW T (h + 1)) (hap : a ≠ p) (hh : h + 2 < tN T) (hc : tC T p = [c]) (hl : (tC T a).length < 5) (hk : k ≤ (tC T a).length)
    (hF : (tW T (h + 1)).flatMap (fu (fu (tC T) p []) a ((tC T a).take k ++ c :: (tC T a).drop k)) = (tW T (h + 1)).flatMap (tC T)) :
    Sh (cp (uC T p []) a k c) (tW T) ∧ Ct (cp (uC T p []) a k c) (some p) ∧ tC (cp (uC T p []) a k c) p = [] := by
  have hcP : tP T c = some p := S.2.2.2.1 p c (by rw [hc]; exact List.mem_cons_self ..)
  have hcr : c ≠ tR T := by intro e; rw [e, S.2.2.2.2.2.2.2.1.2.1] at hcP; cases hcP
  have eA : tC (uC T p []) a = tC T a := by simp only [tc]; exact fu_n _ _ hap
  refine ⟨?_, ?_, ?_⟩
  · refine Sh.ch S (h := h) (by simp only [cp, tc, tp]) (by simp only [cp, tc, tp]) (by simp only [cp, tc, tp]) (by simp only [cp, tc, tp]) (by simp only [cp, tc, tp]) (by simp only [cp, tc, tp]) (fun b hb => ?_) (fun _ => ?_) (fun q d hd => ?_) ?_
    · simp only [cp, tc, tp]
      rw [fu_n _ _ (by intro e; rw [e] at hb; exact hb ha), fu_n _ _ (by intro e; rw [e] at hb; exact hb hp)]
    · simp only [cp, tc, tp]
      rw [fu_n _ _ hap, hF]
      exact S.2.2.2.2.2.2.1 h (by omega)
    · simp only [cp, tc, tp] at hd ⊢
      rw [fu_n _ _ hap] at hd
      by_cases e : q = a
      · subst e
        rw [fu_s] at hd
        by_cases e2 : d = c
        · subst e2; rw [fu_s]
        · rw [fu_n _ _ e2]
          refine S.2.2.2.1 q d ?_
          rcases List.mem_append.mp hd with h | h
          · exact List.mem_of_mem_take h
          · rcases List.mem_cons.mp h with h | h
            · exact absurd h e2
            · exact List.mem_of_mem_drop h
      · rw [fu_n _ _ e] at hd
        by_cases e3 : q = p
        · subst e3; rw [fu_s] at hd; cases hd
        · rw [fu_n _ _ e3] at hd
          have := S.2.2.2.1 q d hd
          rw [fu_n _ _ (by intro e2; rw [e2, hcP] at this; exact e3 (Option.some.inj this).symm)]
          exact this
    · simp only [cp, tc, tp]
      rw [fu_n _ _ (Ne.symm hcr)]; exact S.2.2.2.2.2.2.2.1.2.1
  · intro k' q hq hne
    simp only [cp, tc, tp] at hq ⊢
    have hqp : q ≠ p := fun e => hne (by rw [e])
    by_cases e : q = a
    · subst e
      rw [fu_s, fu_n _ _ hap]
      have := C k' q hq (fun e => hqp (Option.some.inj e).symm)
      simp only [List.length_append, List.length_cons, List.length_take, List.length_drop]
      omega
    · rw [fu_n _ _ e, fu_n _ _ hqp]
      exact C k' q hq (fun e => hqp (Option.some.inj e).symm)
  · simp only [cp, tc, tp]
    rw [fu_n _ _ (Ne.symm hap), fu_s]
/-- p gets a child of a neighbour a that has five -/
theorem gn4 {T : Tr} {h p c a y k : Nat} {l : List Nat} (S : Sh T (tW T)) (C : Ct T (some p)) (hp : p ∈ tW T (h + 1)) (ha : a ∈ tW T (h + 1)) (hap : a ≠ p) (hh : h + 2 < tN T) (hc : tC T p = [c]) (hl : l.length = 4) (hk : k ≤ 1) (hy : y ∈ tC T a) (hly : ∀ z ∈ l, z ∈ tC T a) (hyl : y ∉ l)
    (hF : (tW T (h + 1)).flatMap (fu (fu (tC T) a l) p ([c].take k ++ y :: [c].drop k)) = (tW T (h + 1)).flatMap (tC T)) :
    Sh (cp (uC T a l) p k y) (tW T) ∧ Ct (cp (uC T a l) p k y) none := by
  have hyP : tP T y = some a := S.2.2.2.1 a y hy
  have hyr : y ≠ tR T := by intro e; rw [e, S.2.2.2.2.2.2.2.1.2.1] at hyP; cases hyP
  have eA : tC (uC T a l) p = [c] := by simp only [tc]; rw [fu_n _ _ (Ne.symm hap)]; exact hc
  refine ⟨?_, ?_⟩
  · refine Sh.ch S (h := h) (by simp only [cp, tc, tp]) (by simp only [cp, tc, tp]) (by simp only [cp, tc, tp]) (by simp only [cp, tc, tp]) (by simp only [cp, tc, tp]) (by simp only [cp, tc, tp]) (fun b hb => ?_) (fun _ => ?_) (fun q d hd => ?_) ?_
    · simp only [cp, tc, tp]
      rw [fu_n _ _ (by intro e; rw [e] at hb; exact hb hp), fu_n _ _ (by intro e; rw [e] at hb; exact hb ha)]
    · simp only [cp, tc, tp]
      rw [fu_n _ _ (Ne.symm hap), hc, hF]
      exact S.2.2.2.2.2.2.1 h (by omega)
    · simp only [cp, tc, tp] at hd ⊢
      rw [fu_n _ _ (Ne.symm hap), hc] at hd
      by_cases e : q = p
      · subst e
        rw [fu_s] at hd
        by_cases e2 : d = y
        · subst e2; rw [fu_s]
        · rw [fu_n _ _ e2]
          refine S.2.2.2.1 q d ?_
          rw [hc]
          rcases List.mem_append.mp hd with h | h
          · exact List.mem_of_mem_take h
          · rcases List.mem_cons.mp h with h | h
            · exact absurd h e2
            · exact List.mem_of_mem_drop h
      · rw [fu_n _ _ e] at hd
        by_cases e3 : q = a
        · subst e3; rw [fu_s] at hd
          rw [fu_n _ _ (by intro e; rw [e] at hd; exact hyl hd)]
          exact S.2.2.2.1 q d (hly d hd)
        · rw [fu_n _ _ e3] at hd
          have := S.2.2.2.1 q d hd
          rw [fu_n _ _ (by intro e2; rw [e2, hyP] at this; exact e3 (Option.some.inj this).symm)]
          exact this
    · simp only [cp, tc, tp]
      rw [fu_n _ _ (Ne.symm hyr)]; exact S.2.2.2.2.2.2.2.1.2.1
  · intro k' q hq hne
    simp only [cp, tc, tp] at hq ⊢
    by_cases e : q = p
    · subst e
      rw [fu_s, fu_n _ _ (Ne.symm hap), hc]
      simp only [List.length_append, List.length_cons, List.length_take, List.length_drop, List.length_nil]
      omega
    · rw [fu_n _ _ e]
      by_cases e2 : q = a
      · subst e2; rw [fu_s]; omega
      · rw [fu_n _ _ e2]
        exact C k' q hq (fun e3 => e (Option.some.inj e3).symm)
/-- what else is said of a tree from which nodes went -/
def GnF (T T' : Tr) : Prop := tN T' ≤ tN T ∧ (∀ b, tH T b = 0 → tH T' b = 0 ∧ tU T' b = tU T b) ∧ (∀ b, tU T' b = true → tU T b = true) ∧ tI T' = tI T
theorem GnF.trans {T T' T'' : Tr} (h : GnF T T') (h' : GnF T' T'') : GnF T T'' :=
  ⟨Nat.le_trans h'.1 h.1, fun b hb => ⟨(h'.2.1 b (h.2.1 b hb).1).1, ((h'.2.1 b (h.2.1 b hb).1).2).trans (h.2.1 b hb).2⟩, fun b hb => h.2.2.1 b (h'.2.2.1 b hb), h'.2.2.2.trans h.2.2.2⟩
theorem gn_ok : ∀ (n : Nat) (T : Tr) (h x : Nat), Sh T (tW T) → Ct T (some x) → x ∈ tW T h → tC T x = [] → tI T x = [] → h + 1 < tN T → tN T ≤ 7 → tN T ≤ h + 1 + n →
    ∃ T', gn n T x = some T' ∧ Sh T' (tW T') ∧ Ct T' none ∧ GnF T T' ∧ tW T' 0 = (if h = 0 then out (tW T 0) x else tW T 0) := by
  intro n
  induction n with
  | zero => intro T h x S C hx hc hi hh h7 hn; omega
  | succ n ih =>
    intro T h x S C hx hc hi hh h7 hn
    obtain ⟨p, hp, hxp, hP⟩ := S.up hh hx
    have xH := (S.1 h x hx).2.1
    have pH := (S.1 _ p hp).2.1
    have hne : x ≠ p := S.ne hx hp (by omega)
    have hri := S.rootIff (by omega) hp
    have cond : x ∈ tW T h ∧ x ∈ tC T p ∧ tH T p = h + 2 ∧ x ≠ p ∧ x < 96 ∧ p < 96 ∧ h + 1 < 8 ∧ tI T p = [] ∧ p ∈ tW T (h + 1) ∧ 1 ≤ tN T ∧ (tP T p = none ↔ p = tR T) :=
      ⟨hx, hxp, pH, hne, (S.1 h x hx).1, (S.1 _ p hp).1, by omega, S.2.2.2.2.2.1 h p hp, hp, by omega, hri.1⟩
    obtain ⟨S1, C1⟩ := gn1 S C hx hc hi hh hp hxp
    have eI : fu (tI T) x [] = tI T := by rw [← hi]; exact fu_id _ _
    have F1 : GnF T (uC (fe (uW T h (out (tW T h) x)) x) p (out (tC T p) x)) := by
      simp only [GnF, fe, tu, th, ti, tc, tw, eI]
      refine ⟨Nat.le_refl _, fun b hb => ?_, fun b hb => ?_, trivial⟩
      · have : b ≠ x := by intro e; rw [e] at hb; omega
        rw [fu_n _ _ this, fu_n _ _ this]; exact ⟨hb, rfl⟩
      · by_cases e : b = x
        · subst e; rw [fu_s] at hb; cases hb
        · rw [fu_n _ _ e] at hb; exact hb
    have W1 : tW (uC (fe (uW T h (out (tW T h) x)) x) p (out (tC T p) x)) 0 = (if h = 0 then out (tW T 0) x else tW T 0) := by
      simp only [fe, tu, th, ti, tc, tw]
      by_cases e : h = 0
      · subst e; rw [fu_s, if_pos rfl]
      · rw [fu_n _ _ (Ne.symm e), if_neg e]
    have hC1 : tC (uC (fe (uW T h (out (tW T h) x)) x) p (out (tC T p) x)) p = out (tC T p) x := by simp only [tc]; exact fu_s _ _ _
    have hp1 : p ∈ tW (uC (fe (uW T h (out (tW T h) x)) x) p (out (tC T p) x)) (h + 1) := by
      simp only [fe, tu, th, ti, tc, tw]; rw [fu_n _ _ (by omega)]; exact hp
    have hP1 : tP (uC (fe (uW T h (out (tW T h) x)) x) p (out (tC T p) x)) p = tP T p := by simp only [fe, tu, th, ti, tc, tw]
    have hN1 : tN (uC (fe (uW T h (out (tW T h) x)) x) p (out (tC T p) x)) = tN T := by simp only [fe, tu, th, ti, tc, tw]
    have hlen := out_len hxp
    have hct := C h p hp (fun e => hne (Option.some.inj e))
    simp only [gn, hP, xH]
    rw [if_pos cond]
    generalize uC (fe (uW T h (out (tW T h) x)) x) p (out (tC T p) x) = T1 at *
    rw [← hC1] at hlen
    rw [hC1] at hlen
    cases hCp : tC T1 p with
    | nil => rw [← hC1, hCp, List.length_nil] at hlen; omega
    | cons c rest =>
    cases rest with
    | cons c' rest =>
      refine ⟨T1, rfl, S1, fun k q hq _ => ?_, F1, W1⟩
      by_cases e : q = p
      · subst e
        rw [← hC1, hCp] at hlen
        rw [hCp]
        simp only [List.length_cons] at hlen ⊢
        omega
      · exact C1 k q hq (fun e2 => e (Option.some.inj e2).symm)
    | nil =>
      have hri1 := S1.rootIff (h := h + 1) (p := p) (by omega) hp1
      cases hPp : tP T1 p with
      | none =>
        have hN2 : h + 2 = tN T1 := hri1.2.mp (hri1.1.mp hPp)
        obtain ⟨S2, C2⟩ := gn2 S1 C1 hp1 hN2 hCp
        have eI1 : fu (tI T1) p [] = tI T1 := by rw [← S1.2.2.2.2.2.1 h p hp1]; exact fu_id _ _
        have pH1 := (S1.1 _ p hp1).2.1
        refine ⟨_, rfl, S2, C2, F1.trans ?_, ?_⟩
        · simp only [GnF, fe, tu, th, ti, tc, tw, tp, tr, tn, eI1]
          refine ⟨by omega, fun b hb => ?_, fun b hb => ?_, trivial⟩
          · have : b ≠ p := by intro e; rw [e] at hb; omega
            rw [fu_n _ _ this, fu_n _ _ this]; exact ⟨hb, rfl⟩
          · by_cases e : b = p
            · subst e; rw [fu_s] at hb; cases hb
            · rw [fu_n _ _ e] at hb; exact hb
        · rw [← W1]
          simp only [fe, tu, th, ti, tc, tw, tp, tr, tn]
          rw [fu_n _ _ (by omega)]
      | some pp =>
        have hN2 : h + 2 < tN T1 := by
          by_cases e : h + 2 = tN T1
          · have := hri1.1.mpr (hri1.2.mpr e); rw [this] at hPp; cases hPp
          · omega
        obtain ⟨p2, hp2, hpp2, hP2⟩ := S1.up (h := h + 1) (x := p) (by omega) hp1
        have hpe : p2 = pp := by rw [hPp] at hP2; exact (Option.some.inj hP2).symm
        subst hpe
        have hpp96 := (S1.1 _ p2 hp2).1
        have row2 : 2 ≤ (tW T1 (h + 1)).length := by
          rw [← S1.2.2.2.2.2.2.1 (h + 1) (by omega)]
          have := fm_len (f := tC T1) hp2
          have := C1 (h + 1) p2 hp2 (fun e => S1.ne hp1 hp2 (by omega) (Option.some.inj e))
          omega
        obtain ⟨P1, P2, hrow, hP1'⟩ := mem_dec hp1
        have hnd := S1.2.1 (h + 1)
        rw [hrow] at hnd
        have hP2' := (nd_mid hnd).2.1
        have hpv := pv_dec (l2 := P2) hP1'
        have hnx := nx_dec (l2 := P2) hP1'
        have okAll : ∀ a, a ∈ P1 ∨ a ∈ P2 → a ∈ tW T1 (h + 1) ∧ a ≠ p ∧ tI T1 a = [] ∧ 2 ≤ (tC T1 a).length ∧ (tC T1 a).length ≤ 5 := by
          intro a ha
          have hm : a ∈ tW T1 (h + 1) := by
            rw [hrow]; rcases ha with ha | ha
            · exact List.mem_append_left _ ha
            · exact List.mem_append_right _ (List.mem_cons_of_mem _ ha)
          have hne' : a ≠ p := by
            intro e; subst e; rcases ha with ha | ha
            · exact hP1' ha
            · exact hP2' ha
          exact ⟨hm, hne', S1.2.2.2.2.2.1 h a hm, C1 h a hm (fun e => hne' (Option.some.inj e).symm)⟩
        have okl : okN T1 p (pv (tW T1 (h + 1)) p) = true := by
          rw [hrow, hpv]
          cases hl : P1.getLast? with
          | none => rfl
          | some a =>
            obtain ⟨_, g2, g3, _, g5⟩ := okAll a (.inl (List.mem_of_getLast? hl))
            exact decide_eq_true ⟨g2, g3, g5⟩
        have okr : okN T1 p (nx (tW T1 (h + 1)) p) = true := by
          rw [hrow, hnx]
          cases hl : P2.head? with
          | none => rfl
          | some a =>
            obtain ⟨_, g2, g3, _, g5⟩ := okAll a (.inr (List.mem_of_head? hl))
            exact decide_eq_true ⟨g2, g3, g5⟩
        have hno : ¬ (okN T1 p (pv (tW T1 (h + 1)) p) = false ∨ okN T1 p (nx (tW T1 (h + 1)) p) = false ∨ 96 ≤ p2) := by
          rw [okl, okr]; simp; omega
        simp only []
        rw [if_neg hno]
        have fin : ∀ a k, a ∈ tW T1 (h + 1) → a ≠ p → (tC T1 a).length < 5 → k ≤ (tC T1 a).length → (tW T1 (h + 1)).flatMap (fu (fu (tC T1) p []) a ((tC T1 a).take k ++ c :: (tC T1 a).drop k)) = (tW T1 (h + 1)).flatMap (tC T1) →
            ∃ T', gn n (cp (uC T1 p []) a k c) p = some T' ∧ Sh T' (tW T') ∧ Ct T' none ∧ GnF T T' ∧ tW T' 0 = (if h = 0 then out (tW T 0) x else tW T 0) := by
          intro a k ha hap hl5 hk hF
          obtain ⟨S2, C2, c2⟩ := gn3 S1 C1 hp1 ha hap hN2 hCp hl5 hk hF
          have eW : tW (cp (uC T1 p []) a k c) = tW T1 := by simp only [cp, tc, tp]
          have eN : tN (cp (uC T1 p []) a k c) = tN T1 := by simp only [cp, tc, tp]
          have eI' : tI (cp (uC T1 p []) a k c) = tI T1 := by simp only [cp, tc, tp]
          rw [← eW] at S2
          obtain ⟨T', g1, g2, g3, g4, g5⟩ := ih _ (h + 1) p S2 C2 (by rw [eW]; exact hp1) c2 (by rw [eI']; exact S1.2.2.2.2.2.1 h p hp1) (by rw [eN]; omega) (by rw [eN]; omega) (by rw [eN]; omega)
          refine ⟨T', g1, g2, g3, (F1.trans ?_).trans g4, ?_⟩
          · simp only [GnF, cp, tc, tp]
            exact ⟨Nat.le_refl _, fun b hb => ⟨hb, trivial⟩, fun b hb => hb, trivial⟩
          · rw [g5, if_neg (by omega), eW, W1]
        have don : ∀ a k y l, a ∈ tW T1 (h + 1) → a ≠ p → l.length = 4 → k ≤ 1 → y ∈ tC T1 a → (∀ z ∈ l, z ∈ tC T1 a) → y ∉ l → (tW T1 (h + 1)).flatMap (fu (fu (tC T1) a l) p ([c].take k ++ y :: [c].drop k)) = (tW T1 (h + 1)).flatMap (tC T1) →
            ∃ T', some (cp (uC T1 a l) p k y) = some T' ∧ Sh T' (tW T') ∧ Ct T' none ∧ GnF T T' ∧ tW T' 0 = (if h = 0 then out (tW T 0) x else tW T 0) := by
          intro a k y l ha hap hl4 hk hy hly hyl hF
          obtain ⟨S2, C2⟩ := gn4 S1 C1 hp1 ha hap hN2 hCp hl4 hk hy hly hyl hF
          refine ⟨_, rfl, ?_, C2, F1.trans ?_, ?_⟩
          · have eW : tW (cp (uC T1 a l) p k y) = tW T1 := by simp only [cp, tc, tp]
            rw [eW]; exact S2
          · simp only [GnF, cp, tc, tp]
            exact ⟨Nat.le_refl _, fun b hb => ⟨hb, trivial⟩, fun b hb => hb, trivial⟩
          · rw [← W1]; simp only [cp, tc, tp]
        have ndC : ∀ a, a ∈ tW T1 (h + 1) → (tC T1 a).Nodup := by
          intro a ha
          have hnd1 := S1.2.1 h
          rw [← S1.2.2.2.2.2.2.1 h (by omega)] at hnd1
          obtain ⟨l1, l2, e, _⟩ := mem_dec ha
          rw [e, List.flatMap_append, List.flatMap_cons] at hnd1
          exact (List.nodup_append.mp (List.nodup_append.mp hnd1).2.1).1
        -- the right neighbour
        have toR : ∀ a P2', P2 = a :: P2' → (tC T1 a).length < 5 → ∃ T', gn n (cp (uC T1 p []) a 0 c) p = some T' ∧ Sh T' (tW T') ∧ Ct T' none ∧ GnF T T' ∧ tW T' 0 = (if h = 0 then out (tW T 0) x else tW T 0) := by
          intro a P2' e hl5
          obtain ⟨g1, g2, g3, g4, g5⟩ := okAll a (.inr (by rw [e]; exact List.mem_cons_self ..))
          refine fin a 0 g1 g2 hl5 (Nat.zero_le _) ?_
          rw [e] at hnd
          have n1 : a ∉ P1 := fun hm => (List.nodup_append.mp hnd).2.2 a hm a (List.mem_cons_of_mem _ (List.mem_cons_self ..)) rfl
          have n2 : a ∉ P2' := (List.nodup_cons.mp (List.nodup_cons.mp (List.nodup_append.mp hnd).2.1).2).1
          have n3 : p ∉ P2' := fun hm => hP2' (by rw [e]; exact List.mem_cons_of_mem _ hm)
          rw [hrow, e]
          simp only [List.flatMap_append, List.flatMap_cons, fm_fu n1, fm_fu hP1', fm_fu n2, fm_fu n3, fu_s, fu_n _ _ (Ne.symm g2), hCp]
          simp
        cases hl : P1.getLast? with
        | none =>
          have hP1n : P1 = [] := List.getLast?_eq_none_iff.mp hl
          cases hr : P2.head? with
          | none =>
            have hP2n : P2 = [] := List.head?_eq_none_iff.mp hr
            rw [hrow, hP1n, hP2n] at row2
            simp at row2
          | some a =>
            obtain ⟨P2', e⟩ : ∃ P2', P2 = a :: P2' := by
              cases P2 with
              | nil => cases hr
              | cons b P2' => cases hr; exact ⟨P2', rfl⟩
            obtain ⟨g1, g2, g3, g4, g5⟩ := okAll a (.inr (by rw [e]; exact List.mem_cons_self ..))
            have e1 : pv (tW T1 (h + 1)) p = none := by rw [hrow, hpv, hl]
            have e2 : nx (tW T1 (h + 1)) p = some a := by rw [hrow, hnx, hr]
            rw [e1, e2, if_neg (by simp [rmN])]
            by_cases h5 : (tC T1 a).length < 5
            · rw [if_pos (by simp [rmN]; omega)]
              exact toR a P2' e h5
            · rw [if_neg (by simp [rmN]; omega)]
              cases hA : tC T1 a with
              | nil => rw [hA] at g4; simp at g4
              | cons y l =>
                have hnA := ndC a g1
                rw [hA] at hnA
                simp only [hA, List.getElem?_cons_zero, List.drop_one, List.tail_cons]
                refine don a 1 y l g1 g2 (by rw [hA] at h5 g5; simp only [List.length_cons] at h5 g5; omega) (Nat.le_refl _) (by rw [hA]; exact List.mem_cons_self ..) (fun z hz => by rw [hA]; exact List.mem_cons_of_mem _ hz) (List.nodup_cons.mp hnA).1 ?_
                rw [e] at hnd
                have n1 : a ∉ P1 := fun hm => (List.nodup_append.mp hnd).2.2 a hm a (List.mem_cons_of_mem _ (List.mem_cons_self ..)) rfl
                have n2 : a ∉ P2' := (List.nodup_cons.mp (List.nodup_cons.mp (List.nodup_append.mp hnd).2.1).2).1
                have n3 : p ∉ P2' := fun hm => hP2' (by rw [e]; exact List.mem_cons_of_mem _ hm)
                rw [hrow, e]
                simp only [List.flatMap_append, List.flatMap_cons, fm_fu n1, fm_fu hP1', fm_fu n2, fm_fu n3, fu_s, fu_n _ _ g2, hCp, hA]
                simp
        | some a =>
          obtain ⟨P1', e⟩ : ∃ P1', P1 = P1' ++ [a] := by
            obtain ⟨P1', e⟩ := List.getLast?_eq_some_iff.mp hl
            exact ⟨P1', e⟩
          obtain ⟨g1, g2, g3, g4, g5⟩ := okAll a (.inl (by rw [e]; simp))
          have hnd' := hnd
          rw [e] at hnd'
          have n1 : a ∉ P1' := by
            have := (List.nodup_append.mp hnd').1
            exact fun hm => (List.nodup_append.mp this).2.2 a hm a (List.mem_cons_self ..) rfl
          have n2 : a ∉ P2 := fun hm => (List.nodup_append.mp hnd').2.2 a (by simp) a (List.mem_cons_of_mem _ hm) rfl
          have n3 : p ∉ P1' := fun hm => hP1' (by rw [e]; simp [hm])
          have e1 : pv (tW T1 (h + 1)) p = some a := by rw [hrow, hpv, hl]
          rw [e1]
          by_cases h5 : (tC T1 a).length < 5
          · rw [if_pos (by simp [rmN]; omega)]
            refine fin a _ g1 g2 h5 (Nat.le_refl _) ?_
            rw [hrow, e]
            simp only [List.flatMap_append, List.flatMap_cons, fm_fu n1, fm_fu n3, fm_fu n2, fm_fu hP2', fu_s, fu_n _ _ (Ne.symm g2), hCp, List.flatMap_nil, List.take_length, List.drop_length]
            simp
          · rw [if_neg (by simp [rmN]; omega)]
            have borrow : ∃ T', (match (tC T1 a)[(tC T1 a).length - 1]? with | some y => some (cp (uC T1 a ((tC T1 a).take ((tC T1 a).length - 1))) p 0 y) | none => none) = some T' ∧ Sh T' (tW T') ∧ Ct T' none ∧ GnF T T' ∧ tW T' 0 = (if h = 0 then out (tW T 0) x else tW T 0) := by
              cases hy : (tC T1 a)[(tC T1 a).length - 1]? with
              | none => rw [List.getElem?_eq_none_iff] at hy; omega
              | some y =>
                obtain ⟨hsp, _⟩ := last_split hy
                have hnA := ndC a g1
                rw [hsp] at hnA
                refine don a 0 y _ g1 g2 (by rw [List.length_take]; omega) (by omega) (List.mem_of_getElem? hy) (fun z hz => List.mem_of_mem_take hz) (fun hm => (List.nodup_append.mp hnA).2.2 y hm y (List.mem_cons_self ..) rfl) ?_
                rw [hrow, e]
                simp only [List.flatMap_append, List.flatMap_cons, fm_fu n1, fm_fu n3, fm_fu n2, fm_fu hP2', fu_s, fu_n _ _ g2, hCp, List.flatMap_nil]
                rw [show (tC T1 a) ++ ([] : List Nat) = (tC T1 a).take ((tC T1 a).length - 1) ++ [y] by rw [List.append_nil]; exact hsp]
                simp
            cases hr : P2.head? with
            | none =>
              have e2 : nx (tW T1 (h + 1)) p = none := by rw [hrow, hnx, hr]
              rw [e2, if_neg (by simp [rmN])]
              exact borrow
            | some a2 =>
              obtain ⟨P2', e'⟩ : ∃ P2', P2 = a2 :: P2' := by
                cases P2 with
                | nil => cases hr
                | cons b P2' => cases hr; exact ⟨P2', rfl⟩
              have e2 : nx (tW T1 (h + 1)) p = some a2 := by rw [hrow, hnx, hr]
              rw [e2]
              by_cases h6 : (tC T1 a2).length < 5
              · rw [if_pos (by simp [rmN]; omega)]
                exact toR a2 P2' e' h6
              · rw [if_neg (by simp [rmN]; omega)]
                exact borrow
