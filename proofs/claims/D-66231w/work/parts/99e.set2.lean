/-! ===== SET: one word for all its cases ===== -/
/-- what is in use and no node was that before -/
def Pv (T T' : Tr) : Prop := ∀ b, tU T' b = true → tH T' b = 0 → tU T b = true ∧ tH T b = 0
theorem Pv.refl (T : Tr) : Pv T T := fun _ h1 h2 => ⟨h1, h2⟩
theorem Pv.trans {T T' T'' : Tr} (h : Pv T T') (h' : Pv T' T'') : Pv T T'' := fun b h1 h2 => h b (h' b h1 h2).1 (h' b h1 h2).2
theorem Pv.same {T T' : Tr} (h1 : tU T' = tU T) (h2 : tH T' = tH T) : Pv T T' := fun b a1 a2 => by rw [h1] at a1; rw [h2] at a2; exact ⟨a1, a2⟩
theorem Pv.pre {T T1 T' : Tr} (h : Pv T1 T') (h1 : tU T1 = tU T) (h2 : tH T1 = tH T) : Pv T T' := Pv.trans (Pv.same h1 h2) h
theorem Pv.less {T T' : Tr} {x : Nat} (h1 : tU T' = fu (tU T) x false) (h2 : tH T' = fu (tH T) x 0) : Pv T T' := by
  intro b a1 a2
  by_cases e : b = x
  · rw [h1, e, fu_s] at a1; cases a1
  · rw [h1, fu_n _ _ e] at a1; rw [h2, fu_n _ _ e] at a2; exact ⟨a1, a2⟩
theorem Pv.more {T T' : Tr} {x v : Nat} (h1 : tU T' = fu (tU T) x true) (h2 : tH T' = fu (tH T) x v) (hv : 1 ≤ v) : Pv T T' := by
  intro b a1 a2
  by_cases e : b = x
  · rw [h2, e, fu_s] at a2; omega
  · rw [h1, fu_n _ _ e] at a1; rw [h2, fu_n _ _ e] at a2; exact ⟨a1, a2⟩
theorem gn_pv : ∀ (n : Nat) (T : Tr) (x : Nat) (T' : Tr), gn n T x = some T' → Pv T T'
  | 0, T, x, T', h => by simp [gn] at h
  | n + 1, T, x, T', h => by
    rw [gn] at h
    split at h
    · rename_i p h1 e1 e2
      split at h
      · have P1 : Pv T (uC (fe (uW T h1 (out (tW T h1) x)) x) p (out (tC T p) x)) := Pv.less (x := x) rfl rfl
        generalize hT1 : uC (fe (uW T h1 (out (tW T h1) x)) x) p (out (tC T p) x) = T1 at h P1
        dsimp only at h
        split at h
        · cases h
        · split at h
          · rw [← Option.some.inj h]
            exact P1.trans (Pv.less (x := p) rfl rfl)
          · split at h
            · cases h
            · split at h
              · exact P1.trans (Pv.pre (gn_pv n _ _ _ h) rfl rfl)
              · split at h
                · exact P1.trans (Pv.pre (gn_pv n _ _ _ h) rfl rfl)
                · split at h
                  · split at h
                    · rw [← Option.some.inj h]; exact P1.trans (Pv.same rfl rfl)
                    · cases h
                  · split at h
                    · rw [← Option.some.inj h]; exact P1.trans (Pv.same rfl rfl)
                    · cases h
                  · cases h
        · rw [← Option.some.inj h]; exact P1
      · cases h
    · cases h
theorem sp1_uh (T : Tr) (p q : Nat) : tU (sp1 T p q) = tU T ∧ tH (sp1 T p q) = tH T := by
  unfold sp1
  split
  · exact ⟨rfl, rfl⟩
  · exact ⟨rfl, rfl⟩
theorem spl_pv {T : Tr} {p q : Nat} (h : 1 ≤ tH T p) : Pv T (spl T p q) := by
  refine Pv.more (x := q) (v := tH T p) ?_ ?_ h
  · unfold spl; rw [(sp1_uh _ p q).1, (sp1_uh _ p q).1, (sp1_uh _ p q).1]; rfl
  · unfold spl; rw [(sp1_uh _ p q).2, (sp1_uh _ p q).2, (sp1_uh _ p q).2]
    show fu (fu (tH T) q 0) q (tH T p) = _
    funext x
    by_cases e : x = q
    · rw [e, fu_s, fu_s]
    · rw [fu_n _ _ e, fu_n _ _ e, fu_n _ _ e]
theorem ad_pv (m : Nat) : ∀ (n : Nat) (T : Tr) (x y : Nat) (ok : Bool) (T' : Tr), ad m n T x y = some (ok, T') → Pv T T'
  | 0, T, x, y, ok, T', h => by simp [ad] at h
  | n + 1, T, x, y, ok, T', h => by
    rw [ad] at h
    split at h
    · split at h
      · split at h
        · split at h
          · rw [← (Prod.mk.inj (Option.some.inj h)).2]; exact Pv.refl _
          · rename_i r _
            split at h
            · rw [← (Prod.mk.inj (Option.some.inj h)).2]
              refine Pv.more (x := r) (v := tH T x + 1) rfl ?_ (by omega)
              show fu (fu (tH T) r 0) r (tH T x + 1) = _
              funext x
              by_cases e : x = r
              · rw [e, fu_s, fu_s]
              · rw [fu_n _ _ e, fu_n _ _ e, fu_n _ _ e]
            · cases h
        · cases h
      · rename_i p _
        split at h
        · split at h
          · rw [← (Prod.mk.inj (Option.some.inj h)).2]; exact Pv.same rfl rfl
          · split at h
            · rw [← (Prod.mk.inj (Option.some.inj h)).2]; exact Pv.refl _
            · rename_i q _
              split at h
              · rename_i hk
                have hk := of_decide_eq_true hk
                have h2 : 1 ≤ tH (cp T p (ix x (tC T p) + 1) y) p := by have := hk.2.2.1; omega
                exact ((Pv.same (T := T) (T' := cp T p (ix x (tC T p) + 1) y) rfl rfl).trans (spl_pv h2)).trans (Pv.pre (ad_pv m n _ _ _ _ _ h) rfl rfl)
              · cases h
        · cases h
    · cases h
theorem slL_uh (sz : Nat → Nat) (T : Tr) (x : Nat) : tU (slL sz T x) = tU T ∧ tH (slL sz T x) = tH T := by
  unfold slL
  split <;> exact ⟨rfl, rfl⟩
theorem slR_uh (sz : Nat → Nat) (T : Tr) (x : Nat) : tU (slR sz T x) = tU T ∧ tH (slR sz T x) = tH T := by
  unfold slR
  split <;> exact ⟨rfl, rfl⟩
theorem sl_pv {m : Nat} {sz : Nat → Nat} {T T' : Tr} {x : Nat} {ok : Bool} (h : sl m sz T x = some (ok, T')) : Pv T T' := by
  have P1 : Pv T (slR sz (slL sz T x) x) := Pv.same (by rw [(slR_uh _ _ _).1, (slL_uh _ _ _).1]) (by rw [(slR_uh _ _ _).2, (slL_uh _ _ _).2])
  unfold sl at h
  split at h
  · split at h
    · rw [← (Prod.mk.inj (Option.some.inj h)).2]; exact P1
    · split at h
      · rw [← (Prod.mk.inj (Option.some.inj h)).2]; exact P1
      · rename_i r _
        split at h
        · refine (P1.trans ?_).trans (ad_pv m _ _ _ _ _ _ h)
          refine Pv.more (x := r) (v := 1) rfl ?_ (by omega)
          show fu (fu (tH (slR sz (slL sz T x) x)) r 0) r 1 = _
          funext x
          by_cases e : x = r
          · rw [e, fu_s, fu_s]
          · rw [fu_n _ _ e, fu_n _ _ e, fu_n _ _ e]
        · cases h
  · cases h
theorem lkA_pv (sz : Nat → Nat) : ∀ (n : Nat) (T : Tr) (x : Nat) (T' : Tr), lkA sz n T x = some T' → Pv T T'
  | 0, T, x, T', h => by simp [lkA] at h
  | n + 1, T, x, T', h => by
    rw [lkA] at h
    split at h
    · split at h
      · split at h
        · rename_i hg _; exact (gn_pv _ _ _ _ hg).trans (lkA_pv sz n _ _ _ h)
        · rename_i hg _ _; exact (gn_pv _ _ _ _ hg).trans (lkA_pv sz n _ _ _ h)
        · cases h
      · split at h
        · split at h
          · rename_i hg; exact (Pv.pre (gn_pv _ _ _ _ hg) rfl rfl).trans (lkA_pv sz n _ _ _ h)
          · cases h
        · split at h
          · split at h
            · rename_i hg; exact (Pv.pre (gn_pv _ _ _ _ hg) rfl rfl).trans (lkA_pv sz n _ _ _ h)
            · cases h
          · rw [← Option.some.inj h]; exact Pv.refl _
    · cases h
/-- an item gets n bytes; it goes with none -/
def stT (m : Nat) (sz : Nat → Nat) (T : Tr) (key n : Nat) : Option (Bool × Tr) :=
  if key ∈ its T then (if n = 0 then (lkA sz 96 (delT T key) (lfT T key)).map (fun x => (true, x)) else if sz key < n then sl m (fu sz key n) T (lfT T key) else if n < sz key then (lkA (fu sz key n) 96 T (lfT T key)).map (fun x => (true, x)) else some (true, T)) else if n = 0 then some (true, T) else sl m (fu sz key n) (insT T key) (lfT T key)
theorem Wf.szs {m : Nat} {sz sz' : Nat → Nat} {T : Tr} (W : Wf m sz T) (h : ∀ k ∈ its T, sz' k = sz k) : Wf m sz' T := by
  have hW := W
  obtain ⟨w1, w2, w3, w4, w5, w6⟩ := W
  refine ⟨w1, w2, fun y hy he => ?_, w4, fun k hk => by rw [h k hk]; exact w5 k hk, w6⟩
  obtain ⟨a1, a2⟩ := w3 y hy he
  refine ⟨?_, a2⟩
  rw [uz_same (fun k hk => h k (hW.mem hk))]; exact a1
/-- what set does: items, use of blocks -/
def StF (T T' : Tr) (key n : Nat) : Prop := DF T T' ∧ Pv T T' ∧ ∃ A B, its T = A ++ ((if key ∈ its T then [key] else []) ++ B) ∧ its T' = A ++ ((if n = 0 then [] else [key]) ++ B)
theorem stT_ok {m : Nat} {sz : Nat → Nat} {T : Tr} {key n : Nat} (hm : m ≤ 96) (W : Wf m sz T) (hn : n ≤ 40) :
    ∃ ok T', stT m sz T key n = some (ok, T') ∧ (ok = true → Wf m (fu sz key n) T' ∧ StF T T' key n) := by
  unfold stT
  by_cases hk : key ∈ its T
  · rw [if_pos hk]
    obtain ⟨A, B, hAB, hA, hB⟩ : ∃ A B, its T = A ++ key :: B ∧ key ∉ A ∧ key ∉ B := by
      obtain ⟨A, B, h1⟩ := List.append_of_mem hk
      have hp := W.2.2.2.1
      rw [h1] at hp
      obtain ⟨p1, p2, p3⟩ := List.pairwise_append.mp hp
      exact ⟨A, B, h1, fun h => by have := p3 _ h key (List.mem_cons_self ..); omega, fun h => by have := (List.pairwise_cons.mp p2).1 _ h; omega⟩
    by_cases h0 : n = 0
    · rw [if_pos h0]
      obtain ⟨T', a1, a2, a3, a4, A', B', a5, a6⟩ := set_del W hk
      refine ⟨true, T', by rw [a1]; rfl, fun _ => ⟨a2.szs (fun k hk' => fu_n _ _ ?_), fun b h1 h2 => ⟨by rw [(a3 b h2).2]; exact h1, (a3 b h2).1⟩, ?_, A', B', ?_, ?_⟩⟩
      · intro e
        have hp := W.2.2.2.1
        rw [a5] at hp
        rw [a6, e] at hk'
        obtain ⟨p1, p2, p3⟩ := List.pairwise_append.mp hp
        rcases List.mem_append.mp hk' with h | h
        · have := p3 _ h key (List.mem_cons_self ..); omega
        · have := (List.pairwise_cons.mp p2).1 _ h; omega
      · exact (Pv.same (T := T) (T' := delT T key) rfl rfl).trans (lkA_pv _ _ _ _ _ a1)
      · rw [if_pos hk]; exact a5
      · rw [if_pos h0]; exact a6
    · rw [if_neg h0]
      have hits : ∀ T', its T' = its T → ∃ A B, its T = A ++ ((if key ∈ its T then [key] else []) ++ B) ∧ its T' = A ++ ((if n = 0 then [] else [key]) ++ B) := by
        intro T' e
        exact ⟨A, B, by rw [if_pos hk]; exact hAB, by rw [if_neg h0, e]; exact hAB⟩
      by_cases h1 : sz key < n
      · rw [if_pos h1]
        obtain ⟨ok, T', a1, a2⟩ := set_grow (sz' := fu sz key n) hm W hk (fun k _ h => fu_n _ _ h) (by rw [fu_s]; omega) (by rw [fu_s]; exact hn)
        exact ⟨ok, T', a1, fun h => ⟨(a2 h).1, (a2 h).2.1, sl_pv a1, hits T' (a2 h).2.2⟩⟩
      · rw [if_neg h1]
        by_cases h2 : n < sz key
        · rw [if_pos h2]
          obtain ⟨T', a1, a2, a3⟩ := set_less (sz' := fu sz key n) W hk (fun k _ h => fu_n _ _ h) (by rw [fu_s]; omega) (by rw [fu_s]; omega)
          exact ⟨true, T', by rw [a1]; rfl, fun _ => ⟨a2, fun b h1 h2 => ⟨by rw [(a3.1 b h2).2]; exact h1, (a3.1 b h2).1⟩, lkA_pv _ _ _ _ _ a1, hits T' a3.2.2⟩⟩
        · rw [if_neg h2]
          refine ⟨true, T, rfl, fun _ => ⟨W.szs (fun k _ => ?_), fun b h1 h2 => ⟨h1, h2⟩, Pv.refl _, hits T rfl⟩⟩
          by_cases e : k = key
          · rw [e, fu_s]; omega
          · rw [fu_n _ _ e]
  · rw [if_neg hk]
    by_cases h0 : n = 0
    · rw [if_pos h0]
      refine ⟨true, T, rfl, fun _ => ⟨W.szs (fun k hk' => fu_n _ _ (by intro e; rw [e] at hk'; exact hk hk')), fun b h1 h2 => ⟨h1, h2⟩, Pv.refl _, its T, [], ?_, ?_⟩⟩
      · rw [if_neg hk]; simp
      · rw [if_pos h0]; simp
    · rw [if_neg h0]
      obtain ⟨ok, T', a1, a2⟩ := set_ins (sz' := fu sz key n) hm W hk (fun k hk' => fu_n _ _ (by intro e; rw [e] at hk'; exact hk hk')) (by rw [fu_s]; omega) (by rw [fu_s]; exact hn)
      refine ⟨ok, T', a1, fun h => ?_⟩
      obtain ⟨b1, b2, A, B, b3, b4⟩ := a2 h
      exact ⟨b1, b2, (Pv.same (T := T) (T' := insT T key) rfl rfl).trans (sl_pv a1), A, B, by rw [if_neg hk]; exact b3, by rw [if_neg h0]; exact b4⟩
theorem StF.mem {T T' : Tr} {key n : Nat} {sz : Nat → Nat} {m : Nat} (W : Wf m sz T) (h : StF T T' key n) (k : Nat) : k ∈ its T' ↔ (k = key ∧ n ≠ 0) ∨ (k ≠ key ∧ k ∈ its T) := by
  obtain ⟨_, _, A, B, h1, h2⟩ := h
  have hp := W.2.2.2.1
  have hk : key ∉ A ∧ key ∉ B := by
    by_cases hk : key ∈ its T
    · rw [if_pos hk] at h1
      rw [h1] at hp
      obtain ⟨p1, p2, p3⟩ := List.pairwise_append.mp hp
      exact ⟨fun h => by have := p3 _ h key (List.mem_cons_self ..); omega, fun h => by have := (List.pairwise_cons.mp p2).1 _ h; omega⟩
    · rw [if_neg hk] at h1
      rw [h1] at hk
      simp at hk
      exact hk
  have e1 : k ∈ its T' ↔ (k = key ∧ n ≠ 0) ∨ (k ∈ A ∨ k ∈ B) := by
    rw [h2, List.mem_append, List.mem_append]
    by_cases h0 : n = 0
    · rw [if_pos h0]; simp [h0]
    · rw [if_neg h0]; simp only [List.mem_singleton, h0, ne_eq, not_false_eq_true, and_true]
      constructor
      · rintro (h | h | h)
        · exact .inr (.inl h)
        · exact .inl h
        · exact .inr (.inr h)
      · rintro (h | h | h)
        · exact .inr (.inl h)
        · exact .inl h
        · exact .inr (.inr h)
  rw [e1]
  constructor
  · rintro (h | h)
    · exact .inl h
    · right
      refine ⟨by rintro rfl; rcases h with h | h; exact hk.1 h; exact hk.2 h, ?_⟩
      rw [h1, List.mem_append, List.mem_append]
      rcases h with h | h
      · exact .inl h
      · exact .inr (.inr h)
  · rintro (h | ⟨h, h'⟩)
    · exact .inl h
    · right
      rw [h1, List.mem_append, List.mem_append] at h'
      rcases h' with h' | h' | h'
      · exact .inl h'
      · by_cases hk : key ∈ its T
        · rw [if_pos hk] at h'; exact absurd (List.mem_singleton.mp h') h
        · rw [if_neg hk] at h'; cases h'
      · exact .inr h'
theorem StF.cnt {T T' : Tr} {key n : Nat} (h : StF T T' key n) (P : Nat → Bool) : (its T').countP P + (if key ∈ its T ∧ P key = true then 1 else 0) = (its T).countP P + (if n ≠ 0 ∧ P key = true then 1 else 0) := by
  obtain ⟨_, _, A, B, h1, h2⟩ := h
  rw [h2]
  conv => rhs; rw [h1]
  rw [List.countP_append, List.countP_append, List.countP_append, List.countP_append]
  by_cases hk : key ∈ its T <;> by_cases h0 : n = 0 <;> cases hP : P key <;> simp [hk, h0, hP] <;> omega
