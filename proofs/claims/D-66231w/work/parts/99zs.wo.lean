/-! ===== THE WORLD: what is always so ===== -/
/-- entries that tell an object -/
def tlg (T : Tr) (X : Ob) (o : Nat) : Nat := (its T).countP (fun k => decide (k / 1024 % 4 = 1 ∧ oE X k = o))
def WO (m : Nat) (T : Tr) (X : Ob) (dt : Nat → Nat → Nat) (par : Nat → Nat) : Prop :=
  Gt m T (pyO X) ∧ KO T ∧
  (∀ k ∈ its T, k / 1024 % 4 = 1 → oK X (k / 4096) = 1 ∧ 2 ≤ oE X k ∧ oK X (oE X k) ≠ 0) ∧
  (∀ k, oE X k ≤ 60) ∧
  (∀ o, (oK X o ≠ 0 ↔ ky o 0 0 ∈ its T) ∧ (oK X o ≠ 0 → 1 ≤ o ∧ o ≤ 60) ∧ oK X o ≤ 2) ∧
  oK X 1 = 1 ∧
  (∀ o, oK X o = 0 → oD X o = [] ∧ oT X o = [] ∧ oS X o = 0 ∧ oL X o = 0) ∧
  (∀ o, oK X o = 1 → oD X o = [] ∧ oT X o = [] ∧ oS X o = (ents T o).length ∧ oL X o = 1) ∧
  (∀ o, oK X o = 2 → oS X o ≤ 2048 ∧ (oD X o).length = dtO (oS X o) ∧ (oT X o).length = tlO (oS X o)) ∧
  (∀ o, (ky o 2 0 ∈ its T ↔ oD X o ≠ []) ∧ (ky o 3 0 ∈ its T ↔ oT X o ≠ []) ∧ BL T (oD X o)) ∧
  (∀ o, oK X o ≠ 0 → o ≠ 1 → oL X o = tlg T X o ∧ 1 ≤ oL X o) ∧
  (∀ o o' b, b ∈ oD X o → b ∈ oD X o' → o = o') ∧
  ((∀ o, ∀ v ∈ oT X o, v < 256) ∧ ∀ y, tU T y = true → tH T y = 0 → y ≠ 0 → ∀ i, i < 128 → dt y i < 256) ∧
  (par 1 = 1 ∧ (∀ d, oK X d = 1 → d ≠ 1 → ∃ k ∈ its T, k / 1024 % 4 = 1 ∧ oE X k = d ∧ k / 4096 = par d) ∧ ∀ d, oK X d = 1 → ∃ n, itr par n d = 1)
section Wld
variable {s : Int → Int} {m : Nat} {T T' : Tr} {X X' : Ob} {dt : Nat → Nat → Nat} {par : Nat → Nat} {sz : Nat → Nat}
theorem its_len (W : Wf m sz T) : (its T).length ≤ 1248 := by
  have hr := W.1.row_le 0
  have h1 : ∀ x ∈ tW T 0, (tI T x).length ≤ 13 := by
    intro x hx
    have h := (W.2.2.1 x hx (by simp)).1
    have hs : ∀ k ∈ tI T x, 1 ≤ sz k := fun k hk => (W.2.2.2.2.1 k (List.mem_flatMap.mpr ⟨x, hx, hk⟩)).1
    have : ∀ l : List Nat, (∀ k ∈ l, 1 ≤ sz k) → 9 * l.length ≤ uz sz l := by
      intro l
      induction l with
      | nil => intro _; simp
      | cons a l ih =>
        intro hl
        have := ih (fun k hk => hl k (List.mem_cons_of_mem _ hk))
        have := hl a (List.mem_cons_self ..)
        rw [uz, List.length_cons]
        omega
    have := this _ hs
    omega
  have : ∀ l : List Nat, (∀ x ∈ l, (tI T x).length ≤ 13) → (l.flatMap (tI T)).length ≤ 13 * l.length := by
    intro l
    induction l with
    | nil => intro _; simp
    | cons a l ih =>
      intro hl
      have := ih (fun k hk => hl k (List.mem_cons_of_mem _ hk))
      have := hl a (List.mem_cons_self ..)
      rw [List.flatMap_cons, List.length_append, List.length_cons]
      omega
  have := this _ h1
  unfold its
  omega
theorem WO.sm (w : WO m T X dt par) : (∀ o, oS X o ≤ 2048) ∧ ∀ o, oL X o ≤ 1248 := by
  obtain ⟨w1, w2, w3, w4, w5, w6, w7, w8, w9, w10, w11, w12, w13, w14⟩ := w
  have hl := its_len w1.1
  refine ⟨fun o => ?_, fun o => ?_⟩
  · have h := (w5 o).2.2
    have : oK X o = 0 ∨ oK X o = 1 ∨ oK X o = 2 := by omega
    rcases this with h | h | h
    · rw [(w7 o h).2.2.1]; omega
    · rw [(w8 o h).2.2.1]
      have : (ents T o).length ≤ (its T).length := List.length_filter_le _ _
      omega
    · exact (w9 o h).1
  · by_cases h0 : oK X o = 0
    · rw [(w7 o h0).2.2.2]; omega
    · by_cases h1 : o = 1
      · rw [h1, (w8 1 w6).2.2.2]; omega
      · rw [(w11 o h0 h1).1]
        have : tlg T X o ≤ (its T).length := List.countP_le_length
        omega
theorem WO.ok (w : WO m T X dt par) : OK3 T X := by
  obtain ⟨a1, a2⟩ := w.sm
  obtain ⟨w1, w2, w3, w4, w5, w6, w7, w8, w9, w10, w11, w12, w13, w14⟩ := w
  refine ⟨⟨fun o _ hi => ?_, fun k _ => by have := w4 k; omega⟩, fun o _ hi => ?_⟩
  · have h0 := (w5 o).1.mpr hi
    have := (w5 o).2.2
    have := a1 o
    have := a2 o
    exact ⟨by omega, by omega, by omega, by omega⟩
  · have h0 := (w5 o).1.mpr hi
    have h2 := (w5 o).2.2
    obtain ⟨b1, b2, b3⟩ := w10 o
    by_cases h1 : oK X o = 1
    · right
      obtain ⟨c1, c2, c3, _⟩ := w8 o h1
      exact ⟨h1, c1, c2, fun h => b1.mp h c1, fun h => b2.mp h c2, c3⟩
    · left
      have h : oK X o = 2 := by omega
      obtain ⟨c1, c2, c3⟩ := w9 o h
      exact ⟨h, c1, c2, c3, b1, b2, b3⟩
theorem WO.mw (w : WO m T X dt par) (S : MS s T X dt) : MW s m T X dt := ⟨S, w.1, w.ok, w.2.1, w.2.2.2.2.2.2.2.2.2.2.2.2.1.1, w.2.2.2.2.2.2.2.2.2.2.2.2.1.2⟩
theorem WO.nm (w : WO m T X dt par) : ∀ k ∈ its T, k / 1024 % 4 = 1 → k % 1024 < 1000 := fun k hk => (w.2.1 k hk).2.2.2
theorem WO.l16 (w : WO m T X dt par) : ∀ o, o < 61 → ky o 0 0 ∈ its T → (oD X o).length ≤ 16 := fun o h1 h2 => (w.ok.any (by omega) h2).2.2.2.1
theorem fpL_one {o k0 : Nat} : ∀ {l : List Nat}, l.countP (fun k => decide (k / 1024 % 4 = 1 ∧ oE X k = o)) = 1 → k0 ∈ l → k0 / 1024 % 4 = 1 → oE X k0 = o → fpL X o l = ((k0 / 4096 : Nat) : Int)
  | [], _, h, _, _ => by cases h
  | k :: l, hc, h, h1, h2 => by
    rw [fpL]
    rw [List.countP_cons] at hc
    by_cases e : k / 1024 % 4 = 1 ∧ oE X k = o
    · rw [if_pos e]
      rw [if_pos (decide_eq_true e)] at hc
      rcases List.mem_cons.mp h with h | h
      · rw [h]
      · exfalso
        have : 1 ≤ l.countP (fun k => decide (k / 1024 % 4 = 1 ∧ oE X k = o)) := List.countP_pos_iff.mpr ⟨k0, h, decide_eq_true ⟨h1, h2⟩⟩
        omega
    · rw [if_neg e]
      rw [if_neg (by simpa using e)] at hc
      rcases List.mem_cons.mp h with h | h
      · rw [h] at h1 h2; exact absurd ⟨h1, h2⟩ e
      · exact fpL_one hc h h1 h2
theorem fpL_none {o : Nat} : ∀ {l : List Nat}, (∀ k ∈ l, k / 1024 % 4 = 1 → oE X k ≠ o) → fpL X o l = -1
  | [], _ => rfl
  | k :: l, h => by
    rw [fpL, if_neg (fun e => h k (List.mem_cons_self ..) e.1 e.2)]
    exact fpL_none (fun k hk => h k (List.mem_cons_of_mem _ hk))
theorem WO.pa (w : WO m T X dt par) : Par T X par := by
  obtain ⟨w1, w2, w3, w4, w5, w6, w7, w8, w9, w10, w11, w12, w13, w14⟩ := w
  refine ⟨fun d hd h1 => ?_, fun d hd => ⟨((w5 d).2.1 (by omega)).2, w14.2.2 d hd⟩, fpL_none (fun k hk hk1 => by have := (w3 k hk hk1).2.1; omega)⟩
  obtain ⟨k, k1, k2, k3, k4⟩ := w14.2.1 d hd h1
  have hc := (w11 d (by omega) h1).1
  rw [(w8 d hd).2.2.2] at hc
  exact ⟨by rw [fpL_one hc.symm k1 k2 k3, k4], by rw [← k4]; exact (w3 k k1 k2).1⟩
theorem WO.he (w : WO m T X dt par) : ∀ o nn, nn < 1000 → ky o 1 nn ∈ its T → 2 ≤ oE X (ky o 1 nn) ∧ oE X (ky o 1 nn) ≤ 60 ∧ ky (oE X (ky o 1 nn)) 0 0 ∈ its T ∧ oE X (ky o 1 nn) ≠ o ∧ 1 ≤ oS X o ∧ 1 ≤ oL X (oE X (ky o 1 nn)) := by
  have hpa := w.pa
  obtain ⟨w1, w2, w3, w4, w5, w6, w7, w8, w9, w10, w11, w12, w13, w14⟩ := w
  intro o nn hn hk
  have hp := ky_parts (o := o) (k := 1) (n := nn) (by omega) (by omega)
  obtain ⟨a1, a2, a3⟩ := w3 _ hk hp.1
  rw [hp.2.1] at a1
  have b3 := (w5 _).1.mp a3
  refine ⟨a2, w4 _, b3, fun e => ?_, ?_, (w11 _ a3 (by omega)).2⟩
  · -- a directory isn't its own parent
    have e1 : oK X (oE X (ky o 1 nn)) = 1 := by rw [e]; exact a1
    have ho1 : oE X (ky o 1 nn) ≠ 1 := by omega
    have hc := (w11 _ a3 ho1).1
    rw [(w8 _ e1).2.2.2] at hc
    have hf := fpL_one hc.symm hk hp.1 rfl
    have hpar := (hpa.1 _ e1 ho1).1
    rw [hf, hp.2.1] at hpar
    have hpar : par (oE X (ky o 1 nn)) = o := by omega
    rw [e] at hpar ho1
    obtain ⟨n, hn⟩ := w14.2.2 o a1
    have : ∀ n, itr par n o = o := by
      intro n
      induction n with
      | zero => rfl
      | succ n ih => rw [itr, hpar]; exact ih
    rw [this n] at hn
    exact ho1 hn
  · rw [(w8 o a1).2.2.1]
    have : ky o 1 nn ∈ ents T o := List.mem_filter.mpr ⟨hk, decide_eq_true (by omega)⟩
    exact List.length_pos_of_mem this
theorem cp_one {P : Nat → Bool} {a : Nat} (hP : P a = false) : ∀ {l : List Nat}, l.Nodup → l.countP (fun k => P k || decide (k = a)) = l.countP P + (if a ∈ l then 1 else 0)
  | [], _ => by simp
  | x :: l, hn => by
    obtain ⟨h1, h2⟩ := List.nodup_cons.mp hn
    rw [List.countP_cons, List.countP_cons, cp_one hP h2]
    by_cases e : x = a
    · subst e
      rw [hP]
      simp [h1]
    · have e' : ¬ a = x := fun h => e h.symm
      have : (a ∈ x :: l) ↔ a ∈ l := by
        rw [List.mem_cons]
        exact ⟨fun h => h.resolve_left e', .inr⟩
      simp only [this, e, decide_false, Bool.or_false]
      omega
theorem cp_cong {P P' : Nat → Bool} {l : List Nat} (h : ∀ k ∈ l, P k = P' k) : l.countP P = l.countP P' := by
  induction l with
  | nil => rfl
  | cons a l ih => rw [List.countP_cons, List.countP_cons, ih (fun k hk => h k (List.mem_cons_of_mem _ hk)), h a (List.mem_cons_self ..)]
theorem Wf.nd (W : Wf m sz T) : (its T).Nodup := List.Pairwise.imp (fun h => Nat.ne_of_lt h) W.2.2.2.1
theorem stN_cn (w : WO m T X dt par) : cn (fun i => iso T ((i : Int) + 1)) 60 = stN (its T) := by
  have hnd := w.1.1.nd
  have K := w.2.1
  have h5 := w.2.2.2.2.1
  have H : ∀ n, n ≤ 60 → cn (fun i => iso T ((i : Int) + 1)) n = (its T).countP (fun k => decide (k / 1024 % 4 = 0 ∧ 1 ≤ k / 4096 ∧ k / 4096 ≤ n)) := by
    intro n
    induction n with
    | zero =>
      intro _
      rw [cn]
      symm
      rw [List.countP_eq_zero]
      intro k _ h
      have := of_decide_eq_true h
      omega
    | succ n ih =>
      intro hn
      rw [cn, ih (by omega)]
      have hc := cp_one (P := fun k => decide (k / 1024 % 4 = 0 ∧ 1 ≤ k / 4096 ∧ k / 4096 ≤ n)) (a := ky (n + 1) 0 0) (by apply decide_eq_false; unfold ky; omega) hnd
      have he : (its T).countP (fun k => decide (k / 1024 % 4 = 0 ∧ 1 ≤ k / 4096 ∧ k / 4096 ≤ n + 1)) = (its T).countP (fun k => decide (k / 1024 % 4 = 0 ∧ 1 ≤ k / 4096 ∧ k / 4096 ≤ n) || decide (k = ky (n + 1) 0 0)) := by
        refine cp_cong (fun k hk => ?_)
        have hz := (K k hk).2.2.1
        rw [← Bool.decide_or]
        apply decide_eq_decide.mpr
        unfold ky
        constructor
        · rintro ⟨a1, a2, a3⟩
          have := hz (by omega)
          omega
        · rintro (⟨a1, a2, a3⟩ | h) <;> omega
      rw [he, hc]
      congr 1
      by_cases hi : ky (n + 1) 0 0 ∈ its T
      · have hiso : iso T ((n : Int) + 1) = true := decide_eq_true ⟨by omega, by omega, by rw [show ((n : Int) + 1).toNat = n + 1 by omega]; exact hi⟩
        rw [if_pos hi, if_pos hiso]
      · rw [if_neg hi, if_neg]
        intro h
        have := (of_decide_eq_true h).2.2
        rw [show ((n : Int) + 1).toNat = n + 1 by omega] at this
        exact hi this
  rw [H 60 (Nat.le_refl _)]
  unfold stN
  refine cp_cong (fun k hk => ?_)
  apply decide_eq_decide.mpr
  have h1 := (K k hk).1
  have := (h5 (k / 4096)).2.1 ((h5 (k / 4096)).1.mpr h1)
  omega
end Wld
