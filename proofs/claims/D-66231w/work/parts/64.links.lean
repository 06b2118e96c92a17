/-! ===== NEIGHBOURS IN A ROW THAT CHANGES ===== -/
theorem nx_at {l1 l2 : List Nat} {y : Nat} (h : (l1 ++ y :: l2).Nodup) : nx (l1 ++ y :: l2) y = l2.head? := nx_dec (nd_mid h).1
theorem pv_at {l1 l2 : List Nat} {y : Nat} (h : (l1 ++ y :: l2).Nodup) : pv (l1 ++ y :: l2) y = l1.getLast? := pv_dec (nd_mid h).1
theorem nx_out {l : List Nat} {x y : Nat} (hl : l.Nodup) (hx : x ∈ l) (hy : y ∈ out l x) : nx (out l x) y = if nx l y = some x then nx l x else nx l y := by
  obtain ⟨A, B, rfl, hA⟩ := mem_dec hx
  obtain ⟨n1, n2, n3⟩ := nd_mid hl
  rw [out_dec hA] at hy ⊢
  rw [nx_at hl]
  rcases List.mem_append.mp hy with h | h
  · obtain ⟨A1, A2, rfl, h1⟩ := mem_dec h
    have e1 : A1 ++ y :: A2 ++ x :: B = A1 ++ y :: (A2 ++ x :: B) := by simp
    have e2 : A1 ++ y :: A2 ++ B = A1 ++ y :: (A2 ++ B) := by simp
    rw [e1] at hl ⊢
    rw [e2] at n3 ⊢
    rw [nx_at hl, nx_at n3]
    cases A2 with
    | nil => simp
    | cons a A2 =>
      have : a ≠ x := fun e => n1 (by rw [e]; simp)
      simp [this]
  · obtain ⟨B1, B2, rfl, h1⟩ := mem_dec h
    have e1 : A ++ x :: (B1 ++ y :: B2) = (A ++ x :: B1) ++ y :: B2 := by simp
    have e2 : A ++ (B1 ++ y :: B2) = (A ++ B1) ++ y :: B2 := by simp
    rw [e1] at hl ⊢
    rw [e2] at n3 ⊢
    rw [nx_at hl, nx_at n3]
    cases B2 with
    | nil => simp
    | cons b B2 =>
      have : b ≠ x := fun e => n2 (by rw [e]; simp)
      simp [this]
theorem pv_out {l : List Nat} {x y : Nat} (hl : l.Nodup) (hx : x ∈ l) (hy : y ∈ out l x) : pv (out l x) y = if pv l y = some x then pv l x else pv l y := by
  obtain ⟨A, B, rfl, hA⟩ := mem_dec hx
  obtain ⟨n1, n2, n3⟩ := nd_mid hl
  rw [out_dec hA] at hy ⊢
  rw [pv_at hl]
  rcases List.mem_append.mp hy with h | h
  · obtain ⟨A1, A2, rfl, h1⟩ := mem_dec h
    have e1 : A1 ++ y :: A2 ++ x :: B = A1 ++ y :: (A2 ++ x :: B) := by simp
    have e2 : A1 ++ y :: A2 ++ B = A1 ++ y :: (A2 ++ B) := by simp
    rw [e1] at hl ⊢
    rw [e2] at n3 ⊢
    rw [pv_at hl, pv_at n3]
    have : A1.getLast? ≠ some x := fun e => n1 (List.mem_append_left _ (List.mem_of_getLast? e))
    rw [if_neg this]
  · obtain ⟨B1, B2, rfl, h1⟩ := mem_dec h
    have e1 : A ++ x :: (B1 ++ y :: B2) = (A ++ x :: B1) ++ y :: B2 := by simp
    have e2 : A ++ (B1 ++ y :: B2) = (A ++ B1) ++ y :: B2 := by simp
    rw [e1] at hl ⊢
    rw [e2] at n3 ⊢
    rw [pv_at hl, pv_at n3, List.getLast?_append, List.getLast?_append, List.getLast?_cons]
    cases hb : B1.getLast? with
    | none => simp
    | some b =>
      have : b ≠ x := fun e => n2 (List.mem_append_left _ (by rw [← e]; exact List.mem_of_getLast? hb))
      simp [this]
theorem nx_in {l : List Nat} {x n : Nat} (hl : l.Nodup) (hx : x ∈ l) (hn : n ∉ l) : nx (inA l x n) n = nx l x ∧ nx (inA l x n) x = some n ∧ ∀ y, y ∈ l → y ≠ x → nx (inA l x n) y = nx l y := by
  have hd := inA_nodup hx hl hn
  obtain ⟨A, B, rfl, hA⟩ := mem_dec hx
  rw [inA_dec hA] at hd ⊢
  refine ⟨?_, ?_, fun y hy hyx => ?_⟩
  · rw [nx_at hl]
    rw [show A ++ x :: n :: B = (A ++ [x]) ++ n :: B by simp] at hd ⊢
    rw [nx_at hd]
  · rw [nx_at hd]; rfl
  · rcases List.mem_append.mp hy with h | h
    · obtain ⟨A1, A2, rfl, h1⟩ := mem_dec h
      have e1 : A1 ++ y :: A2 ++ x :: B = A1 ++ y :: (A2 ++ x :: B) := by simp
      have e2 : A1 ++ y :: A2 ++ x :: n :: B = A1 ++ y :: (A2 ++ x :: n :: B) := by simp
      rw [e1] at hl ⊢
      rw [e2] at hd ⊢
      rw [nx_at hl, nx_at hd]
      cases A2 <;> simp
    · rcases List.mem_cons.mp h with h | h
      · exact absurd h hyx
      · obtain ⟨B1, B2, rfl, h1⟩ := mem_dec h
        have e1 : A ++ x :: (B1 ++ y :: B2) = (A ++ x :: B1) ++ y :: B2 := by simp
        have e2 : A ++ x :: n :: (B1 ++ y :: B2) = (A ++ x :: n :: B1) ++ y :: B2 := by simp
        rw [e1] at hl ⊢
        rw [e2] at hd ⊢
        rw [nx_at hl, nx_at hd]
theorem pv_in {l : List Nat} {x n : Nat} (hl : l.Nodup) (hx : x ∈ l) (hn : n ∉ l) : pv (inA l x n) n = some x ∧ ∀ y, y ∈ l → pv (inA l x n) y = if pv l y = some x then some n else pv l y := by
  have hd := inA_nodup hx hl hn
  obtain ⟨A, B, rfl, hA⟩ := mem_dec hx
  rw [inA_dec hA] at hd ⊢
  have n2 := (nd_mid hl).2.1
  refine ⟨?_, fun y hy => ?_⟩
  · rw [show A ++ x :: n :: B = (A ++ [x]) ++ n :: B by simp] at hd ⊢
    rw [pv_at hd]; simp
  · rcases List.mem_append.mp hy with h | h
    · obtain ⟨A1, A2, rfl, h1⟩ := mem_dec h
      have e1 : A1 ++ y :: A2 ++ x :: B = A1 ++ y :: (A2 ++ x :: B) := by simp
      have e2 : A1 ++ y :: A2 ++ x :: n :: B = A1 ++ y :: (A2 ++ x :: n :: B) := by simp
      rw [e1] at hl ⊢
      rw [e2] at hd ⊢
      rw [pv_at hl, pv_at hd]
      have : A1.getLast? ≠ some x := fun e => hA (List.mem_append_left _ (List.mem_of_getLast? e))
      rw [if_neg this]
    · rcases List.mem_cons.mp h with h | h
      · subst h
        rw [pv_at hl, pv_at hd]
        have : A.getLast? ≠ some y := fun e => hA (List.mem_of_getLast? e)
        rw [if_neg this]
      · obtain ⟨B1, B2, rfl, h1⟩ := mem_dec h
        have e1 : A ++ x :: (B1 ++ y :: B2) = (A ++ x :: B1) ++ y :: B2 := by simp
        have e2 : A ++ x :: n :: (B1 ++ y :: B2) = (A ++ x :: n :: B1) ++ y :: B2 := by simp
        rw [e1] at hl ⊢
        rw [e2] at hd ⊢
        rw [pv_at hl, pv_at hd, List.getLast?_append, List.getLast?_append, List.getLast?_cons, List.getLast?_cons, List.getLast?_cons]
        cases hb : B1.getLast? with
        | none => simp
        | some b =>
          have : b ≠ x := fun e => n2 (List.mem_append_left _ (by rw [← e]; exact List.mem_of_getLast? hb))
          simp [this]
theorem nx_mem {l : List Nat} {x y : Nat} (h : nx l x = some y) : y ∈ l := List.mem_of_getElem? h
theorem pv_mem {l : List Nat} {x y : Nat} (h : pv l x = some y) : y ∈ l := by
  unfold pv at h
  split at h
  · cases h
  · exact List.mem_of_getElem? h
/-- neighbours are neighbours both ways -/
theorem nx_pv {l : List Nat} (hl : l.Nodup) {x y : Nat} (hx : x ∈ l) (hy : y ∈ l) : nx l x = some y ↔ pv l y = some x := by
  constructor
  · intro h
    obtain ⟨A, B, rfl⟩ := adjN hl hx h
    rw [show A ++ x :: y :: B = (A ++ [x]) ++ y :: B by simp] at hl ⊢
    rw [pv_at hl]; simp
  · intro h
    obtain ⟨A, B, rfl⟩ := adjP hl hy h
    rw [nx_at hl]; rfl
theorem nx_ne {l : List Nat} (hl : l.Nodup) {x y : Nat} (hx : x ∈ l) (h : nx l x = some y) : y ≠ x := by
  obtain ⟨A, B, rfl⟩ := adjN hl hx h
  intro e; subst e
  exact (nd_mid hl).2.1 (List.mem_cons_self ..)
theorem pv_ne {l : List Nat} (hl : l.Nodup) {x y : Nat} (hx : x ∈ l) (h : pv l x = some y) : y ≠ x := by
  obtain ⟨A, B, rfl⟩ := adjP hl hx h
  intro e; subst e
  exact (nd_mid hl).2.1 (List.mem_cons_self ..)
