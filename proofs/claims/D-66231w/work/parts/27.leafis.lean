/-! ===== THE LEAF, AS A LIST OF KEYS WITH BODIES ===== -/
/-- at q there is a leaf that has these keys, and of each its body -/
def LfIs (M : Mem) (q : Nat) (ks : List Nat) (py : Nat → List Nat) : Prop :=
  LfK M q ∧ mF M 37 q = I (ks.length : Nat) ∧ mF M 34 q = I ((ks.flatMap py).length : Nat) ∧ ks.length ≤ 24 ∧ (ks.flatMap py).length ≤ 240 ∧
  (∀ i k, ks[i]? = some k → mA M (q + 1) i = I (k : Nat) ∧ mA M (q + 2) i = I ((py k).length : Nat)) ∧ (∀ j v, (ks.flatMap py)[j]? = some v → mA M (q + 3) j = bB (v : Nat))
def szf (ks : List Nat) (py : Nat → List Nat) (i : Nat) : Nat := match ks[i]? with
  | some k => (py k).length
  | none => 0
theorem sm_take (ks : List Nat) (py : Nat → List Nat) (k : Nat) : sm (szf ks py) k = ((ks.take k).flatMap py).length := by
  induction k with
  | zero => simp [sm]
  | succ k ih =>
    rw [sm_succ, ih, List.take_succ, List.flatMap_append, List.length_append, szf]
    cases ks[k]? <;> simp
theorem sm_all (ks : List Nat) (py : Nat → List Nat) : sm (szf ks py) ks.length = (ks.flatMap py).length := by rw [sm_take, List.take_length]
theorem LfIs.sz {M : Mem} {q : Nat} {ks : List Nat} {py : Nat → List Nat} (h : LfIs M q ks py) : ∀ i, i < ks.length → mA M (q + 2) i = I (szf ks py i : Nat) := by
  intro i hi
  have h1 : ks[i]? = some ks[i] := List.getElem?_eq_getElem hi
  rw [(h.2.2.2.2.2.1 i _ h1).2, szf, h1]
theorem LfIs.by {M : Mem} {q : Nat} {ks : List Nat} {py : Nat → List Nat} (h : LfIs M q ks py) : ∀ i, i < (ks.flatMap py).length → ∃ z, mA M (q + 3) i = bB z :=
  fun i hi => ⟨_, h.2.2.2.2.2.2 i _ (List.getElem?_eq_getElem hi)⟩
theorem ins_at {α : Type} (l : List α) (x : α) {k : Nat} (hk : k ≤ l.length) (i : Nat) : (l.take k ++ x :: l.drop k)[i]? = if k < i ∧ i ≤ l.length then l[i - 1]? else if i = k then some x else l[i]? := by
  have hl : (l.take k).length = k := by rw [List.length_take]; omega
  by_cases h1 : i < k
  · rw [List.getElem?_append_left (by omega), List.getElem?_take_of_lt h1, if_neg (by omega), if_neg (by omega)]
  · rw [List.getElem?_append_right (by omega), hl]
    by_cases h2 : i = k
    · subst h2; simp
    · obtain ⟨j, hj⟩ : ∃ j, i - k = j + 1 := ⟨i - k - 1, by omega⟩
      rw [hj, List.getElem?_cons_succ, List.getElem?_drop]
      by_cases h3 : i ≤ l.length
      · rw [if_pos (by omega)]; congr 1; omega
      · rw [if_neg (by omega), if_neg h2, List.getElem?_eq_none (by omega), List.getElem?_eq_none (by omega)]
theorem flat_ins (ks : List Nat) (py py' : Nat → List Nat) (key : Nat) (hp : ∀ x ∈ ks, py' x = py x) (k : Nat) : (ks.take k ++ key :: ks.drop k).flatMap py' = (ks.take k).flatMap py ++ (py' key ++ (ks.drop k).flatMap py) := by
  have e : ∀ l : List Nat, (∀ x ∈ l, x ∈ ks) → l.flatMap py' = l.flatMap py := by
    intro l hl
    induction l with
    | nil => rfl
    | cons a l ih => rw [List.flatMap_cons, List.flatMap_cons, hp a (hl a (List.mem_cons_self ..)), ih (fun x hx => hl x (List.mem_cons_of_mem _ hx))]
  rw [List.flatMap_append, List.flatMap_cons, e _ (fun x hx => List.mem_of_mem_take hx), e _ (fun x hx => List.mem_of_mem_drop hx)]
theorem flat_split (ks : List Nat) (py : Nat → List Nat) (k : Nat) : ks.flatMap py = (ks.take k).flatMap py ++ (ks.drop k).flatMap py := by
  rw [← List.flatMap_append, List.take_append_drop]
theorem LfK.lf {M : Mem} {q : Nat} (h : LfK M q) (q' : Nat) (m b : Int32) (g1 g2 g3 : Nat → Int32) : LfK (lfW M q' m b g1 g2 g3) q := h
/-- an item comes in -/
theorem LfIs.ins {M : Mem} {q : Nat} {ks : List Nat} {py py' : Nat → List Nat} (h : LfIs M q ks py) {k key : Nat} {r : Nat → Int32} (hk : k ≤ ks.length) (hm : ks.length ≤ 23) (hb : (ks.flatMap py).length + (py' key).length ≤ 240) (hp : ∀ x ∈ ks, py' x = py x) (hr : ∀ i v, (py' key)[i]? = some v → r i = bB (v : Nat)) :
    LfIs (lfW M q (I ((ks.length + 1 : Nat) : Int)) (I (((ks.flatMap py).length + (py' key).length : Nat) : Int)) (insF (mA M (q + 1)) k ks.length (I (key : Nat))) (insF (mA M (q + 2)) k ks.length (I ((py' key).length : Nat))) (insB (mA M (q + 3)) r (sm (szf ks py) k) (ks.flatMap py).length (py' key).length)) q (ks.take k ++ key :: ks.drop k) py' := by
  obtain ⟨h1, h2, h3, h4, h5, h6, h7⟩ := h
  have hl : (ks.take k ++ key :: ks.drop k).length = ks.length + 1 := by
    rw [List.length_append, List.length_cons, List.length_take, List.length_drop]; omega
  have hf := flat_ins ks py py' key hp k
  have hs := flat_split ks py k
  have hfl : ((ks.take k ++ key :: ks.drop k).flatMap py').length = (ks.flatMap py).length + (py' key).length := by
    rw [hf, hs]; simp only [List.length_append]; omega
  refine ⟨h1.lf _ _ _ _ _ _, by rw [lf_37, hl], by rw [lf_34, hfl], by omega, by omega, ?_, ?_⟩
  · intro i x hx
    rw [lf_1, lf_2, insF, insF]
    rw [ins_at ks key hk] at hx
    by_cases c1 : k < i ∧ i ≤ ks.length
    · rw [if_pos c1] at hx ⊢
      rw [if_pos c1, hp x (List.mem_of_getElem? hx)]
      exact h6 _ _ hx
    · rw [if_neg c1] at hx ⊢
      rw [if_neg c1]
      by_cases c2 : i = k
      · rw [if_pos c2] at hx ⊢
        rw [if_pos c2]
        cases hx
        exact ⟨rfl, rfl⟩
      · rw [if_neg c2] at hx ⊢
        rw [if_neg c2, hp x (List.mem_of_getElem? hx)]
        exact h6 _ _ hx
  · intro j v hv
    rw [lf_3, insB, sm_take]
    rw [hf] at hv
    by_cases c1 : j < ((ks.take k).flatMap py).length
    · rw [if_pos c1]
      rw [List.getElem?_append_left c1] at hv
      exact h7 j v (by rw [hs, List.getElem?_append_left c1]; exact hv)
    · rw [if_neg c1]
      rw [List.getElem?_append_right (by omega)] at hv
      by_cases c2 : j < ((ks.take k).flatMap py).length + (py' key).length
      · rw [if_pos c2]
        rw [List.getElem?_append_left (by omega)] at hv
        exact hr _ _ hv
      · rw [if_neg c2]
        rw [List.getElem?_append_right (by omega)] at hv
        have hlt := (List.getElem?_eq_some_iff.mp hv).1
        have hsl : (ks.flatMap py).length = ((ks.take k).flatMap py).length + ((ks.drop k).flatMap py).length := by rw [hs, List.length_append]
        rw [if_pos (by omega)]
        refine h7 _ v ?_
        rw [hs, List.getElem?_append_right (by omega), ← hv]
        congr 1
        omega
theorem del_at {α : Type} (l : List α) {k : Nat} (hk : k < l.length) (i : Nat) : (l.take k ++ l.drop (k + 1))[i]? = if k ≤ i ∧ i + 1 < l.length then l[i + 1]? else if i < k then l[i]? else none := by
  have hl : (l.take k).length = k := by rw [List.length_take]; omega
  by_cases h1 : i < k
  · rw [List.getElem?_append_left (by omega), List.getElem?_take_of_lt h1, if_neg (by omega), if_pos h1]
  · rw [List.getElem?_append_right (by omega), hl, List.getElem?_drop]
    by_cases h2 : i + 1 < l.length
    · rw [if_pos (by omega)]; congr 1; omega
    · rw [if_neg (by omega), if_neg h1, List.getElem?_eq_none (by omega)]
/-- an item goes -/
theorem LfIs.del {M : Mem} {q : Nat} {ks : List Nat} {py : Nat → List Nat} (h : LfIs M q ks py) {k x : Nat} (hx : ks[k]? = some x) :
    LfIs (lfW M q (I ((ks.length - 1 : Nat) : Int)) (I (((ks.flatMap py).length - szf ks py k : Nat) : Int)) (delF (mA M (q + 1)) k ks.length) (delF (mA M (q + 2)) k ks.length) (delB (mA M (q + 3)) (sm (szf ks py) k) (ks.flatMap py).length (szf ks py k))) q (ks.take k ++ ks.drop (k + 1)) py := by
  obtain ⟨h1, h2, h3, h4, h5, h6, h7⟩ := h
  have hk : k < ks.length := (List.getElem?_eq_some_iff.mp hx).1
  have hsz : szf ks py k = (py x).length := by rw [szf, hx]
  have hl : (ks.take k ++ ks.drop (k + 1)).length = ks.length - 1 := by
    rw [List.length_append, List.length_take, List.length_drop]; omega
  have hd : ks.drop k = x :: ks.drop (k + 1) := by
    rw [List.drop_eq_getElem_cons hk, (List.getElem?_eq_some_iff.mp hx).2]
  have hs : ks.flatMap py = (ks.take k).flatMap py ++ (py x ++ (ks.drop (k + 1)).flatMap py) := by
    rw [flat_split ks py k, hd, List.flatMap_cons]
  have hf : (ks.take k ++ ks.drop (k + 1)).flatMap py = (ks.take k).flatMap py ++ (ks.drop (k + 1)).flatMap py := List.flatMap_append
  have hsl : (ks.flatMap py).length = ((ks.take k).flatMap py).length + ((py x).length + ((ks.drop (k + 1)).flatMap py).length) := by rw [hs]; simp only [List.length_append]
  have hfl : ((ks.take k ++ ks.drop (k + 1)).flatMap py).length = (ks.flatMap py).length - szf ks py k := by
    rw [hf, hsl, hsz, List.length_append]; omega
  refine ⟨h1.lf _ _ _ _ _ _, by rw [lf_37, hl], by rw [lf_34, hfl], by omega, by omega, ?_, ?_⟩
  · intro i y hy
    rw [lf_1, lf_2, delF, delF]
    rw [del_at ks hk] at hy
    by_cases c1 : k ≤ i ∧ i + 1 < ks.length
    · rw [if_pos c1] at hy ⊢
      rw [if_pos c1]
      exact h6 _ _ hy
    · rw [if_neg c1] at hy ⊢
      rw [if_neg c1]
      by_cases c2 : i < k
      · rw [if_pos c2] at hy
        exact h6 _ _ hy
      · rw [if_neg c2] at hy; cases hy
  · intro j v hv
    rw [lf_3, delB, sm_take, hsz]
    rw [hf] at hv
    by_cases c1 : j < ((ks.take k).flatMap py).length
    · rw [if_neg (by omega)]
      rw [List.getElem?_append_left c1] at hv
      exact h7 j v (by rw [hs, List.getElem?_append_left c1]; exact hv)
    · rw [List.getElem?_append_right (by omega)] at hv
      have hlt := (List.getElem?_eq_some_iff.mp hv).1
      rw [if_pos (by omega)]
      refine h7 _ v ?_
      rw [hs, List.getElem?_append_right (by omega), List.getElem?_append_right (by omega), ← hv]
      congr 1
      omega
