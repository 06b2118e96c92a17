/-! ===== THE TREE, AS IT IS MEANT ===== -/
/-- used, 1 more than the height (0: no node), items (keys), children, parent, rows by heights, root, how many heights -/
abbrev Tr : Type := (Nat → Bool) × (Nat → Nat) × (Nat → List Nat) × (Nat → List Nat) × (Nat → Option Nat) × (Nat → List Nat) × Nat × Nat
def tU (T : Tr) : Nat → Bool := T.1
def tH (T : Tr) : Nat → Nat := T.2.1
def tI (T : Tr) : Nat → List Nat := T.2.2.1
def tC (T : Tr) : Nat → List Nat := T.2.2.2.1
def tP (T : Tr) : Nat → Option Nat := T.2.2.2.2.1
def tW (T : Tr) : Nat → List Nat := T.2.2.2.2.2.1
def tR (T : Tr) : Nat := T.2.2.2.2.2.2.1
def tN (T : Tr) : Nat := T.2.2.2.2.2.2.2
def uU (T : Tr) (b : Nat) (v : Bool) : Tr := (fu T.1 b v, T.2)
def uH (T : Tr) (b v : Nat) : Tr := (T.1, fu T.2.1 b v, T.2.2)
def uI (T : Tr) (b : Nat) (v : List Nat) : Tr := (T.1, T.2.1, fu T.2.2.1 b v, T.2.2.2)
def uC (T : Tr) (b : Nat) (v : List Nat) : Tr := (T.1, T.2.1, T.2.2.1, fu T.2.2.2.1 b v, T.2.2.2.2)
def uP (T : Tr) (b : Nat) (v : Option Nat) : Tr := (T.1, T.2.1, T.2.2.1, T.2.2.2.1, fu T.2.2.2.2.1 b v, T.2.2.2.2.2)
def uW (T : Tr) (h : Nat) (v : List Nat) : Tr := (T.1, T.2.1, T.2.2.1, T.2.2.2.1, T.2.2.2.2.1, fu T.2.2.2.2.2.1 h v, T.2.2.2.2.2.2)
def uR (T : Tr) (v : Nat) : Tr := (T.1, T.2.1, T.2.2.1, T.2.2.2.1, T.2.2.2.2.1, T.2.2.2.2.2.1, v, T.2.2.2.2.2.2.2)
def uN (T : Tr) (v : Nat) : Tr := (T.1, T.2.1, T.2.2.1, T.2.2.2.1, T.2.2.2.2.1, T.2.2.2.2.2.1, T.2.2.2.2.2.2.1, v)
theorem tu (T : Tr) (b : Nat) (v : Bool) : tU (uU T b v) = fu (tU T) b v ∧ tH (uU T b v) = tH T ∧ tI (uU T b v) = tI T ∧ tC (uU T b v) = tC T ∧ tP (uU T b v) = tP T ∧ tW (uU T b v) = tW T ∧ tR (uU T b v) = tR T ∧ tN (uU T b v) = tN T := ⟨rfl, rfl, rfl, rfl, rfl, rfl, rfl, rfl⟩
theorem th (T : Tr) (b v : Nat) : tU (uH T b v) = tU T ∧ tH (uH T b v) = fu (tH T) b v ∧ tI (uH T b v) = tI T ∧ tC (uH T b v) = tC T ∧ tP (uH T b v) = tP T ∧ tW (uH T b v) = tW T ∧ tR (uH T b v) = tR T ∧ tN (uH T b v) = tN T := ⟨rfl, rfl, rfl, rfl, rfl, rfl, rfl, rfl⟩
theorem ti (T : Tr) (b : Nat) (v : List Nat) : tU (uI T b v) = tU T ∧ tH (uI T b v) = tH T ∧ tI (uI T b v) = fu (tI T) b v ∧ tC (uI T b v) = tC T ∧ tP (uI T b v) = tP T ∧ tW (uI T b v) = tW T ∧ tR (uI T b v) = tR T ∧ tN (uI T b v) = tN T := ⟨rfl, rfl, rfl, rfl, rfl, rfl, rfl, rfl⟩
theorem tc (T : Tr) (b : Nat) (v : List Nat) : tU (uC T b v) = tU T ∧ tH (uC T b v) = tH T ∧ tI (uC T b v) = tI T ∧ tC (uC T b v) = fu (tC T) b v ∧ tP (uC T b v) = tP T ∧ tW (uC T b v) = tW T ∧ tR (uC T b v) = tR T ∧ tN (uC T b v) = tN T := ⟨rfl, rfl, rfl, rfl, rfl, rfl, rfl, rfl⟩
theorem tp (T : Tr) (b : Nat) (v : Option Nat) : tU (uP T b v) = tU T ∧ tH (uP T b v) = tH T ∧ tI (uP T b v) = tI T ∧ tC (uP T b v) = tC T ∧ tP (uP T b v) = fu (tP T) b v ∧ tW (uP T b v) = tW T ∧ tR (uP T b v) = tR T ∧ tN (uP T b v) = tN T := ⟨rfl, rfl, rfl, rfl, rfl, rfl, rfl, rfl⟩
theorem tw (T : Tr) (b : Nat) (v : List Nat) : tU (uW T b v) = tU T ∧ tH (uW T b v) = tH T ∧ tI (uW T b v) = tI T ∧ tC (uW T b v) = tC T ∧ tP (uW T b v) = tP T ∧ tW (uW T b v) = fu (tW T) b v ∧ tR (uW T b v) = tR T ∧ tN (uW T b v) = tN T := ⟨rfl, rfl, rfl, rfl, rfl, rfl, rfl, rfl⟩
theorem tr (T : Tr) (v : Nat) : tU (uR T v) = tU T ∧ tH (uR T v) = tH T ∧ tI (uR T v) = tI T ∧ tC (uR T v) = tC T ∧ tP (uR T v) = tP T ∧ tW (uR T v) = tW T ∧ tR (uR T v) = v ∧ tN (uR T v) = tN T := ⟨rfl, rfl, rfl, rfl, rfl, rfl, rfl, rfl⟩
theorem tn (T : Tr) (v : Nat) : tU (uN T v) = tU T ∧ tH (uN T v) = tH T ∧ tI (uN T v) = tI T ∧ tC (uN T v) = tC T ∧ tP (uN T v) = tP T ∧ tW (uN T v) = tW T ∧ tR (uN T v) = tR T ∧ tN (uN T v) = v := ⟨rfl, rfl, rfl, rfl, rfl, rfl, rfl, rfl⟩
theorem fu_comm {α : Type} (f : Nat → α) {a p : Nat} (v w : α) (h : a ≠ p) : fu (fu f a v) p w = fu (fu f p w) a v := by
  funext x
  unfold fu
  by_cases e : x = p
  · rw [if_pos e, if_neg (by omega), if_pos e]
  · rw [if_neg e]
    by_cases e2 : x = a
    · rw [if_pos e2, if_pos e2]
    · rw [if_neg e2, if_neg e2, if_neg e]
/-- where x stands in a list, neighbours, and lists with one more or one less -/
def ix (x : Nat) : List Nat → Nat
  | [] => 0
  | a :: l => if a = x then 0 else ix x l + 1
def nx (l : List Nat) (x : Nat) : Option Nat := l[ix x l + 1]?
def pv (l : List Nat) (x : Nat) : Option Nat := if ix x l = 0 then none else l[ix x l - 1]?
def inA (l : List Nat) (y x : Nat) : List Nat := l.take (ix y l + 1) ++ x :: l.drop (ix y l + 1)
def out (l : List Nat) (x : Nat) : List Nat := l.take (ix x l) ++ l.drop (ix x l + 1)
theorem ix_at {x : Nat} : ∀ {l : List Nat}, x ∈ l → l[ix x l]? = some x ∧ ∀ i, i < ix x l → l[i]? ≠ some x
  | [], h => by cases h
  | a :: l, h => by
    rw [ix]
    by_cases e : a = x
    · rw [if_pos e]
      exact ⟨by rw [e]; rfl, fun i hi => absurd hi (Nat.not_lt_zero _)⟩
    · rw [if_neg e]
      have h' : x ∈ l := by
        rcases List.mem_cons.mp h with h | h
        · exact absurd h.symm e
        · exact h
      obtain ⟨h1, h2⟩ := ix_at h'
      refine ⟨by rw [List.getElem?_cons_succ]; exact h1, fun i hi => ?_⟩
      cases i with
      | zero => intro h; exact e (Option.some.inj h)
      | succ i => rw [List.getElem?_cons_succ]; exact h2 i (by omega)
theorem ix_lt {x : Nat} {l : List Nat} (h : x ∈ l) : ix x l < l.length := (List.getElem?_eq_some_iff.mp (ix_at h).1).1
/-- the first block that is free -/
def fr (u : Nat → Bool) : Nat → Nat → Option Nat
  | 0, _ => none
  | n + 1, i => if u i then fr u n (i + 1) else some i
theorem fr_spec (u : Nat → Bool) : ∀ n i, (fr u n i = none ∧ ∀ j, i ≤ j → j < i + n → u j = true) ∨ ∃ k, fr u n i = some k ∧ i ≤ k ∧ k < i + n ∧ u k = false ∧ ∀ j, i ≤ j → j < k → u j = true
  | 0, i => .inl ⟨rfl, fun j h1 h2 => by omega⟩
  | n + 1, i => by
    rw [fr]
    cases hu : u i with
    | false => exact .inr ⟨i, by simp, Nat.le_refl _, by omega, hu, fun j h1 h2 => by omega⟩
    | true =>
      rw [if_pos rfl]
      rcases fr_spec u n (i + 1) with ⟨h1, h2⟩ | ⟨k, h1, h2, h3, h4, h5⟩
      · exact .inl ⟨h1, fun j h3 h4 => by by_cases e : j = i; (rw [e]; exact hu); exact h2 j (by omega) (by omega)⟩
      · exact .inr ⟨k, h1, by omega, by omega, h4, fun j h6 h7 => by by_cases e : j = i; (rw [e]; exact hu); exact h5 j (by omega) h7⟩
/-- a block is taken; it is given back -/
def tk (T : Tr) (b : Nat) : Tr := uC (uI (uH (uU T b true) b 0) b []) b []
def fe (T : Tr) (b : Nat) : Tr := uC (uI (uH (uU T b false) b 0) b []) b []
/-- x becomes the child of p at a place -/
def cp (T : Tr) (p k x : Nat) : Tr := uP (uC T p ((tC T p).take k ++ x :: (tC T p).drop k)) x (some p)
/-- a neighbour is a node of its own; it has room -/
def okN (T : Tr) (p : Nat) : Option Nat → Bool
  | none => true
  | some a => decide (a ≠ p ∧ tI T a = [] ∧ (tC T a).length ≤ 5)
def rmN (T : Tr) : Option Nat → Bool
  | none => false
  | some a => decide ((tC T a).length < 5)
/-- A node that has nothing below goes, and what that leads to. none: that can't be -/
def gn : Nat → Tr → Nat → Option Tr
  | 0, _, _ => none
  | n + 1, T, x => match tP T x, tH T x with
    | some p, h + 1 =>
      if x ∈ tW T h ∧ x ∈ tC T p ∧ tH T p = h + 2 ∧ x ≠ p ∧ x < 96 ∧ p < 96 ∧ h + 1 < 8 ∧ tI T p = [] ∧ p ∈ tW T (h + 1) ∧ 1 ≤ tN T ∧ (tP T p = none ↔ p = tR T) then
        let T1 := uC (fe (uW T h (out (tW T h) x)) x) p (out (tC T p) x)
        match tC T1 p with
        | [] => none
        | [c] => match tP T1 p with
          | none => some (uN (uR (uP (fe (uW T1 (h + 1) []) p) c none) c) (tN T1 - 1))
          | some pp =>
            let l := pv (tW T1 (h + 1)) p
            let r := nx (tW T1 (h + 1)) p
            if okN T1 p l = false ∨ okN T1 p r = false ∨ 96 ≤ pp then none
            else if rmN T1 l = true then gn n (cp (uC T1 p []) (l.getD 0) (tC T1 (l.getD 0)).length c) p
            else if rmN T1 r = true then gn n (cp (uC T1 p []) (r.getD 0) 0 c) p
            else match l, r with
              | some a, _ => match (tC T1 a)[(tC T1 a).length - 1]? with
                | some y => some (cp (uC T1 a ((tC T1 a).take ((tC T1 a).length - 1))) p 0 y)
                | none => none
              | none, some b => match (tC T1 b)[0]? with
                | some y => some (cp (uC T1 b ((tC T1 b).drop 1)) p 1 y)
                | none => none
              | none, none => none
        | _ :: _ :: _ => some T1
      else none
    | _, _ => none
/-- the last child of p becomes the first one of q -/
def sp1 (T : Tr) (p q : Nat) : Tr := match (tC T p)[(tC T p).length - 1]? with
  | some y => cp (uC T p ((tC T p).take ((tC T p).length - 1))) q 0 y
  | none => T
def spl (T : Tr) (p q : Nat) : Tr := sp1 (sp1 (sp1 (uH (tk T q) q (tH T p)) p q) p q) p q
def okS (T : Tr) (p q : Nat) : Bool := decide (q ≠ p ∧ q < 96 ∧ 2 ≤ tH T p ∧ tH T p ≤ 8 ∧ p ∈ tW T (tH T p - 1) ∧ (tW T (tH T p - 1)).length ≤ 95 ∧ (∀ y ∈ tC T p, y ≠ q) ∧ (tC T p).length = 6 ∧ tI T p = [])
/-- A node y stands in its row behind x, and gets its place in the tree. none: that can't be; false: there was no room -/
def ad (m : Nat) : Nat → Tr → Nat → Nat → Option (Bool × Tr)
  | 0, _, _, _ => none
  | n + 1, T, x, y =>
    if tU T 0 = true ∧ x < 96 ∧ y < 96 ∧ x ≠ y ∧ 1 ≤ tH T x then
      match tP T x with
      | none => if tH T x < 8 then (match fr (tU T) m 0 with
          | none => some (false, T)
          | some r => if r ≠ x ∧ r ≠ y ∧ r < 96 then some (true, uN (uR (uW (cp (cp (uH (uP (tk T r) r none) r (tH T x + 1)) r 0 x) r 1 y) (tH T x) [r]) r) (tN T + 1)) else none) else none
      | some p =>
        if x ∈ tC T p ∧ (tC T p).length ≤ 5 ∧ p < 96 ∧ tI T p = [] then
          (if (tC T p).length ≤ 4 then some (true, cp T p (ix x (tC T p) + 1) y)
          else match fr (tU T) m 0 with
            | none => some (false, T)
            | some q => if okS (cp T p (ix x (tC T p) + 1) y) p q = true then
                ad m n (uW (spl (cp T p (ix x (tC T p) + 1) y) p q) (tH T p - 1) (inA (tW T (tH T p - 1)) p q)) p q
              else none)
        else none
    else none
