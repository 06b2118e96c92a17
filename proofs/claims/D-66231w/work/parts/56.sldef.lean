/-! ===== SETTLE AND LOOKAT, AS THEY ARE MEANT ===== -/
def slL (sz : Nat → Nat) (T : Tr) (x : Nat) : Tr := match pv (tW T 0) x with
  | none => T
  | some a => uI (uI T x (mvL sz (tI T x) (tI T a)).1) a (mvL sz (tI T x) (tI T a)).2
def slR (sz : Nat → Nat) (T : Tr) (x : Nat) : Tr := match nx (tW T 0) x with
  | none => T
  | some a => uI (uI T x (mvR sz (tI T x).length (tI T x) (tI T a)).1) a (mvR sz (tI T x).length (tI T x) (tI T a)).2
/-- a fresh leaf r stands behind x, and has what x has too much -/
def slF (sz : Nat → Nat) (T : Tr) (x r : Nat) : Tr :=
  uW (uI (uI (uP (uH (tk T r) r 1) r none) x (mvF sz (tI T x).length (tI T x) []).1) r (mvF sz (tI T x).length (tI T x) []).2) 0 (inA (tW T 0) x r)
/-- An item was put into a leaf x, or has grown. none: that can't be; false: there was no room -/
def sl (m : Nat) (sz : Nat → Nat) (T : Tr) (x : Nat) : Option (Bool × Tr) :=
  if x ∈ tW T 0 ∧ tH T x = 1 ∧ x < 96 ∧ tC T x = [] ∧ uz sz (tI T x) ≤ 240 ∧ okL sz T x (pv (tW T 0) x) = true ∧ okL sz (slL sz T x) x (nx (tW T 0) x) = true ∧ tU T 0 = true ∧ (tW T 0).length ≤ 95 then
    (if uz sz (tI (slR sz (slL sz T x) x) x) ≤ 120 then some (true, slR sz (slL sz T x) x)
    else match fr (tU T) m 0 with
      | none => some (false, slR sz (slL sz T x) x)
      | some r => if r ≠ x ∧ r < 96 ∧ tH T r = 0 then ad m 8 (slF sz (slR sz (slL sz T x) x) x r) x r else none)
  else none
/-- A leaf x has less: what that leads to. none: that can't be -/
def lkA (sz : Nat → Nat) : Nat → Tr → Nat → Option Tr
  | 0, _, _ => none
  | n + 1, T, x =>
    if x ∈ tW T 0 ∧ tH T x = 1 ∧ x < 96 ∧ tC T x = [] ∧ uz sz (tI T x) ≤ 120 ∧ okL sz T x (pv (tW T 0) x) = true ∧ okL sz T x (nx (tW T 0) x) = true ∧ (1 < (tW T 0).length ↔ tR T ≠ x) then
      (if tI T x = [] ∧ 1 < (tW T 0).length then
        (match gn 8 T x, pv (tW T 0) x, nx (tW T 0) x with
        | some T', some a, _ => lkA sz n T' a
        | some T', none, some a => lkA sz n T' a
        | _, _, _ => none)
      else match (pv (tW T 0) x).filter (fun a => decide (uz sz (tI T x) + uz sz (tI T a) ≤ 72)) with
        | some a => (match gn 8 (uI (uI T x []) a (tI T a ++ tI T x)) x with
          | some T' => lkA sz n T' a
          | none => none)
        | none => (match (nx (tW T 0) x).filter (fun a => decide (uz sz (tI T x) + uz sz (tI T a) ≤ 72)) with
          | some a => (match gn 8 (uI (uI T a []) x (tI T x ++ tI T a)) a with
            | some T' => lkA sz n T' x
            | none => none)
          | none => some T))
    else none
