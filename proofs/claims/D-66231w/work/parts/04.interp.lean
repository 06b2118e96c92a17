set_option maxRecDepth 100000 in
theorem mLk_ok : ∀ q ∈ mLk, ∀ w ∈ mLw q, w ∈ lw_tbl := by
  intro q hq
  obtain ⟨y, hy⟩ := List.getElem?_of_mem hq
  have hn : mLk.length = 257 := by decide +kernel
  have hl : y < 257 := by rw [← hn]; exact (List.getElem?_eq_some_iff.mp hy).1
  have key : ∀ (a n : Nat), a ≤ y → y < a + n → q ∈ (mLk.drop a).take n := fun a n h1 h2 => List.mem_of_getElem? (i := y - a) (by rw [List.getElem?_take, if_pos (by omega), List.getElem?_drop, show a + (y - a) = y by omega]; exact hy)
  by_cases h0 : y < 70
  · exact mLk_ok_0 q (key 0 70 (by omega) (by omega))
  by_cases h1 : y < 140
  · exact mLk_ok_1 q (key 70 70 (by omega) (by omega))
  by_cases h2 : y < 210
  · exact mLk_ok_2 q (key 140 70 (by omega) (by omega))
  by_cases h3 : y < 280
  · exact mLk_ok_3 q (key 210 70 (by omega) (by omega))
  omega
/-! ===== THE PURE INTERPRETER: memory, locals, single steps ===== -/
/-- a cell's kind: an object of a class (its number), or an array (code of its components' type, length); code 8: the script, read only -/
abbrev Kd : Type := Nat ⊕ (Nat × Nat)
/-- the memory: kinds, int fields (field, cell), ref fields, int arrays (cell, place), ref arrays, long arrays, the next cell, slots laid so far -/
abbrev Mem : Type := (Nat → Option Kd) × (Nat → Nat → Int32) × (Nat → Nat → Option Nat) × (Nat → Nat → Int32) × (Nat → Nat → Option Nat) × (Nat → Nat → Int64) × Nat × Nat
def mK (M : Mem) (a : Nat) : Option Kd := M.1 a
def mF (M : Mem) (f a : Nat) : Int32 := M.2.1 f a
def mR (M : Mem) (f a : Nat) : Option Nat := M.2.2.1 f a
def mA (M : Mem) (a i : Nat) : Int32 := M.2.2.2.1 a i
def mQ (M : Mem) (a i : Nat) : Option Nat := M.2.2.2.2.1 a i
def mL (M : Mem) (a i : Nat) : Int64 := M.2.2.2.2.2.1 a i
def mN (M : Mem) : Nat := M.2.2.2.2.2.2.1
def mS (M : Mem) : Nat := M.2.2.2.2.2.2.2
def up2 {α : Type} (g : Nat → Nat → α) (x y : Nat) (v : α) : Nat → Nat → α := fun p q => if p = x ∧ q = y then v else g p q
def sF (M : Mem) (f a : Nat) (v : Int32) : Mem := (M.1, up2 M.2.1 f a v, M.2.2)
def sR (M : Mem) (f a : Nat) (v : Option Nat) : Mem := (M.1, M.2.1, up2 M.2.2.1 f a v, M.2.2.2)
def sA (M : Mem) (a i : Nat) (v : Int32) : Mem := (M.1, M.2.1, M.2.2.1, up2 M.2.2.2.1 a i v, M.2.2.2.2)
def sQ (M : Mem) (a i : Nat) (v : Option Nat) : Mem := (M.1, M.2.1, M.2.2.1, M.2.2.2.1, up2 M.2.2.2.2.1 a i v, M.2.2.2.2.2)
def sL (M : Mem) (a i : Nat) (v : Int64) : Mem := (M.1, M.2.1, M.2.2.1, M.2.2.2.1, M.2.2.2.2.1, up2 M.2.2.2.2.2.1 a i v, M.2.2.2.2.2.2)
/-- a new cell of a kind, of n slots -/
def nw (M : Mem) (κ : Kd) (n : Nat) : Mem :=
  (fun q => if q = mN M then some κ else M.1 q, fun f q => if q = mN M then 0 else M.2.1 f q, fun f q => if q = mN M then none else M.2.2.1 f q,
   fun q i => if q = mN M then 0 else M.2.2.2.1 q i, fun q i => if q = mN M then none else M.2.2.2.2.1 q i, fun q i => if q = mN M then 0 else M.2.2.2.2.2.1 q i, mN M + 1, mS M + n)
/-- n rows of k bytes are made behind one another and laid into the array o -/
def rws (o k : Nat) : Nat → Mem → Mem
  | 0, M => M
  | n + 1, M => sQ (nw (rws o k n M) (.inr (1, k)) k) o n (some (mN (rws o k n M)))
def nw2 (M : Mem) (n k : Nat) : Mem := rws (mN M) k n (nw M (.inr (4, n)) n)
/-- locals -/
abbrev Lc : Type := List (Option Value)
def ld (ls : Lc) (i : Nat) : Option Value := match ls[i]? with
  | some (some v) => some v
  | _ => none
def lgB (ls : Lc) : Nat → Bool
  | 0 => false
  | j + 1 => match ls[j]? with
    | some (some w) => w.category == 2
    | _ => false
/-- a value of one word goes into a local -/
def st1 (ls : Lc) (i : Nat) (v : Value) : Option Lc := if i < ls.length ∧ lgB ls i = false then some (ls.set i (some v)) else none
def jmp (pc : Nat) (off : Int) : Option Nat := if 0 ≤ (pc : Int) + off then some ((pc : Int) + off).toNat else none
def asR : Value → Option (Option Nat)
  | .ref a => some (some a)
  | .null => some none
  | _ => none
def cnd : ClassFile.Cond → Int32 → Int32 → Bool
  | .eq, x, y => decide (x = y)
  | .ne, x, y => decide (¬ x = y)
  | .lt, x, y => decide (x < y)
  | .ge, x, y => decide (y ≤ x)
  | .gt, x, y => decide (y < x)
  | .le, x, y => decide (x ≤ y)
/-- steps that touch no memory -/
def stA (i : Instr) (len pc : Nat) (ls : Lc) (st : List Value) : Option (Nat × Lc × List Value) :=
  match i with
  | .iconst n => if len = 1 then some (pc + 1, ls, .int (Int32.ofInt n) :: st) else none
  | .bipush n => if len = 2 then some (pc + 2, ls, .int (Int8.ofInt n).toInt32 :: st) else none
  | .sipush n => if len = 3 then some (pc + 3, ls, .int (Int16.ofInt n).toInt32 :: st) else none
  | .aconst_null => if len = 1 then some (pc + 1, ls, .null :: st) else none
  | .iload k => match ld ls k with
    | some (.int x) => if len = 2 then some (pc + 2, ls, .int x :: st) else none
    | _ => none
  | .iload_n k => match ld ls k.val with
    | some (.int x) => if len = 1 then some (pc + 1, ls, .int x :: st) else none
    | _ => none
  | .lload k => match ld ls k with
    | some (.long x) => if len = 2 then some (pc + 2, ls, .long x :: st) else none
    | _ => none
  | .lload_n k => match ld ls k.val with
    | some (.long x) => if len = 1 then some (pc + 1, ls, .long x :: st) else none
    | _ => none
  | .aload k => match ld ls k with
    | some (.ref x) => if len = 2 then some (pc + 2, ls, .ref x :: st) else none
    | some .null => if len = 2 then some (pc + 2, ls, .null :: st) else none
    | _ => none
  | .aload_n k => match ld ls k.val with
    | some (.ref x) => if len = 1 then some (pc + 1, ls, .ref x :: st) else none
    | some .null => if len = 1 then some (pc + 1, ls, .null :: st) else none
    | _ => none
  | .istore k => match st with
    | .int x :: r => match st1 ls k (.int x) with
      | some ls' => if len = 2 then some (pc + 2, ls', r) else none
      | none => none
    | _ => none
  | .istore_n k => match st with
    | .int x :: r => match st1 ls k.val (.int x) with
      | some ls' => if len = 1 then some (pc + 1, ls', r) else none
      | none => none
    | _ => none
  | .astore k => match st with
    | .ref x :: r => match st1 ls k (.ref x) with
      | some ls' => if len = 2 then some (pc + 2, ls', r) else none
      | none => none
    | .null :: r => match st1 ls k .null with
      | some ls' => if len = 2 then some (pc + 2, ls', r) else none
      | none => none
    | _ => none
  | .astore_n k => match st with
    | .ref x :: r => match st1 ls k.val (.ref x) with
      | some ls' => if len = 1 then some (pc + 1, ls', r) else none
      | none => none
    | .null :: r => match st1 ls k.val .null with
      | some ls' => if len = 1 then some (pc + 1, ls', r) else none
      | none => none
    | _ => none
  | .iinc k n => match ld ls k with
    | some (.int x) => match st1 ls k (.int (x + Int32.ofInt n)) with
      | some ls' => if len = 3 then some (pc + 3, ls', st) else none
      | none => none
    | _ => none
  | .iadd => match st with
    | .int y :: .int x :: r => if len = 1 then some (pc + 1, ls, .int (x + y) :: r) else none
    | _ => none
  | .isub => match st with
    | .int y :: .int x :: r => if len = 1 then some (pc + 1, ls, .int (x - y) :: r) else none
    | _ => none
  | .imul => match st with
    | .int y :: .int x :: r => if len = 1 then some (pc + 1, ls, .int (x * y) :: r) else none
    | _ => none
  | .idiv => match st with
    | .int y :: .int x :: r => if len = 1 ∧ ¬ y = 0 then some (pc + 1, ls, .int (x / y) :: r) else none
    | _ => none
  | .irem => match st with
    | .int y :: .int x :: r => if len = 1 ∧ ¬ y = 0 then some (pc + 1, ls, .int (x - x / y * y) :: r) else none
    | _ => none
  | .iand => match st with
    | .int y :: .int x :: r => if len = 1 then some (pc + 1, ls, .int (x &&& y) :: r) else none
    | _ => none
  | .ior => match st with
    | .int y :: .int x :: r => if len = 1 then some (pc + 1, ls, .int (x ||| y) :: r) else none
    | _ => none
  | .ishl => match st with
    | .int y :: .int x :: r => if len = 1 then some (pc + 1, ls, .int (x <<< (y &&& 31)) :: r) else none
    | _ => none
  | .ishr => match st with
    | .int y :: .int x :: r => if len = 1 then some (pc + 1, ls, .int (x >>> (y &&& 31)) :: r) else none
    | _ => none
  | .i2l => match st with
    | .int x :: r => if len = 1 then some (pc + 1, ls, .long x.toInt64 :: r) else none
    | _ => none
  | .l2i => match st with
    | .long x :: r => if len = 1 then some (pc + 1, ls, .int x.toInt32 :: r) else none
    | _ => none
  | .i2b => match st with
    | .int x :: r => if len = 1 then some (pc + 1, ls, .int x.toInt8.toInt32 :: r) else none
    | _ => none
  | .land => match st with
    | .long y :: .long x :: r => if len = 1 then some (pc + 1, ls, .long (x &&& y) :: r) else none
    | _ => none
  | .lor => match st with
    | .long y :: .long x :: r => if len = 1 then some (pc + 1, ls, .long (x ||| y) :: r) else none
    | _ => none
  | .lshl => match st with
    | .int y :: .long x :: r => if len = 1 then some (pc + 1, ls, .long (x <<< (y.toInt64 &&& 63)) :: r) else none
    | _ => none
  | .lshr => match st with
    | .int y :: .long x :: r => if len = 1 then some (pc + 1, ls, .long (x >>> (y.toInt64 &&& 63)) :: r) else none
    | _ => none
  | .lcmp => match st with
    | .long y :: .long x :: r => if len = 1 then some (pc + 1, ls, .int (lg_cmp x y) :: r) else none
    | _ => none
  | .dup => match st with
    | v :: r => if len = 1 ∧ v.category = 1 then some (pc + 1, ls, v :: v :: r) else none
    | _ => none
  | .pop => match st with
    | v :: r => if len = 1 ∧ v.category = 1 then some (pc + 1, ls, r) else none
    | _ => none
  | .dup2 => match st with
    | v :: w :: r => if len = 1 ∧ v.category = 1 ∧ w.category = 1 then some (pc + 1, ls, v :: w :: v :: w :: r) else none
    | _ => none
  | .goto off => match jmp pc off with
    | some t => if len = 3 then some (t, ls, st) else none
    | none => none
  | .ifCond k off => match st, jmp pc off with
    | .int x :: r, some t => if len = 3 then some (if cnd k x 0 then t else pc + 3, ls, r) else none
    | _, _ => none
  | .if_icmp k off => match st, jmp pc off with
    | .int y :: .int x :: r, some t => if len = 3 then some (if cnd k x y then t else pc + 3, ls, r) else none
    | _, _ => none
  | .ifnull off => match st, jmp pc off with
    | .null :: r, some t => if len = 3 then some (t, ls, r) else none
    | .ref _ :: r, some _ => if len = 3 then some (pc + 3, ls, r) else none
    | _, _ => none
  | .ifnonnull off => match st, jmp pc off with
    | .ref _ :: r, some t => if len = 3 then some (t, ls, r) else none
    | .null :: r, some _ => if len = 3 then some (pc + 3, ls, r) else none
    | _, _ => none
  | .if_acmp k off => match st, jmp pc off with
    | w :: v :: r, some t => match asR v, asR w with
      | some x, some y => if len = 3 then some (if (match k with | .eq => decide (x = y) | .ne => decide (¬ x = y)) then t else pc + 3, ls, r) else none
      | _, _ => none
    | _, _ => none
  | .tableswitch d lo hi offs => match st with
    | .int x :: r => if x.toInt < lo ∨ hi < x.toInt then (match jmp pc d with
        | some t => some (t, ls, r)
        | none => none)
      else match offs[(x.toInt - lo).toNat]? with
        | some off => (match jmp pc off with
          | some t => some (t, ls, r)
          | none => none)
        | none => none
    | _ => none
  | _ => none
def fRes (c i : Nat) : Option (Nat × Nat × Bool) := match fLk.find? (fun q => q.1 == c && q.2.1 == i) with
  | some q => some q.2.2
  | none => none
def cRes (c i : Nat) : Option Nat := match cLk.find? (fun q => q.1 == c && q.2.1 == i) with
  | some q => some q.2.2
  | none => none
def mRes (c i : Nat) : Option (Nat × Nat × List (Nat × Nat)) := match mLk.find? (fun q => q.1 == c && q.2.1 == i) with
  | some q => some q.2.2
  | none => none
/-- what a field holds -/
def fV (M : Mem) (f a : Nat) : Value := if (fD f).2.2.2.2 = 2 then va_rf (mR M f a) else .int (mF M f a)
/-- a field is written -/
def fP (M : Mem) (f a : Nat) (v : Value) : Option Mem := match (fD f).2.2.2.2, v with
  | 0, .int x => some (sF M f a x)
  | 1, .int x => if x = 0 ∨ x = 1 then some (sF M f a x) else none
  | 2, .ref b => some (sR M f a (some b))
  | 2, .null => some (sR M f a none)
  | _, _ => none
def inB (i : Int32) (n : Nat) : Bool := !(decide (i < 0)) && decide (i.toNatClampNeg < n)
def atC : ArrayType → Option Nat
  | .int => some 0
  | .byte => some 1
  | .boolean => some 2
  | .long => some 3
  | _ => none
/-- which objects an array of references takes -/
def fitQ (t k : Nat) : Bool := (t == 5 && k == 5) || (t == 6 && k == 6) || (t == 7 && (k == 5 || k == 6))
def smallR (r : List Value) : Bool := decide ((r.map fun v => v.category).sum ≤ 8)
/-- steps that touch the memory; c: the number of the method's class, ini: whether it is a constructor -/
def stM (c : Nat) (ini : Bool) (i : Instr) (len pc : Nat) (st : List Value) (M : Mem) : Option (Nat × List Value × Mem) :=
  match i with
  | .getfield idx => match st, fRes c idx with
    | .ref a :: r, some (f, _, _) => match mK M a with
      | some (.inl k) => if len = 3 ∧ f ∈ cFl k then some (pc + 3, fV M f a :: r, M) else none
      | _ => none
    | _, _ => none
  | .putfield idx => match st, fRes c idx with
    | v :: .ref a :: r, some (f, _, nest) => match mK M a, fP M f a v with
      | some (.inl k), some M' => if len = 3 ∧ f ∈ cFl k ∧ ((fD f).2.2.2.1 = true → ini = true ∧ nest = false ∧ (fD f).1 = nmC c) then some (pc + 3, r, M') else none
      | _, _ => none
    | _, _ => none
  | .iaload => match st with
    | .int j :: .ref a :: r => match mK M a with
      | some (.inr (t, n)) => if len = 1 ∧ (t = 0 ∨ t = 8) ∧ inB j n = true then some (pc + 1, .int (mA M a j.toNatClampNeg) :: r, M) else none
      | _ => none
    | _ => none
  | .baload => match st with
    | .int j :: .ref a :: r => match mK M a with
      | some (.inr (t, n)) => if len = 1 ∧ (t = 1 ∨ t = 2) ∧ inB j n = true then some (pc + 1, .int (mA M a j.toNatClampNeg) :: r, M) else none
      | _ => none
    | _ => none
  | .laload => match st with
    | .int j :: .ref a :: r => match mK M a with
      | some (.inr (t, n)) => if len = 1 ∧ t = 3 ∧ inB j n = true then some (pc + 1, .long (mL M a j.toNatClampNeg) :: r, M) else none
      | _ => none
    | _ => none
  | .aaload => match st with
    | .int j :: .ref a :: r => match mK M a with
      | some (.inr (t, n)) => if len = 1 ∧ (t = 4 ∨ t = 5 ∨ t = 6 ∨ t = 7) ∧ inB j n = true then some (pc + 1, va_rf (mQ M a j.toNatClampNeg) :: r, M) else none
      | _ => none
    | _ => none
  | .iastore => match st with
    | .int x :: .int j :: .ref a :: r => match mK M a with
      | some (.inr (t, n)) => if len = 1 ∧ t = 0 ∧ inB j n = true then some (pc + 1, r, sA M a j.toNatClampNeg x) else none
      | _ => none
    | _ => none
  | .bastore => match st with
    | .int x :: .int j :: .ref a :: r => match mK M a with
      | some (.inr (t, n)) => if len = 1 ∧ (t = 1 ∨ t = 2) ∧ inB j n = true then some (pc + 1, r, sA M a j.toNatClampNeg (vp_nar (tyA t) x)) else none
      | _ => none
    | _ => none
  | .lastore => match st with
    | .long x :: .int j :: .ref a :: r => match mK M a with
      | some (.inr (t, n)) => if len = 1 ∧ t = 3 ∧ inB j n = true then some (pc + 1, r, sL M a j.toNatClampNeg x) else none
      | _ => none
    | _ => none
  | .aastore => match st with
    | .null :: .int j :: .ref a :: r => match mK M a with
      | some (.inr (t, n)) => if len = 1 ∧ (t = 5 ∨ t = 6 ∨ t = 7) ∧ inB j n = true then some (pc + 1, r, sQ M a j.toNatClampNeg none) else none
      | _ => none
    | .ref v :: .int j :: .ref a :: r => match mK M a, mK M v with
      | some (.inr (t, n)), some (.inl k) => if len = 1 ∧ fitQ t k = true ∧ inB j n = true then some (pc + 1, r, sQ M a j.toNatClampNeg (some v)) else none
      | _, _ => none
    | _ => none
  | .arraylength => match st with
    | .ref a :: r => match mK M a with
      | some (.inr (_, n)) => if len = 1 then some (pc + 1, .int (Int32.ofNat n) :: r, M) else none
      | _ => none
    | _ => none
  | .newarray ty => match st, atC ty with
    | .int n :: r, some t => if len = 2 ∧ ¬ n < 0 ∧ n.toNatClampNeg ≤ 60000 then some (pc + 2, .ref (mN M) :: r, nw M (.inr (t, n.toNatClampNeg)) n.toNatClampNeg) else none
    | _, _ => none
  | .anewarray idx => match st, cRes c idx with
    | .int n :: r, some k => if len = 3 ∧ ¬ n < 0 ∧ n.toNatClampNeg ≤ 60000 ∧ (k = 5 ∨ k = 6 ∨ k = 7) then some (pc + 3, .ref (mN M) :: r, nw M (.inr (k, n.toNatClampNeg)) n.toNatClampNeg) else none
    | _, _ => none
  | .multianewarray idx dim => match st with
    | .int k :: .int n :: r => if len = 4 ∧ dim = 2 ∧ ((c = 1 ∧ idx = 13) ∨ (c = 4 ∧ idx = 9)) ∧ ¬ n < 0 ∧ n.toNatClampNeg ≤ 1000 ∧ ¬ k < 0 ∧ k.toNatClampNeg ≤ 1000 then some (pc + 4, .ref (mN M) :: r, nw2 M n.toNatClampNeg k.toNatClampNeg) else none
    | _ => none
  | .new idx => match cRes c idx with
    | some k => if len = 3 ∧ k ∈ cOb ∧ ¬ k ∈ cEx then some (pc + 3, .ref (mN M) :: st, nw M (.inl k) (cSz k)) else none
    | none => none
  | .checkcast idx => match st with
    | .null :: r => if len = 3 then some (pc + 3, .null :: r, M) else none
    | .ref a :: r => match mK M a, cRes c idx with
      | some (.inl k), some k' => if len = 3 ∧ k = k' ∧ (k = 5 ∨ k = 6) then some (pc + 3, .ref a :: r, M) else none
      | _, _ => none
    | _ => none
  | .instanceof idx => match st with
    | .null :: r => if len = 3 then some (pc + 3, .int 0 :: r, M) else none
    | .ref a :: r => match mK M a, cRes c idx with
      | some (.inl k), some k' => if len = 3 ∧ k' = 6 ∧ (k = 5 ∨ k = 6) then some (pc + 3, .int (if k = 6 then 1 else 0) :: r, M) else none
      | _, _ => none
    | _ => none
  | .ldc2_w idx => if len = 3 ∧ c = 8 ∧ idx = 190 then some (pc + 3, .long 255 :: st, M) else if len = 3 ∧ c = 0 ∧ idx = 113 then some (pc + 3, .long 4294967295 :: st, M) else none
  | .invokestatic idx => match mRes c idx, st with
    | some (0, _, [(_, 231)]), .int y :: .int x :: r => if len = 3 ∧ smallR r = true then some (pc + 3, .int (if x < y then y else x) :: r, M) else none
    | _, _ => none
  | .invokespecial idx => match mRes c idx, st with
    | some (2, _, [(_, 232)]), .ref _ :: r => if len = 3 ∧ smallR r = true then some (pc + 3, r, M) else none
    | _, _ => none
  | _ => none
/-- how many parameters a method has -/
def mArL : List Nat := [2, 5, 5, 4, 6, 6, 6, 4, 4, 4, 4, 4, 5, 4, 2, 2, 2, 2, 2, 3, 2, 3, 3, 4, 3, 0, 2, 2, 0, 3, 0, 1, 2, 1, 3, 3, 2, 1, 1, 1, 0, 2, 1, 0, 3, 2, 1, 1, 3, 0, 0, 3, 1, 2, 2, 1, 1, 2, 4, 2, 1, 1, 1, 4, 4, 1, 2, 2, 1, 1, 4, 2, 2, 2, 2, 2, 3, 2, 0, 0, 2, 0, 0, 0, 1, 0, 1, 1, 0, 1, 2, 2, 1, 0, 1, 0, 1, 3, 1, 1, 1, 2, 2, 1, 1, 2, 1, 2, 2, 2, 0, 1, 2, 0, 0, 1, 0, 2, 2, 0, 1, 0, 0, 1, 2, 1, 1, 5, 0, 0, 1, 1, 3, 0, 1, 1, 0, 1, 0, 0, 1, 1, 2, 1, 1, 0, 1, 0, 0, 1, 0, 1, 0, 2, 2, 0, 3, 1, 1, 3, 1, 2, 3, 3, 5, 0, 0, 5, 2, 1, 2, 1, 1, 1, 2, 4, 2, 0, 2, 2, 3, 2, 2, 1, 3, 1, 2, 3, 1, 1, 1, 1, 1, 4, 4, 2, 1, 4, 4, 1, 2, 2, 2, 1, 4, 2, 2, 2, 2, 2, 3, 2, 0, 0, 0, 1, 2, 1, 2, 1, 2, 0, 0, 0, 0, 1, 0, 0, 1, 0, 0, 2, 0, 1]
def mAr (y : Nat) : Nat := mArL.getD y 0
set_option maxRecDepth 100000 in
theorem mAr_ok : ∀ y, y < 234 → (parseMethodDescriptor (mNm y).desc).map (fun d => d.parameters.length) = some (mAr y) := by decide +kernel
set_option maxRecDepth 100000 in
theorem mTb_small : ∀ y, y < 231 → (mTb.getD y (x, code, maxLocals, ret, [], 0)).2.2.1 ≤ 21 ∧ nmC (mTb.getD y (x, code, maxLocals, ret, [], 0)).2.2.2.2.2 = (mNm y).cls ∧ plainName (mNm y).cls = true := by decide +kernel
abbrev Mt : Type := MethodName × ByteArray × Nat × Option FieldType × List (Nat × Nat × Nat × Nat) × Nat
/-- the topmost n values of a stack, the deepest first, and the rest -/
def popA (n : Nat) (st : List Value) : Option (List Value × List Value) := if n ≤ st.length then some ((st.take n).reverse, st.drop n) else none
/-- a call: the method that is run, its arguments, what stays on the stack -/
def cal (c : Nat) (i : Instr) (len : Nat) (st : List Value) (M : Mem) : Option (Nat × List Value × List Value) :=
  match i with
  | .invokestatic idx => match mRes c idx with
    | some (md, _, [(_, y)]) => match popA (mAr y) st with
      | some (as, r) => if len = 3 ∧ (md = 0 ∨ md = 1) ∧ y < 231 ∧ smallR r = true then some (y, as, r) else none
      | none => none
    | _ => none
  | .invokespecial idx => match mRes c idx with
    | some (md, _, [(_, y)]) => match popA (mAr y) st with
      | some (as, .ref a :: r) => if len = 3 ∧ md = 2 ∧ y < 231 ∧ smallR r = true then some (y, .ref a :: as, r) else none
      | _ => none
    | _ => none
  | .invokevirtual idx => match mRes c idx with
    | some (md, _, (k0, y0) :: ts) => match popA (mAr y0) st with
      | some (as, .ref a :: r) => match mK M a with
        | some (.inl k) => match ((k0, y0) :: ts).find? (fun t => t.1 == k) with
          | some (_, y) => if len = 3 ∧ (md = 3 ∨ md = 4) ∧ y < 231 ∧ smallR r = true then some (y, .ref a :: as, r) else none
          | none => none
        | _ => none
      | _ => none
    | _ => none
  | _ => none
/-- the locals at a method's entry -/
def lcl : List Value → Lc
  | [] => []
  | v :: vs => if v.category = 2 then some v :: none :: lcl vs else some v :: lcl vs
def entL (n : Nat) (as : List Value) : Option Lc := if (lcl as).length ≤ n then some (lcl as ++ List.replicate (n - (lcl as).length) none) else none
/-- a return: what is returned -/
def rt1 (q : Mt) (i : Instr) (len : Nat) (st : List Value) : Option (Option Value) :=
  match i, st with
  | .ireturn, [.int v] => if len = 1 ∧ (q.2.2.2.1 = some .int ∨ (q.2.2.2.1 = some .boolean ∧ (v = 0 ∨ v = 1))) then some (some (.int v)) else none
  | .return_, [] => if len = 1 ∧ q.2.2.2.1 = none then some none else none
  | .areturn, [.ref a] => if len = 1 ∧ (q.2.2.2.1 = some (.object "PackedTree$Leaf") ∨ q.2.2.2.1 = some (.object "PackedTree$Inner") ∨ q.2.2.2.1 = some (.object "PackedTree$Node")) then some (some (.ref a)) else none
  | .areturn, [.null] => if len = 1 ∧ (q.2.2.2.1 = some (.object "PackedTree$Leaf") ∨ q.2.2.2.1 = some (.object "PackedTree$Inner") ∨ q.2.2.2.1 = some (.object "PackedTree$Node")) then some (some .null) else none
  | _, _ => none
def dec1 (b : ByteArray) (pc : Nat) : Option (Instr × Nat) := match decode b pc with
  | .ok r => some r
  | .error _ => none
/-- constructors of exceptions: class, place in its pool, the exception -/
def eLk : List (Nat × Nat × Nat) := [(2, 21, 14), (1, 117, 11), (1, 104, 12), (1, 107, 13), (1, 110, 14)]
/-- 'throw new X()' in a method without handlers, as one step -/
def tnw (q : Mt) (i : Instr) (len pc : Nat) (st : List Value) (M : Mem) : Option Mem :=
  match i with
  | .new idx => match cRes q.2.2.2.2.2 idx, dec1 q.2.1 (pc + 4) with
    | some k, some (.invokespecial ic, 3) => if len = 3 ∧ k ∈ cEx ∧ q.2.2.2.2.1 = [] ∧ st = [] ∧ dec1 q.2.1 (pc + 3) = some (.dup, 1) ∧ dec1 q.2.1 (pc + 7) = some (.athrow, 1) ∧ (q.2.2.2.2.2, ic, k) ∈ eLk then some (nw M (.inl k) 6) else none
    | _, _ => none
  | _ => none
/-- the search for a handler: none: not covered here; some none: no handler -/
def hGo (c pc k : Nat) : Bool → List (Nat × Nat × Nat × Nat) → Option (Option Nat)
  | seen, [] => if seen then none else some none
  | seen, (s, e, h, ct) :: r => if s ≤ pc ∧ pc < e then (match cRes c ct with
      | some k' => if k' ∈ cEx ∧ ¬ ct = 0 then (if k' = k then some (some h) else hGo c pc k true r) else none
      | none => none) else hGo c pc k seen r
def hnd (q : Mt) (pc a : Nat) (M : Mem) : Option (Option Nat) := match mK M a with
  | some (.inl k) => if k ∈ cEx then hGo q.2.2.2.2.2 pc k false q.2.2.2.2.1 else none
  | _ => none
/-- THE INTERPRETER: n steps at the most, d calls deep at the most -/
def rn : Nat → Nat → Nat → Nat → Lc → List Value → Mem → Option (Outcome × Mem)
  | 0, _, _, _, _, _, _ => none
  | n + 1, d, y, pc, ls, st, M => match mTb[y]? with
    | none => none
    | some q => match dec1 q.2.1 pc with
      | none => none
      | some (i, len) => match stA i len pc ls st with
        | some (pc', ls', st') => rn n d y pc' ls' st' M
        | none => match stM q.2.2.2.2.2 (q.1.name == "<init>") i len pc st M with
          | some (pc', st', M') => rn n d y pc' ls st' M'
          | none => match cal q.2.2.2.2.2 i len st M with
            | some (y', as, r) => match d, mTb[y']? with
              | d' + 1, some q' => match entL q'.2.2.1 as with
                | some ls' => match rn n d' y' 0 ls' [] M with
                  | some (.returned v, M') => rn n (d' + 1) y (pc + 3) ls (v.toList ++ r) M'
                  | some (.threw a, M') => match hnd q pc a M' with
                    | some (some h) => rn n (d' + 1) y h ls [.ref a] M'
                    | some none => some (.threw a, M')
                    | none => none
                  | none => none
                | none => none
              | _, _ => none
            | none => match rt1 q i len st with
              | some v => some (.returned v, M)
              | none => match tnw q i len pc st M with
                | some M' => some (.threw (mN M), M')
                | none => match i, st with
                  | .athrow, .ref a :: _ => if len = 1 then (match hnd q pc a M with
                    | some (some h) => rn n d y h ls [.ref a] M
                    | some none => some (.threw a, M)
                    | none => none) else none
                  | _, _ => none
