/-! ===== the tables' words in a later state ===== -/
def tNm : String := "java/lang/Throwable"
def usD : String := "[Ljava/lang/StackTraceElement;"
def ssD : String := "Ljava/util/List;"
/-- Throwable's two statics hold references, in old cells -/
def Zs (bs : Nat) (H0 : Heap) (U : State) : Prop := va_Zq tNm "UNASSIGNED_STACK" usD (fun q => bs ≤ q) U H0 ∧ va_Zq tNm "SUPPRESSED_SENTINEL" ssD (fun q => bs ≤ q) U H0
theorem Zs.moved {bs : Nat} {H0 : Heap} {u U : State} (hvm : u.vm.Alike U.vm) (h : Zs bs H0 u) : Zs bs H0 U := ⟨h.1.moved hvm, h.2.moved hvm⟩
def wK : Cond → Nat
  | .arrayClass _ => 1
  | .fieldLinkNest .. => 2
  | .methodLinkNest .. => 3
  | .declares _ => 4
  | .castable .. => 5
  | .arrayOver (.object _) => 6
  | .arrayOver (.array .byte) => 7
  | .privateMethod _ => 8
  | .laysStatic o n d => if o = tNm ∧ ((n = "UNASSIGNED_STACK" ∧ d = usD) ∨ (n = "SUPPRESSED_SENTINEL" ∧ d = ssD)) then 9 else 10
  | w => if w.onTables && w.keeps then 0 else 10
set_option maxRecDepth 100000 in
theorem lw_wK : lw_tbl.all (fun w => decide (wK w < 10)) = true := by decide +kernel
theorem aoA_moved {u U : State} {A : Array Value} (hvm : u.vm.Alike U.vm) (h : (Cond.arrayOver (.array .byte)).before A u = true) : (Cond.arrayOver (.array .byte)).before A U = true := by
  obtain ⟨comp, c, k, h1, h2, h3, h4, h5⟩ := arrayOverA_spec h
  obtain ⟨k', hk', he⟩ := hvm.2.2 _ _ h3
  have hi : (U.vm.classes.findIdx? fun (x : Class) => match x.kind with | .array component _ => component == comp | _ => false) = some c := by
    have a1 := va_idx_bare U.vm comp
    have a2 := va_idx_bare u.vm comp
    have a3 : U.vm.bare = u.vm.bare := by first | exact hvm.bare_eq | exact hvm.bare_eq.symm
    rw [a3] at a1
    exact a1.symm.trans (a2.trans h2)
  have hkind : k'.kind = .array comp (.array .byte) := by rw [he]; exact h4
  have f1 : U.vm.findClass (FieldType.array .byte).toString = some comp := by rw [hvm.findClass]; exact h1
  have f2 : U.vm.findClass ("[" ++ (FieldType.array .byte).toString) = some c := by rw [hvm.findClass]; exact h5
  unfold Cond.before Cond.holds
  simp only [Cond.value]
  rw [f1, Option.bind_some]
  refine (congrArg (fun o : Option Nat => (o.bind (fun c => (U.vm.classes[c]?).map fun (k : Class) => match k.kind with | .array _ ty => decide (ty = FieldType.array .byte) && decide (U.vm.findClass ("[" ++ (FieldType.array .byte).toString) = some c) | _ => false) == some true)) hi).trans ?_
  simp [hk', hkind, f2]
theorem ls_moved {s U : State} {A : Array Value} {o n d : String} (hvm : s.vm.Alike U.vm) (h : (Cond.laysStatic o n d).before A s = true) (hh : ∀ (cf : ClassId) (kf : Class) (fi : Nat) (f : Field) (a : Nat), s.fieldFound? o n d = some (cf, kf, fi, f) → kf.statics = some a → U.heap[a]? = s.heap[a]?) : (Cond.laysStatic o n d).before A U = true := by
  obtain ⟨c, k, i, f, a, cell, h1, h2, h3, h4, h5, h6, h7, h8, h9⟩ := Cond.laysStatic_spec h
  obtain ⟨k', hi', he⟩ := State.fieldFound?_setVm hvm h2
  have g1 : U.vm.findClass o = some c := by rw [hvm.findClass]; exact h1
  have g2 : U.fieldFound? o n d = some (c, k', i, f) := hi'
  have g3 : k'.statics = some a := by rw [he]; exact h4
  have g4 : k'.staticTypes = k.staticTypes := by rw [he]
  have g5 : U.heap[a]? = some cell := by rw [hh c k i f a h2 h4]; exact h5
  unfold Cond.before Cond.holds
  simp only [Cond.value]
  rw [g1, g2]
  simp only [g3, Option.bind_some, g5, Option.map_some]
  simp [h3, h6, h7, h8, g4, h9]
theorem zs_old {bs : Nat} {H0 : Heap} {s : State} (hZ : Zs bs H0 s) {n d : String} (hn : (n = "UNASSIGNED_STACK" ∧ d = usD) ∨ (n = "SUPPRESSED_SENTINEL" ∧ d = ssD)) {cf : ClassId} {kf : Class} {fi : Nat} {f : Field} {a : Nat} (hf : s.fieldFound? tNm n d = some (cf, kf, fi, f)) (ha : kf.statics = some a) : a < bs := by
  have key : ∀ v, va_Z tNm n d v (fun q => bs ≤ q) s H0 → a < bs := by
    rintro v ⟨cf', kf', fi', f', a', cell, g1, g2, g3, g4, g5, g6, g7, g8⟩
    cases hf.symm.trans g1
    cases ha.symm.trans g4
    omega
  rcases hn with ⟨rfl, rfl⟩ | ⟨rfl, rfl⟩
  · rcases hZ.1 with h | ⟨t, h⟩
    · exact key _ h
    · exact key _ h
  · rcases hZ.2 with h | ⟨t, h⟩
    · exact key _ h
    · exact key _ h
theorem Cx.moved {D : Dn} {bs : Nat} {H0 : Heap} {s U : State} (hC : Cx D s) (hZ : Zs bs H0 s) (hW : s.WarmedH U.vm) (hold : ∀ q : Nat, q < bs → U.heap[q]? = s.heap[q]?) : Cx D U := by
  have hal := hW.alike
  refine ⟨fun w hw A => ?_, fun q hq => (hC.2.1 q hq).moved hal, fun k hk => classAt_moved hal (hC.2.2.1 k hk), fun f hf => slotIs_moved hal (hC.2.2.2.1 f hf), fun t ht => ⟨arrOfT_moved hal (hC.2.2.2.2.1 t ht).1, (hC.2.2.2.2.1 t ht).2.moved hal⟩, hC.2.2.2.2.2⟩
  have h9 := hC.1 w hw A
  have hk := of_decide_eq_true (List.all_eq_true.mp lw_wK w hw)
  unfold wK at hk
  split at hk
  · exact word_at hW (Or.inr ⟨_, rfl⟩) h9
  · exact va_Nw.use rfl (va_Nw.warmF hW (va_Nw.of rfl h9))
  · exact va_Nw.use rfl (va_Nw.warmM hW (va_Nw.of rfl h9))
  · exact va_Nw.use rfl (va_Nw.warmD hW (va_Nw.of rfl h9))
  · exact va_Nw.use rfl (va_Nw.warmC hW (va_Nw.of rfl h9))
  · exact va_AO.use (va_AO.moved hal (va_AO.of h9))
  · exact aoA_moved hal h9
  · rename_i xm
    have h8 : (Cond.privateMethod xm).before A (s.setVm U.vm) = true := by rw [Cond.privateMethod_setVm hal]; exact h9
    exact va_tabs rfl (rfl : (s.setVm U.vm).vm = U.vm) h8
  · split at hk
    · rename_i o n d hq
      obtain ⟨rfl, hq⟩ := hq
      exact ls_moved hal h9 (fun cf kf fi f a hf ha => hold a (zs_old hZ hq hf ha))
    · omega
  · split at hk
    · rename_i hq
      exact word_at hW (Or.inl hq) h9
    · omega
