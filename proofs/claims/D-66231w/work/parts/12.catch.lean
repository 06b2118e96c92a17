/-! ===== exceptions that are caught: the search for a handler, catch types linked or not yet ===== -/
theorem castX_in : ∀ k ∈ cEx, Cond.castable (nmC k) (nmC k) ∈ lw_tbl := by
  intro k hk
  simp only [cEx, List.mem_cons, List.not_mem_nil, or_false] at hk
  rcases hk with rfl | rfl | rfl | rfl
  · exact List.mem_of_getElem? (i := 679) (by decide +kernel)
  · exact List.mem_of_getElem? (i := 721) (by decide +kernel)
  · exact List.mem_of_getElem? (i := 742) (by decide +kernel)
  · exact List.mem_of_getElem? (i := 234) (by decide +kernel)
theorem ncX_in : ∀ k ∈ cEx, ∀ k' ∈ cEx, k' ≠ k → (k, k') ∈ ncL := by decide
theorem cEx_ob : ∀ k ∈ cEx, k ∈ cOb := by decide
def tup (h : ExceptionTableEntry) : Nat × Nat × Nat × Nat := (h.startPc, h.endPc, h.handlerPc, h.catchType)
theorem hk_link {e : Env} {d : Bool} {acts : List Action} {U : State} {f : JFrame} {a : Addr} {Q : Handler → Pre} {E : CtlPost} {x : ExceptionTableEntry} {t : List ExceptionTableEntry} {ct : ClassId} {cell : Cell} (hx : covers x f.pc = true) (h0 : x.catchType ≠ 0)
    (hl : U.vm.ClassLinks e.platform f.method.cls x.catchType ct) (hcell : U.heap[a]? = some cell) (hobj : ∀ k, cell.vm ≠ .statics k) (hk : ∃ k, U.vm.classes[cell.cls]? = some k) (hc : ∃ k, U.vm.classes[ct]? = some k) :
    wp (findHandler.go f a (x :: t)) Q E e d acts U ↔ (if U.vm.assignable cell.cls ct = true then Q (.found x.handlerPc) d acts (U.setVm (U.vm.noted f.method.cls x.catchType (.cls ct))) else wp (findHandler.go f a t) Q E e d acts (U.setVm (U.vm.noted f.method.cls x.catchType (.cls ct)))) := by
  simp only [covers] at hx
  obtain ⟨ha, ht⟩ := (resolveClass_links e.toSetting hl).op (op := VmOp.resolveClass f.method.cls x.catchType) rfl
  have hal : U.vm.Alike (U.vm.noted f.method.cls x.catchType (.cls ct)) := (Vm.Alike.refl U.vm).noted _ _ _
  obtain ⟨k1, hk1⟩ := hk
  obtain ⟨k2, hk2⟩ := hc
  obtain ⟨k1', hk1', -⟩ := hal.2.2 _ _ hk1
  obtain ⟨k2', hk2', -⟩ := hal.2.2 _ _ hk2
  have hfit' : (U.vm.noted f.method.cls x.catchType (.cls ct)).assignable cell.cls ct = U.vm.assignable cell.cls ct := hal.assignable _ _
  cases hfit : U.vm.assignable cell.cls ct <;> rw [hfit] at hfit' <;>
    simp [findHandler.go, hx, h0, ha, ht, hcell, hobj, hk1', hk2', hfit', VmOp.dirties, VmOp.acts]
section CT
variable {p : Program} {l : Launch} {e : Env} {R : Room} {s : State} {m : MethodId} {args : Array Value} {below : List Frame} {meth : Method} {c : Code} {T : State} {locs : List Loc} {cells slots : Nat}
theorem seek (hpl : e.platform.magicAccessors = ({} : Platform).magicAccessors) {D : Dn} (hC : Cx D s) {c1 : Nat} (hown : s.vm.findClass (nmC c1) = some m.cls) {U : State} {f : JFrame} (hf : f.method = m) {a k : Nat} (hk : k ∈ cEx) {cell : Cell} (hcell : U.heap[a]? = some cell) (hcls : cell.cls = D.1 k) (hvm : cell.vm = .none) {h : Nat} :
    ∀ (es : List ExceptionTableEntry) (seen : Bool), hGo c1 f.pc k seen (es.map tup) = some (some h) → ∀ vm₀, s.WarmedH vm₀ → ∃ vm', s.WarmedH vm' ∧ ∀ (Q : Handler → Pre) (E : CtlPost) (d : Bool) (acts : List Action), wp (findHandler.go f a es) Q E e d acts (U.setVm vm₀) ↔ Q (.found h) d acts (U.setVm vm') := by
  intro es
  induction es with
  | nil =>
    intro seen hg
    simp only [List.map_nil, hGo] at hg
    split at hg <;> cases hg
  | cons x t ih =>
    intro seen hg vm₀ hW
    simp only [List.map_cons, tup, hGo] at hg
    split at hg
    · rename_i hcov
      have hx : covers x f.pc = true := by simp [covers, hcov]
      split at hg
      · rename_i k' hk'
        split at hg
        · rename_i hq
          obtain ⟨hq1, hq2⟩ := hq
          have hlink := cRes_link hC hk' #[]
          obtain ⟨ct, hct, hcl⟩ := Cond.classLink_spec hown hlink e.platform hpl
          obtain ⟨hfc, kC, hkC, -⟩ := hC.2.2.1 k (cEx_ob k hk)
          obtain ⟨hfc', kC', hkC', -⟩ := hC.2.2.1 k' (cEx_ob k' hq1)
          cases hct.symm.trans hfc'
          obtain ⟨dk, _, _, kt, hd, _, _, _, _, hkt, _, hopen⟩ := hcl.here
          have hW' : s.WarmedH (vm₀.noted m.cls x.catchType (.cls (D.1 k'))) := hW.noted hd hopen (State.rightAt_cls hcl)
          have hcl₀ := hW.classLinks hcl
          obtain ⟨k1, hk1, -⟩ := hW.alike.2.2 _ _ hkC
          obtain ⟨k2, hk2, -⟩ := hW.alike.2.2 _ _ hkC'
          have hl9 : (U.setVm vm₀).vm.ClassLinks e.platform f.method.cls x.catchType (D.1 k') := by rw [hf]; exact hcl₀
          have step := fun (Q : Handler → Pre) (E : CtlPost) (d : Bool) (acts : List Action) => hk_link (e := e) (d := d) (acts := acts) (U := U.setVm vm₀) (f := f) (a := a) (Q := Q) (E := E) (x := x) (t := t) hx hq2 hl9 hcell (fun z h9 => by rw [hvm] at h9; cases h9) (by rw [hcls]; exact ⟨k1, hk1⟩) ⟨k2, hk2⟩
          have hasg : (U.setVm vm₀).vm.assignable cell.cls (D.1 k') = s.vm.assignable (D.1 k) (D.1 k') := by rw [hcls]; exact hW.alike.assignable _ _
          split at hg
          · rename_i hkk
            subst hkk
            cases hg
            obtain ⟨c0, t0, f1, f2, f3⟩ := Cond.castable_spec (hC.1 _ (castX_in k' hk) #[])
            cases f1.symm.trans hfc
            cases f2.symm.trans hfc
            refine ⟨_, hW', fun Q E d acts => ?_⟩
            rw [step Q E d acts, hasg, if_pos f3, hf]
            rfl
          · rename_i hkk
            obtain ⟨c0, t0, f1, f2, f3⟩ := hC.2.1 (k, k') (ncX_in k hk k' hq1 hkk)
            cases f1.symm.trans hfc
            cases f2.symm.trans hfc'
            obtain ⟨vm', hW'', hs⟩ := ih true hg _ hW'
            refine ⟨vm', hW'', fun Q E d acts => ?_⟩
            rw [step Q E d acts, hasg, if_neg (by rw [f3]; decide), hf]
            exact hs Q E d acts
        · cases hg
      · cases hg
    · rename_i hcov
      have hx : covers x f.pc = false := by
        simp only [covers]
        rw [← Bool.not_eq_true]
        intro h9
        exact hcov (by simpa using h9)
      obtain ⟨vm', hW'', hs⟩ := ih seen hg vm₀ hW
      refine ⟨vm', hW'', fun Q E d acts => ?_⟩
      rw [W.findHandler_go_skip hx]
      exact hs Q E d acts
theorem hGo_out {c1 pc k : Nat} : ∀ (es : List ExceptionTableEntry), hGo c1 pc k false (es.map tup) = some none → ∀ x ∈ es, covers x pc = false := by
  have hT : ∀ (es : List ExceptionTableEntry), hGo c1 pc k true (es.map tup) ≠ some none := by
    intro es
    induction es with
    | nil => intro h; simp [hGo] at h
    | cons x t ih =>
      intro hg
      simp only [List.map_cons, tup, hGo] at hg
      split at hg
      · split at hg
        · split at hg
          · split at hg
            · cases hg
            · exact ih hg
          · cases hg
        · cases hg
      · exact ih hg
  intro es
  induction es with
  | nil => intro _ x hx; cases hx
  | cons y t ih =>
    intro hg x hx
    simp only [List.map_cons, tup, hGo] at hg
    split at hg
    · split at hg
      · split at hg
        · split at hg
          · cases hg
          · exact absurd hg (hT t)
        · cases hg
      · cases hg
    · rename_i hcov
      rcases List.mem_cons.mp hx with rfl | hx
      · simp only [covers]
        rw [← Bool.not_eq_true]
        intro h9
        exact hcov (by simpa using h9)
      · exact ih hg x hx
/-- from the note 'a is thrown' over the frame g to the handler -/
theorem caughtAt (X : Stand p l e R s m args below meth c T locs cells slots) {D : Dn} (hC : Cx D s) {c1 : Nat} (hown : s.vm.findClass (nmC c1) = some m.cls) {g : JFrame} (hg : g.method = m) {a k h : Nat} (hk : k ∈ cEx) {cell : Cell} (hcell : T.heap[a]? = some cell) (hcls : cell.cls = D.1 k) (hvm : cell.vm = .none)
    (hh : hGo c1 g.pc k false (c.exceptionTable.toList.map tup) = some (some h)) :
    ∃ vm', Stand p l e R s m args below meth c (T.setVm vm') locs cells slots ∧ ∀ target, Steps p.tables e below ((T.setVm vm').setTop { g with pc := h, stack := [.ref a] }) target → Steps p.tables e below ((T.setTop g).pushFrame (.throwing a)) target := by
  have hpl : e.platform.magicAccessors = ({} : Platform).magicAccessors := by rw [X.admits.platform]
  have hvmU : ((T.setTop g).pushFrame (.throwing a)).vm = T.vm := Stand.throwing_vm T g a
  obtain ⟨vm', hW', hs⟩ := seek (e := e) hpl hC hown (U := (T.setTop g).pushFrame (.throwing a)) (f := g) hg hk (by rw [Stand.throwing_heap]; exact hcell) hcls hvm c.exceptionTable.toList false hh T.vm X.warmed
  have hself : ((T.setTop g).pushFrame (.throwing a)).setVm T.vm = (T.setTop g).pushFrame (.throwing a) := by
    rw [← hvmU]; rfl
  rw [hself] at hs
  refine ⟨vm', X.noted hW', fun target hrest => ?_⟩
  have hA : At T g.method c below := by rw [hg]; exact X.here
  obtain ⟨hgo, hw⟩ := hA.throwing a
  refine Steps.head hgo hw ?_
  have hfind : ∀ (Q : Handler → Pre) (E : CtlPost) (d : Bool) (acts : List Action), wp (findHandler g a) Q E e d acts ((T.setTop g).pushFrame (.throwing a)) ↔ Q (.found h) d acts (((T.setTop g).pushFrame (.throwing a)).setVm vm') := by
    intro Q E d acts
    rw [W.findHandler_eq (meth := meth) (code := c) (by rw [hvmU, hg]; exact X.method') X.code]
    exact hs Q E d acts
  have hstep : (stepThrowing e ((T.setTop g).pushFrame (.throwing a)) a (.java g :: T.frames.tail)).1 = (((T.setTop g).pushFrame (.throwing a)).setVm vm').setFrames (.java { g with pc := h, stack := [.ref a] } :: T.frames.tail) := by
    simp only [stepThrowing, searchFrame, vmDo]
    generalize hr : Sem.go _ e false [] ((T.setTop g).pushFrame (.throwing a)) = res
    obtain ⟨as, rfl, ha⟩ := Sem.eq_ok_of hr (a := Handler.found h) (s' := ((T.setTop g).pushFrame (.throwing a)).setVm vm') (acts' := []) (by simp [hfind _ _ _ _])
    rfl
  rw [stepThread_throwing (frames_entered hA.top _), hstep]
  obtain ⟨g₀, hg0⟩ := Option.isSome_iff_exists.mp hA.top
  obtain ⟨r, hr⟩ := State.topJava?_eq_some.mp hg0
  have hr' : (T.setVm vm').frames = .java g₀ :: r := hr
  rw [State.setTop_of_frames _ hr'] at hrest
  have e1 : ∀ (F G : List Frame), ((T.setFrames F).setVm vm').setFrames G = (T.setVm vm').setFrames G := by
    intro F G
    have h1 : (T.setFrames F).setVm vm' = (T.setVm vm').setFrames F := rfl
    rw [h1, State.setFrames_setFrames]
  rw [State.pushFrame, State.setTop_of_frames _ hr, State.setFrames_setFrames, e1, hr]
  exact hrest
end CT
