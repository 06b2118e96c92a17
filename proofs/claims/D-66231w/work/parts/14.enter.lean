/-! ===== entering a call ===== -/
theorem mNm_eq {y : Nat} {q : Mt} (h : mTb[y]? = some q) : mNm y = q.1 := by simp [mNm, h]
theorem mTb_D {y : Nat} {q : Mt} (h : mTb[y]? = some q) : mTb.getD y (x, code, maxLocals, ret, [], 0) = q := by simp [h]
set_option maxRecDepth 100000 in
theorem mNm_mh : ∀ y, y < 231 → (mNm y).cls ≠ "java/lang/invoke/MethodHandle" ∧ (mNm y).cls ≠ "java/lang/invoke/VarHandle" := by decide +kernel
theorem mAr_sig {y : Nat} (hy : y < 234) {sig : MethodDescriptor} (h : parseMethodDescriptor (mNm y).desc = some sig) : mAr y = sig.parameters.length := by
  have h1 := mAr_ok y hy
  rw [h] at h1
  exact (Option.some.inj h1).symm
theorem popA_spec {n : Nat} {st as r : List Value} (h : popA n st = some (as, r)) : st = as.reverse ++ r ∧ as.length = n := by
  unfold popA at h
  split at h
  · rename_i hn
    cases h
    refine ⟨by rw [List.reverse_reverse, List.take_append_drop], by rw [List.length_reverse, List.length_take]; omega⟩
  · cases h
/-- a method's code, as the tables have it -/
theorem cd_spec {D : Dn} {U : State} (hC : Cx D U) {y : Nat} {q : Mt} (hy : y < 233) (hq : mTb[y]? = some q) : ∃ (mk : MethodId) (methk : Method) (ck : Code), U.methodNamed? q.1 = some mk ∧ U.vm.method? mk = some methk ∧ methk.code = some ck ∧ ck.code = q.2.1 ∧ ck.maxLocals = q.2.2.1 ∧ methk.sig.returnType = q.2.2.2.1 ∧ methk.locks = false ∧ ck.exceptionTable.toList.map tup = q.2.2.2.2.1 ∧ parseMethodDescriptor q.1.desc = some methk.sig := by
  have h := hC.1 _ (mTb_ok y q hy hq _ List.mem_cons_self) #[]
  split at h
  · rename_i hh
    obtain ⟨mk, hn⟩ := Cond.code_named h
    obtain ⟨meth, c, h1, h2, h3, h4, h5, h6, h7, h8⟩ := Cond.code_spec hn h
    refine ⟨mk, meth, c, hn, h1, h2, h3, h4, h5, h6, ?_, h8⟩
    rw [hh]
    have h9 : c.exceptionTable.toList = [] := by
      have : c.exceptionTable = #[] := by simpa using h7
      rw [this]
    rw [h9]; rfl
  · obtain ⟨mk, meth, c, hn, h1, h2, h3, h4, h5, h6, h7, h8⟩ := Cond.codeWith_spec h
    exact ⟨mk, meth, c, hn, h1, h2, h3, h4, h6, h7, h5, h8⟩
def dIx (n : String) : Nat := if n = "first" then 409 else if n = "height" then 474 else if n = "lay" then 570 else if n = "many" then 971 else if n = "used" then 980 else if n = "alone" then 378 else 465
def dOk (q : Nat × Nat × Nat × Nat × List (Nat × Nat)) : Bool := match q.2.2.1, q.2.2.2.2 with
  | 4, (_, y0) :: _ => decide (y0 < 231) && (decide (mNm y0 = mNm 152) || decide (lw_tbl[dIx (mNm y0).name]? = some (Cond.declares ⟨nmC 7, (mNm y0).name, (mNm y0).desc⟩)))
  | 3, (_, y0) :: _ => decide (y0 < 231)
  | 2, [(_, y0)] => decide (y0 < 231 → (mTb.getD y0 (x, code, maxLocals, ret, [], 0)).2.2.2.2.1 = [] ∧ (mTb.getD y0 (x, code, maxLocals, ret, [], 0)).2.2.2.1 = none ∧ (mNm y0).name = "<init>")
  | _, _ => true
set_option maxRecDepth 100000 in
theorem dOk_all : mLk.all dOk = true := by decide +kernel
theorem goes_dec {D : Dn} {U : State} (hC : Cx D U) : va_Decl U (mNm 152) := by
  have h1 : (Cond.instanceMethod (mNm 152)).before #[] U = true := hC.1 _ (List.mem_of_getElem? (i := 540) (by decide +kernel)) #[]
  obtain ⟨r0, r, hn, hrm, hst, -⟩ := Cond.instanceMethod_spec h1
  obtain ⟨mk, methk, ck, k1, k2, -, -, -, -, -, -, k9⟩ := cd_spec hC (y := 152) (by decide) rfl
  cases hn.symm.trans k1
  cases hrm.symm.trans k2
  exact ⟨r0, r, hn, hrm, hst, k9⟩
section EN
variable {p : Program} {l : Launch} {e : Env} {R : Room} {s : State} {m : MethodId} {args : Array Value} {below : List Frame} {meth : Method} {c : Code} {T : State} {locs : List Loc} {cells slots : Nat}
/-- the call's instruction comes to the invocation of the method -/
def Ent (p : Program) (l : Launch) (e : Env) (R : Room) (s : State) (m : MethodId) (args : Array Value) (below : List Frame) (meth : Method) (c : Code) (T : State) (locs : List Loc) (cells slots : Nat) (g : JFrame) (y : MethodName) (as rest : List Value) : Prop :=
  ∃ (vm₁ : Vm) (mk : MethodId), Stand p l e R s m args below meth c (T.setVm vm₁) locs cells slots ∧ s.methodNamed? y = some mk ∧ ∀ target, (∀ acts, Steps p.tables e below (doInvoke e ((T.setVm vm₁).setTop { g with stack := rest }) acts mk as.toArray).1 target) → Steps p.tables e below (T.setTop g) target
set_option maxHeartbeats 4000000 in
theorem ent_static (X : Stand p l e R s m args below meth c T locs cells slots) {cc : ByteArray} (hx : p.tables.exec = Jvm.exec) (hb : c.code = cc) {D : Dn} (hC : Cx D s) {c1 : Nat} (hown : s.vm.findClass (nmC c1) = some m.cls) {idx md r0 k0 y : Nat} (hl : mRes c1 idx = some (md, r0, [(k0, y)])) (hmd : md = 0 ∨ md = 1) (hy : y < 231) {q : Mt} (hq : mTb[y]? = some q)
    {g : JFrame} (hg : g.method = m) {as rest : List Value} (hlen : as.length = mAr y) (hst : g.stack = as.reverse ++ rest) (hdg : decode cc g.pc = .ok (.invokestatic idx, 3)) : Ent p l e R s m args below meth c T locs cells slots g (mNm y) as rest := by
  subst hb
  have hw := mLk_ok _ (mRes_mem hl)
  obtain ⟨mk, methk, ck, k1, k2, -, -, -, -, -, -, k9⟩ := cd_spec hC (by omega : y < 233) hq
  rw [← mNm_eq hq] at k1 k9
  obtain ⟨kP, hkP, -⟩ := className_of_methodNamed k1
  have harg : as.length = methk.sig.parameters.length := hlen.trans (mAr_sig (by omega) k9)
  rcases hmd with rfl | rfl
  · have w1 := hC.1 _ (hw _ List.mem_cons_self) args
    have w2 := hC.1 _ (hw _ (List.mem_cons_of_mem _ List.mem_cons_self)) args
    have w3 := hC.1 _ (hw _ (List.mem_cons_of_mem _ (List.mem_cons_of_mem _ List.mem_cons_self))) args
    obtain ⟨vm₁, X₁, st⟩ := X.invokestatic hx hown w1 k1 k2 (Cond.static_spec k1 k2 w2) hkP (Cond.initialized_spec (findClass_of_methodNamed k1) hkP w3) (mNm_mh y hy) hg harg hst hdg
    exact ⟨vm₁, mk, X₁, k1, st⟩
  · have w1 := hC.1 _ (hw _ List.mem_cons_self) args
    have w2 := hC.1 _ (hw _ (List.mem_cons_of_mem _ List.mem_cons_self)) args
    have w3 := hC.1 _ (hw _ (List.mem_cons_of_mem _ (List.mem_cons_of_mem _ List.mem_cons_self))) args
    obtain ⟨vm₁, X₁, st⟩ := X.invokestaticNest hx hown w1 k1 k2 (Cond.static_spec k1 k2 w2) hkP (Cond.initialized_spec (findClass_of_methodNamed k1) hkP w3) (mNm_mh y hy) hg harg hst hdg
    exact ⟨vm₁, mk, X₁, k1, st⟩
set_option maxHeartbeats 4000000 in
theorem ent_special (X : Stand p l e R s m args below meth c T locs cells slots) {cc : ByteArray} (hx : p.tables.exec = Jvm.exec) (hb : c.code = cc) {D : Dn} (hC : Cx D s) {c1 : Nat} (hown : s.vm.findClass (nmC c1) = some m.cls) {idx r0 k0 y : Nat} (hl : mRes c1 idx = some (2, r0, [(k0, y)])) (hy : y < 231) {q : Mt} (hq : mTb[y]? = some q)
    {g : JFrame} (hg : g.method = m) {a : Nat} {as rest : List Value} (hlen : as.length = mAr y) (hst : g.stack = as.reverse ++ .ref a :: rest) (hdg : decode cc g.pc = .ok (.invokespecial idx, 3)) : Ent p l e R s m args below meth c T locs cells slots g (mNm y) (.ref a :: as) rest := by
  subst hb
  subst hg
  have hm := mRes_mem hl
  have hw := mLk_ok _ hm
  have hd := List.all_eq_true.mp dOk_all _ hm
  have hd := of_decide_eq_true (show decide _ = true from hd) hy
  rw [mTb_D hq] at hd
  obtain ⟨d1, d2, d3⟩ := hd
  have w1 := hC.1 _ (hw _ List.mem_cons_self) args
  have w2 := hC.1 _ (hw _ (List.mem_cons_of_mem _ List.mem_cons_self)) args
  have w4 := hC.1 _ (mTb_ok y q (by omega) hq _ List.mem_cons_self) args
  rw [if_pos d1, d2, ← mNm_eq hq] at w4
  have hpl : e.platform.magicAccessors = ({} : Platform).magicAccessors := by rw [X.admits.platform]
  obtain ⟨mk, methM, cM, kP, vm₁, hnamed, -, -, -, -, -, -, -, hW₁, st⟩ := Steps.initColdArgs (e := e) X.here hx X.warmed hpl hown d3 (mNm_mh y hy) w1 w2 w4 (f := g) rfl (fun sig h => hlen.trans (mAr_sig (by omega) h)) hst hdg
  exact ⟨vm₁, mk, X.noted hW₁, hnamed, st⟩
set_option maxHeartbeats 4000000 in
theorem ent_virtual (X : Stand p l e R s m args below meth c T locs cells slots) {cc : ByteArray} (hx : p.tables.exec = Jvm.exec) (hb : c.code = cc) {D : Dn} (hC : Cx D s) {c1 : Nat} (hown : s.vm.findClass (nmC c1) = some m.cls) {bs : Nat} {H0 : Heap} {M : Mem} (hR : Rep D s bs H0 M T.heap) {idx md r0 k0 y0 y k k' : Nat} {ts : List (Nat × Nat)} (hl : mRes c1 idx = some (md, r0, (k0, y0) :: ts)) (hmd : md = 3 ∨ md = 4) (hf : ((k0, y0) :: ts).find? (fun t => t.1 == k) = some (k', y)) (hy : y < 231)
    {g : JFrame} (hg : g.method = m) {a : Nat} (hk : mK M a = some (.inl k)) {as rest : List Value} (hlen : as.length = mAr y0) (hst : g.stack = as.reverse ++ .ref a :: rest) (hdg : decode cc g.pc = .ok (.invokevirtual idx, 3)) : Ent p l e R s m args below meth c T locs cells slots g (mNm y) (.ref a :: as) rest := by
  subst hb
  have hm := mRes_mem hl
  have hw := mLk_ok _ hm
  have hdk := List.all_eq_true.mp dOk_all _ hm
  have hin := List.mem_of_find?_eq_some hf
  have hkk : k' = k := by have := List.find?_some hf; simpa using this
  subst hkk
  obtain ⟨cellB, hcB, hoB, hclB⟩ := recvOb hC hR hk
  rcases hmd with rfl | rfl
  · cases ts with
    | cons t ts => exact absurd hdk (by
        have : mLk.all (fun q => decide (q.2.2.1 = 3 → q.2.2.2.2.length = 1)) = true := by decide +kernel
        have h9 := of_decide_eq_true (List.all_eq_true.mp this _ hm) rfl
        simp at h9)
    | nil =>
      obtain ⟨e9, e8⟩ := Prod.mk.inj (List.mem_singleton.mp hin)
      subst e9
      subst e8
      have w1 := hC.1 _ (hw _ List.mem_cons_self) args
      have w2 := hC.1 _ (hw _ (List.mem_cons_of_mem _ List.mem_cons_self)) args
      have w3 := hC.1 _ (hw _ (List.mem_cons_of_mem _ (List.mem_cons_of_mem _ List.mem_cons_self))) args
      obtain ⟨mk, methM, hnamed, hmethM, hstM, habM⟩ := Cond.instanceMethod_spec w3
      obtain ⟨c2, r2, m2, q1, q2, q3, q4, kP, hkP, hkPi⟩ := Cond.selects_spec w2
      cases hclB.symm.trans q1
      cases (State.methodFound?_of_named hnamed (mNm_mh y hy)).symm.trans q2
      cases hnamed.symm.trans q3
      have hselP : selectMethod e.platform s.vm cellB.cls mk = .method mk := by rw [Launch.admits_selectMethod X.admits]; exact q4
      have hsig : parseMethodDescriptor (mNm y).desc = some methM.sig := by
        have hlt : y < mTb.length := by
          have : mTb.length = 234 := by decide +kernel
          omega
        obtain ⟨mk', methk', ck', k1, k2, -, -, -, -, -, -, k9⟩ := cd_spec hC (by omega : y < 233) (List.getElem?_eq_getElem hlt)
        rw [← mNm_eq (List.getElem?_eq_getElem hlt)] at k1 k9
        cases hnamed.symm.trans k1
        cases hmethM.symm.trans k2
        exact k9
      obtain ⟨vm₁, X₁, st⟩ := X.invokevirtual hx hown w1 hnamed hmethM hstM hkP hkPi (mNm_mh y hy) hcB (fun z h => by rw [h] at hoB; cases hoB) hselP hmethM habM hkP hkPi hg (hlen.trans (mAr_sig (by omega) hsig)) hst hdg
      exact ⟨vm₁, mk, X₁, hnamed, st⟩
  · simp only [dOk, Bool.and_eq_true, Bool.or_eq_true, decide_eq_true_eq] at hdk
    obtain ⟨hy0, hdk⟩ := hdk
    have w1 := hC.1 _ (hw _ List.mem_cons_self) args
    have w2 := hC.1 _ (hw _ (List.mem_cons_of_mem _ List.mem_cons_self)) args
    have w3 := hC.1 _ (hw _ (List.mem_cons_of_mem _ (List.mem_cons_of_mem _ (List.mem_flatMap.mpr ⟨(k', y), hin, List.mem_cons_self⟩)))) args
    have w4 := hC.1 _ (hw _ (List.mem_cons_of_mem _ (List.mem_cons_of_mem _ (List.mem_flatMap.mpr ⟨(k', y), hin, List.mem_cons_of_mem _ List.mem_cons_self⟩)))) args
    have hd0 : va_Decl s ⟨nmC 7, (mNm y0).name, (mNm y0).desc⟩ := by
      rcases hdk with h9 | h9
      · rw [h9]; exact goes_dec hC
      · exact va_Decl.abs (va_Nw.of rfl (hC.1 _ (List.mem_of_getElem? h9) args))
    obtain ⟨r0', r', hn, hrm, hstR, hsigR⟩ := hd0
    obtain ⟨cn, ck, r1, hcn, hck, hni, hfd, hn1⟩ := Cond.sameMethod_found w2
    cases hn.symm.trans hn1
    obtain ⟨mk, methM, hnamed, hmethM, -, habM⟩ := Cond.instanceMethod_spec w4
    obtain ⟨c2, r2, m2, q1, q2, q3, q4, kP, hkP, hkPi⟩ := Cond.selects_spec w3
    cases hclB.symm.trans q1
    cases hfd.symm.trans q2
    cases hnamed.symm.trans q3
    have hselP : selectMethod e.platform s.vm cellB.cls r0' = .method mk := by rw [Launch.admits_selectMethod X.admits]; exact q4
    obtain ⟨vm₁, X₁, st⟩ := X.invokevirtualUp hx hown w1 w2 (by decide) hn hrm hstR hcB (fun z h => by rw [h] at hoB; cases hoB) hselP hmethM habM hkP hkPi hg (hlen.trans (mAr_sig (by omega) hsigR)) hst hdg
    exact ⟨vm₁, mk, X₁, hnamed, st⟩
end EN
