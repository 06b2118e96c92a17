/-! ===== soundness of the steps that make cells, of casts, constants and two library calls ===== -/
theorem mRes_mem {c i : Nat} {q : Nat × Nat × List (Nat × Nat)} (h : mRes c i = some q) : (c, i, q) ∈ mLk := by
  unfold mRes at h
  split at h
  · rename_i q' hq
    have h1 := List.mem_of_find?_eq_some hq
    have h2 := List.find?_some hq
    simp only [Bool.and_eq_true, beq_iff_eq] at h2
    obtain ⟨q1, q2, q3⟩ := q'
    obtain ⟨rfl, rfl⟩ := h2
    cases h
    exact h1
  · cases h
theorem atC_spec {ty : ArrayType} {t : Nat} (h : atC ty = some t) : t < 4 ∧ newarray.typeOf ty = tyA t ∧ componentBytes (newarray.typeOf ty) ≤ 8 ∧ Cond.arrayClass (newarray.typeOf ty) ∈ lw_tbl := by
  cases ty <;> simp only [atC] at h <;> cases h
  · exact ⟨by decide, rfl, by decide, List.mem_of_getElem? (i := 141) (by decide +kernel)⟩
  · exact ⟨by decide, rfl, by decide, List.mem_of_getElem? (i := 140) (by decide +kernel)⟩
  · exact ⟨by decide, rfl, by decide, List.mem_of_getElem? (i := 142) (by decide +kernel)⟩
  · exact ⟨by decide, rfl, by decide, List.mem_of_getElem? (i := 1438) (by decide +kernel)⟩
theorem aV_new (M : Mem) (κ : Kd) (n t j : Nat) : aV (nw M κ n) t (mN M) j = if t = 3 then .long 0 else if t = 4 ∨ t = 5 ∨ t = 6 ∨ t = 7 then .null else .int 0 := by
  simp [aV, mL, mQ, mA, nw, va_rf]
section SM3
variable {p : Program} {l : Launch} {e : Env} {R : Room} {s : State} {m : MethodId} {args : Array Value} {below : List Frame} {meth : Method} {c : Code} {H : Heap} {locs : List Loc} {cells slots : Nat} {Q : State → Prop}
variable {cc : ByteArray} {D : Dn} {bs : Nat} {H0 : Heap} {M : Mem} {pc c1 idx : Nat} {r : List Value} {arr : Array Slot}
set_option maxHeartbeats 4000000 in
theorem soundNwa (hx : p.tables.exec = Jvm.exec) (hb : c.code = cc) (hC : Cx D s) (hR : Rep D s bs H0 M H) {ty : ArrayType} {t : Nat} {n : Int32} (hd : decode cc pc = .ok (.newarray ty, 2)) (ht : atC ty = some t) (hn : ¬ n < 0) (hN : n.toNatClampNeg ≤ 60000) (hc : cells + 1 ≤ R.cells) (hs : slots + n.toNatClampNeg ≤ R.slots)
    (kk : ∀ H' : Heap, Rep D s bs H0 (nw M (.inr (t, n.toNatClampNeg)) n.toNatClampNeg) H' → W p l e R s m args below meth c H' locs (cells + 1) (slots + n.toNatClampNeg) Q (F0 m (pc + 2) arr (.ref (mN M) :: r))) : W p l e R s m args below meth c H locs cells slots Q (F0 m pc arr (.int n :: r)) := by
  obtain ⟨t4, t1, t2, t3⟩ := atC_spec ht
  refine va_newaK hx hb (hC.1 _ t3 args) rfl hd rfl hn rfl (by have := Nat.mul_le_mul hN t2; omega) hc hs hR.1 fun H1 cA e1 e2 e3 a1 a2 => ?_
  have hcA : cA = D.2.2 t := by
    have h9 := (hC.2.2.2.2.1 t (by omega)).2
    rw [t1] at a2
    have : s.vm.findClass ("[" ++ (tyA t).toString) = some (D.2.2 t) := by
      have h4 : t = 0 ∨ t = 1 ∨ t = 2 ∨ t = 3 := by omega
      rcases h4 with rfl | rfl | rfl | rfl <;> exact h9
    exact Option.some.inj (a2.symm.trans this)
  refine kk H1 (hR.new e1 e2 e3 rfl (Or.inr ⟨by omega, hR.2.1, ?_⟩))
  rw [e1, hcA]
  congr 2
  funext j
  rw [aV_new, t1]
  have h4 : t = 0 ∨ t = 1 ∨ t = 2 ∨ t = 3 := by omega
  rcases h4 with rfl | rfl | rfl | rfl <;> rfl
set_option maxHeartbeats 4000000 in
theorem soundAnw (hx : p.tables.exec = Jvm.exec) (hb : c.code = cc) (hown : s.vm.findClass (nmC c1) = some m.cls) (hC : Cx D s) (hR : Rep D s bs H0 M H) {k : Nat} {n : Int32} (hd : decode cc pc = .ok (.anewarray idx, 3)) (hk : cRes c1 idx = some k) (h5 : k = 5 ∨ k = 6 ∨ k = 7) (hn : ¬ n < 0) (hN : n.toNatClampNeg ≤ 60000) (hc : cells + 1 ≤ R.cells) (hs : slots + n.toNatClampNeg ≤ R.slots)
    (kk : ∀ H' : Heap, Rep D s bs H0 (nw M (.inr (k, n.toNatClampNeg)) n.toNatClampNeg) H' → W p l e R s m args below meth c H' locs (cells + 1) (slots + n.toNatClampNeg) Q (F0 m (pc + 3) arr (.ref (mN M) :: r))) : W p l e R s m args below meth c H locs cells slots Q (F0 m pc arr (.int n :: r)) := by
  have hty : tyA k = .object (nmC k) := by rcases h5 with rfl | rfl | rfl <;> rfl
  have hov : (Cond.arrayOver (.object (nmC k))).before args s = true := by
    rcases h5 with rfl | rfl | rfl
    · exact hC.1 _ (List.mem_of_getElem? (i := 150) (by decide +kernel)) args
    · exact hC.1 _ (List.mem_of_getElem? (i := 152) (by decide +kernel)) args
    · exact hC.1 _ (List.mem_of_getElem? (i := 154) (by decide +kernel)) args
  refine W.anew hx hb hown (cRes_link hC hk args) hov rfl hd rfl hn (by omega) hc hs fun cA kA comp f1 f2 f3 f4 => ?_
  generalize hH1 : H.push ({ cls := cA, slots := Array.replicate n.toNatClampNeg .null, vm := .none } : Cell) = H1
  have z1 : H1.size = mN M + 1 := by rw [← hH1, Array.size_push, hR.1]
  have e1 : H1[mN M]? = some (arrV cA n.toNatClampNeg (fun _ => .null)) := by rw [← hH1, ← hR.1, Array.getElem?_push_size, ← arrV_new]
  have o1 : ∀ q : Nat, q < mN M → H1[q]? = H[q]? := fun q hq => by rw [← hH1, Array.getElem?_push, if_neg (by rw [hR.1]; exact Nat.ne_of_lt hq)]
  have hcA : cA = D.2.2 k := by
    have h9 := (hC.2.2.2.2.1 k (by omega)).2
    rw [hty] at h9
    obtain ⟨kA', comp', -, -, -, k4⟩ := h9
    exact Option.some.inj (f1.symm.trans k4)
  rw [show H.size = mN M from hR.1]
  refine kk H1 (hR.new e1 z1 o1 rfl (Or.inr ⟨by omega, hR.2.1, ?_⟩))
  rw [e1, hcA]
  congr 2
  funext j
  rw [aV_new]
  rcases h5 with rfl | rfl | rfl <;> rfl
set_option maxHeartbeats 4000000 in
theorem soundNew (hx : p.tables.exec = Jvm.exec) (hb : c.code = cc) (hown : s.vm.findClass (nmC c1) = some m.cls) (hC : Cx D s) (hR : Rep D s bs H0 M H) {k : Nat} {st : List Value} (hd : decode cc pc = .ok (.new idx, 3)) (hk : cRes c1 idx = some k) (hko : k ∈ cOb) (hc : cells + 1 ≤ R.cells) (hs : slots + cSz k ≤ R.slots)
    (kk : ∀ H' : Heap, Rep D s bs H0 (nw M (.inl k) (cSz k)) H' → W p l e R s m args below meth c H' locs (cells + 1) (slots + cSz k) Q (F0 m (pc + 3) arr (.ref (mN M) :: st))) : W p l e R s m args below meth c H locs cells slots Q (F0 m pc arr st) := by
  have hw := cLy_ok k hko
  obtain ⟨hfc, kC0, hkC0, hkind⟩ := hC.2.2.1 k hko
  refine W.newcK hx hb hown (cRes_link hC hk args) (hC.1 _ (hw _ List.mem_cons_self) args) (hC.1 _ (hw _ (List.mem_cons_of_mem _ List.mem_cons_self)) args) rfl hd hc hs hfc hR.1 fun H1 kC hkC e1 e2 e3 => ?_
  refine kk H1 (hR.new e1 e2 e3 rfl ⟨hko, hR.2.1, _, e1, rfl, rfl, fun f hf => ?_⟩)
  obtain ⟨cf, kf, fi, fd, i1, i2⟩ := hC.2.2.2.1 f (cFl_lt k hko f hf)
  have hl : (Cond.lays (nmC k) (fD f).1 (fD f).2.1 (fD f).2.2.1).before args s = true ∨ (Cond.laysFinal (nmC k) (fD f).1 (fD f).2.1 (fD f).2.2.1).before args s = true := by
    cases hfn : (fD f).2.2.2.1 with
    | false => exact Or.inl ((hC.lay hko hf args).1 hfn)
    | true => exact Or.inr ((hC.lay hko hf args).2 hfn)
  obtain ⟨t0, t1, t2, t3⟩ := fTy_ok f (cFl_lt k hko f hf)
  have h3 := (u_facts hfc hkC hl i1).2.2
  rw [(State.fieldFound?_type i1 t0).2, i2] at h3
  rw [k2_blank h3]
  have hkd : (fD f).2.2.2.2 = 0 ∨ (fD f).2.2.2.2 = 1 ∨ (fD f).2.2.2.2 = 2 := by
    have : ∀ f, f < 57 → (fD f).2.2.2.2 = 0 ∨ (fD f).2.2.2.2 = 1 ∨ (fD f).2.2.2.2 = 2 := by decide +kernel
    exact this f (cFl_lt k hko f hf)
  rcases hkd with h0 | h0 | h0
  · rw [t1 h0]; simp [fV, h0, mF, nw, defaultValue]
  · rw [t2 h0]; simp [fV, h0, mF, nw, defaultValue]
  · have h1 := t3 h0
    have h2 : fV (nw M (.inl k) (cSz k)) f (mN M) = .null := by simp [fV, h0, mR, nw, va_rf]
    rw [h2]
    revert h1
    cases fTy f <;> simp [isRf, defaultValue]
theorem recvOb (hC : Cx D s) (hR : Rep D s bs H0 M H) {a k : Nat} (hk : mK M a = some (.inl k)) : ∃ cell : Cell, H[a]? = some cell ∧ cell.vm.isStatics = false ∧ s.vm.findClass (nmC k) = some cell.cls := by
  obtain ⟨hko, -, cell, q1, q2, q3, -⟩ := hR.ob hk
  exact ⟨cell, q1, by rw [q3]; rfl, by rw [q2]; exact (hC.2.2.1 k hko).1⟩
set_option maxHeartbeats 4000000 in
theorem soundCast (hx : p.tables.exec = Jvm.exec) (hb : c.code = cc) (hown : s.vm.findClass (nmC c1) = some m.cls) (hC : Cx D s) (hR : Rep D s bs H0 M H) {a k : Nat} (hd : decode cc pc = .ok (.checkcast idx, 3)) (hk : mK M a = some (.inl k)) (hl : cRes c1 idx = some k)
    (kk : W p l e R s m args below meth c H locs cells slots Q (F0 m (pc + 3) arr (.ref a :: r))) : W p l e R s m args below meth c H locs cells slots Q (F0 m pc arr (.ref a :: r)) :=
  va_castS hx hb hown (cRes_link hC hl args) (hC.2.2.1 k (hR.ob hk).1) (recvOb hC hR hk) hd kk
set_option maxHeartbeats 4000000 in
theorem soundInst (hx : p.tables.exec = Jvm.exec) (hb : c.code = cc) (hown : s.vm.findClass (nmC c1) = some m.cls) (hC : Cx D s) (hR : Rep D s bs H0 M H) {a k : Nat} (hd : decode cc pc = .ok (.instanceof idx, 3)) (hk : mK M a = some (.inl k)) (hl : cRes c1 idx = some 6) (h5 : k = 5 ∨ k = 6)
    (kk : W p l e R s m args below meth c H locs cells slots Q (F0 m (pc + 3) arr (.int (if k = 6 then 1 else 0) :: r))) : W p l e R s m args below meth c H locs cells slots Q (F0 m pc arr (.ref a :: r)) := by
  rcases h5 with rfl | rfl
  · exact va_instNo hx hb hown (cRes_link hC hl args) (hC.2.1 (5, 6) (by decide)) (recvOb hC hR hk) hd kk
  · exact va_instS hx hb hown (cRes_link hC hl args) (hC.2.2.1 6 (by decide)) (recvOb hC hR hk) hd kk
set_option maxHeartbeats 4000000 in
theorem soundLdc (hx : p.tables.exec = Jvm.exec) (hb : c.code = cc) (hown : s.vm.findClass (nmC c1) = some m.cls) (hC : Cx D s) {v : Int64} {st : List Value} (hd : decode cc pc = .ok (.ldc2_w idx, 3)) (hv : (c1 = 8 ∧ idx = 190 ∧ v = 255) ∨ (c1 = 0 ∧ idx = 113 ∧ v = 4294967295))
    (kk : W p l e R s m args below meth c H locs cells slots Q (F0 m (pc + 3) arr (.long v :: st))) : W p l e R s m args below meth c H locs cells slots Q (F0 m pc arr st) := by
  rcases hv with ⟨rfl, rfl, rfl⟩ | ⟨rfl, rfl, rfl⟩
  · exact lv_ldc2 hx hb hown (hC.1 _ (List.mem_of_getElem? (i := 1318) (by decide +kernel)) args) hd kk
  · exact lv_ldc2 hx hb hown (hC.1 _ (List.mem_of_getElem? (i := 1437) (by decide +kernel)) args) hd kk
theorem max_bytes : prog_15_method_65_code = Lib.Math.max.code := by decide +kernel
set_option maxHeartbeats 4000000 in
theorem soundMax (hx : p.tables.exec = Jvm.exec) (hb : c.code = cc) (hml : c.maxLocals = arr.size) (hown : s.vm.findClass (nmC c1) = some m.cls) (hC : Cx D s) {k0 q0 : Nat} {x y : Int32} (hd : decode cc pc = .ok (.invokestatic idx, 3)) (hl : mRes c1 idx = some (0, q0, [(k0, 231)])) (hr : smallR r = true) (h1 : 1 ≤ R.frames) (h2 : 40 ≤ R.locals) (hc : cells ≤ R.cells) (hs : slots ≤ R.slots)
    (kk : W p l e R s m args below meth c H locs cells slots Q (F0 m (pc + 3) arr (.int (if x < y then y else x) :: r))) : W p l e R s m args below meth c H locs cells slots Q (F0 m pc arr (.int y :: .int x :: r)) := by
  have hw := mLk_ok _ (mRes_mem hl)
  have e1 : mNm 231 = Lib.Math.max.name := by decide +kernel
  have hr' := of_decide_eq_true hr
  have w1 := hC.1 _ (hw _ List.mem_cons_self) args
  have w2 := hC.1 _ (hw _ (List.mem_cons_of_mem _ List.mem_cons_self)) args
  have w3 := hC.1 _ (hw _ (List.mem_cons_of_mem _ (List.mem_cons_of_mem _ List.mem_cons_self))) args
  have w4 := hC.1 _ (mTb_ok 231 _ (by decide) rfl _ List.mem_cons_self) args
  have w4 : (Cond.code Lib.Math.max.name Lib.Math.max.code 2 (some .int)).before args s = true := by rw [← max_bytes, ← e1]; exact w4
  simp only [e1] at w1 w2 w3
  exact va_mmax hx hb hml hown w1 w2 w3 w4 h1 (by omega) hc hs hd kk
set_option maxHeartbeats 4000000 in
theorem soundObj (hx : p.tables.exec = Jvm.exec) (hb : c.code = cc) (hml : c.maxLocals = arr.size) (hown : s.vm.findClass (nmC c1) = some m.cls) (hC : Cx D s) {k0 q0 a : Nat} (hd : decode cc pc = .ok (.invokespecial idx, 3)) (hl : mRes c1 idx = some (2, q0, [(k0, 232)])) (hr : smallR r = true) (h1 : 1 ≤ R.frames) (h2 : 40 ≤ R.locals)
    (kk : W p l e R s m args below meth c H locs cells slots Q (F0 m (pc + 3) arr r)) : W p l e R s m args below meth c H locs cells slots Q (F0 m pc arr (.ref a :: r)) := by
  have hw := mLk_ok _ (mRes_mem hl)
  have e1 : mNm 232 = Lib.objectInit := by decide +kernel
  have hr' := of_decide_eq_true hr
  have w1 := hC.1 _ (hw _ List.mem_cons_self) args
  have w2 := hC.1 _ (hw _ (List.mem_cons_of_mem _ List.mem_cons_self)) args
  have w4 := hC.1 _ (mTb_ok 232 _ (by decide) rfl _ List.mem_cons_self) args
  have w4 : (Cond.code Lib.objectInit ⟨#[0xb1]⟩ 1 none).before args s = true := by rw [← e1]; exact w4
  simp only [e1] at w1 w2
  exact W.objInit hx hb hown w1 w2 w4 rfl hml.symm rfl hd h1 (by show 2 * 0 + _ + 12 ≤ _; omega) kk
end SM3
