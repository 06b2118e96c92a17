theorem rws_N (o k : Nat) : ∀ (n : Nat) (M : Mem), mN (rws o k n M) = mN M + n ∧ mS (rws o k n M) = mS M + n * k
  | 0, M => ⟨rfl, by simp [rws]⟩
  | n + 1, M => by
    obtain ⟨h1, h2⟩ := rws_N o k n M
    have h3 : mN (rws o k (n + 1) M) = mN (rws o k n M) + 1 := rfl
    have h4 : mS (rws o k (n + 1) M) = mS (rws o k n M) + k := rfl
    rw [h3, h4, h1, h2, Nat.succ_mul]
    exact ⟨by omega, by omega⟩
theorem nw2_N (M : Mem) (n k : Nat) : mN (nw2 M n k) = mN M + 1 + n := by
  unfold nw2; rw [(rws_N _ _ _ _).1, nw_N]
theorem nw2_S (M : Mem) (n k : Nat) : mS (nw2 M n k) = mS M + n + n * k := by
  unfold nw2; rw [(rws_N _ _ _ _).2, nw_S]
/-! ===== two dimensions at once: the rows are laid one behind the other ===== -/
def muF (a i : Nat) : Nat → Value := fun j => if j < i then .ref (a + 1 + j) else .null
def muS (S : State) (cA cB : ClassId) (N K : Nat) : Nat → State
  | 0 => S.pushCell (arrV cA N (muF S.heap.size 0))
  | i + 1 => ((muS S cA cB N K i).pushCell (arrV cB K (fun _ => .int 0))).setCell S.heap.size (arrV cA N (muF S.heap.size (i + 1)))
theorem muF_s (a i : Nat) : updV (muF a i) i (.ref (a + 1 + i)) = muF a (i + 1) := by
  funext j
  unfold updV muF
  by_cases h : j = i
  · subst h
    rw [if_pos rfl, if_pos (by omega)]
  · rw [if_neg h]
    by_cases h2 : j < i
    · rw [if_pos h2, if_pos (by omega)]
    · rw [if_neg h2, if_neg (by omega)]
theorem muF_z (a : Nat) : muF a 0 = fun _ => Value.null := by
  funext j
  simp [muF]
theorem muS_at (S : State) (cA cB : ClassId) (N K : Nat) : ∀ i, (muS S cA cB N K i).heap.size = S.heap.size + 1 + i ∧ (muS S cA cB N K i).heap[S.heap.size]? = some (arrV cA N (muF S.heap.size i)) ∧ (muS S cA cB N K i).vm = S.vm ∧ (muS S cA cB N K i).slotsUsed = S.slotsUsed + N + i * K
  | 0 => ⟨by simp [muS], by simp [muS], rfl, by simp [muS, arrV_size]⟩
  | i + 1 => by
    obtain ⟨h1, h2, h3, h4⟩ := muS_at S cA cB N K i
    have hb : ((muS S cA cB N K i).pushCell (arrV cB K (fun _ => .int 0))).heap[S.heap.size]? = some (arrV cA N (muF S.heap.size i)) := by
      have hlt : S.heap.size < (muS S cA cB N K i).heap.size := by omega
      rw [State.heap_pushCell_of_lt (h := hlt)]
      exact h2
    refine ⟨?_, State.heap_setCell_self hb, by simp [muS, h3], ?_⟩
    · simp [muS, State.setCell, h1]
      omega
    · simp [muS, h4, arrV_size, Nat.succ_mul]
      omega
theorem muS_top (S : State) (f : JFrame) (cA cB : ClassId) (N K : Nat) : ∀ i, muS (S.setTop f) cA cB N K i = (muS S cA cB N K i).setTop f
  | 0 => rfl
  | i + 1 => by simp only [muS, muS_top S f cA cB N K i, State.heap_setTop, State.pushCell_setTop, State.setCell_setTop]
theorem rws_o (o k : Nat) : ∀ (i : Nat) (M : Mem), o < mN M → mK (rws o k i M) o = mK M o
  | 0, M, _ => rfl
  | i + 1, M, h => by
    have h1 := (rws_N o k i M).1
    have h2 : mK (rws o k (i + 1) M) o = if o = mN (rws o k i M) then some (.inr (1, k)) else mK (rws o k i M) o := rfl
    rw [h2, if_neg (by omega), rws_o o k i M h]
theorem muS_rep {D : Dn} {s S : State} {bs : Nat} {H0 : Heap} {M : Mem} {cA cB : ClassId} {N K : Nat} (hR : Rep D s bs H0 M S.heap) (hA : cA = D.2.2 4) (hB : cB = D.2.2 1) : ∀ i, Rep D s bs H0 (rws (mN M) K i (nw M (.inr (4, N)) N)) (muS S cA cB N K i).heap
  | 0 => by
    subst hA
    have hs : S.heap.size = mN M := hR.1
    have h := muS_at S (D.2.2 4) cB N K 0
    refine hR.new (cell := arrV (D.2.2 4) N (muF S.heap.size 0)) (by rw [← hs]; exact h.2.1) (by rw [h.1, hs]) (fun q hq => State.heap_pushCell_of_lt S _ (show q < S.heap.size by omega)) rfl (Or.inr ⟨by omega, hR.2.1, ?_⟩)
    rw [← hs]
    refine h.2.1.trans ?_
    rw [muF_z]
    congr 2
    funext j
    rw [hs, aV_new]
    rfl
  | i + 1 => by
    have hr := muS_rep hR hA hB i (N := N) (K := K)
    have hs : S.heap.size = mN M := hR.1
    obtain ⟨h1, h2, -, -⟩ := muS_at S cA cB N K i
    show Rep D s bs H0 (sQ (nw (rws (mN M) K i (nw M (.inr (4, N)) N)) (.inr (1, K)) K) (mN M) i (some (mN (rws (mN M) K i (nw M (.inr (4, N)) N))))) (((muS S cA cB N K i).pushCell (arrV cB K (fun _ => .int 0))).setCell S.heap.size (arrV cA N (muF S.heap.size (i + 1)))).heap
    have hn : mN (rws (mN M) K i (nw M (.inr (4, N)) N)) = mN M + 1 + i := by rw [(rws_N _ _ _ _).1, nw_N]
    have hk : mK (rws (mN M) K i (nw M (.inr (4, N)) N)) (mN M) = some (.inr (4, N)) := by
      rw [rws_o _ _ _ _ (by rw [nw_N]; omega)]
      simp [mK, nw]
    generalize rws (mN M) K i (nw M (.inr (4, N)) N) = M1 at hr hn hk ⊢
    generalize muS S cA cB N K i = T at hr h1 h2 ⊢
    have hr2 : Rep D s bs H0 (nw M1 (.inr (1, K)) K) (T.pushCell (arrV cB K (fun _ => .int 0))).heap := by
      refine hr.new (cell := arrV cB K (fun _ => .int 0)) ?_ ?_ (fun q hq => ?_) rfl (Or.inr ⟨by omega, hr.2.1, ?_⟩)
      · rw [← hr.1]; exact State.heap_pushCell_size _ _
      · rw [← hr.1]; exact State.heap_size_pushCell _ _
      · exact State.heap_pushCell_of_lt _ _ (by rw [hr.1]; exact hq)
      · have h9 := State.heap_pushCell_size T (arrV cB K (fun _ => Value.int 0))
        rw [hr.1] at h9
        rw [h9, hB]
        congr 2
        funext j
        rw [aV_new]
        rfl
    have hk2 : mK (nw M1 (.inr (1, K)) K) (mN M) = some (.inr (4, N)) := by
      show (if mN M = mN M1 then _ else mK M1 (mN M)) = _
      rw [if_neg (by omega), hk]
    have hb : (T.pushCell (arrV cB K (fun _ => .int 0))).heap[mN M]? = some (arrV cA N (muF S.heap.size i)) := by
      have hlt : mN M < T.heap.size := by omega
      rw [State.heap_pushCell_of_lt (h := hlt), ← hs]
      exact h2
    have e0 : arrV (D.2.2 4) N (aV (nw M1 (.inr (1, K)) K) 4 (mN M)) = arrV cA N (muF S.heap.size i) := Option.some.inj ((hr2.ar hk2 (by decide)).2.symm.trans hb)
    have h4 : (4 : Nat) = 4 ∨ (4 : Nat) = 5 ∨ (4 : Nat) = 6 ∨ (4 : Nat) = 7 := Or.inl rfl
    refine hr2.arr (j := i) (v := .ref (mN M + 1 + i)) hk2 (by decide) (fun _ => rfl) rfl (fun _ _ => rfl) ?_ (fun i' hi => ?_) (fun t' b i' hbn => ?_) (fun b i' hbn => rfl) ?_ ?_ (fun q hq => ?_)
    · rw [aV_ref _ h4, hn]; simp [mQ, sQ, up2_s, va_rf]
    · rw [aV_ref _ h4, aV_ref _ h4]; simp only [mQ, sQ, up2_n _ _ (fun q : mN M = mN M ∧ i' = _ => hi q.2)]
    · simp only [aV, mA, mQ, mL, sQ, up2_n _ _ (fun q : b = mN M ∧ i' = _ => hbn q.1)]
    · rw [e0, arrV_store, hs, muF_s]
      exact State.heap_setCell_self hb
    · simp [State.setCell]
    · rw [hs]
      exact State.heap_setCell_other (fun e => hq e.symm)
theorem wp_row {E : CtlPost} {e : Env} {d : Bool} {acts : List Action} {S : State} {cB c0 : ClassId} {kB : Class} {k : Int32} (hkB : S.vm.classes[cB]? = some kB) (hB : kB.kind = .array c0 .byte) (hk : ¬ k < 0) (hK : k.toNatClampNeg ≤ 1000) (hl : 1000 ≤ e.platform.arrayLengthLimit) (hh : 8000 ≤ e.platform.maxHeapBytes)
    (hc : S.heap.size < e.platform.maxCells) (hs : S.slotsUsed + k.toNatClampNeg ≤ e.platform.maxSlots) {Q : Addr → Pre} (hq : ∀ acts', Q S.heap.size d acts' (S.pushCell (arrV cB k.toNatClampNeg (fun _ => .int 0)))) : wp (multianewarray.make cB [k]) Q E e d acts S := by
  rw [multianewarray.make]
  simp only [wp_bind', W.ite, hk, if_false, wp_pure', W.theClass, hkB, hB, Option.some.injEq, exists_eq_left']
  refine W.newArray_of hkB hB (by omega) (by show ¬ k.toNatClampNeg * 1 > _; omega) hc hs rfl fun acts' => ?_
  have h := hq acts'
  rw [← arrV_new] at h
  exact h
theorem wp_rows {E : CtlPost} {e : Env} {d : Bool} {acts : List Action} {S : State} {cA cB c0 : ClassId} {kA kB : Class} {n k : Int32} (hkA : S.vm.classes[cA]? = some kA) (hA : kA.kind = .array cB (.array .byte)) (hkB : S.vm.classes[cB]? = some kB) (hB : kB.kind = .array c0 .byte) (hn : ¬ n < 0) (hk : ¬ k < 0) (hN : n.toNatClampNeg ≤ 1000) (hK : k.toNatClampNeg ≤ 1000) (hl : 1000 ≤ e.platform.arrayLengthLimit) (hh : 8000 ≤ e.platform.maxHeapBytes)
    (hc : S.heap.size + (1 + n.toNatClampNeg) ≤ e.platform.maxCells) (hs : S.slotsUsed + (n.toNatClampNeg + n.toNatClampNeg * k.toNatClampNeg) ≤ e.platform.maxSlots) {Q : Addr → Pre} (hq : ∀ d' acts', Q S.heap.size d' acts' (muS S cA cB n.toNatClampNeg k.toNatClampNeg n.toNatClampNeg)) : wp (multianewarray.make cA [n, k]) Q E e d acts S := by
  have hfind : ([k].find? (· < 0)) = none := by simp [hk]
  rw [multianewarray.make]
  simp only [wp_bind', W.ite, hn, if_false, wp_pure', W.theClass, hkA, hA, Option.some.injEq, exists_eq_left']
  refine W.newArray_of hkA hA (by omega) (by show ¬ n.toNatClampNeg * 4 > _; omega) (by omega) (by have := Nat.zero_le (n.toNatClampNeg * k.toNatClampNeg); omega) rfl fun acts1 => ?_
  have hz : S.pushCell { cls := cA, slots := Array.replicate n.toNatClampNeg .null } = muS S cA cB n.toNatClampNeg k.toNatClampNeg 0 := by
    show _ = S.pushCell (arrV cA n.toNatClampNeg (muF S.heap.size 0))
    rw [muF_z, ← arrV_new]
  rw [hz]
  simp only [hfind]
  rw [ite_self, wp_bind', Std.Legacy.Range.forIn_eq_forIn_range']
  have hsz : ([:n.toNatClampNeg] : Std.Legacy.Range).size = n.toNatClampNeg := by simp [Std.Legacy.Range.size]
  rw [hsz]
  show wp (forIn (List.range' 0 n.toNatClampNeg 1) PUnit.unit _) _ E e d acts1 _
  generalize hNN : n.toNatClampNeg = N at *
  refine wp_forIn_inv (fun rest s' => ∃ i, i + rest.length = N ∧ rest = List.range' i rest.length ∧ s' = muS S cA cB N k.toNatClampNeg i) _ _ ⟨0, by simp, by simp, rfl⟩ ?_ ?_
  · rintro x rest s' d' acts' Q' ⟨i, hi, hl', rfl⟩ hnext
    simp only [List.length_cons] at hi hl'
    rw [List.range'_succ] at hl'
    obtain ⟨rfl, hrest⟩ := List.cons.inj hl'
    obtain ⟨f1, f2, f3, f4⟩ := muS_at S cA cB N k.toNatClampNeg x
    have hmul : x * k.toNatClampNeg + k.toNatClampNeg ≤ N * k.toNatClampNeg := by
      have := Nat.mul_le_mul_right k.toNatClampNeg (show x + 1 ≤ N by omega)
      rw [Nat.succ_mul] at this
      exact this
    simp only [wp_bind']
    refine wp_row (kB := kB) (c0 := c0) (by rw [f3]; exact hkB) hB hk hK hl hh (by rw [f1]; omega) (by rw [f4]; omega) fun acts2 => ?_
    simp only [wp_bind', W.writeLoc, wp_pure']
    have hlt : S.heap.size < (muS S cA cB N k.toNatClampNeg x).heap.size := by omega
    refine ⟨arrV cA N (muF S.heap.size x), by rw [State.heap_pushCell_of_lt (h := hlt)]; exact f2, by simp [arrV], by rw [arrV_size]; omega, ?_, hnext _ _ _ ⟨x + 1, by omega, hrest, ?_⟩⟩
    · simp [State.fitsSlot, State.slotType?, f3, arrV, hkA, hA, fits]
    · rw [f1, arrV_store, muF_s]
      rfl
  · rintro s' d' acts' ⟨i, hi, -, rfl⟩
    simp only [List.length_nil, Nat.add_zero] at hi
    subst hi
    simp only [wp_pure']
    exact hq _ _
section SMul
variable {p : Program} {l : Launch} {e : Env} {R : Room} {s : State} {m : MethodId} {args : Array Value} {below : List Frame} {meth : Method} {c : Code} {H : Heap} {locs : List Loc} {cells slots : Nat} {Q : State → Prop}
variable {cc : ByteArray} {D : Dn} {bs : Nat} {H0 : Heap} {M : Mem} {pc c1 idx : Nat} {r : List Value} {arr : Array Slot}
theorem muS_stand {S : State} (X : Stand p l e R s m args below meth c S locs cells slots) (hlo : ∀ x ∈ locs, bs ≤ x.base) (hbs : bs ≤ S.heap.size) (cA cB : ClassId) (N K : Nat) : ∀ i, ∃ locs' : List Loc, (∀ x ∈ locs', bs ≤ x.base) ∧ Stand p l e R s m args below meth c (muS S cA cB N K i) locs' (cells + 1 + i) (slots + N + i * K)
  | 0 => ⟨locs, hlo, by
      have h := X.pushed (arrV cA N (muF S.heap.size 0))
      rw [arrV_size] at h
      simpa [muS] using h⟩
  | i + 1 => by
    obtain ⟨lo, h1, X1⟩ := muS_stand X hlo hbs cA cB N K i
    obtain ⟨f1, f2, -, -⟩ := muS_at S cA cB N K i
    have hc : ((muS S cA cB N K i).pushCell (arrV cB K (fun _ => .int 0))).heap[S.heap.size]? = some (arrV cA N (muF S.heap.size i)) := by
      have hlt : S.heap.size < (muS S cA cB N K i).heap.size := by omega
      rw [State.heap_pushCell_of_lt (h := hlt)]
      exact f2
    have h := (X1.pushed (arrV cB K (fun _ => .int 0))).stored hc i (.ref (S.heap.size + 1 + i))
    rw [arrV_store, muF_s, arrV_size] at h
    refine ⟨_, fun x hx => ?_, by
      rw [show cells + 1 + (i + 1) = cells + 1 + i + 1 by omega, show slots + N + (i + 1) * K = slots + N + i * K + K by rw [Nat.succ_mul]; omega]
      exact h⟩
    rcases List.mem_append.mp hx with q | q
    · exact h1 x q
    · rw [List.mem_singleton.mp q]
      exact hbs
set_option maxHeartbeats 4000000 in
theorem soundMul (hx : p.tables.exec = Jvm.exec) (hb : c.code = cc) (hown : s.vm.findClass (nmC c1) = some m.cls) (hC : Cx D s) (hR : Rep D s bs H0 M H) (hlo : ∀ x ∈ locs, bs ≤ x.base) {n k : Int32} (hd : decode cc pc = .ok (.multianewarray idx 2, 4)) (hi : (c1 = 1 ∧ idx = 13) ∨ (c1 = 4 ∧ idx = 9))
    (hn : ¬ n < 0) (hN : n.toNatClampNeg ≤ 1000) (hk : ¬ k < 0) (hK : k.toNatClampNeg ≤ 1000) (hc : cells + (1 + n.toNatClampNeg) ≤ R.cells) (hs : slots + (n.toNatClampNeg + n.toNatClampNeg * k.toNatClampNeg) ≤ R.slots)
    (kk : ∀ (H' : Heap) (locs' : List Loc), Rep D s bs H0 (nw2 M n.toNatClampNeg k.toNatClampNeg) H' → (∀ x ∈ locs', bs ≤ x.base) → W p l e R s m args below meth c H' locs' (cells + (1 + n.toNatClampNeg)) (slots + (n.toNatClampNeg + n.toNatClampNeg * k.toNatClampNeg)) Q (F0 m (pc + 4) arr (.ref (mN M) :: r))) : W p l e R s m args below meth c H locs cells slots Q (F0 m pc arr (.int k :: .int n :: r)) := by
  intro T hT X
  subst hb; subst hT
  have hcl0 : (Cond.classLink (nmC c1) idx ("[" ++ (FieldType.array .byte).toString)).before args s = true := by
    rcases hi with ⟨rfl, rfl⟩ | ⟨rfl, rfl⟩
    · exact hC.1 _ (List.mem_of_getElem? (i := 121) (by decide +kernel)) args
    · exact hC.1 _ (List.mem_of_getElem? (i := 186) (by decide +kernel)) args
  have hov : (Cond.arrayOver (.array .byte)).before args s = true := hC.1 _ (List.mem_of_getElem? (i := 122) (by decide +kernel)) args
  have har : (Cond.arrayClass .byte).before args s = true := hC.1 _ (List.mem_of_getElem? (i := 140) (by decide +kernel)) args
  have hpl : e.platform.magicAccessors = ({} : Platform).magicAccessors := by rw [X.admits.platform]
  obtain ⟨cB, cA, kA, hcomp, -, hkA, hkindA, hnameA⟩ := arrayOverA_spec hov
  obtain ⟨cB', kB, c0, hcomp', hkB, hkindB⟩ := Cond.arrayClass_spec har
  cases Option.some.inj (hcomp'.symm.trans hcomp)
  have hA : cA = D.2.2 4 := Option.some.inj (hnameA.symm.trans (hC.2.2.2.2.1 4 (by decide)).2)
  have hB : cB = D.2.2 1 := Option.some.inj (hcomp.symm.trans (hC.2.2.2.2.1 1 (by decide)).2)
  obtain ⟨cq, hfc0, hcl⟩ := Cond.classLink_spec hown hcl0 e.platform hpl
  cases Option.some.inj (hnameA.symm.trans hfc0)
  obtain ⟨hg₁, hwarm₁, hready₁⟩ := State.classEntry (e := e) X.warmed hcl
  generalize T.vm.noted m.cls idx (.cls cA) = vm₁ at hg₁ hwarm₁ hready₁
  have hal : s.vm.Alike vm₁ := hwarm₁.alike
  obtain ⟨kA₁, hkA₁, heA⟩ := hal.2.2 _ _ hkA
  obtain ⟨kB₁, hkB₁, heB⟩ := hal.2.2 _ _ hkB
  have hkindA₁ : kA₁.kind = .array cB (.array .byte) := by rw [heA]; exact hkindA
  have hkindB₁ : kB₁.kind = .array c0 .byte := by rw [heB]; exact hkindB
  have X₁ := X.noted hwarm₁
  obtain ⟨hr1, hr2⟩ := X.roomAbove hc hs
  have hsz : T.heap.size = mN M := hR.1
  obtain ⟨lo, hlo', XF⟩ := muS_stand (bs := bs) X₁ hlo (by show bs ≤ T.heap.size; rw [hsz]; exact hR.2.1) cA cB n.toNatClampNeg k.toNatClampNeg n.toNatClampNeg
  have hrep := muS_rep (S := T.setVm vm₁) (N := n.toNatClampNeg) (K := k.toNatClampNeg) hR hA hB n.toNatClampNeg
  have XF' := XF
  rw [Nat.add_assoc, Nat.add_assoc] at XF'
  obtain ⟨t', a1, b1⟩ := kk _ lo hrep hlo' _ rfl XF'
  refine ⟨t', ?_, b1⟩
  have hl : 1000 ≤ e.platform.arrayLengthLimit := by rw [Launch.admits_arrayLengthLimit X.admits]; omega
  have hh : 8000 ≤ e.platform.maxHeapBytes := by rw [Launch.admits_maxHeapBytes X.admits]; omega
  jvm_step X.here [hx, hd]
  simp only [multianewarray.sem, wp_bind', W.resolveClassAt_links (State.method?_setTop (F0 m pc arr (.int k :: .int n :: r)) X.here.top) hg₁]
  rw [W.popN, if_neg (by decide)]
  refine ⟨F0 m pc arr (.int k :: .int n :: r), State.topJava?_setTop' (s := T.setVm vm₁) _ X.here.top, [.int n, .int k], r, rfl, rfl, ?_⟩
  simp only [List.mapM_cons, List.mapM_nil, wp_bind', wp_pure']
  refine wp_rows (kA := kA₁) (kB := kB₁) (cA := cA) (cB := cB) (c0 := c0) hkA₁ hkindA₁ hkB₁ hkindB₁ hn hk hN hK hl hh (by show T.heap.size + _ ≤ _; omega) (by show T.slotsUsed + _ ≤ _; omega) (fun d' acts' => ?_)
  have eS : ((T.setTop (F0 m pc arr (.int k :: .int n :: r))).setVm vm₁).setTop { F0 m pc arr (.int k :: .int n :: r) with stack := r } = (T.setVm vm₁).setTop { F0 m pc arr (.int k :: .int n :: r) with stack := r } := by
    show ((T.setVm vm₁).setTop _).setTop _ = _
    rw [State.setTop_setTop]
  rw [eS, muS_top]
  simp only [wp_bind', W.mark, W.pushRef, State.topJava?_setTop' _ XF.here.top, Option.some.injEq, exists_eq_left', State.setTop_setTop, State.heap_setTop]
  intro acts
  simp [jvm, XF.here.top]
  rw [hsz]
  exact a1
end SMul
