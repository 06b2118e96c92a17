/-! ===== a frame's facts, its end, returns and throws ===== -/
def Frm (p : Program) (s : State) (m : MethodId) (meth : Method) (c : Code) (q : Mt) : Prop :=
  p.tables.exec = Jvm.exec ∧ c.code = q.2.1 ∧ c.maxLocals = q.2.2.1 ∧ meth.sig.returnType = q.2.2.2.1 ∧ s.vm.findClass (nmC q.2.2.2.2.2) = some m.cls ∧ meth.locks = false ∧ c.exceptionTable.toList.map tup = q.2.2.2.2.1 ∧ meth.name = q.1.name
def EndQ (D : Dn) (bs : Nat) (H0 : Heap) (below : List Frame) (s : State) (o : Outcome) (M' : Mem) (mc ms : Nat) : State → Prop := fun t =>
  t.status = .running ∧ Ended t below o ∧ s.WarmedH t.vm ∧ Rep D t bs H0 M' t.heap ∧ ∃ L : List Loc, s.sameButNew ({ t with vm := s.vm } : State) L mc ms ∧ ∀ x ∈ L, bs ≤ x.base
section EX
variable {p : Program} {l : Launch} {e : Env} {R : Room} {s : State} {m : MethodId} {args : Array Value} {below : List Frame} {meth : Method} {c : Code} {T : State} {H : Heap} {locs : List Loc} {cells slots : Nat}
theorem W_mono {Q Q' : State → Prop} {g : JFrame} (h : ∀ t, Q t → Q' t) (k : W p l e R s m args below meth c H locs cells slots Q g) : W p l e R s m args below meth c H locs cells slots Q' g := by
  intro T hT X
  obtain ⟨t, a, b⟩ := k T hT X
  exact ⟨t, a, h t b⟩
theorem endQ_of {D : Dn} {bs : Nat} {H0 : Heap} {M : Mem} {o : Outcome} (hR : Rep D s bs H0 M H) : ∀ t, MQ below (fun _ _ o' t => o' = o ∧ t.heap = H ∧ s.WarmedH t.vm) args s cells slots (fun q => bs ≤ q) t → EndQ D bs H0 below s o M cells slots t := by
  rintro t ⟨o', h1, h2, ⟨rfl, h3, h4⟩, L, ⟨-, h5, h6⟩, h7⟩
  exact ⟨h1, h2, h5, by rw [h3]; exact hR.moved h5.alike, L, h6, h7⟩
theorem soundRet {D : Dn} {bs : Nat} {H0 : Heap} {M : Mem} {q : Mt} {i : Instr} {len pc : Nat} {st : List Value} {arr : Array Slot} {v : Option Value} (F : Frm p s m meth c q) (hR : Rep D s bs H0 M H) (hlo : ∀ x ∈ locs, bs ≤ x.base) (h : rt1 q i len st = some v) (hd : decode q.2.1 pc = .ok (i, len)) : W p l e R s m args below meth c H locs cells slots (EndQ D bs H0 below s (.returned v) M cells slots) (F0 m pc arr st) := by
  obtain ⟨hx, hb, -, hr, -, hlocks, -⟩ := F
  refine W_mono (endQ_of (args := args) hR) ?_
  unfold rt1 at h
  split at h
  · split at h
    · rename_i hq
      obtain ⟨rfl, hq⟩ := hq
      cases h
      rcases hq with hq | ⟨hq, hv⟩
      · exact W.iret hx hb (hr.trans hq) (fun t ht hW => ⟨rfl, ht, hW⟩) hlo hd
      · exact W.zret hx hb (hr.trans hq) (by rcases hv with rfl | rfl <;> rfl) (fun t ht hW => ⟨rfl, ht, hW⟩) hlo hd
    · cases h
  · split at h
    · rename_i hq
      obtain ⟨rfl, hq⟩ := hq
      cases h
      exact W.vret hx hb (hr.trans hq) (fun t ht hW => ⟨rfl, ht, hW⟩) hlo hd
    · cases h
  · split at h
    · rename_i hq
      obtain ⟨rfl, hq⟩ := hq
      cases h
      rcases hq with hq | hq | hq <;> exact W.aret hx hb (hr.trans hq) (Or.inl ⟨_, rfl⟩) (Or.inr ⟨_, rfl⟩) (fun t ht hW => ⟨rfl, ht, hW⟩) hlo hd
    · cases h
  · split at h
    · rename_i hq
      obtain ⟨rfl, hq⟩ := hq
      cases h
      rcases hq with hq | hq | hq <;> exact W.aret hx hb (hr.trans hq) (Or.inl ⟨_, rfl⟩) (Or.inl rfl) (fun t ht hW => ⟨rfl, ht, hW⟩) hlo hd
    · cases h
  · cases h
/-- the method as if it had been invoked just now -/
theorem rebase (X : Stand p l e R s m args below meth c T locs cells slots) (hc : cells ≤ R.cells) (hs : slots ≤ R.slots) : Stand p l e { frames := R.frames, cells := R.cells - cells, slots := R.slots - slots, locals := R.locals } (T.setFrames (.invoking m args :: below)) m args below meth c T [] 0 0 := by
  obtain ⟨g₀, hfr⟩ := X.frames_eq
  have hcur : T.cur < T.threads.size := State.cur_lt_of_frames hfr
  have hF : (T.setFrames (.invoking m args :: below)).frames = .invoking m args :: below := State.frames_setFrames _ hcur
  have hm' : T.vm.method? m = some meth := X.method'
  refine ⟨X.admits, X.cas, X.clock, hF, ?_, ?_, hm', X.code, X.here, X.tail, State.WarmedH.refl (T.setFrames (.invoking m args :: below)), ?_, ?_, ?_⟩
  · have hr := X.room
    simp only [State.hasRoom, Bool.and_eq_true, decide_eq_true_eq] at hr ⊢
    rw [State.localsInUse_invoking X.frames X.method X.code, X.frames] at hr
    rw [State.localsInUse_invoking hF hm' X.code, hF, State.stackLimits_setFrames, State.stackBytes_setFrames, X.limits, X.bytes]
    have h1 := X.heapSize
    have h2 := X.used
    have h3 : (T.setFrames (.invoking m args :: below)).heap.size = T.heap.size := rfl
    have h4 : (T.setFrames (.invoking m args :: below)).slotsUsed = T.slotsUsed := rfl
    have h5 : (T.setFrames (.invoking m args :: below)).slotsTrue = T.slotsTrue := rfl
    rw [h3, h4, h5]
    obtain ⟨⟨⟨⟨a1, a2⟩, a3⟩, a4⟩, a5⟩ := hr
    refine ⟨⟨⟨⟨a1, a2⟩, ?_⟩, ?_⟩, X.book⟩
    · show T.heap.size + (R.cells - cells) ≤ _; omega
    · show T.slotsUsed + (R.slots - slots) ≤ _; omega
  · have h0 := X.hears
    have hal := X.warmed.alike
    unfold State.hears at h0 ⊢
    split
    · rename_i g _
      simp only at h0
      rw [State.code?_eq] at h0 ⊢
      rw [show (T.setFrames (.invoking m args :: _)).vm = T.vm from rfl, hal.method?]
      exact h0
    · rfl
    · rfl
    · rename_i h1 h2 h3
      split at h0
      · exact absurd rfl (h1 _ _)
      · exact absurd rfl (h2 _ _)
      · exact absurd rfl (h3 _ _)
      · rw [show (T.setFrames (.invoking m args :: below)).vm = T.vm from rfl, hal.method?]
        exact h0
  · rw [State.stackLimits_setFrames]
  · rw [State.stackBytes_setFrames]
  · obtain ⟨th, hth, -⟩ := State.frames_cons hF
    have h1 := (State.sameButNew.refl (T.setFrames (.invoking m args :: below)) hth).setFrames T.frames (State.cur_lt_of_frames hF)
    rw [State.setFrames_setFrames] at h1
    obtain ⟨th2, hth2, -⟩ := State.frames_cons hfr
    rw [State.setFrames_self hth2] at h1
    exact h1
end EX
