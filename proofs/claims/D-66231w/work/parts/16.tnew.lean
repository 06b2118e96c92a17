/-! ===== 'throw new X()' ===== -/
def xNs : List String := ["java/lang/RuntimeException", "java/lang/Exception"]
def nIs : Cond → Bool
  | .isRef _ => false
  | _ => true
def eAt (q : Nat × Nat × Nat) : List Cond := (Bundle.ownAtoms0 (nmC q.1) q.2.1 (nmC q.2.2) xNs).filter nIs
set_option maxRecDepth 100000 in
theorem eAt_ok : ∀ q ∈ eLk, ∀ w ∈ eAt q, w ∈ lw_tbl := wAll_ok (is := [[99, 254, 263, 269, 272, 274, 255, 256, 119, 120, 257, 262, 270, 287, 244, 288, 246, 289, 248, 258, 259, 260, 261, 250, 276, 277, 278, 279, 235, 279, 280, 281, 282, 237, 282, 283, 284, 255, 239, 275, 233, 234, 241, 242, 243, 245, 247, 249, 253, 252, 251], [99, 254, 263, 269, 272, 274, 255, 256, 119, 120, 257, 262, 270, 287, 244, 288, 246, 289, 248, 258, 259, 260, 261, 250, 687, 688, 689, 279, 235, 279, 280, 281, 282, 237, 282, 283, 284, 255, 239, 686, 678, 679, 680, 268, 681, 682, 683, 684, 253, 252, 685], [99, 254, 263, 269, 272, 274, 255, 256, 119, 120, 257, 262, 270, 287, 244, 288, 246, 289, 248, 258, 259, 260, 261, 250, 729, 730, 731, 279, 235, 279, 280, 281, 282, 237, 282, 283, 284, 255, 239, 728, 720, 721, 722, 267, 723, 724, 725, 726, 253, 252, 727], [99, 254, 263, 269, 272, 274, 255, 256, 119, 120, 257, 262, 270, 287, 244, 288, 246, 289, 248, 258, 259, 260, 261, 250, 750, 751, 752, 279, 235, 279, 280, 281, 282, 237, 282, 283, 284, 255, 239, 749, 741, 742, 743, 266, 744, 745, 746, 747, 253, 252, 748], [99, 254, 263, 269, 272, 274, 255, 256, 119, 120, 257, 262, 270, 287, 244, 288, 246, 289, 248, 258, 259, 260, 261, 250, 276, 277, 278, 279, 235, 279, 280, 281, 282, 237, 282, 283, 284, 255, 239, 766, 233, 234, 241, 242, 243, 245, 247, 249, 253, 252, 251]]) (by decide +kernel)
theorem isRef_of {U : State} {A : Array Value} {C n d : String} {B : Nat → Prop} (h : va_Zq C n d B U U.heap) : (Cond.isRef (.static C n d)).before A U = true := by
  have key : ∀ v, va_Z C n d v B U U.heap → (Term.static C n d).eval A U none [] U = some v := by
    rintro v ⟨cf, kf, fi, f, a, cell, g1, g2, g3, g4, g5, g6, g7, g8⟩
    simp [Term.eval, State.fieldNamed?, g1, g2, g4, g5, g6, g7]
  rcases h with h | ⟨t, h⟩
  · simp [Cond.before, Cond.holds, Cond.value, key _ h]
  · simp [Cond.before, Cond.holds, Cond.value, key _ h]
theorem isRef_in : ∀ q, ∀ w ∈ Bundle.ownAtoms0 (nmC q.1) q.2.1 (nmC q.2.2) xNs, w ∈ eAt q ∨ w = .isRef (.static tNm "UNASSIGNED_STACK" usD) ∨ w = .isRef (.static tNm "SUPPRESSED_SENTINEL" ssD) := by
  intro q w hw
  by_cases h : nIs w = true
  · exact Or.inl (List.mem_filter.mpr ⟨hw, h⟩)
  · refine Or.inr ?_
    have hx : w ∈ (Bundle.ownAtoms0 (nmC q.1) q.2.1 (nmC q.2.2) xNs).filter (fun w => !nIs w) := List.mem_filter.mpr ⟨hw, by simpa using h⟩
    have e : (Bundle.ownAtoms0 (nmC q.1) q.2.1 (nmC q.2.2) xNs).filter (fun w => !nIs w) = [.isRef (.static tNm "UNASSIGNED_STACK" usD), .isRef (.static tNm "SUPPRESSED_SENTINEL" ssD)] := rfl
    rw [e] at hx
    simpa using hx
set_option maxRecDepth 100000 in
theorem eLk_spec : ∀ q ∈ eLk, q.2.2 ∈ cEx ∧ Bundle.fit (nmC q.2.2) = true := by decide +kernel
theorem xNs_fit : ∀ n ∈ xNs, Bundle.fit n = true := by decide +kernel
theorem cEx_fl : ∀ k ∈ cEx, cFl k = [] ∧ cSz k = 6 := by decide
theorem dec1_ok {b : ByteArray} {pc : Nat} {r : Instr × Nat} (h : dec1 b pc = some r) : decode b pc = .ok r := by
  unfold dec1 at h
  split at h
  · rename_i r' hr; cases h; exact hr
  · cases h
section TN
variable {p : Program} {l : Launch} {e : Env} {R : Room} {s : State} {m : MethodId} {args : Array Value} {below : List Frame} {meth : Method} {c : Code} {H : Heap} {locs : List Loc} {cells slots : Nat}
set_option maxHeartbeats 4000000 in
theorem soundTnw {D : Dn} {bs : Nat} {H0 : Heap} {M M' : Mem} {q : Mt} {i : Instr} {len pc : Nat} {st : List Value} {arr : Array Slot} (F : Frm p s m meth c q) (hC : Cx D s) (hZ : Zs bs H0 s) (hbs : H0.size = bs) (htr : e.platform.stackTraces = false) (hs0 : ∀ q : Nat, q < bs → s.heap[q]? = H0[q]?) (hR : Rep D s bs H0 M H) (hlo : ∀ x ∈ locs, bs ≤ x.base) (hml : arr.size = q.2.2.1)
    (h : tnw q i len pc st M = some M') (hd : decode q.2.1 pc = .ok (i, len)) (h1 : 10 ≤ R.frames) (h2 : 400 ≤ R.locals) (hc : cells + 1 ≤ R.cells) (hs : slots + 6 ≤ R.slots) : W p l e R s m args below meth c H locs cells slots (EndQ D bs H0 below s (.threw (mN M)) M' (cells + 1) (slots + 6)) (F0 m pc arr st) := by
  obtain ⟨hx, hb, hmlc, hr, hown, hlocks, hh, hnm⟩ := F
  unfold tnw at h
  split at h
  · rename_i idx
    split at h
    · rename_i k ic hk hd4
      split at h
      · rename_i hq
        obtain ⟨rfl, hkx, hq3, rfl, hq5, hq6, hq7⟩ := hq
        cases h
        intro T hT X
        obtain ⟨ex1, ex2⟩ := eLk_spec _ hq7
        have X2 := rebase X (by omega) (by omega)
        have hC2 : Cx D (T.setFrames (.invoking m args :: below)) := hC.moved hZ X.warmed (fun q9 hq9 => by
          show T.heap[q9]? = _
          rw [hT, hs0 q9 hq9]; exact hR.2.2.1 q9 hq9)
        have hZ2 : Zs bs H0 (T.setFrames (.invoking m args :: below)) := hZ.moved X.warmed.alike
        have hold : ∀ q9 : Nat, q9 < H0.size → ¬ bs ≤ q9 → T.heap[q9]? = H0[q9]? := fun q9 _ h9 => by rw [hT]; exact hR.2.2.1 q9 (by omega)
        obtain ⟨hfc, kC0, hkC0, -⟩ := hC2.2.2.1 k (cEx_ob k hkx)
        have hwk := cLy_ok k (cEx_ob k hkx)
        have hat : ∀ w ∈ Bundle.ownAtoms0 (nmC q.2.2.2.2.2) ic (nmC k) xNs, w.before args (T.setFrames (.invoking m args :: below)) = true := by
          intro w hw
          rcases isRef_in (q.2.2.2.2.2, ic, k) w hw with h9 | rfl | rfl
          · exact hC2.1 w (eAt_ok _ hq7 w h9) args
          · exact isRef_of (hZ2.1.kept hold)
          · exact isRef_of (hZ2.2.kept hold)
        have hown2 : (T.setFrames (.invoking m args :: below)).vm.findClass (nmC q.2.2.2.2.2) = some m.cls := by
          show T.vm.findClass _ = _
          rw [X.warmed.alike.findClass]; exact hown
        have hes : c.exceptionTable.toList = [] := by
          rw [hq3] at hh
          exact List.map_eq_nil_iff.mp hh
        have key : W p l e { frames := R.frames, cells := R.cells - cells, slots := R.slots - slots, locals := R.locals } (T.setFrames (.invoking m args :: below)) m args below meth c T.heap [] 0 0
            (fun t => t.status = .running ∧ Ended t below (.threw T.heap.size) ∧ (T.setFrames (.invoking m args :: below)).WarmedH t.vm ∧ (T.setFrames (.invoking m args :: below)).sameButNew ({ t with vm := (T.setFrames (.invoking m args :: below)).vm } : State) [] 1 6 ∧ ∃ ce : Cell, t.heap[T.heap.size]? = some ce ∧ ce.cls = D.1 k ∧ ce.vm = .none) (F0 m pc arr []) := by
          refine W.newcK hx hb hown2 (cRes_link hC2 hk args) (hC2.1 _ (hwk _ List.mem_cons_self) args) (hC2.1 _ (hwk _ (List.mem_cons_of_mem _ List.mem_cons_self)) args) rfl hd (show 0 + 1 ≤ R.cells - cells by omega) (show 0 + cSz k ≤ R.slots - slots by rw [(cEx_fl k hkx).2]; omega) hfc rfl fun H1 kC hkC e1 e2 e3 => ?_
          refine lv_dup hx hb (dec1_ok hq5) rfl ?_
          intro T3 hT3 X3
          rw [(cEx_fl k hkx).2] at X3
          obtain ⟨U, u1, u2, u3, u4, u5, ce, u6, u7⟩ := X3.ctorThrow0 hx htr hown2 ex2 xNs_fit hat (fun x hx9 => by cases hx9) hfc hkC (by rw [hT3]; exact e1) (Nat.le_refl _) (g := F0 m (pc + 3 + 1) arr [.ref T.heap.size, .ref T.heap.size]) rfl (by rw [hmlc]; exact hml) rfl rfl rfl (by rw [hb]; exact dec1_ok hd4) (by rw [hb]; exact dec1_ok hq6) (by rw [hes]; intro x hx9; cases hx9) (show 2 + 3 < R.frames by omega) (show _ ≤ R.locals by simp [Value.category, xNs]; omega)
          refine ⟨U, u1, u2, u3, u4, u5, ce, u6, ?_, u7.vm⟩
          exact Option.some.inj (u7.cls.symm.trans hfc)
        obtain ⟨t, st1, t1, t2, t3, t4, ce, t5, t6, t7⟩ := key T rfl X2
        refine ⟨t, st1, t1, by rw [hT, hR.1] at t2; exact t2, State.WarmedH.trans X.warmed t3, ?_, ?_⟩
        · obtain ⟨s1, s2, s3, s4, s5, s6⟩ := t4
          have hTN : T.heap.size = mN M := by rw [hT]; exact hR.1
          have hsz : t.heap.size = mN M + 1 := by
            have a1 := (Array.getElem?_eq_some_iff.mp t5).1
            have a2 : t.heap.size ≤ T.heap.size + 1 := s3
            omega
          have hke : ∀ q9 : Nat, q9 < mN M → t.heap[q9]? = H[q9]? := by
            intro q9 hq9
            have hlt : q9 < T.heap.size := by omega
            obtain ⟨c', b1, b2, b3, b4⟩ := s6 q9 _ (Array.getElem?_eq_getElem hlt)
            have b5 : c'.slots = T.heap[q9].slots := by
              apply Array.ext_getElem?
              intro j
              exact b4 j (fun z => by cases z)
            have b6 : c' = T.heap[q9] := by rw [b2, b5]
            show t.heap[q9]? = _
            rw [show t.heap[q9]? = some c' from b1, b6, ← Array.getElem?_eq_getElem hlt, hT]
          have hRt : Rep D s bs H0 (nw M (.inl k) 6) t.heap := by
            refine hR.new (by rw [← hTN]; exact t5) hsz hke t7 ⟨cEx_ob k hkx, hR.2.1, ce, by rw [← hTN]; exact t5, t6, t7, fun f hf => ?_⟩
            rw [(cEx_fl k hkx).1] at hf
            cases hf
          exact hRt.moved (State.WarmedH.trans X.warmed t3).alike
        · obtain ⟨s1, s2, s3, s4, s5, s6⟩ := t4
          rw [State.setFrames_setFrames] at s1
          have hB : T.sameButNew ({ t with vm := T.vm } : State) [] 1 6 := ⟨s1, s2, s3, s4, s5, s6⟩
          have hB2 := X.same.trans (hB.setVm s.vm)
          rw [List.append_nil] at hB2
          exact ⟨locs, hB2, hlo⟩
      · cases h
    · cases h
  · cases h
end TN
