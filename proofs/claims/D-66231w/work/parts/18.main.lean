/-! ===== the main theorem of the machine part ===== -/
/-- a call's instruction, entered -/
theorem cal_ent {p : Program} {l : Launch} {e : Env} {R : Room} {s : State} {m : MethodId} {args : Array Value} {below : List Frame} {meth : Method} {c : Code} {T : State} {locs : List Loc} {cells slots : Nat} (X : Stand p l e R s m args below meth c T locs cells slots) {cc : ByteArray} (hx : p.tables.exec = Jvm.exec) (hb : c.code = cc) {D : Dn} (hC : Cx D s) {c1 : Nat} (hown : s.vm.findClass (nmC c1) = some m.cls) {bs : Nat} {H0 : Heap} {M : Mem} (hR : Rep D s bs H0 M T.heap)
    {i : Instr} {len pc y' : Nat} {st as r : List Value} {arr : Array Slot} (h : cal c1 i len st M = some (y', as, r)) {q' : Mt} (hq' : mTb[y']? = some q') (hd : decode cc pc = .ok (i, len)) :
    len = 3 ∧ y' < 231 ∧ smallR r = true ∧ Ent p l e R s m args below meth c T locs cells slots (F0 m pc arr st) (mNm y') as r := by
  unfold cal at h
  split at h
  · split at h
    · rename_i md r0 k0 y hl
      split at h
      · rename_i as1 r1 hp
        split at h
        · rename_i hq
          obtain ⟨rfl, q2, q3, q4⟩ := hq
          cases h
          obtain ⟨p1, p2⟩ := popA_spec hp
          exact ⟨rfl, q3, q4, ent_static X hx hb hC hown hl q2 q3 hq' rfl p2 p1 hd⟩
        · cases h
      · cases h
    · cases h
  · split at h
    · rename_i md r0 k0 y hl
      split at h
      · rename_i as1 a r1 hp
        split at h
        · rename_i hq
          obtain ⟨rfl, rfl, q3, q4⟩ := hq
          cases h
          obtain ⟨p1, p2⟩ := popA_spec hp
          exact ⟨rfl, q3, q4, ent_special X hx hb hC hown hl q3 hq' rfl p2 p1 hd⟩
        · cases h
      · cases h
    · cases h
  · split at h
    · rename_i md r0 k0 y0 ts hl
      split at h
      · rename_i as1 a r1 hp
        split at h
        · rename_i k hk
          split at h
          · rename_i k' y hf
            split at h
            · rename_i hq
              obtain ⟨rfl, q2, q3, q4⟩ := hq
              cases h
              obtain ⟨p1, p2⟩ := popA_spec hp
              exact ⟨rfl, q3, q4, ent_virtual X hx hb hC hown hR hl q2 hf q3 rfl hk p2 p1 hd⟩
            · cases h
          · cases h
        · cases h
      · cases h
    · cases h
  · cases h
set_option maxRecDepth 20000 in
theorem rm_aux {z1 z2 d' L : Nat} (a1 : z1 ≤ 8) (a2 : z2 ≤ 21) (a3 : 40 * (d' + 1) + 400 ≤ L) : 2 * 0 + z1 + (z2 + 11) + (40 * d' + 400) ≤ L := by omega
set_option maxHeartbeats 8000000 in
set_option maxRecDepth 20000 in
theorem sound {D : Dn} {bs : Nat} {H0 : Heap} (hbs : H0.size = bs) : ∀ (n d y pc : Nat) (ls : Lc) (st : List Value) (M : Mem) (o : Outcome) (M' : Mem), rn n d y pc ls st M = some (o, M') →
    ∀ (p : Program) (l : Launch) (e : Env) (R : Room) (s : State) (m : MethodId) (args : Array Value) (below : List Frame) (meth : Method) (c : Code) (H : Heap) (locs : List Loc) (cells slots : Nat) (arr : Array Slot) (q : Mt),
    mTb[y]? = some q → Frm p s m meth c q → Cx D s → Zs bs H0 s → e.platform.stackTraces = false → (∀ q : Nat, q < bs → s.heap[q]? = H0[q]?) → Rep D s bs H0 M H → (∀ x ∈ locs, bs ≤ x.base) → LH arr ls → ls.length = q.2.2.1 →
    d + 10 ≤ R.frames → 40 * d + 400 ≤ R.locals → cells + (mN M' - mN M) ≤ R.cells → slots + (mS M' - mS M) ≤ R.slots →
    W p l e R s m args below meth c H locs cells slots (EndQ D bs H0 below s o M' (cells + (mN M' - mN M)) (slots + (mS M' - mS M))) (F0 m pc arr st) := by
  intro n
  induction n with
  | zero => intro d y pc ls st M o M' h; cases h
  | succ n ih =>
    intro d y pc ls st M o M' h p l e R s m args below meth c H locs cells slots arr q hq F hC hZ htr hs0 hR hlo hL hll hRf hRl hRc hRs
    have hle := rn_le _ _ _ _ _ _ _ _ _ h
    simp only [rn] at h
    rw [hq] at h
    simp only at h
    split at h
    · cases h
    · rename_i i len hdec
      have hd := dec1_ok hdec
      obtain ⟨hx, hb, hmlc, hret, hown, hlocks, hhs, hnm⟩ := id F
      have hml : arr.size = q.2.2.1 := hL.1.trans hll
      split at h
      · rename_i pc' ls' st' hA
        exact soundA hx hb hA hd hL (fun arr' hL' => ih d y pc' ls' st' M o M' h p l e R s m args below meth c H locs cells slots arr' q hq F hC hZ htr hs0 hR hlo hL' ((stA_len hA).trans hll) hRf hRl hRc hRs)
      · split at h
        · rename_i pc' st' M1 hM
          have h1 := stM_le hM
          have h2 := rn_le _ _ _ _ _ _ _ _ _ h
          refine soundM ⟨hx, hb, hown, fun hi => by rw [hnm]; simpa using hi⟩ (by rw [hmlc]; exact hml.symm) hC hR hlo hM hd (by omega) (by omega) (by omega) (by omega) (fun H1 locs1 hR1 hlo1 => ?_)
          have h9 := ih d y pc' ls st' M1 o M' h p l e R s m args below meth c H1 locs1 (cells + (mN M1 - mN M)) (slots + (mS M1 - mS M)) arr q hq F hC hZ htr hs0 hR1 hlo1 hL hll hRf hRl (by omega) (by omega)
          rw [show cells + (mN M1 - mN M) + (mN M' - mN M1) = cells + (mN M' - mN M) by omega, show slots + (mS M1 - mS M) + (mS M' - mS M1) = slots + (mS M' - mS M) by omega] at h9
          exact h9
        · split at h
          · rename_i y' as r hcal
            split at h
            · rename_i d' q' hq'
              split at h
              · rename_i ls' hent
                intro T hT X
                subst hT
                obtain ⟨rfl, hy', hsm, vm₁, mk, X₁, hnk, hst⟩ := cal_ent (arr := arr) X hx hb hC hown hR hcal hq' hd
                have hsm' := of_decide_eq_true hsm
                have hC₁ : Cx D (T.setVm vm₁) := hC.moved hZ X₁.warmed (fun q9 hq9 => by
                  show T.heap[q9]? = _
                  rw [hs0 q9 hq9]; exact hR.2.2.1 q9 hq9)
                obtain ⟨mk', methk, ck, k1, k2, k3, k4, k5, k6, k7, k8, k9⟩ := cd_spec hC (by omega : y' < 233) hq'
                rw [mNm_eq hq'] at hnk
                cases hnk.symm.trans k1
                have hmk : (T.setVm vm₁).vm.method? mk = some methk := by rw [X₁.warmed.alike.method?]; exact k2
                obtain ⟨hsmall, hcls, hplain⟩ := mTb_small y' hy'
                rw [mTb_D hq'] at hsmall hcls
                rw [mNm_eq hq'] at hcls hplain
                have hpk : (T.setVm vm₁).plainMethod mk := State.plainMethod.of_name (fun k hk => by
                  obtain ⟨k0, hk0, hn0⟩ := className_of_methodNamed hnk
                  obtain ⟨k0', hk0', he0⟩ := X₁.warmed.alike.2.2 _ _ hk0
                  cases hk.symm.trans hk0'
                  rw [he0, hn0]; exact hplain)
                -- the callee's run
                have run : ∀ (o1 : Outcome) (M1 : Mem), rn n d' y' 0 ls' [] M = some (o1, M1) → cells + (mN M1 - mN M) ≤ R.cells → slots + (mS M1 - mS M) ≤ R.slots →
                    ∃ t, Steps p.tables e (.java (F0 m pc arr r) :: below) ((((T.setVm vm₁).setTop (F0 m pc arr r)).pushFrame (.java (entryFrame mk as.toArray ck.maxLocals))).setTop (entryFrame mk as.toArray ck.maxLocals)) t ∧
                      EndQ D bs H0 (.java (F0 m pc arr r) :: below) ((T.setVm vm₁).calling (F0 m pc arr r) mk as.toArray) o1 M1 (0 + (mN M1 - mN M)) (0 + (mS M1 - mS M)) t ∧
                      ∀ acts, (doInvoke e ((T.setVm vm₁).setTop (F0 m pc arr r)) acts mk as.toArray).1 = (((T.setVm vm₁).setTop (F0 m pc arr r)).pushFrame (.java (entryFrame mk as.toArray ck.maxLocals))).setTop (entryFrame mk as.toArray ck.maxLocals) := by
                  intro o1 M1 hr1 hc1 hs1
                  have hl9 : 2 * 0 + (r.map fun v => v.category).sum + (ck.maxLocals + 11) + (40 * d' + 400) ≤ R.locals := by rw [k5]; exact rm_aux hsm' hsmall hRl
                  have hf9 : d' + 10 + 1 ≤ R.frames := by omega
                  obtain ⟨Y₀, hin⟩ := X₁.into (g := (F0 m pc arr r)) rfl (by rw [hmlc]; exact hml) (by rw [hb]; exact hd) as.toArray (R' := { frames := d' + 10, cells := mN M1 - mN M, slots := mS M1 - mS M, locals := 40 * d' + 400 }) hmk k3 k7 hpk hf9 hl9 hc1 hs1
                  obtain ⟨hL1, hll1⟩ := ent_LH hent
                  have hF1 : Frm p ((T.setVm vm₁).calling (F0 m pc arr r) mk as.toArray) mk methk ck q' := by
                    refine ⟨hx, k4, k5, k6, ?_, k7, k8, ?_⟩
                    · show (T.setVm vm₁).vm.findClass _ = _
                      rw [hcls, X₁.warmed.alike.findClass]
                      exact findClass_of_methodNamed hnk
                    · exact (name_of_methodNamed hnk k2).1
                  have hh : (((T.setVm vm₁).setTop (F0 m pc arr r)).pushFrame (.java (entryFrame mk as.toArray ck.maxLocals))).heap = T.heap := rfl
                  have hcx : Cx D ((T.setVm vm₁).calling (F0 m pc arr r) mk as.toArray) := hC.moved hZ X₁.warmed (fun q9 hq9 => by
                    show T.heap[q9]? = _
                    rw [hs0 q9 hq9]; exact hR.2.2.1 q9 hq9)
                  have w := ih d' y' 0 ls' [] M o1 M1 hr1 p l e { frames := d' + 10, cells := mN M1 - mN M, slots := mS M1 - mS M, locals := 40 * d' + 400 } ((T.setVm vm₁).calling (F0 m pc arr r) mk as.toArray) mk as.toArray (.java (F0 m pc arr r) :: below) methk ck T.heap [] 0 0 _ q' hq' hF1 hcx (hZ.moved X₁.warmed.alike) htr (fun q9 hq9 => hR.2.2.1 q9 hq9) (hR.moved X₁.warmed.alike) (fun x hx9 => by cases hx9) hL1 hll1 (Nat.le_refl _) (Nat.le_refl _) (by show 0 + _ ≤ mN M1 - mN M; omega) (by show 0 + _ ≤ mS M1 - mS M; omega)
                  rw [← k5, ← lg_entry_eq] at w
                  obtain ⟨t, t1, t2⟩ := w _ hh Y₀
                  exact ⟨t, t1, t2, hin⟩
                split at h
                · rename_i v M1 hr1
                  have hle1 := rn_le _ _ _ _ _ _ _ _ _ hr1
                  have hle2 := rn_le _ _ _ _ _ _ _ _ _ h
                  obtain ⟨t, t1, ⟨e1, e2, e3, e4, L, e5, e6⟩, hin⟩ := run _ _ hr1 (by omega) (by omega)
                  obtain ⟨T', X', hW', hB', ht⟩ := X₁.outOf (g := (F0 m pc arr r)) rfl (by rw [hb]; exact hd) e2 e3 e5
                  have hth : t.heap = T'.heap := by rw [ht]; rfl
                  have hR' : Rep D s bs H0 M1 T'.heap := by
                    rw [← hth]
                    exact e4.moved ((State.WarmedH.trans X₁.warmed e3).alike.symm)
                  have w := ih (d' + 1) y (pc + 3) ls (v.toList ++ r) M1 o M' h p l e R s m args below meth c T'.heap (locs ++ L) (cells + (0 + (mN M1 - mN M))) (slots + (0 + (mS M1 - mS M))) arr q hq F hC hZ htr hs0 hR' (fun x hx9 => by
                    rcases List.mem_append.mp hx9 with h9 | h9
                    · exact hlo x h9
                    · exact e6 x h9) hL hll hRf hRl (by omega) (by omega)
                  obtain ⟨t', u1, u2⟩ := w T' rfl X'
                  refine ⟨t', hst t' (fun acts => ?_), ?_⟩
                  · rw [hin acts]
                    refine (steps_weaken (mid := [.java (F0 m pc arr r)]) t1).trans ?_
                    rw [ht]
                    exact u1
                  · rw [show cells + (0 + (mN M1 - mN M)) + (mN M' - mN M1) = cells + (mN M' - mN M) by omega, show slots + (0 + (mS M1 - mS M)) + (mS M' - mS M1) = slots + (mS M' - mS M) by omega] at u2
                    exact u2
                · rename_i a M1 hr1
                  have hle1 := rn_le _ _ _ _ _ _ _ _ _ hr1
                  split at h
                  · rename_i hpc hhd
                    have hle2 := rn_le _ _ _ _ _ _ _ _ _ h
                    obtain ⟨t, t1, ⟨e1, e2, e3, e4, L, e5, e6⟩, hin⟩ := run _ _ hr1 (by omega) (by omega)
                    obtain ⟨T', X', hW', hB', ht⟩ := X₁.outOfThrown (g := (F0 m pc arr r)) rfl e2 e3 e5
                    have hth : t.heap = T'.heap := by rw [ht]; rfl
                    have hR' : Rep D s bs H0 M1 T'.heap := by
                      rw [← hth]
                      exact e4.moved ((State.WarmedH.trans X₁.warmed e3).alike.symm)
                    unfold hnd at hhd
                    split at hhd
                    · rename_i k hk
                      split at hhd
                      · rename_i hkx
                        obtain ⟨-, -, cell, c2, c3, c4, -⟩ := hR'.ob hk
                        obtain ⟨vm', X'', hst''⟩ := caughtAt X' hC hown (g := (F0 m pc arr r)) rfl hkx c2 c3 c4 (by rw [hhs]; exact hhd)
                        have w := ih (d' + 1) y hpc ls [.ref a] M1 o M' h p l e R s m args below meth c T'.heap (locs ++ L) (cells + (0 + (mN M1 - mN M))) (slots + (0 + (mS M1 - mS M))) arr q hq F hC hZ htr hs0 hR' (fun x hx9 => by
                          rcases List.mem_append.mp hx9 with h9 | h9
                          · exact hlo x h9
                          · exact e6 x h9) hL hll hRf hRl (by omega) (by omega)
                        obtain ⟨t', u1, u2⟩ := w (T'.setVm vm') rfl X''
                        refine ⟨t', hst t' (fun acts => ?_), ?_⟩
                        · rw [hin acts]
                          refine (steps_weaken (mid := [.java (F0 m pc arr r)]) t1).trans ?_
                          rw [ht]
                          exact hst'' t' u1
                        · rw [show cells + (0 + (mN M1 - mN M)) + (mN M' - mN M1) = cells + (mN M' - mN M) by omega, show slots + (0 + (mS M1 - mS M)) + (mS M' - mS M1) = slots + (mS M' - mS M) by omega] at u2
                          exact u2
                      · cases hhd
                    · cases hhd
                  · rename_i hhd
                    cases h
                    obtain ⟨t, t1, ⟨e1, e2, e3, e4, L, e5, e6⟩, hin⟩ := run _ _ hr1 (by omega) (by omega)
                    obtain ⟨T', X', hW', hB', ht⟩ := X₁.outOfThrown (g := (F0 m pc arr r)) rfl e2 e3 e5
                    have hth : t.heap = T'.heap := by rw [ht]; rfl
                    have hR' : Rep D s bs H0 M' T'.heap := by
                      rw [← hth]
                      exact e4.moved ((State.WarmedH.trans X₁.warmed e3).alike.symm)
                    have hout : ∀ x ∈ c.exceptionTable.toList, covers x pc = false := by
                      unfold hnd at hhd
                      split at hhd
                      · split at hhd
                        · rw [← hhs] at hhd
                          exact hGo_out _ hhd
                        · cases hhd
                      · cases hhd
                    obtain ⟨t', u1, u2⟩ := leaveQ X' hR' (fun x hx9 => by
                      rcases List.mem_append.mp hx9 with h9 | h9
                      · exact hlo x h9
                      · exact e6 x h9) hlocks (g := (F0 m pc arr r)) rfl rfl rfl hout a
                    refine ⟨t', hst t' (fun acts => ?_), ?_⟩
                    · rw [hin acts]
                      refine (steps_weaken (mid := [.java (F0 m pc arr r)]) t1).trans ?_
                      rw [ht]
                      exact u1
                    · rw [show cells + (0 + (mN M' - mN M)) = cells + (mN M' - mN M) by omega, show slots + (0 + (mS M' - mS M)) = slots + (mS M' - mS M) by omega] at u2
                      exact u2
                  · cases h
                · cases h
              · cases h
            · cases h
          · split at h
            · rename_i v hrt
              cases h
              simp only [Nat.sub_self, Nat.add_zero]
              exact soundRet F hR hlo hrt hd
            · split at h
              · rename_i M1 ht
                cases h
                obtain ⟨n1, n2⟩ := tnw_N ht
                rw [n1] at hRc
                rw [n2] at hRs
                rw [n1, n2]
                simp only [Nat.add_sub_cancel_left] at hRc hRs ⊢
                exact soundTnw F hC hZ hbs htr hs0 hR hlo hml ht hd (by omega) (by omega) hRc hRs
              · split at h
                · rename_i a r9 z1 z2 z3 z4 z5
                  split at h
                  · rename_i hlen1
                    subst hlen1
                    split at h
                    · rename_i hpc hhd
                      intro T hT X
                      subst hT
                      unfold hnd at hhd
                      split at hhd
                      · rename_i k hk
                        split at hhd
                        · rename_i hkx
                          obtain ⟨-, -, cell, c2, c3, c4, -⟩ := hR.ob hk
                          obtain ⟨vm', X'', hst''⟩ := caughtAt X hC hown (g := F0 m pc arr r9) rfl hkx c2 c3 c4 (by rw [hhs]; exact hhd)
                          have w := ih d y hpc ls [.ref a] M o M' h p l e R s m args below meth c T.heap locs cells slots arr q hq F hC hZ htr hs0 hR hlo hL hll hRf hRl hRc hRs
                          obtain ⟨t', u1, u2⟩ := w (T.setVm vm') rfl X''
                          exact ⟨t', athrow_step X hx (g := F0 m pc arr (.ref a :: r9)) rfl rfl (by rw [hb]; exact hd) (hst'' t' u1), u2⟩
                        · cases hhd
                      · cases hhd
                    · rename_i hhd
                      cases h
                      simp only [Nat.sub_self, Nat.add_zero]
                      intro T hT X
                      subst hT
                      have hout : ∀ x ∈ c.exceptionTable.toList, covers x pc = false := by
                        unfold hnd at hhd
                        split at hhd
                        · split at hhd
                          · rw [← hhs] at hhd
                            exact hGo_out _ hhd
                          · cases hhd
                        · cases hhd
                      obtain ⟨t', u1, u2⟩ := leaveQ X hR hlo hlocks (g := F0 m pc arr r9) rfl rfl rfl hout a
                      exact ⟨t', athrow_step X hx (g := F0 m pc arr (.ref a :: r9)) rfl rfl (by rw [hb]; exact hd) u1, u2⟩
                    · cases h
                  · cases h
                · cases h
