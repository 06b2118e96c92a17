/-! ===== THE INTERPRETER IS SOUND ===== -/
theorem st1_len {ls ls' : Lc} {i : Nat} {v : Value} (h : st1 ls i v = some ls') : ls'.length = ls.length := by
  unfold st1 at h
  split at h
  · cases h; exact List.length_set
  · cases h
set_option maxHeartbeats 4000000 in
theorem stA_len {i : Instr} {len pc pc' : Nat} {ls ls' : Lc} {st st' : List Value} (h : stA i len pc ls st = some (pc', ls', st')) : ls'.length = ls.length := by
  unfold stA at h
  split at h <;> (repeat' (split at h)) <;> first | (cases h; done) | (cases h; rfl) | (cases h; exact st1_len (by assumption))
theorem rws_le (o k n : Nat) (M : Mem) : mN M ≤ mN (rws o k n M) ∧ mS M ≤ mS (rws o k n M) := by
  obtain ⟨h1, h2⟩ := rws_N o k n M
  omega
set_option maxHeartbeats 4000000 in
theorem stM_le {c1 : Nat} {ini : Bool} {i : Instr} {len pc pc' : Nat} {st st' : List Value} {M M' : Mem} (h : stM c1 ini i len pc st M = some (pc', st', M')) : mN M ≤ mN M' ∧ mS M ≤ mS M' := by
  unfold stM at h
  split at h <;> (repeat' (split at h)) <;> first
    | (cases h; done)
    | (cases h; exact ⟨Nat.le_refl _, Nat.le_refl _⟩)
    | (cases h; have h9 := fP_N (show fP _ _ _ _ = some _ from by assumption); omega)
    | (cases h; rw [nw_N, nw_S]; omega)
    | (cases h; rw [nw2_N, nw2_S]; omega)
theorem tnw_N {q : Mt} {i : Instr} {len pc : Nat} {st : List Value} {M M' : Mem} (h : tnw q i len pc st M = some M') : mN M' = mN M + 1 ∧ mS M' = mS M + 6 := by
  unfold tnw at h
  split at h <;> (repeat' (split at h)) <;> first | (cases h; done) | (cases h; exact ⟨rfl, rfl⟩)
theorem rn_le : ∀ (n d y pc : Nat) (ls : Lc) (st : List Value) (M : Mem) (o : Outcome) (M' : Mem), rn n d y pc ls st M = some (o, M') → mN M ≤ mN M' ∧ mS M ≤ mS M' := by
  intro n
  induction n with
  | zero => intro d y pc ls st M o M' h; cases h
  | succ n ih =>
    intro d y pc ls st M o M' h
    simp only [rn] at h
    split at h
    · cases h
    · split at h
      · cases h
      · split at h
        · exact ih _ _ _ _ _ _ _ _ h
        · split at h
          · rename_i hM
            have h1 := stM_le hM
            have h2 := ih _ _ _ _ _ _ _ _ h
            omega
          · split at h
            · split at h
              · split at h
                · split at h
                  · rename_i hr
                    have h1 := ih _ _ _ _ _ _ _ _ hr
                    have h2 := ih _ _ _ _ _ _ _ _ h
                    omega
                  · rename_i hr
                    have h1 := ih _ _ _ _ _ _ _ _ hr
                    split at h
                    · have h2 := ih _ _ _ _ _ _ _ _ h
                      omega
                    · cases h; exact h1
                    · cases h
                  · cases h
                · cases h
              · cases h
            · split at h
              · cases h; exact ⟨Nat.le_refl _, Nat.le_refl _⟩
              · split at h
                · rename_i ht
                  cases h
                  have := tnw_N ht
                  omega
                · split at h
                  · split at h
                    · split at h
                      · exact ih _ _ _ _ _ _ _ _ h
                      · cases h; exact ⟨Nat.le_refl _, Nat.le_refl _⟩
                      · cases h
                    · cases h
                  · cases h
theorem steps_weaken {tb : Tables} {e : Env} {mid below : List Frame} {a b : State} (h : Steps tb e (mid ++ below) a b) : Steps tb e below a b := by
  obtain ⟨n, hn, w⟩ := h
  exact ⟨n, hn, fun k hk => (w k hk).weaken⟩
theorem lcl_len : ∀ as : List Value, (lcl as).length = (lg_sl as).length := by
  intro as
  induction as with
  | nil => rfl
  | cons v vs ih =>
    unfold lcl
    split
    · rename_i h; simp [lg_sl, h, ih]
    · rename_i h; simp [lg_sl, h, ih]
theorem lcl_args : ∀ (as : List Value) (i j : Nat) (w : Value), (lcl as)[j]? = some (some w) → (i + j, w) ∈ lv_args i as := by
  intro as
  induction as with
  | nil => intro i j w h; simp [lcl] at h
  | cons v vs ih =>
    intro i j w h
    unfold lcl at h
    unfold lv_args
    split at h
    · rename_i hv
      cases j with
      | zero =>
        simp at h
        subst h
        exact List.mem_cons_self
      | succ j =>
        cases j with
        | zero => simp at h
        | succ j =>
          simp only [List.getElem?_cons_succ] at h
          have h1 := ih (i + 2) j w h
          rw [if_pos hv]
          rw [show i + (j + 1 + 1) = i + 2 + j by omega]
          exact List.mem_cons_of_mem _ h1
    · rename_i hv
      cases j with
      | zero =>
        simp at h
        subst h
        exact List.mem_cons_self
      | succ j =>
        simp only [List.getElem?_cons_succ] at h
        have h1 := ih (i + 1) j w h
        rw [if_neg hv]
        rw [show i + (j + 1) = i + 1 + j by omega]
        exact List.mem_cons_of_mem _ h1
theorem ent_LH {n : Nat} {as : List Value} {ls : Lc} (h : entL n as = some ls) : LH ((lg_sl as ++ List.replicate (n - (lg_sl as).length) Slot.unset).toArray) ls ∧ ls.length = n := by
  unfold entL at h
  split at h
  · rename_i hn
    cases h
    have h9 := lv_entry as (n := n) (by rw [← lcl_len]; exact hn)
    have hlen : (lcl as ++ List.replicate (n - (lcl as).length) (none : Option Value)).length = n := by
      rw [List.length_append, List.length_replicate]; omega
    refine ⟨⟨by rw [hlen]; exact h9.1, h9.2.1, fun j w hw => ?_⟩, hlen⟩
    refine h9.2.2 (j, w) ?_
    by_cases hj : j < (lcl as).length
    · rw [List.getElem?_append_left hj] at hw
      have := lcl_args as 0 j w hw
      rwa [Nat.zero_add] at this
    · rw [List.getElem?_append_right (by omega), List.getElem?_replicate] at hw
      split at hw
      · cases hw
      · cases hw
  · cases h
section SND
variable {p : Program} {l : Launch} {e : Env} {R : Room} {s : State} {m : MethodId} {args : Array Value} {below : List Frame} {meth : Method} {c : Code} {T : State} {locs : List Loc} {cells slots : Nat}
theorem athrow_step (X : Stand p l e R s m args below meth c T locs cells slots) (hexec : p.tables.exec = Jvm.exec) {g : JFrame} (hg : g.method = m) {a : Addr} {rest : List Value} (hstack : g.stack = .ref a :: rest) (hdg : decode c.code g.pc = .ok (.athrow, 1)) {target : State}
    (h : Steps p.tables e below ((T.setTop { g with stack := rest }).pushFrame (.throwing a)) target) : Steps p.tables e below (T.setTop g) target := by
  subst hg
  jvm_step X.here [hexec, hdg, athrow.wp_sem, hstack]
  exact h
theorem leaveQ (X : Stand p l e R s m args below meth c T locs cells slots) {D : Dn} {bs : Nat} {H0 : Heap} {M : Mem} (hR : Rep D s bs H0 M T.heap) (hlo : ∀ x ∈ locs, bs ≤ x.base) (hlocks : meth.locks = false) {g : JFrame} (hg : g.method = m) (h1 : g.locked = none) (h2 : g.entered = []) (hout : ∀ x ∈ c.exceptionTable.toList, covers x g.pc = false) (a : Nat) :
    ∃ t, Steps p.tables e below ((T.setTop g).pushFrame (.throwing a)) t ∧ EndQ D bs H0 below s (.threw a) M cells slots t := by
  obtain ⟨s1, s2, s3, s4, s5⟩ := X.leaveThrown a hg h1 h2 hout hlocks
  exact ⟨_, s1, s2, s3, s4, hR.moved s4.alike, locs, s5, hlo⟩
end SND
