/-! ===== soundness of the steps that touch no memory ===== -/
def LH (arr : Array Slot) (ls : Lc) : Prop := arr.size = ls.length ∧ lv_wf arr ∧ ∀ (j : Nat) (w : Value), ls[j]? = some (some w) → arr[j]? = some (.val w)
theorem ld_some {ls : Lc} {i : Nat} {v : Value} (h : ld ls i = some v) : ls[i]? = some (some v) := by
  unfold ld at h
  split at h
  · rename_i w hw; cases h; exact hw
  · cases h
theorem ld_of {ls : Lc} {i : Nat} {v : Value} (h : ls[i]? = some (some v)) : ld ls i = some v := by
  unfold ld
  rw [h]
theorem LH.at {arr : Array Slot} {ls : Lc} {i : Nat} {v : Value} (h : LH arr ls) (hl : ld ls i = some v) : arr[i]? = some (.val v) := h.2.2 i v (ld_some hl)
def asc (ls : Lc) : List (Nat × Value) := (List.range ls.length).filterMap (fun j => (ld ls j).map (fun w => (j, w)))
theorem asc_mem {ls : Lc} {j : Nat} {w : Value} : (j, w) ∈ asc ls ↔ ls[j]? = some (some w) := by
  unfold asc
  rw [List.mem_filterMap]
  constructor
  · rintro ⟨k, -, hk⟩
    cases h : ld ls k with
    | none => rw [h] at hk; cases hk
    | some v => rw [h] at hk; cases hk; exact ld_some h
  · intro h
    exact ⟨j, List.mem_range.mpr (List.getElem?_eq_some_iff.mp h).1, by rw [ld_of h]; rfl⟩
theorem LH.has {arr : Array Slot} {ls : Lc} (h : LH arr ls) : lv_has arr ls.length (asc ls) := ⟨h.1, h.2.1, fun q hq => h.2.2 q.1 q.2 (asc_mem.mp hq)⟩
theorem LH.place {ls : Lc} {i : Nat} {v : Value} (h : ld ls i = some v) : ∃ k : Nat, (asc ls)[k]? = some (i, v) := List.getElem?_of_mem (asc_mem.mpr (ld_some h))
theorem st1_lt {ls ls' : Lc} {i : Nat} {v : Value} (h : st1 ls i v = some ls') : i < ls.length := by
  unfold st1 at h
  split at h
  · rename_i hc; exact hc.1
  · cases h
theorem LH.st {ls ls' : Lc} {i : Nat} {v : Value} (h : st1 ls i v = some ls') {arr' : Array Slot} (ha : lv_has arr' ls.length ((i, v) :: (asc ls).filter (fun q => !(q.1 == i) && !(q.1 + 1 == i && q.2.category == 2)))) : LH arr' ls' := by
  unfold st1 at h
  split at h
  · rename_i hc
    cases h
    refine ⟨by rw [List.length_set]; exact ha.1, ha.2.1, fun j w hw => ?_⟩
    by_cases hj : j = i
    · subst hj
      rw [List.getElem?_set_self hc.1] at hw
      cases Option.some.inj (Option.some.inj hw)
      exact ha.2.2 (j, v) List.mem_cons_self
    · rw [List.getElem?_set_ne (Ne.symm hj)] at hw
      refine ha.2.2 (j, w) (List.mem_cons_of_mem _ (List.mem_filter.mpr ⟨asc_mem.mpr hw, ?_⟩))
      have h1 : (j == i) = false := by simpa using hj
      by_cases hji : j + 1 = i
      · subst hji
        have h2 := hc.2
        simp only [lgB, hw] at h2
        simp [h1, h2]
      · have h3 : (j + 1 == i) = false := by simpa using hji
        simp [h1, h3]
  · cases h
theorem jmp_some {pc t : Nat} {off : Int} (h : jmp pc off = some t) : (pc : Int) + off = (t : Int) := by
  unfold jmp at h
  split at h
  · cases h; omega
  · cases h
theorem asR_some {v : Value} {r : Option Nat} (h : asR v = some r) : v = va_rf r := by
  cases v <;> simp [asR] at h <;> subst h <;> rfl
section SA
variable {p : Program} {l : Launch} {e : Env} {R : Room} {s : State} {m : MethodId} {args : Array Value} {below : List Frame} {meth : Method} {c : Code} {H : Heap} {locs : List Loc} {cells slots : Nat} {Q : State → Prop}
set_option maxHeartbeats 4000000 in
theorem soundA {cc : ByteArray} (hx : p.tables.exec = Jvm.exec) (hb : c.code = cc) {i : Instr} {len pc pc' : Nat} {ls ls' : Lc} {st st' : List Value} {arr : Array Slot} (h : stA i len pc ls st = some (pc', ls', st')) (hd : decode cc pc = .ok (i, len)) (hl : LH arr ls)
    (kk : ∀ arr' : Array Slot, LH arr' ls' → W p l e R s m args below meth c H locs cells slots Q (F0 m pc' arr' st')) : W p l e R s m args below meth c H locs cells slots Q (F0 m pc arr st) := by
  cases i
  case iconst n =>
    simp only [stA] at h; split at h
    · rename_i hq9; subst hq9; cases h; exact lv_iconst hx hb hd rfl (kk arr hl)
    · cases h
  case bipush n =>
    simp only [stA] at h; split at h
    · rename_i hq9; subst hq9; cases h; exact lv_bipush hx hb hd rfl (kk arr hl)
    · cases h
  case sipush n =>
    simp only [stA] at h; split at h
    · rename_i hq9; subst hq9; cases h; exact lv_sipush hx hb hd rfl (kk arr hl)
    · cases h
  case aconst_null =>
    simp only [stA] at h; split at h
    · rename_i hq9; subst hq9; cases h; exact lv_null hx hb hd (kk arr hl)
    · cases h
  case iload k =>
    simp only [stA] at h; split at h
    · rename_i x hx1; split at h
      · rename_i hq9; subst hq9; cases h; exact lv_iload hx hb hd (hl.at hx1) (kk arr hl)
      · cases h
    · cases h
  case iload_n k =>
    simp only [stA] at h; split at h
    · rename_i x hx1; split at h
      · rename_i hq9; subst hq9; cases h; exact lv_iload_n hx hb hd rfl (hl.at hx1) (kk arr hl)
      · cases h
    · cases h
  case lload k =>
    simp only [stA] at h; split at h
    · rename_i x hx1; split at h
      · rename_i hq9; subst hq9; cases h; exact lv_lload hx hb hd (hl.at hx1) (kk arr hl)
      · cases h
    · cases h
  case lload_n k =>
    simp only [stA] at h; split at h
    · rename_i x hx1; split at h
      · rename_i hq9; subst hq9; cases h; exact lv_lload_n hx hb hd rfl (hl.at hx1) (kk arr hl)
      · cases h
    · cases h
  case aload k =>
    simp only [stA] at h; split at h
    · rename_i x hx1; split at h
      · rename_i hq9; subst hq9; cases h; exact lv_aload hx hb hd (hl.at hx1) (kk arr hl)
      · cases h
    · rename_i hx1; split at h
      · rename_i hq9; subst hq9; cases h; exact lv_aloadN hx hb hd (hl.at hx1) (kk arr hl)
      · cases h
    · cases h
  case aload_n k =>
    simp only [stA] at h; split at h
    · rename_i x hx1; split at h
      · rename_i hq9; subst hq9; cases h; exact lv_aload_n hx hb hd rfl (hl.at hx1) (kk arr hl)
      · cases h
    · rename_i hx1; split at h
      · rename_i hq9; subst hq9; cases h; exact lv_aload_nN hx hb hd rfl (hl.at hx1) (kk arr hl)
      · cases h
    · cases h
  case istore k =>
    simp only [stA] at h; split at h
    · split at h
      · rename_i ls1 hs1; split at h
        · rename_i hq9; subst hq9; cases h; exact lv_istore hx hb hd hl.has (st1_lt hs1) rfl (fun a' ha => kk a' (LH.st hs1 ha))
        · cases h
      · cases h
    · cases h
  case istore_n k =>
    simp only [stA] at h; split at h
    · split at h
      · rename_i ls1 hs1; split at h
        · rename_i hq9; subst hq9; cases h; exact lv_istore_n hx hb hd rfl hl.has (st1_lt hs1) rfl (fun a' ha => kk a' (LH.st hs1 ha))
        · cases h
      · cases h
    · cases h
  case astore k =>
    simp only [stA] at h; split at h
    · split at h
      · rename_i ls1 hs1; split at h
        · rename_i hq9; subst hq9; cases h; exact lv_astore hx hb hd hl.has (st1_lt hs1) rfl (fun a' ha => kk a' (LH.st hs1 ha))
        · cases h
      · cases h
    · split at h
      · rename_i ls1 hs1; split at h
        · rename_i hq9; subst hq9; cases h; exact lv_astoreN hx hb hd hl.has (st1_lt hs1) rfl (fun a' ha => kk a' (LH.st hs1 ha))
        · cases h
      · cases h
    · cases h
  case astore_n k =>
    simp only [stA] at h; split at h
    · split at h
      · rename_i ls1 hs1; split at h
        · rename_i hq9; subst hq9; cases h; exact lv_astore_n hx hb hd rfl hl.has (st1_lt hs1) rfl (fun a' ha => kk a' (LH.st hs1 ha))
        · cases h
      · cases h
    · split at h
      · rename_i ls1 hs1; split at h
        · rename_i hq9; subst hq9; cases h; exact lv_astore_nN hx hb hd rfl hl.has (st1_lt hs1) rfl (fun a' ha => kk a' (LH.st hs1 ha))
        · cases h
      · cases h
    · cases h
  case iinc k n =>
    simp only [stA] at h; split at h
    · rename_i x hx1; split at h
      · rename_i ls1 hs1; split at h
        · rename_i hq9; subst hq9; cases h
          obtain ⟨k1, hk1⟩ := LH.place hx1
          exact lv_iinc hx hb hd hl.has hk1 rfl (st1_lt hs1) rfl (fun a' ha => kk a' (LH.st hs1 ha))
        · cases h
      · cases h
    · cases h
  case iadd =>
    simp only [stA] at h; split at h
    · split at h
      · rename_i hq9; subst hq9; cases h; exact lv_iadd hx hb hd (kk arr hl)
      · cases h
    · cases h
  case isub =>
    simp only [stA] at h; split at h
    · split at h
      · rename_i hq9; subst hq9; cases h; exact lv_isub hx hb hd (kk arr hl)
      · cases h
    · cases h
  case imul =>
    simp only [stA] at h; split at h
    · split at h
      · rename_i hq9; subst hq9; cases h; exact lv_imul hx hb hd (kk arr hl)
      · cases h
    · cases h
  case idiv =>
    simp only [stA] at h; split at h
    · split at h
      · rename_i hc; obtain ⟨hc1, hc2⟩ := hc; subst hc1; cases h; exact lv_idiv hx hb hd hc2 (kk arr hl)
      · cases h
    · cases h
  case irem =>
    simp only [stA] at h; split at h
    · split at h
      · rename_i hc; obtain ⟨hc1, hc2⟩ := hc; subst hc1; cases h; exact lv_irem hx hb hd hc2 (kk arr hl)
      · cases h
    · cases h
  case iand =>
    simp only [stA] at h; split at h
    · split at h
      · rename_i hq9; subst hq9; cases h; exact lv_iand hx hb hd (kk arr hl)
      · cases h
    · cases h
  case ior =>
    simp only [stA] at h; split at h
    · split at h
      · rename_i hq9; subst hq9; cases h; exact lv_ior hx hb hd (kk arr hl)
      · cases h
    · cases h
  case ishl =>
    simp only [stA] at h; split at h
    · split at h
      · rename_i hq9; subst hq9; cases h; exact lv_ishl hx hb hd (kk arr hl)
      · cases h
    · cases h
  case ishr =>
    simp only [stA] at h; split at h
    · split at h
      · rename_i hq9; subst hq9; cases h; exact lv_ishr hx hb hd (kk arr hl)
      · cases h
    · cases h
  case i2l =>
    simp only [stA] at h; split at h
    · split at h
      · rename_i hq9; subst hq9; cases h; exact lv_i2l hx hb hd rfl (kk arr hl)
      · cases h
    · cases h
  case l2i =>
    simp only [stA] at h; split at h
    · split at h
      · rename_i hq9; subst hq9; cases h; exact lv_l2i hx hb hd rfl (kk arr hl)
      · cases h
    · cases h
  case i2b =>
    simp only [stA] at h; split at h
    · split at h
      · rename_i hq9; subst hq9; cases h; exact lv_i2b hx hb hd rfl (kk arr hl)
      · cases h
    · cases h
  case land =>
    simp only [stA] at h; split at h
    · split at h
      · rename_i hq9; subst hq9; cases h; exact lv_land hx hb hd (kk arr hl)
      · cases h
    · cases h
  case lor =>
    simp only [stA] at h; split at h
    · split at h
      · rename_i hq9; subst hq9; cases h; exact lv_lor hx hb hd (kk arr hl)
      · cases h
    · cases h
  case lshl =>
    simp only [stA] at h; split at h
    · split at h
      · rename_i hq9; subst hq9; cases h; exact lv_lshl hx hb hd rfl (kk arr hl)
      · cases h
    · cases h
  case lshr =>
    simp only [stA] at h; split at h
    · split at h
      · rename_i hq9; subst hq9; cases h; exact lv_lshr hx hb hd rfl (kk arr hl)
      · cases h
    · cases h
  case lcmp =>
    simp only [stA] at h; split at h
    · split at h
      · rename_i hq9; subst hq9; cases h; exact W.lcmp hx hb hd (kk arr hl)
      · cases h
    · cases h
  case dup =>
    simp only [stA] at h; split at h
    · split at h
      · rename_i hc; obtain ⟨hc1, hc2⟩ := hc; subst hc1; cases h; exact lv_dup hx hb hd hc2 (kk arr hl)
      · cases h
    · cases h
  case pop =>
    simp only [stA] at h; split at h
    · split at h
      · rename_i hc; obtain ⟨hc1, hc2⟩ := hc; subst hc1; cases h; exact lv_pop hx hb hd hc2 (kk arr hl)
      · cases h
    · cases h
  case dup2 =>
    simp only [stA] at h; split at h
    · split at h
      · rename_i hc; obtain ⟨hc1, hc2, hc3⟩ := hc; subst hc1; cases h; exact lv_dup2_11 hx hb hd hc2 hc3 (kk arr hl)
      · cases h
    · cases h
  case goto off =>
    simp only [stA] at h; split at h
    · rename_i t ht; split at h
      · rename_i hq9; subst hq9; cases h; exact lv_goto hx hb hd (jmp_some ht) (kk arr hl)
      · cases h
    · cases h
  case ifCond k off =>
    simp only [stA] at h; split at h
    · rename_i x r t ht; split at h
      · rename_i hq9; subst hq9; cases h
        cases k
        · exact lv_if_eq hx hb hd (jmp_some ht) (fun h => by simpa [cnd, h] using kk arr hl) (fun h => by simpa [cnd, h] using kk arr hl)
        · exact lv_if_ne hx hb hd (jmp_some ht) (fun h => by simpa [cnd, h] using kk arr hl) (fun h => by simpa [cnd, h] using kk arr hl)
        · exact lv_if_lt hx hb hd (jmp_some ht) (fun h => by simpa only [cnd, h, decide_true, decide_false, if_true, if_false, Bool.false_eq_true] using kk arr hl) (fun h => by simpa only [cnd, h, decide_true, decide_false, if_true, if_false, Bool.false_eq_true] using kk arr hl)
        · exact lv_if_ge hx hb hd (jmp_some ht) (fun h => by simpa only [cnd, h, decide_true, decide_false, if_true, if_false, Bool.false_eq_true] using kk arr hl) (fun h => by simpa only [cnd, h, decide_true, decide_false, if_true, if_false, Bool.false_eq_true] using kk arr hl)
        · exact lv_if_gt hx hb hd (jmp_some ht) (fun h => by simpa only [cnd, h, decide_true, decide_false, if_true, if_false, Bool.false_eq_true] using kk arr hl) (fun h => by simpa only [cnd, h, decide_true, decide_false, if_true, if_false, Bool.false_eq_true] using kk arr hl)
        · exact lv_if_le hx hb hd (jmp_some ht) (fun h => by simpa only [cnd, h, decide_true, decide_false, if_true, if_false, Bool.false_eq_true] using kk arr hl) (fun h => by simpa only [cnd, h, decide_true, decide_false, if_true, if_false, Bool.false_eq_true] using kk arr hl)
      · cases h
    · cases h
  case if_icmp k off =>
    simp only [stA] at h; split at h
    · rename_i y x r t ht; split at h
      · rename_i hq9; subst hq9; cases h
        cases k
        · exact lv_icmp_eq hx hb hd (jmp_some ht) (fun h => by simpa only [cnd, h, decide_true, decide_false, if_true, if_false, Bool.false_eq_true] using kk arr hl) (fun h => by simpa only [cnd, h, decide_true, decide_false, if_true, if_false, Bool.false_eq_true] using kk arr hl)
        · exact lv_icmp_ne hx hb hd (jmp_some ht) (fun h => by simpa only [cnd, h, not_true, not_false_eq_true, decide_true, decide_false, if_true, if_false, Bool.false_eq_true] using kk arr hl) (fun h => by simpa only [cnd, h, not_true, not_false_eq_true, decide_true, decide_false, if_true, if_false, Bool.false_eq_true] using kk arr hl)
        · exact lv_icmp_lt hx hb hd (jmp_some ht) (fun h => by simpa only [cnd, h, decide_true, decide_false, if_true, if_false, Bool.false_eq_true] using kk arr hl) (fun h => by simpa only [cnd, h, decide_true, decide_false, if_true, if_false, Bool.false_eq_true] using kk arr hl)
        · exact lv_icmp_ge hx hb hd (jmp_some ht) (fun h => by simpa only [cnd, h, decide_true, decide_false, if_true, if_false, Bool.false_eq_true] using kk arr hl) (fun h => by simpa only [cnd, h, decide_true, decide_false, if_true, if_false, Bool.false_eq_true] using kk arr hl)
        · exact lv_icmp_gt hx hb hd (jmp_some ht) (fun h => by simpa only [cnd, h, decide_true, decide_false, if_true, if_false, Bool.false_eq_true] using kk arr hl) (fun h => by simpa only [cnd, h, decide_true, decide_false, if_true, if_false, Bool.false_eq_true] using kk arr hl)
        · exact lv_icmp_le hx hb hd (jmp_some ht) (fun h => by simpa only [cnd, h, decide_true, decide_false, if_true, if_false, Bool.false_eq_true] using kk arr hl) (fun h => by simpa only [cnd, h, decide_true, decide_false, if_true, if_false, Bool.false_eq_true] using kk arr hl)
      · cases h
    · cases h
  case ifnull off =>
    simp only [stA] at h; split at h
    · rename_i r t ht; split at h
      · rename_i hq9; subst hq9; cases h; exact lv_ifnullN hx hb hd (jmp_some ht) (kk arr hl)
      · cases h
    · rename_i a r t ht; split at h
      · rename_i hq9; subst hq9; cases h; exact lv_ifnull hx hb hd (kk arr hl)
      · cases h
    · cases h
  case ifnonnull off =>
    simp only [stA] at h; split at h
    · rename_i a r t ht; split at h
      · rename_i hq9; subst hq9; cases h; exact lv_ifnonnull hx hb hd (jmp_some ht) (kk arr hl)
      · cases h
    · rename_i r t ht; split at h
      · rename_i hq9; subst hq9; cases h; exact lv_ifnonnullN hx hb hd (kk arr hl)
      · cases h
    · cases h
  case if_acmp k off =>
    simp only [stA] at h; split at h
    · rename_i w v r t ht; split at h
      · rename_i x y hvx hwy
        cases asR_some hvx; cases asR_some hwy
        split at h
        · rename_i hq9; subst hq9; cases h
          cases k
          · exact lv_acmp_eq hx hb hd (jmp_some ht) (fun h => by simpa only [h, decide_true, decide_false, if_true, if_false, Bool.false_eq_true] using kk arr hl) (fun h => by simpa only [h, decide_true, decide_false, if_true, if_false, Bool.false_eq_true] using kk arr hl)
          · exact lv_acmp_ne hx hb hd (jmp_some ht) (fun h => by simpa only [h, not_true, not_false_eq_true, decide_true, decide_false, if_true, if_false, Bool.false_eq_true] using kk arr hl) (fun h => by simpa only [h, not_true, not_false_eq_true, decide_true, decide_false, if_true, if_false, Bool.false_eq_true] using kk arr hl)
        · cases h
      · cases h
    · cases h
  case tableswitch d lo hi offs =>
    simp only [stA] at h; split at h
    · split at h
      · rename_i hc; split at h
        · rename_i t ht; cases h; exact lv_tableOut hx hb hd hc (jmp_some ht) (kk arr hl)
        · cases h
      · rename_i hc; split at h
        · rename_i off ho; split at h
          · rename_i t ht; cases h
            exact lv_tableIn hx hb hd (fun q => hc (Or.inl q)) (fun q => hc (Or.inr q)) ho (jmp_some ht) (kk arr hl)
          · cases h
        · cases h
    · cases h
  all_goals (simp only [stA] at h; first | cases h | contradiction)
end SA
