/-! ===== ROWS OF Wp: locals, branches, calls, ends, new cells ===== -/
section Rows2
variable {d y pc : Nat} {ls : Lc} {st : List Value} {M : Mem} {Q : Outcome → Mem → Prop}
theorem lgB_S {ls : Lc} {j : Nat} {l : Option Value} (h : ls[j]? = some l) : lgB ls (j + 1) = lo l := by
  simp only [lgB, h]
  cases l <;> rfl
theorem st1_S {ls : Lc} {j : Nat} {l : Option Value} {v : Value} (hk : Nat.ble (j + 2) ls.length = true) (h : ls[j]? = some l) (hl : lo l = false) : st1 ls (j + 1) v = some (ls.set (j + 1) (some v)) :=
  if_pos ⟨Nat.le_of_ble_eq_true hk, (lgB_S h).trans hl⟩
theorem st1_0 {ls : Lc} {v : Value} (hk : Nat.ble 1 ls.length = true) : st1 ls 0 v = some (ls.set 0 (some v)) :=
  if_pos ⟨Nat.le_of_ble_eq_true hk, rfl⟩
theorem w_istore {k : Nat} {v : Int32} {ls' : Lc} (h : ins y pc = some (.istore k, 2)) (hs : st1 ls k (.int v) = some ls') : Wp d y pc ls (.int v :: st) M Q = Wp d y (pc + 2) ls' st M Q :=
  wA h (by simp only [stA, hs, if_true])
theorem w_istore_n {k : Fin 4} {v : Int32} {ls' : Lc} (h : ins y pc = some (.istore_n k, 1)) (hs : st1 ls k.val (.int v) = some ls') : Wp d y pc ls (.int v :: st) M Q = Wp d y (pc + 1) ls' st M Q :=
  wA h (by simp only [stA, hs, if_true])
theorem w_astore {k a : Nat} {ls' : Lc} (h : ins y pc = some (.astore k, 2)) (hs : st1 ls k (.ref a) = some ls') : Wp d y pc ls (.ref a :: st) M Q = Wp d y (pc + 2) ls' st M Q :=
  wA h (by simp only [stA, hs, if_true])
theorem w_astore_n {k : Fin 4} {a : Nat} {ls' : Lc} (h : ins y pc = some (.astore_n k, 1)) (hs : st1 ls k.val (.ref a) = some ls') : Wp d y pc ls (.ref a :: st) M Q = Wp d y (pc + 1) ls' st M Q :=
  wA h (by simp only [stA, hs, if_true])
theorem w_astoreN {k : Nat} {ls' : Lc} (h : ins y pc = some (.astore k, 2)) (hs : st1 ls k .null = some ls') : Wp d y pc ls (.null :: st) M Q = Wp d y (pc + 2) ls' st M Q :=
  wA h (by simp only [stA, hs, if_true])
theorem w_astoreN_n {k : Fin 4} {ls' : Lc} (h : ins y pc = some (.astore_n k, 1)) (hs : st1 ls k.val .null = some ls') : Wp d y pc ls (.null :: st) M Q = Wp d y (pc + 1) ls' st M Q :=
  wA h (by simp only [stA, hs, if_true])
theorem w_iinc {k : Nat} {n z : Int} {ls' : Lc} (h : ins y pc = some (.iinc k n, 3)) (hl : ld ls k = some (.int (I z))) (hs : st1 ls k (.int (I (z + n))) = some ls') : Wp d y pc ls st M Q = Wp d y (pc + 3) ls' st M Q :=
  wA h (by
    have e : I z + Int32.ofInt n = I (z + n) := I_add z n
    simp only [stA, hl, e, hs, if_true])
theorem w_iconst {n : Int} (h : ins y pc = some (.iconst n, 1)) : Wp d y pc ls st M Q = Wp d y (pc + 1) ls (.int (I n) :: st) M Q := wA h rfl
theorem w_bipush {n : Int} (h : ins y pc = some (.bipush n, 2)) (hv : (Int8.ofInt n).toInt32 = Int32.ofInt n) : Wp d y pc ls st M Q = Wp d y (pc + 2) ls (.int (I n) :: st) M Q := wA h (by simp only [stA, hv, if_true]; rfl)
theorem w_sipush {n : Int} (h : ins y pc = some (.sipush n, 3)) (hv : (Int16.ofInt n).toInt32 = Int32.ofInt n) : Wp d y pc ls st M Q = Wp d y (pc + 3) ls (.int (I n) :: st) M Q := wA h (by simp only [stA, hv, if_true]; rfl)
theorem w_iadd {a b : Int} (h : ins y pc = some (.iadd, 1)) : Wp d y pc ls (.int (I b) :: .int (I a) :: st) M Q = Wp d y (pc + 1) ls (.int (I (a + b)) :: st) M Q := wA h (by simp only [stA, I_add, if_true])
theorem w_isub {a b : Int} (h : ins y pc = some (.isub, 1)) : Wp d y pc ls (.int (I b) :: .int (I a) :: st) M Q = Wp d y (pc + 1) ls (.int (I (a - b)) :: st) M Q := wA h (by simp only [stA, I_sub, if_true])
theorem w_imul {a b : Int} (h : ins y pc = some (.imul, 1)) : Wp d y pc ls (.int (I b) :: .int (I a) :: st) M Q = Wp d y (pc + 1) ls (.int (I (a * b)) :: st) M Q := wA h (by simp only [stA, I_mul, if_true])
theorem I_ne0 {b : Int} (b1 : 0 < b) (b2 : b < 2147483648) : ¬ I b = 0 := by
  rw [I_0, I_inj (by omega) b2 (by omega) (by omega)]; omega
theorem w_idiv {a b : Int} (h : ins y pc = some (.idiv, 1)) (a1 : 0 ≤ a) (a2 : a < 2147483648) (b1 : 0 < b) (b2 : b < 2147483648) : Wp d y pc ls (.int (I b) :: .int (I a) :: st) M Q = Wp d y (pc + 1) ls (.int (I (a / b)) :: st) M Q :=
  wA h (by simp only [stA]; rw [if_pos ⟨trivial, I_ne0 b1 b2⟩, I_div a1 a2 b1 b2])
theorem w_irem {a b : Int} (h : ins y pc = some (.irem, 1)) (a1 : 0 ≤ a) (a2 : a < 2147483648) (b1 : 0 < b) (b2 : b < 2147483648) : Wp d y pc ls (.int (I b) :: .int (I a) :: st) M Q = Wp d y (pc + 1) ls (.int (I (a % b)) :: st) M Q :=
  wA h (by simp only [stA]; rw [if_pos ⟨trivial, I_ne0 b1 b2⟩, I_rem a1 a2 b1 b2])
theorem w_icmp {k : ClassFile.Cond} {off : Int} {t : Nat} {a b : Int32} {c : Prop} [Decidable c] (h : ins y pc = some (.if_icmp k off, 3)) (hj : jmp pc off = some t) (hc : cnd k a b = decide c) : Wp d y pc ls (.int b :: .int a :: st) M Q = Br c d y t (pc + 3) ls st M Q := by
  by_cases hC : c
  · rw [wA (pc' := t) (ls' := ls) (st' := st) h (by simp only [stA, hj, hc, hC, decide_true, if_true])]
    exact propext ⟨fun k => ⟨fun _ => k, fun n => absurd hC n⟩, fun k => k.1 hC⟩
  · rw [wA (pc' := pc + 3) (ls' := ls) (st' := st) h (by simp only [stA, hj, hc, hC, decide_false, if_true]; rfl)]
    exact propext ⟨fun k => ⟨fun n => absurd n hC, fun _ => k⟩, fun k => k.2 hC⟩
theorem w_if {k : ClassFile.Cond} {off : Int} {t : Nat} {a : Int32} {c : Prop} [Decidable c] (h : ins y pc = some (.ifCond k off, 3)) (hj : jmp pc off = some t) (hc : cnd k a 0 = decide c) : Wp d y pc ls (.int a :: st) M Q = Br c d y t (pc + 3) ls st M Q := by
  by_cases hC : c
  · rw [wA (pc' := t) (ls' := ls) (st' := st) h (by simp only [stA, hj, hc, hC, decide_true, if_true])]
    exact propext ⟨fun k => ⟨fun _ => k, fun n => absurd hC n⟩, fun k => k.1 hC⟩
  · rw [wA (pc' := pc + 3) (ls' := ls) (st' := st) h (by simp only [stA, hj, hc, hC, decide_false, if_true]; rfl)]
    exact propext ⟨fun k => ⟨fun n => absurd n hC, fun _ => k⟩, fun k => k.2 hC⟩
theorem w_acmpE {off : Int} {t a b : Nat} (h : ins y pc = some (.if_acmp .eq off, 3)) (hj : jmp pc off = some t) : Wp d y pc ls (.ref b :: .ref a :: st) M Q = Br (a = b) d y t (pc + 3) ls st M Q := by
  by_cases hC : a = b
  · rw [wA (pc' := t) (ls' := ls) (st' := st) h (by simp only [stA, hj, asR, hC, decide_true, if_true])]
    exact propext ⟨fun k => ⟨fun _ => k, fun n => absurd hC n⟩, fun k => k.1 hC⟩
  · rw [wA (pc' := pc + 3) (ls' := ls) (st' := st) h (by simp only [stA, hj, asR, Option.some.injEq, hC, decide_false, if_true]; rfl)]
    exact propext ⟨fun k => ⟨fun n => absurd n hC, fun _ => k⟩, fun k => k.2 hC⟩
theorem w_acmpN {off : Int} {t a b : Nat} (h : ins y pc = some (.if_acmp .ne off, 3)) (hj : jmp pc off = some t) : Wp d y pc ls (.ref b :: .ref a :: st) M Q = Br (¬ a = b) d y t (pc + 3) ls st M Q := by
  by_cases hC : a = b
  · rw [wA (pc' := pc + 3) (ls' := ls) (st' := st) h (by simp only [stA, hj, asR, hC, not_true_eq_false, decide_false, if_true]; rfl)]
    exact propext ⟨fun k => ⟨fun n => absurd hC n, fun _ => k⟩, fun k => k.2 (fun n => n hC)⟩
  · rw [wA (pc' := t) (ls' := ls) (st' := st) h (by simp only [stA, hj, asR, Option.some.injEq, hC, not_false_eq_true, decide_true, if_true])]
    exact propext ⟨fun k => ⟨fun _ => k, fun n => absurd hC n⟩, fun k => k.1 hC⟩
theorem w_ifnullN {off : Int} {t : Nat} (h : ins y pc = some (.ifnull off, 3)) (hj : jmp pc off = some t) : Wp d y pc ls (.null :: st) M Q = Wp d y t ls st M Q := wA h (by simp only [stA, hj, if_true])
theorem w_ifnullR {off : Int} {t a : Nat} (h : ins y pc = some (.ifnull off, 3)) (hj : jmp pc off = some t) : Wp d y pc ls (.ref a :: st) M Q = Wp d y (pc + 3) ls st M Q := wA h (by simp only [stA, hj, if_true])
theorem w_ifnnN {off : Int} {t : Nat} (h : ins y pc = some (.ifnonnull off, 3)) (hj : jmp pc off = some t) : Wp d y pc ls (.null :: st) M Q = Wp d y (pc + 3) ls st M Q := wA h (by simp only [stA, hj, if_true])
theorem w_ifnnR {off : Int} {t a : Nat} (h : ins y pc = some (.ifnonnull off, 3)) (hj : jmp pc off = some t) : Wp d y pc ls (.ref a :: st) M Q = Wp d y t ls st M Q := wA h (by simp only [stA, hj, if_true])
theorem w_goto {off : Int} {t : Nat} (h : ins y pc = some (.goto off, 3)) (hj : jmp pc off = some t) : Wp d y pc ls st M Q = Wp d y t ls st M Q := wA h (by simp only [stA, hj, if_true])
theorem w_tswD {dd lo hi : Int} {offs : Array Int} {len t : Nat} {v : Int32} (h : ins y pc = some (.tableswitch dd lo hi offs, len)) (hv : v.toInt < lo ∨ hi < v.toInt) (hj : jmp pc dd = some t) : Wp d y pc ls (.int v :: st) M Q = Wp d y t ls st M Q := wA h (by simp only [stA]; rw [if_pos hv]; simp only [hj])
theorem w_tswK {dd lo hi off : Int} {offs : Array Int} {len t : Nat} {v : Int32} (h : ins y pc = some (.tableswitch dd lo hi offs, len)) (hv : ¬ (v.toInt < lo ∨ hi < v.toInt)) (ho : offs[(v.toInt - lo).toNat]? = some off) (hj : jmp pc off = some t) : Wp d y pc ls (.int v :: st) M Q = Wp d y t ls st M Q := wA h (by simp only [stA]; rw [if_neg hv]; simp only [ho, hj])
/-! calls -/
theorem wCa {i : Instr} {len y' : Nat} {as r : List Value} (h : ins y pc = some (i, len)) (hA : stA i len pc ls st = none) (hM : stM (mC y) ((mq y).1.name == "<init>") i len pc st M = none) (hc : cal (mC y) i len st M = some (y', as, r)) : Wp d y pc ls st M Q = Ca d y pc ls y' as r M Q := by
  refine propext ((Wp_iff h).trans ?_)
  unfold Xo
  rw [hA]
  simp only [hM, hc]
theorem popA_ok (as r : List Value) {n : Nat} (hn : n = as.length) : popA n (as.reverse ++ r) = some (as, r) := by
  subst hn
  have e : as.length = as.reverse.length := List.length_reverse.symm
  unfold popA
  rw [if_pos (by rw [List.length_append, ← e]; omega), e, List.take_left, List.drop_left, List.reverse_reverse]
theorem w_stat {idx md c0 k0 y' : Nat} {as r : List Value} (h : ins y pc = some (.invokestatic idx, 3)) (hr : mRes (mC y) idx = some (md, c0, [(k0, y')])) (hmd : md = 0 ∨ md = 1) (hy : y' < 231) (hn : mAr y' = as.length) (hs : smallR r = true) : Wp d y pc ls (as.reverse ++ r) M Q = Ca d y pc ls y' as r M Q := by
  refine wCa h rfl ?_ ?_
  · unfold stM
    simp only [hr]
    split
    · rename_i heq _
      simp only [Option.some.injEq, Prod.mk.injEq, List.cons.injEq] at heq
      omega
    · rfl
  · unfold cal
    simp only [hr, popA_ok as r hn]
    rw [if_pos ⟨trivial, hmd, hy, hs⟩]
theorem w_spec {idx c0 k0 y' a : Nat} {as r : List Value} (h : ins y pc = some (.invokespecial idx, 3)) (hr : mRes (mC y) idx = some (2, c0, [(k0, y')])) (hy : y' < 231) (hn : mAr y' = as.length) (hs : smallR r = true) : Wp d y pc ls (as.reverse ++ .ref a :: r) M Q = Ca d y pc ls y' (.ref a :: as) r M Q := by
  refine wCa h rfl ?_ ?_
  · unfold stM
    simp only [hr]
    split
    · rename_i heq _
      simp only [Option.some.injEq, Prod.mk.injEq, List.cons.injEq] at heq
      omega
    · rfl
  · unfold cal
    simp only [hr, popA_ok as (.ref a :: r) hn]
    rw [if_pos ⟨trivial, trivial, hy, hs⟩]
theorem kO_some {a k : Nat} (hk : k ≠ 0) (hK : kO M a = k) : mK M a = some (.inl k) := by
  unfold kO at hK
  split at hK
  · rename_i hm; rw [hm, hK]
  · exact absurd hK.symm hk
theorem wCn {i : Instr} {len : Nat} (h : ins y pc = some (i, len)) (hA : stA i len pc ls st = none) (hM : stM (mC y) ((mq y).1.name == "<init>") i len pc st M = none) (hc : cal (mC y) i len st M = none) (hr : rt1 (mq y) i len st = none) (ht : tnw (mq y) i len pc st M = none) (hi : i ≠ .athrow) : ¬ Wp d y pc ls st M Q := by
  rw [wN h hA hM hc hr ht hi]; exact id
theorem w_virt1 {idx md c0 k y' a : Nat} {as r : List Value} (h : ins y pc = some (.invokevirtual idx, 3)) (hr : mRes (mC y) idx = some (md, c0, [(k, y')])) (hmd : md = 3 ∨ md = 4) (hn : mAr y' = as.length) (hk : k ≠ 0) (hy : y' < 231) (hs : smallR r = true) : Wp d y pc ls (as.reverse ++ .ref a :: r) M Q = (kO M a = k ∧ Ca d y pc ls y' (.ref a :: as) r M Q) := by
  by_cases hK : kO M a = k
  · rw [wCa (y' := y') (as := .ref a :: as) (r := r) h rfl rfl (by
      unfold cal
      simp only [hr, popA_ok as (.ref a :: r) hn, kO_some hk hK, List.find?_cons, beq_self_eq_true]
      rw [if_pos ⟨trivial, hmd, hy, hs⟩])]
    exact propext ⟨fun k => ⟨hK, k⟩, fun k => k.2⟩
  · refine propext ⟨fun w => absurd w ?_, fun w => absurd w.1 hK⟩
    refine wCn h rfl rfl ?_ rfl rfl (by intro h; cases h)
    unfold cal
    simp only [hr, popA_ok as (.ref a :: r) hn]
    split
    · rename_i k' hk'
      have : kO M a = k' := by simp only [kO, hk']
      simp only [List.find?_cons, List.find?_nil, beq_eq_false_iff_ne.mpr (show k ≠ k' by omega)]
    · rfl
theorem w_virt2 {idx md c0 k1 y1 k2 y2 a : Nat} {as r : List Value} (h : ins y pc = some (.invokevirtual idx, 3)) (hr : mRes (mC y) idx = some (md, c0, [(k1, y1), (k2, y2)])) (hmd : md = 3 ∨ md = 4) (hn : mAr y1 = as.length) (hk1 : k1 ≠ 0) (hk2 : k2 ≠ 0) (h12 : k1 ≠ k2) (hy1 : y1 < 231) (hy2 : y2 < 231) (hs : smallR r = true) : Wp d y pc ls (as.reverse ++ .ref a :: r) M Q = ((kO M a = k1 ∧ Ca d y pc ls y1 (.ref a :: as) r M Q) ∨ (kO M a = k2 ∧ Ca d y pc ls y2 (.ref a :: as) r M Q)) := by
  by_cases hK : kO M a = k1
  · rw [wCa (y' := y1) (as := .ref a :: as) (r := r) h rfl rfl (by
      unfold cal
      simp only [hr, popA_ok as (.ref a :: r) hn, kO_some hk1 hK, List.find?_cons, beq_self_eq_true]
      rw [if_pos ⟨trivial, hmd, hy1, hs⟩])]
    exact propext ⟨fun k => .inl ⟨hK, k⟩, fun k => k.elim (fun k => k.2) (fun k => absurd (hK.symm.trans k.1) h12)⟩
  by_cases hK2 : kO M a = k2
  · rw [wCa (y' := y2) (as := .ref a :: as) (r := r) h rfl rfl (by
      unfold cal
      simp only [hr, popA_ok as (.ref a :: r) hn, kO_some hk2 hK2, List.find?_cons, beq_self_eq_true, beq_eq_false_iff_ne.mpr h12]
      rw [if_pos ⟨trivial, hmd, hy2, hs⟩])]
    exact propext ⟨fun k => .inr ⟨hK2, k⟩, fun k => k.elim (fun k => absurd k.1 hK) (fun k => k.2)⟩
  · refine propext ⟨fun k => absurd k ?_, fun k => k.elim (fun k => absurd k.1 hK) (fun k => absurd k.1 hK2)⟩
    refine wCn h rfl rfl ?_ rfl rfl (by intro h; cases h)
    unfold cal
    simp only [hr, popA_ok as (.ref a :: r) hn]
    split
    · rename_i k' hk'
      have : kO M a = k' := by simp only [kO, hk']
      simp only [List.find?_cons, List.find?_nil, beq_eq_false_iff_ne.mpr (show k1 ≠ k' by omega), beq_eq_false_iff_ne.mpr (show k2 ≠ k' by omega)]
    · rfl
theorem w_max {idx c0 k0 : Nat} {b a : Int32} (h : ins y pc = some (.invokestatic idx, 3)) (hr : mRes (mC y) idx = some (0, c0, [(k0, 231)])) (hs : smallR st = true) : Wp d y pc ls (.int b :: .int a :: st) M Q = Wp d y (pc + 3) ls (.int (if a < b then b else a) :: st) M Q :=
  wM h rfl (by unfold stM; simp only [hr]; rw [if_pos ⟨trivial, hs⟩])
theorem w_obj {idx c0 k0 a : Nat} (h : ins y pc = some (.invokespecial idx, 3)) (hr : mRes (mC y) idx = some (2, c0, [(k0, 232)])) (hs : smallR st = true) : Wp d y pc ls (.ref a :: st) M Q = Wp d y (pc + 3) ls st M Q :=
  wM h rfl (by unfold stM; simp only [hr]; rw [if_pos ⟨trivial, hs⟩])
theorem ca_of {y' : Nat} {q' : Mt} {as r : List Value} {ls' : Lc} (hq : mTb[y']? = some q') (he : entL q'.2.2.1 as = some ls') (hd : 0 < d) (hw : Wp (d - 1) y' 0 ls' [] M (Cq d y pc ls r Q)) : Ca d y pc ls y' as r M Q := ⟨hd, q', hq, ls', he, hw⟩
/-! ends -/
theorem wRt {i : Instr} {len : Nat} {v : Option Value} (h : ins y pc = some (i, len)) (hA : stA i len pc ls st = none) (hM : stM (mC y) ((mq y).1.name == "<init>") i len pc st M = none) (hc : cal (mC y) i len st M = none) (hr : rt1 (mq y) i len st = some v) : Wp d y pc ls st M Q = Q (.returned v) M := by
  refine propext ((Wp_iff h).trans ?_)
  unfold Xo
  rw [hA]
  simp only [hM, hc, hr]
theorem w_ireturn {v : Int32} (h : ins y pc = some (.ireturn, 1)) (hr : (mq y).2.2.2.1 = some .int) : Wp d y pc ls [.int v] M Q = Q (.returned (some (.int v))) M :=
  wRt h rfl rfl rfl (by simp only [rt1]; rw [if_pos ⟨trivial, .inl hr⟩])
theorem w_zreturn {v : Int32} (h : ins y pc = some (.ireturn, 1)) (hr : (mq y).2.2.2.1 = some .boolean) (hv : v = 0 ∨ v = 1) : Wp d y pc ls [.int v] M Q = Q (.returned (some (.int v))) M :=
  wRt h rfl rfl rfl (by simp only [rt1]; rw [if_pos ⟨trivial, .inr ⟨hr, hv⟩⟩])
theorem w_return (h : ins y pc = some (.return_, 1)) (hr : (mq y).2.2.2.1 = none) : Wp d y pc ls [] M Q = Q (.returned none) M :=
  wRt h rfl rfl rfl (by simp only [rt1]; rw [if_pos ⟨trivial, hr⟩])
theorem w_areturn {a : Nat} (h : ins y pc = some (.areturn, 1)) (hr : (mq y).2.2.2.1 = some (.object "PackedTree$Leaf") ∨ (mq y).2.2.2.1 = some (.object "PackedTree$Inner") ∨ (mq y).2.2.2.1 = some (.object "PackedTree$Node")) : Wp d y pc ls [.ref a] M Q = Q (.returned (some (.ref a))) M :=
  wRt h rfl rfl rfl (by simp only [rt1]; rw [if_pos ⟨trivial, hr⟩])
theorem w_areturnN (h : ins y pc = some (.areturn, 1)) (hr : (mq y).2.2.2.1 = some (.object "PackedTree$Leaf") ∨ (mq y).2.2.2.1 = some (.object "PackedTree$Inner") ∨ (mq y).2.2.2.1 = some (.object "PackedTree$Node")) : Wp d y pc ls [.null] M Q = Q (.returned (some .null)) M :=
  wRt h rfl rfl rfl (by simp only [rt1]; rw [if_pos ⟨trivial, hr⟩])
theorem w_throw {idx ic k : Nat} (h : ins y pc = some (.new idx, 3)) (h3 : ins y (pc + 3) = some (.dup, 1)) (h4 : ins y (pc + 4) = some (.invokespecial ic, 3)) (h7 : ins y (pc + 7) = some (.athrow, 1)) (hc : cRes (mC y) idx = some k) (hk : k ∈ cEx) (hh : (mq y).2.2.2.2.1 = []) (hl : (mC y, ic, k) ∈ eLk) : Wp d y pc ls [] M Q = Q (.threw (mN M)) (nw M (.inl k) 6) := by
  have hc' : cRes (mq y).2.2.2.2.2 idx = some k := hc
  refine propext ((Wp_iff h).trans ?_)
  unfold Xo
  have e1 : stA (.new idx) 3 pc ls [] = none := rfl
  have e2 : stM (mC y) ((mq y).1.name == "<init>") (.new idx) 3 pc [] M = none := by
    unfold stM; simp only [hc]; rw [if_neg (fun h => h.2.2 hk)]
  have e3 : cal (mC y) (.new idx) 3 [] M = none := rfl
  have e4 : rt1 (mq y) (.new idx) 3 [] = none := rfl
  have e5 : tnw (mq y) (.new idx) 3 pc [] M = some (nw M (.inl k) 6) := by
    unfold tnw
    simp only [hc', (ins_q h4).2]
    rw [if_pos ⟨trivial, hk, hh, trivial, (ins_q h3).2, (ins_q h7).2, hl⟩]
  rw [e1]
  simp only [e2, e3, e4, e5]
theorem w_athrow {a : Nat} (h : ins y pc = some (.athrow, 1)) : Wp d y pc ls (.ref a :: st) M Q = Th d y pc ls a M Q := by
  refine propext ((Wp_iff h).trans ?_)
  unfold Xo
  have e1 : stA .athrow 1 pc ls (.ref a :: st) = none := rfl
  have e2 : stM (mC y) ((mq y).1.name == "<init>") .athrow 1 pc (.ref a :: st) M = none := rfl
  have e3 : cal (mC y) .athrow 1 (.ref a :: st) M = none := rfl
  have e4 : rt1 (mq y) .athrow 1 (.ref a :: st) = none := rfl
  have e5 : tnw (mq y) .athrow 1 pc (.ref a :: st) M = none := rfl
  rw [e1]
  simp only [e2, e3, e4, e5, if_true]
theorem Th_out {a k : Nat} (hK : kO M a = k) (hk : k ∈ cEx) (hg : hGo (mC y) pc k false (mq y).2.2.2.2.1 = some none) : Th d y pc ls a M Q = Q (.threw a) M := by
  have hK' : mK M a = some (.inl k) := by
    unfold kO at hK
    split at hK
    · rename_i hm; rw [hm, hK]
    · subst hK; exact absurd hk (by decide)
  have hg' : hGo (mq y).2.2.2.2.2 pc k false (mq y).2.2.2.2.1 = some none := hg
  have e : hnd (mq y) pc a M = some none := by
    unfold hnd; simp only [hK']; rw [if_pos hk, hg']
  unfold Th
  simp only [e]
theorem Th_in {a k t : Nat} (hK : kO M a = k) (hk : k ∈ cEx) (hg : hGo (mC y) pc k false (mq y).2.2.2.2.1 = some (some t)) : Th d y pc ls a M Q = Wp d y t ls [.ref a] M Q := by
  have hK' : mK M a = some (.inl k) := by
    unfold kO at hK
    split at hK
    · rename_i hm; rw [hm, hK]
    · subst hK; exact absurd hk (by decide)
  have hg' : hGo (mq y).2.2.2.2.2 pc k false (mq y).2.2.2.2.1 = some (some t) := hg
  have e : hnd (mq y) pc a M = some (some t) := by
    unfold hnd; simp only [hK']; rw [if_pos hk, hg']
  unfold Th
  simp only [e]
/-! new cells, casts, constants -/
theorem w_new {idx k : Nat} (h : ins y pc = some (.new idx, 3)) (hc : cRes (mC y) idx = some k) (h1 : k ∈ cOb) (h2 : ¬ k ∈ cEx) : Wp d y pc ls st M Q = Wp d y (pc + 3) ls (.ref (mN M) :: st) (nw M (.inl k) (cSz k)) Q :=
  wM h rfl (by unfold stM; simp only [hc]; rw [if_pos ⟨trivial, h1, h2⟩])
theorem I_nlt0 {z : Int} (h1 : 0 ≤ z) (h2 : z < 2147483648) : ¬ I z < 0 := by
  rw [I_0, I_lt (by omega) h2 (by omega) (by omega)]; omega
theorem w_newarray {ty : ArrayType} {t : Nat} {n : Int} (h : ins y pc = some (.newarray ty, 2)) (ht : atC ty = some t) (h1 : 0 ≤ n) (h2 : n ≤ 60000) : Wp d y pc ls (.int (I n) :: st) M Q = Wp d y (pc + 2) ls (.ref (mN M) :: st) (nw M (.inr (t, n.toNat)) n.toNat) Q :=
  wM h rfl (by
    have e := tc_I h1 (show n < 2147483648 by omega)
    unfold stM; simp only [ht]; rw [if_pos ⟨trivial, I_nlt0 h1 (by omega), by rw [e]; omega⟩, e])
theorem w_anewarray {idx k : Nat} {n : Int} (h : ins y pc = some (.anewarray idx, 3)) (hc : cRes (mC y) idx = some k) (hk : k = 5 ∨ k = 6 ∨ k = 7) (h1 : 0 ≤ n) (h2 : n ≤ 60000) : Wp d y pc ls (.int (I n) :: st) M Q = Wp d y (pc + 3) ls (.ref (mN M) :: st) (nw M (.inr (k, n.toNat)) n.toNat) Q :=
  wM h rfl (by
    have e := tc_I h1 (show n < 2147483648 by omega)
    unfold stM; simp only [hc]; rw [if_pos ⟨trivial, I_nlt0 h1 (by omega), by rw [e]; omega, hk⟩, e])
theorem w_multi {idx : Nat} {n k : Int} (h : ins y pc = some (.multianewarray idx 2, 4)) (hi : (mC y = 1 ∧ idx = 13) ∨ (mC y = 4 ∧ idx = 9)) (h1 : 0 ≤ n) (h2 : n ≤ 1000) (h3 : 0 ≤ k) (h4 : k ≤ 1000) : Wp d y pc ls (.int (I k) :: .int (I n) :: st) M Q = Wp d y (pc + 4) ls (.ref (mN M) :: st) (nw2 M n.toNat k.toNat) Q :=
  wM h rfl (by
    have e := tc_I h1 (show n < 2147483648 by omega)
    have e' := tc_I h3 (show k < 2147483648 by omega)
    unfold stM; simp only []; rw [if_pos ⟨trivial, trivial, hi, I_nlt0 h1 (by omega), by rw [e]; omega, I_nlt0 h3 (by omega), by rw [e']; omega⟩, e, e'])
theorem w_castN {idx : Nat} (h : ins y pc = some (.checkcast idx, 3)) : Wp d y pc ls (.null :: st) M Q = Wp d y (pc + 3) ls (.null :: st) M Q := wM h rfl rfl
theorem w_cast {idx k a : Nat} (h : ins y pc = some (.checkcast idx, 3)) (hc : cRes (mC y) idx = some k) (hk : k = 5 ∨ k = 6) : Wp d y pc ls (.ref a :: st) M Q = (kO M a = k ∧ Wp d y (pc + 3) ls (.ref a :: st) M Q) := by
  refine wOr h rfl ?_ ?_ rfl rfl rfl (by intro h; cases h)
  · intro hK
    unfold stM; simp only [kO_some (by omega) hK, hc]; rw [if_pos ⟨trivial, trivial, hk⟩]
  · intro hK
    unfold stM
    simp only [hc]
    split
    · rename_i k' k'' hk' hk''
      have : kO M a = k' := by simp only [kO, hk']
      cases hk''
      rw [if_neg (by intro h; omega)]
    · rfl
theorem w_inst {idx a : Nat} (h : ins y pc = some (.instanceof idx, 3)) (hc : cRes (mC y) idx = some 6) : Wp d y pc ls (.ref a :: st) M Q = ((kO M a = 5 ∨ kO M a = 6) ∧ Wp d y (pc + 3) ls (.int (I (if kO M a = 6 then 1 else 0)) :: st) M Q) := by
  refine wOr h rfl ?_ ?_ rfl rfl rfl (by intro h; cases h)
  · intro hK
    unfold stM
    rcases hK with hK | hK
    · simp only [kO_some (by omega) hK, hc]; rw [if_pos ⟨trivial, trivial, .inl trivial⟩, hK]; rfl
    · simp only [kO_some (by omega) hK, hc]; rw [if_pos ⟨trivial, trivial, .inr trivial⟩, hK]; rfl
  · intro hK
    unfold stM
    simp only [hc]
    split
    · rename_i k' k'' hk' hk''
      have : kO M a = k' := by simp only [kO, hk']
      cases hk''
      rw [if_neg (by intro h; omega)]
    · rfl
/-- 1 for true -/
def bI (b : Bool) : Int := if b then 1 else 0
theorem w_zretB {b : Bool} (h : ins y pc = some (.ireturn, 1)) (hr : (mq y).2.2.2.1 = some .boolean) : Wp d y pc ls [.int (I (bI b))] M Q = Q (.returned (some (.int (I (bI b))))) M :=
  w_zreturn h hr (by cases b <;> decide)
theorem w_zretI {z : Int} (h : ins y pc = some (.ireturn, 1)) (hr : (mq y).2.2.2.1 = some .boolean) (hz : z = 0 ∨ z = 1) : Wp d y pc ls [.int (I z)] M Q = Q (.returned (some (.int (I z)))) M :=
  w_zreturn h hr (by rcases hz with rfl | rfl <;> decide)
theorem w_ldc {idx : Nat} {v : Int64} (h : ins y pc = some (.ldc2_w idx, 3)) (hv : (mC y = 8 ∧ idx = 190 ∧ v = 255) ∨ (mC y = 0 ∧ idx = 113 ∧ v = 4294967295)) : Wp d y pc ls st M Q = Wp d y (pc + 3) ls (.long v :: st) M Q := by
  refine wM h rfl ?_
  unfold stM
  simp only []
  rcases hv with ⟨h1, h2, h3⟩ | ⟨h1, h2, h3⟩
  · rw [if_pos ⟨trivial, h1, h2⟩, h3]
  · rw [if_neg (by intro k; omega), if_pos ⟨trivial, h1, h2⟩, h3]
theorem mTb_len : mTb.length = 234 := by decide +kernel
theorem mq_get {y : Nat} (h : y < 234) : mTb[y]? = some (mq y) := by
  unfold mq
  rw [List.getD_eq_getElem?_getD, List.getElem?_eq_getElem (by rw [mTb_len]; exact h)]
  rfl
end Rows2
