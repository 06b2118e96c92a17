/-! 87 PackedTree$Room.<init>(I)V; loop heads [] -/
set_option maxRecDepth 100000 in
theorem r_87_0 : ∀ (d : Nat) (l1 : Option Value) (v : Nat) (st : List Value) (M : Mem) (Q : Outcome → Mem → Prop), Wp d 87 0 [some (.ref v), l1] st M Q = Wp d 87 1 [some (.ref v), l1] (.ref v :: st) M Q := fun d l1 v st M Q => wA (show ins 87 0 = some (.aload_n 0, 1) by decide +kernel) rfl
set_option maxRecDepth 100000 in
theorem r_87_1 : ∀ (d : Nat) (ls : Lc) (a : Nat) (st : List Value) (M : Mem) (Q : Outcome → Mem → Prop), (smallR st = true) → Wp d 87 1 ls (.ref a :: st) M Q = Wp d 87 4 ls st M Q := fun d ls a st M Q h0 => w_obj (show ins 87 1 = some (.invokespecial 3, 3) by decide +kernel) (show mRes (mC 87) 3 = some (2, 10, [(0, 232)]) by decide +kernel) h0
set_option maxRecDepth 100000 in
theorem r_87_4 : ∀ (d : Nat) (l1 : Option Value) (v : Nat) (st : List Value) (M : Mem) (Q : Outcome → Mem → Prop), Wp d 87 4 [some (.ref v), l1] st M Q = Wp d 87 5 [some (.ref v), l1] (.ref v :: st) M Q := fun d l1 v st M Q => wA (show ins 87 4 = some (.aload_n 0, 1) by decide +kernel) rfl
set_option maxRecDepth 100000 in
theorem r_87_5 : ∀ (d : Nat) (ls : Lc) (st : List Value) (M : Mem) (Q : Outcome → Mem → Prop), Wp d 87 5 ls st M Q = Wp d 87 7 ls (.int (I 96) :: st) M Q := fun d ls st M Q => w_bipush (show ins 87 5 = some (.bipush 96, 2) by decide +kernel) (by decide)
set_option maxRecDepth 100000 in
theorem r_87_7 : ∀ (d : Nat) (ls : Lc) (n : Int) (st : List Value) (M : Mem) (Q : Outcome → Mem → Prop), (0 ≤ n) → (n ≤ 60000) → Wp d 87 7 ls (.int (I n) :: st) M Q = Wp d 87 9 ls (.ref (mN M) :: st) (nw M (.inr (2, n.toNat)) n.toNat) Q := fun d ls n st M Q h0 h1 => w_newarray (show ins 87 7 = some (.newarray .boolean, 2) by decide +kernel) rfl h0 h1
set_option maxRecDepth 100000 in
theorem r_87_9 : ∀ (d : Nat) (ls : Lc) (a b : Nat) (st : List Value) (M : Mem) (Q : Outcome → Mem → Prop), Wp d 87 9 ls (.ref b :: .ref a :: st) M Q = (fk 11 (kO M a) = true ∧ Wp d 87 12 ls st (sR M 11 a (some b)) Q) := fun d ls a b st M Q => w_putR (v := some b) (show ins 87 9 = some (.putfield 9, 3) by decide +kernel) (show fRes (mC 87) 9 = some (11, 2, false) by decide +kernel) (by decide +kernel) (by decide +kernel)
set_option maxRecDepth 100000 in
theorem r_87_9_1 : ∀ (d : Nat) (ls : Lc) (a : Nat) (st : List Value) (M : Mem) (Q : Outcome → Mem → Prop), Wp d 87 9 ls (.null :: .ref a :: st) M Q = (fk 11 (kO M a) = true ∧ Wp d 87 12 ls st (sR M 11 a none) Q) := fun d ls a st M Q => w_putR (v := none) (show ins 87 9 = some (.putfield 9, 3) by decide +kernel) (show fRes (mC 87) 9 = some (11, 2, false) by decide +kernel) (by decide +kernel) (by decide +kernel)
set_option maxRecDepth 100000 in
theorem r_87_12 : ∀ (d : Nat) (l1 : Option Value) (v : Nat) (st : List Value) (M : Mem) (Q : Outcome → Mem → Prop), Wp d 87 12 [some (.ref v), l1] st M Q = Wp d 87 13 [some (.ref v), l1] (.ref v :: st) M Q := fun d l1 v st M Q => wA (show ins 87 12 = some (.aload_n 0, 1) by decide +kernel) rfl
set_option maxRecDepth 100000 in
theorem r_87_13 : ∀ (d : Nat) (l0 : Option Value) (v : Int32) (st : List Value) (M : Mem) (Q : Outcome → Mem → Prop), Wp d 87 13 [l0, some (.int v)] st M Q = Wp d 87 14 [l0, some (.int v)] (.int v :: st) M Q := fun d l0 v st M Q => wA (show ins 87 13 = some (.iload_n 1, 1) by decide +kernel) rfl
set_option maxRecDepth 100000 in
theorem r_87_14 : ∀ (d : Nat) (ls : Lc) (a : Nat) (v : Int32) (st : List Value) (M : Mem) (Q : Outcome → Mem → Prop), Wp d 87 14 ls (.int v :: .ref a :: st) M Q = (fk 10 (kO M a) = true ∧ Wp d 87 17 ls st (sF M 10 a v) Q) := fun d ls a v st M Q => w_putI (show ins 87 14 = some (.putfield 15, 3) by decide +kernel) (show fRes (mC 87) 15 = some (10, 2, false) by decide +kernel) (by decide +kernel) (by decide +kernel)
set_option maxRecDepth 100000 in
theorem r_87_17 : ∀ (d : Nat) (ls : Lc) (M : Mem) (Q : Outcome → Mem → Prop), Wp d 87 17 ls [] M Q = Q (.returned none) M := fun d ls M Q => w_return (show ins 87 17 = some (.return_, 1) by decide +kernel) (by decide +kernel)
set_option maxRecDepth 100000 in
theorem W_87 : (type_of% r_87_0) ∧ (type_of% r_87_1) ∧ (type_of% r_87_4) ∧ (type_of% r_87_5) ∧ (type_of% r_87_7) ∧ (type_of% r_87_9) ∧ (type_of% r_87_9_1) ∧ (type_of% r_87_12) ∧ (type_of% r_87_13) ∧ (type_of% r_87_14) ∧ (type_of% r_87_17) := ⟨r_87_0, r_87_1, r_87_4, r_87_5, r_87_7, r_87_9, r_87_9_1, r_87_12, r_87_13, r_87_14, r_87_17⟩
set_option maxRecDepth 100000 in
theorem ca_87 {d y pc : Nat} {ls : Lc} {a : Nat} {z0 : Int32} {r : List Value} {M : Mem} {Q : Outcome → Mem → Prop} (hd : 0 < d) (hw : Wp (d - 1) 87 0 [some (.ref a), some (.int z0)] [] M (Cq d y pc ls r Q)) : Ca d y pc ls 87 [.ref a, .int z0] r M Q := ca_of (mq_get (by decide)) (by rfl) hd hw
/-! 88 PackedTree$Room.take()I; loop heads [2] -/
set_option maxRecDepth 100000 in
theorem r_88_0 : ∀ (d : Nat) (ls : Lc) (st : List Value) (M : Mem) (Q : Outcome → Mem → Prop), Wp d 88 0 ls st M Q = Wp d 88 1 ls (.int (I 0) :: st) M Q := fun d ls st M Q => w_iconst (show ins 88 0 = some (.iconst 0, 1) by decide +kernel)
set_option maxRecDepth 100000 in
theorem r_88_1 : ∀ (d : Nat) (l0 l1 : Option Value) (v : Int32) (st : List Value) (M : Mem) (Q : Outcome → Mem → Prop), (lo l0 = false) → Wp d 88 1 [l0, l1] (.int v :: st) M Q = Wp d 88 2 [l0, some (.int v)] st M Q := fun d l0 l1 v st M Q hl => w_istore_n (show ins 88 1 = some (.istore_n 1, 1) by decide +kernel) (st1_S rfl rfl hl)
set_option maxRecDepth 100000 in
theorem r_88_2 : ∀ (d : Nat) (l0 : Option Value) (v : Int32) (st : List Value) (M : Mem) (Q : Outcome → Mem → Prop), Wp d 88 2 [l0, some (.int v)] st M Q = Wp d 88 3 [l0, some (.int v)] (.int v :: st) M Q := fun d l0 v st M Q => wA (show ins 88 2 = some (.iload_n 1, 1) by decide +kernel) rfl
set_option maxRecDepth 100000 in
theorem r_88_3 : ∀ (d : Nat) (l1 : Option Value) (v : Nat) (st : List Value) (M : Mem) (Q : Outcome → Mem → Prop), Wp d 88 3 [some (.ref v), l1] st M Q = Wp d 88 4 [some (.ref v), l1] (.ref v :: st) M Q := fun d l1 v st M Q => wA (show ins 88 3 = some (.aload_n 0, 1) by decide +kernel) rfl
set_option maxRecDepth 100000 in
theorem r_88_4 : ∀ (d : Nat) (ls : Lc) (a : Nat) (st : List Value) (M : Mem) (Q : Outcome → Mem → Prop), Wp d 88 4 ls (.ref a :: st) M Q = (fk 10 (kO M a) = true ∧ Wp d 88 7 ls (.int (mF M 10 a) :: st) M Q) := fun d ls a st M Q => w_getI (show ins 88 4 = some (.getfield 15, 3) by decide +kernel) (show fRes (mC 88) 15 = some (10, 2, false) by decide +kernel) (by decide +kernel)
set_option maxRecDepth 100000 in
theorem r_88_7 : ∀ (d : Nat) (ls : Lc) (a b : Int32) (st : List Value) (M : Mem) (Q : Outcome → Mem → Prop), Wp d 88 7 ls (.int b :: .int a :: st) M Q = Br (b ≤ a) d 88 25 10 ls st M Q := fun d ls a b st M Q => w_icmp (show ins 88 7 = some (.if_icmp .ge 18, 3) by decide +kernel) rfl rfl
set_option maxRecDepth 100000 in
theorem r_88_10 : ∀ (d : Nat) (l1 : Option Value) (v : Nat) (st : List Value) (M : Mem) (Q : Outcome → Mem → Prop), Wp d 88 10 [some (.ref v), l1] st M Q = Wp d 88 11 [some (.ref v), l1] (.ref v :: st) M Q := fun d l1 v st M Q => wA (show ins 88 10 = some (.aload_n 0, 1) by decide +kernel) rfl
set_option maxRecDepth 100000 in
theorem r_88_11 : ∀ (d : Nat) (ls : Lc) (a : Nat) (st : List Value) (M : Mem) (Q : Outcome → Mem → Prop), Wp d 88 11 ls (.ref a :: st) M Q = (fk 11 (kO M a) = true ∧ Wp d 88 14 ls (va_rf (mR M 11 a) :: st) M Q) := fun d ls a st M Q => w_getR (show ins 88 11 = some (.getfield 9, 3) by decide +kernel) (show fRes (mC 88) 9 = some (11, 2, false) by decide +kernel) (by decide +kernel)
set_option maxRecDepth 100000 in
theorem r_88_14 : ∀ (d : Nat) (l0 : Option Value) (v : Int32) (st : List Value) (M : Mem) (Q : Outcome → Mem → Prop), Wp d 88 14 [l0, some (.int v)] st M Q = Wp d 88 15 [l0, some (.int v)] (.int v :: st) M Q := fun d l0 v st M Q => wA (show ins 88 14 = some (.iload_n 1, 1) by decide +kernel) rfl
set_option maxRecDepth 100000 in
theorem r_88_15 : ∀ (d : Nat) (ls : Lc) (a : Nat) (j : Int32) (st : List Value) (M : Mem) (Q : Outcome → Mem → Prop), Wp d 88 15 ls (.int j :: .ref a :: st) M Q = ((((kX M a).1 = 1 ∨ (kX M a).1 = 2) ∧ inB j (kX M a).2 = true) ∧ Wp d 88 16 ls (.int (mA M a j.toNatClampNeg) :: st) M Q) := fun d ls a j st M Q => w_baload (show ins 88 15 = some (.baload, 1) by decide +kernel)
set_option maxRecDepth 100000 in
theorem r_88_16 : ∀ (d : Nat) (ls : Lc) (a : Int32) (st : List Value) (M : Mem) (Q : Outcome → Mem → Prop), Wp d 88 16 ls (.int a :: st) M Q = Br (a = I 0) d 88 25 19 ls st M Q := fun d ls a st M Q => w_if (show ins 88 16 = some (.ifCond .eq 9, 3) by decide +kernel) rfl rfl
set_option maxRecDepth 100000 in
theorem r_88_19 : ∀ (d : Nat) (l0 : Option Value) (z : Int) (st : List Value) (M : Mem) (Q : Outcome → Mem → Prop), (lo l0 = false) → Wp d 88 19 [l0, some (.int (I z))] st M Q = Wp d 88 22 [l0, some (.int (I (z + 1)))] st M Q := fun d l0 z st M Q hl => w_iinc (show ins 88 19 = some (.iinc 1 1, 3) by decide +kernel) rfl (st1_S rfl rfl hl)
set_option maxRecDepth 100000 in
theorem r_88_22 : ∀ (d : Nat) (ls : Lc) (st : List Value) (M : Mem) (Q : Outcome → Mem → Prop), Wp d 88 22 ls st M Q = Wp d 88 2 ls st M Q := fun d ls st M Q => w_goto (show ins 88 22 = some (.goto (-20), 3) by decide +kernel) rfl
set_option maxRecDepth 100000 in
theorem r_88_25 : ∀ (d : Nat) (l0 : Option Value) (v : Int32) (st : List Value) (M : Mem) (Q : Outcome → Mem → Prop), Wp d 88 25 [l0, some (.int v)] st M Q = Wp d 88 26 [l0, some (.int v)] (.int v :: st) M Q := fun d l0 v st M Q => wA (show ins 88 25 = some (.iload_n 1, 1) by decide +kernel) rfl
set_option maxRecDepth 100000 in
theorem r_88_26 : ∀ (d : Nat) (l1 : Option Value) (v : Nat) (st : List Value) (M : Mem) (Q : Outcome → Mem → Prop), Wp d 88 26 [some (.ref v), l1] st M Q = Wp d 88 27 [some (.ref v), l1] (.ref v :: st) M Q := fun d l1 v st M Q => wA (show ins 88 26 = some (.aload_n 0, 1) by decide +kernel) rfl
set_option maxRecDepth 100000 in
theorem r_88_27 : ∀ (d : Nat) (ls : Lc) (a : Nat) (st : List Value) (M : Mem) (Q : Outcome → Mem → Prop), Wp d 88 27 ls (.ref a :: st) M Q = (fk 10 (kO M a) = true ∧ Wp d 88 30 ls (.int (mF M 10 a) :: st) M Q) := fun d ls a st M Q => w_getI (show ins 88 27 = some (.getfield 15, 3) by decide +kernel) (show fRes (mC 88) 15 = some (10, 2, false) by decide +kernel) (by decide +kernel)
set_option maxRecDepth 100000 in
theorem r_88_30 : ∀ (d : Nat) (ls : Lc) (a b : Int32) (st : List Value) (M : Mem) (Q : Outcome → Mem → Prop), Wp d 88 30 ls (.int b :: .int a :: st) M Q = Br (¬ a = b) d 88 41 33 ls st M Q := fun d ls a b st M Q => w_icmp (show ins 88 30 = some (.if_icmp .ne 11, 3) by decide +kernel) rfl rfl
set_option maxRecDepth 100000 in
theorem r_88_33 : ∀ (d : Nat) (ls : Lc) (M : Mem) (Q : Outcome → Mem → Prop), Wp d 88 33 ls [] M Q = Q (.threw (mN M)) (nw M (.inl 14) 6) := fun d ls M Q => w_throw (show ins 88 33 = some (.new 19, 3) by decide +kernel) (by decide +kernel) (show ins 88 37 = some (.invokespecial 21, 3) by decide +kernel) (by decide +kernel) (show cRes (mC 88) 19 = some 14 by decide +kernel) (by decide +kernel) (by decide +kernel) (by decide +kernel)
set_option maxRecDepth 100000 in
theorem r_88_41 : ∀ (d : Nat) (l1 : Option Value) (v : Nat) (st : List Value) (M : Mem) (Q : Outcome → Mem → Prop), Wp d 88 41 [some (.ref v), l1] st M Q = Wp d 88 42 [some (.ref v), l1] (.ref v :: st) M Q := fun d l1 v st M Q => wA (show ins 88 41 = some (.aload_n 0, 1) by decide +kernel) rfl
set_option maxRecDepth 100000 in
theorem r_88_42 : ∀ (d : Nat) (ls : Lc) (a : Nat) (st : List Value) (M : Mem) (Q : Outcome → Mem → Prop), Wp d 88 42 ls (.ref a :: st) M Q = (fk 11 (kO M a) = true ∧ Wp d 88 45 ls (va_rf (mR M 11 a) :: st) M Q) := fun d ls a st M Q => w_getR (show ins 88 42 = some (.getfield 9, 3) by decide +kernel) (show fRes (mC 88) 9 = some (11, 2, false) by decide +kernel) (by decide +kernel)
set_option maxRecDepth 100000 in
theorem r_88_45 : ∀ (d : Nat) (l0 : Option Value) (v : Int32) (st : List Value) (M : Mem) (Q : Outcome → Mem → Prop), Wp d 88 45 [l0, some (.int v)] st M Q = Wp d 88 46 [l0, some (.int v)] (.int v :: st) M Q := fun d l0 v st M Q => wA (show ins 88 45 = some (.iload_n 1, 1) by decide +kernel) rfl
set_option maxRecDepth 100000 in
theorem r_88_46 : ∀ (d : Nat) (ls : Lc) (st : List Value) (M : Mem) (Q : Outcome → Mem → Prop), Wp d 88 46 ls st M Q = Wp d 88 47 ls (.int (I 1) :: st) M Q := fun d ls st M Q => w_iconst (show ins 88 46 = some (.iconst 1, 1) by decide +kernel)
set_option maxRecDepth 100000 in
theorem r_88_47 : ∀ (d : Nat) (ls : Lc) (a : Nat) (j v : Int32) (st : List Value) (M : Mem) (Q : Outcome → Mem → Prop), Wp d 88 47 ls (.int v :: .int j :: .ref a :: st) M Q = ((((kX M a).1 = 1 ∨ (kX M a).1 = 2) ∧ inB j (kX M a).2 = true) ∧ Wp d 88 48 ls st (sA M a j.toNatClampNeg (nrw (kX M a).1 v)) Q) := fun d ls a j v st M Q => w_bastore (show ins 88 47 = some (.bastore, 1) by decide +kernel)
set_option maxRecDepth 100000 in
theorem r_88_48 : ∀ (d : Nat) (l0 : Option Value) (v : Int32) (st : List Value) (M : Mem) (Q : Outcome → Mem → Prop), Wp d 88 48 [l0, some (.int v)] st M Q = Wp d 88 49 [l0, some (.int v)] (.int v :: st) M Q := fun d l0 v st M Q => wA (show ins 88 48 = some (.iload_n 1, 1) by decide +kernel) rfl
set_option maxRecDepth 100000 in
theorem r_88_49 : ∀ (d : Nat) (ls : Lc) (v : Int32) (M : Mem) (Q : Outcome → Mem → Prop), Wp d 88 49 ls [.int v] M Q = Q (.returned (some (.int v))) M := fun d ls v M Q => w_ireturn (show ins 88 49 = some (.ireturn, 1) by decide +kernel) (by decide +kernel)
set_option maxRecDepth 100000 in
theorem w_88_2 : (type_of% r_88_2) := r_88_2
set_option maxRecDepth 100000 in
theorem W_88 : (type_of% r_88_0) ∧ (type_of% r_88_1) ∧ (type_of% r_88_3) ∧ (type_of% r_88_4) ∧ (type_of% r_88_7) ∧ (type_of% r_88_10) ∧ (type_of% r_88_11) ∧ (type_of% r_88_14) ∧ (type_of% r_88_15) ∧ (type_of% r_88_16) ∧ (type_of% r_88_19) ∧ (type_of% r_88_22) ∧ (type_of% r_88_25) ∧ (type_of% r_88_26) ∧ (type_of% r_88_27) ∧ (type_of% r_88_30) ∧ (type_of% r_88_33) ∧ (type_of% r_88_41) ∧ (type_of% r_88_42) ∧ (type_of% r_88_45) ∧ (type_of% r_88_46) ∧ (type_of% r_88_47) ∧ (type_of% r_88_48) ∧ (type_of% r_88_49) := ⟨r_88_0, r_88_1, r_88_3, r_88_4, r_88_7, r_88_10, r_88_11, r_88_14, r_88_15, r_88_16, r_88_19, r_88_22, r_88_25, r_88_26, r_88_27, r_88_30, r_88_33, r_88_41, r_88_42, r_88_45, r_88_46, r_88_47, r_88_48, r_88_49⟩
set_option maxRecDepth 100000 in
theorem ca_88 {d y pc : Nat} {ls : Lc} {a : Nat} {r : List Value} {M : Mem} {Q : Outcome → Mem → Prop} (hd : 0 < d) (hw : Wp (d - 1) 88 0 [some (.ref a), none] [] M (Cq d y pc ls r Q)) : Ca d y pc ls 88 [.ref a] r M Q := ca_of (mq_get (by decide)) (by rfl) hd hw
/-! 89 PackedTree$Room.free(I)V; loop heads [] -/
set_option maxRecDepth 100000 in
theorem r_89_0 : ∀ (d : Nat) (l1 : Option Value) (v : Nat) (st : List Value) (M : Mem) (Q : Outcome → Mem → Prop), Wp d 89 0 [some (.ref v), l1] st M Q = Wp d 89 1 [some (.ref v), l1] (.ref v :: st) M Q := fun d l1 v st M Q => wA (show ins 89 0 = some (.aload_n 0, 1) by decide +kernel) rfl
set_option maxRecDepth 100000 in
theorem r_89_1 : ∀ (d : Nat) (ls : Lc) (a : Nat) (st : List Value) (M : Mem) (Q : Outcome → Mem → Prop), Wp d 89 1 ls (.ref a :: st) M Q = (fk 11 (kO M a) = true ∧ Wp d 89 4 ls (va_rf (mR M 11 a) :: st) M Q) := fun d ls a st M Q => w_getR (show ins 89 1 = some (.getfield 9, 3) by decide +kernel) (show fRes (mC 89) 9 = some (11, 2, false) by decide +kernel) (by decide +kernel)
set_option maxRecDepth 100000 in
theorem r_89_4 : ∀ (d : Nat) (l0 : Option Value) (v : Int32) (st : List Value) (M : Mem) (Q : Outcome → Mem → Prop), Wp d 89 4 [l0, some (.int v)] st M Q = Wp d 89 5 [l0, some (.int v)] (.int v :: st) M Q := fun d l0 v st M Q => wA (show ins 89 4 = some (.iload_n 1, 1) by decide +kernel) rfl
set_option maxRecDepth 100000 in
theorem r_89_5 : ∀ (d : Nat) (ls : Lc) (st : List Value) (M : Mem) (Q : Outcome → Mem → Prop), Wp d 89 5 ls st M Q = Wp d 89 6 ls (.int (I 0) :: st) M Q := fun d ls st M Q => w_iconst (show ins 89 5 = some (.iconst 0, 1) by decide +kernel)
set_option maxRecDepth 100000 in
theorem r_89_6 : ∀ (d : Nat) (ls : Lc) (a : Nat) (j v : Int32) (st : List Value) (M : Mem) (Q : Outcome → Mem → Prop), Wp d 89 6 ls (.int v :: .int j :: .ref a :: st) M Q = ((((kX M a).1 = 1 ∨ (kX M a).1 = 2) ∧ inB j (kX M a).2 = true) ∧ Wp d 89 7 ls st (sA M a j.toNatClampNeg (nrw (kX M a).1 v)) Q) := fun d ls a j v st M Q => w_bastore (show ins 89 6 = some (.bastore, 1) by decide +kernel)
set_option maxRecDepth 100000 in
theorem r_89_7 : ∀ (d : Nat) (ls : Lc) (M : Mem) (Q : Outcome → Mem → Prop), Wp d 89 7 ls [] M Q = Q (.returned none) M := fun d ls M Q => w_return (show ins 89 7 = some (.return_, 1) by decide +kernel) (by decide +kernel)
set_option maxRecDepth 100000 in
theorem W_89 : (type_of% r_89_0) ∧ (type_of% r_89_1) ∧ (type_of% r_89_4) ∧ (type_of% r_89_5) ∧ (type_of% r_89_6) ∧ (type_of% r_89_7) := ⟨r_89_0, r_89_1, r_89_4, r_89_5, r_89_6, r_89_7⟩
set_option maxRecDepth 100000 in
theorem ca_89 {d y pc : Nat} {ls : Lc} {a : Nat} {z0 : Int32} {r : List Value} {M : Mem} {Q : Outcome → Mem → Prop} (hd : 0 < d) (hw : Wp (d - 1) 89 0 [some (.ref a), some (.int z0)] [] M (Cq d y pc ls r Q)) : Ca d y pc ls 89 [.ref a, .int z0] r M Q := ca_of (mq_get (by decide)) (by rfl) hd hw
/-! 90 PackedTree$Room.lay([BI)V; loop heads [12] -/
set_option maxRecDepth 100000 in
theorem r_90_0 : ∀ (d : Nat) (l0 l2 l3 : Option Value) (v : Nat) (st : List Value) (M : Mem) (Q : Outcome → Mem → Prop), Wp d 90 0 [l0, some (.ref v), l2, l3] st M Q = Wp d 90 1 [l0, some (.ref v), l2, l3] (.ref v :: st) M Q := fun d l0 l2 l3 v st M Q => wA (show ins 90 0 = some (.aload_n 1, 1) by decide +kernel) rfl
set_option maxRecDepth 100000 in
theorem r_90_0_1 : ∀ (d : Nat) (l0 l2 l3 : Option Value) (st : List Value) (M : Mem) (Q : Outcome → Mem → Prop), Wp d 90 0 [l0, some .null, l2, l3] st M Q = Wp d 90 1 [l0, some .null, l2, l3] (.null :: st) M Q := fun d l0 l2 l3 st M Q => wA (show ins 90 0 = some (.aload_n 1, 1) by decide +kernel) rfl
set_option maxRecDepth 100000 in
theorem r_90_1 : ∀ (d : Nat) (ls : Lc) (st : List Value) (M : Mem) (Q : Outcome → Mem → Prop), Wp d 90 1 ls st M Q = Wp d 90 2 ls (.int (I 3) :: st) M Q := fun d ls st M Q => w_iconst (show ins 90 1 = some (.iconst 3, 1) by decide +kernel)
set_option maxRecDepth 100000 in
theorem r_90_2 : ∀ (d : Nat) (ls : Lc) (v0 v1 : Value)  (st : List Value) (M : Mem) (Q : Outcome → Mem → Prop), (smallR st = true) → Wp d 90 2 ls (v1 :: v0 :: st) M Q = Ca d 90 2 ls 26 [v0, v1] st M Q := fun d ls v0 v1 st M Q h0 => w_stat (as := [v0, v1]) (show ins 90 2 = some (.invokestatic 22, 3) by decide +kernel) (show mRes (mC 90) 22 = some (1, 1, [(0, 26)]) by decide +kernel) (by decide +kernel) (by decide +kernel) rfl h0
set_option maxRecDepth 100000 in
theorem r_90_5 : ∀ (d : Nat) (l0 l2 l3 : Option Value) (v : Nat) (st : List Value) (M : Mem) (Q : Outcome → Mem → Prop), Wp d 90 5 [l0, some (.ref v), l2, l3] st M Q = Wp d 90 6 [l0, some (.ref v), l2, l3] (.ref v :: st) M Q := fun d l0 l2 l3 v st M Q => wA (show ins 90 5 = some (.aload_n 1, 1) by decide +kernel) rfl
set_option maxRecDepth 100000 in
theorem r_90_5_1 : ∀ (d : Nat) (l0 l2 l3 : Option Value) (st : List Value) (M : Mem) (Q : Outcome → Mem → Prop), Wp d 90 5 [l0, some .null, l2, l3] st M Q = Wp d 90 6 [l0, some .null, l2, l3] (.null :: st) M Q := fun d l0 l2 l3 st M Q => wA (show ins 90 5 = some (.aload_n 1, 1) by decide +kernel) rfl
set_option maxRecDepth 100000 in
theorem r_90_6 : ∀ (d : Nat) (ls : Lc) (st : List Value) (M : Mem) (Q : Outcome → Mem → Prop), Wp d 90 6 ls st M Q = Wp d 90 7 ls (.int (I 0) :: st) M Q := fun d ls st M Q => w_iconst (show ins 90 6 = some (.iconst 0, 1) by decide +kernel)
set_option maxRecDepth 100000 in
theorem r_90_7 : ∀ (d : Nat) (l0 l1 l3 : Option Value) (v : Int32) (st : List Value) (M : Mem) (Q : Outcome → Mem → Prop), Wp d 90 7 [l0, l1, some (.int v), l3] st M Q = Wp d 90 8 [l0, l1, some (.int v), l3] (.int v :: st) M Q := fun d l0 l1 l3 v st M Q => wA (show ins 90 7 = some (.iload_n 2, 1) by decide +kernel) rfl
set_option maxRecDepth 100000 in
theorem r_90_8 : ∀ (d : Nat) (ls : Lc) (a : Int32) (st : List Value) (M : Mem) (Q : Outcome → Mem → Prop), Wp d 90 8 ls (.int a :: st) M Q = Wp d 90 9 ls (.int a.toInt8.toInt32 :: st) M Q := fun d ls a st M Q => wA (show ins 90 8 = some (.i2b, 1) by decide +kernel) rfl
set_option maxRecDepth 100000 in
theorem r_90_9 : ∀ (d : Nat) (ls : Lc) (a : Nat) (j v : Int32) (st : List Value) (M : Mem) (Q : Outcome → Mem → Prop), Wp d 90 9 ls (.int v :: .int j :: .ref a :: st) M Q = ((((kX M a).1 = 1 ∨ (kX M a).1 = 2) ∧ inB j (kX M a).2 = true) ∧ Wp d 90 10 ls st (sA M a j.toNatClampNeg (nrw (kX M a).1 v)) Q) := fun d ls a j v st M Q => w_bastore (show ins 90 9 = some (.bastore, 1) by decide +kernel)
set_option maxRecDepth 100000 in
theorem r_90_10 : ∀ (d : Nat) (ls : Lc) (st : List Value) (M : Mem) (Q : Outcome → Mem → Prop), Wp d 90 10 ls st M Q = Wp d 90 11 ls (.int (I 0) :: st) M Q := fun d ls st M Q => w_iconst (show ins 90 10 = some (.iconst 0, 1) by decide +kernel)
set_option maxRecDepth 100000 in
theorem r_90_11 : ∀ (d : Nat) (l0 l1 l2 l3 : Option Value) (v : Int32) (st : List Value) (M : Mem) (Q : Outcome → Mem → Prop), (lo l2 = false) → Wp d 90 11 [l0, l1, l2, l3] (.int v :: st) M Q = Wp d 90 12 [l0, l1, l2, some (.int v)] st M Q := fun d l0 l1 l2 l3 v st M Q hl => w_istore_n (show ins 90 11 = some (.istore_n 3, 1) by decide +kernel) (st1_S rfl rfl hl)
set_option maxRecDepth 100000 in
theorem r_90_12 : ∀ (d : Nat) (l0 l1 l2 : Option Value) (v : Int32) (st : List Value) (M : Mem) (Q : Outcome → Mem → Prop), Wp d 90 12 [l0, l1, l2, some (.int v)] st M Q = Wp d 90 13 [l0, l1, l2, some (.int v)] (.int v :: st) M Q := fun d l0 l1 l2 v st M Q => wA (show ins 90 12 = some (.iload_n 3, 1) by decide +kernel) rfl
set_option maxRecDepth 100000 in
theorem r_90_13 : ∀ (d : Nat) (l1 l2 l3 : Option Value) (v : Nat) (st : List Value) (M : Mem) (Q : Outcome → Mem → Prop), Wp d 90 13 [some (.ref v), l1, l2, l3] st M Q = Wp d 90 14 [some (.ref v), l1, l2, l3] (.ref v :: st) M Q := fun d l1 l2 l3 v st M Q => wA (show ins 90 13 = some (.aload_n 0, 1) by decide +kernel) rfl
set_option maxRecDepth 100000 in
theorem r_90_14 : ∀ (d : Nat) (ls : Lc) (a : Nat) (st : List Value) (M : Mem) (Q : Outcome → Mem → Prop), Wp d 90 14 ls (.ref a :: st) M Q = (fk 10 (kO M a) = true ∧ Wp d 90 17 ls (.int (mF M 10 a) :: st) M Q) := fun d ls a st M Q => w_getI (show ins 90 14 = some (.getfield 15, 3) by decide +kernel) (show fRes (mC 90) 15 = some (10, 2, false) by decide +kernel) (by decide +kernel)
set_option maxRecDepth 100000 in
theorem r_90_17 : ∀ (d : Nat) (ls : Lc) (a b : Int32) (st : List Value) (M : Mem) (Q : Outcome → Mem → Prop), Wp d 90 17 ls (.int b :: .int a :: st) M Q = Br (b ≤ a) d 90 46 20 ls st M Q := fun d ls a b st M Q => w_icmp (show ins 90 17 = some (.if_icmp .ge 29, 3) by decide +kernel) rfl rfl
set_option maxRecDepth 100000 in
theorem r_90_20 : ∀ (d : Nat) (l0 l2 l3 : Option Value) (v : Nat) (st : List Value) (M : Mem) (Q : Outcome → Mem → Prop), Wp d 90 20 [l0, some (.ref v), l2, l3] st M Q = Wp d 90 21 [l0, some (.ref v), l2, l3] (.ref v :: st) M Q := fun d l0 l2 l3 v st M Q => wA (show ins 90 20 = some (.aload_n 1, 1) by decide +kernel) rfl
set_option maxRecDepth 100000 in
theorem r_90_20_1 : ∀ (d : Nat) (l0 l2 l3 : Option Value) (st : List Value) (M : Mem) (Q : Outcome → Mem → Prop), Wp d 90 20 [l0, some .null, l2, l3] st M Q = Wp d 90 21 [l0, some .null, l2, l3] (.null :: st) M Q := fun d l0 l2 l3 st M Q => wA (show ins 90 20 = some (.aload_n 1, 1) by decide +kernel) rfl
set_option maxRecDepth 100000 in
theorem r_90_21 : ∀ (d : Nat) (ls : Lc) (st : List Value) (M : Mem) (Q : Outcome → Mem → Prop), Wp d 90 21 ls st M Q = Wp d 90 22 ls (.int (I 1) :: st) M Q := fun d ls st M Q => w_iconst (show ins 90 21 = some (.iconst 1, 1) by decide +kernel)
set_option maxRecDepth 100000 in
theorem r_90_22 : ∀ (d : Nat) (l0 l1 l2 : Option Value) (v : Int32) (st : List Value) (M : Mem) (Q : Outcome → Mem → Prop), Wp d 90 22 [l0, l1, l2, some (.int v)] st M Q = Wp d 90 23 [l0, l1, l2, some (.int v)] (.int v :: st) M Q := fun d l0 l1 l2 v st M Q => wA (show ins 90 22 = some (.iload_n 3, 1) by decide +kernel) rfl
set_option maxRecDepth 100000 in
theorem r_90_23 : ∀ (d : Nat) (ls : Lc) (a b : Int) (st : List Value) (M : Mem) (Q : Outcome → Mem → Prop), Wp d 90 23 ls (.int (I b) :: .int (I a) :: st) M Q = Wp d 90 24 ls (.int (I (a + b)) :: st) M Q := fun d ls a b st M Q => w_iadd (show ins 90 23 = some (.iadd, 1) by decide +kernel)
set_option maxRecDepth 100000 in
theorem r_90_24 : ∀ (d : Nat) (l1 l2 l3 : Option Value) (v : Nat) (st : List Value) (M : Mem) (Q : Outcome → Mem → Prop), Wp d 90 24 [some (.ref v), l1, l2, l3] st M Q = Wp d 90 25 [some (.ref v), l1, l2, l3] (.ref v :: st) M Q := fun d l1 l2 l3 v st M Q => wA (show ins 90 24 = some (.aload_n 0, 1) by decide +kernel) rfl
set_option maxRecDepth 100000 in
theorem r_90_25 : ∀ (d : Nat) (ls : Lc) (a : Nat) (st : List Value) (M : Mem) (Q : Outcome → Mem → Prop), Wp d 90 25 ls (.ref a :: st) M Q = (fk 11 (kO M a) = true ∧ Wp d 90 28 ls (va_rf (mR M 11 a) :: st) M Q) := fun d ls a st M Q => w_getR (show ins 90 25 = some (.getfield 9, 3) by decide +kernel) (show fRes (mC 90) 9 = some (11, 2, false) by decide +kernel) (by decide +kernel)
set_option maxRecDepth 100000 in
theorem r_90_28 : ∀ (d : Nat) (l0 l1 l2 : Option Value) (v : Int32) (st : List Value) (M : Mem) (Q : Outcome → Mem → Prop), Wp d 90 28 [l0, l1, l2, some (.int v)] st M Q = Wp d 90 29 [l0, l1, l2, some (.int v)] (.int v :: st) M Q := fun d l0 l1 l2 v st M Q => wA (show ins 90 28 = some (.iload_n 3, 1) by decide +kernel) rfl
set_option maxRecDepth 100000 in
theorem r_90_29 : ∀ (d : Nat) (ls : Lc) (a : Nat) (j : Int32) (st : List Value) (M : Mem) (Q : Outcome → Mem → Prop), Wp d 90 29 ls (.int j :: .ref a :: st) M Q = ((((kX M a).1 = 1 ∨ (kX M a).1 = 2) ∧ inB j (kX M a).2 = true) ∧ Wp d 90 30 ls (.int (mA M a j.toNatClampNeg) :: st) M Q) := fun d ls a j st M Q => w_baload (show ins 90 29 = some (.baload, 1) by decide +kernel)
set_option maxRecDepth 100000 in
theorem r_90_30 : ∀ (d : Nat) (ls : Lc) (a : Int32) (st : List Value) (M : Mem) (Q : Outcome → Mem → Prop), Wp d 90 30 ls (.int a :: st) M Q = Br (a = I 0) d 90 37 33 ls st M Q := fun d ls a st M Q => w_if (show ins 90 30 = some (.ifCond .eq 7, 3) by decide +kernel) rfl rfl
set_option maxRecDepth 100000 in
theorem r_90_33 : ∀ (d : Nat) (ls : Lc) (st : List Value) (M : Mem) (Q : Outcome → Mem → Prop), Wp d 90 33 ls st M Q = Wp d 90 34 ls (.int (I 1) :: st) M Q := fun d ls st M Q => w_iconst (show ins 90 33 = some (.iconst 1, 1) by decide +kernel)
set_option maxRecDepth 100000 in
theorem r_90_34 : ∀ (d : Nat) (ls : Lc) (st : List Value) (M : Mem) (Q : Outcome → Mem → Prop), Wp d 90 34 ls st M Q = Wp d 90 38 ls st M Q := fun d ls st M Q => w_goto (show ins 90 34 = some (.goto 4, 3) by decide +kernel) rfl
set_option maxRecDepth 100000 in
theorem r_90_37 : ∀ (d : Nat) (ls : Lc) (st : List Value) (M : Mem) (Q : Outcome → Mem → Prop), Wp d 90 37 ls st M Q = Wp d 90 38 ls (.int (I 0) :: st) M Q := fun d ls st M Q => w_iconst (show ins 90 37 = some (.iconst 0, 1) by decide +kernel)
set_option maxRecDepth 100000 in
theorem r_90_38 : ∀ (d : Nat) (ls : Lc) (a : Int32) (st : List Value) (M : Mem) (Q : Outcome → Mem → Prop), Wp d 90 38 ls (.int a :: st) M Q = Wp d 90 39 ls (.int a.toInt8.toInt32 :: st) M Q := fun d ls a st M Q => wA (show ins 90 38 = some (.i2b, 1) by decide +kernel) rfl
set_option maxRecDepth 100000 in
theorem r_90_39 : ∀ (d : Nat) (ls : Lc) (a : Nat) (j v : Int32) (st : List Value) (M : Mem) (Q : Outcome → Mem → Prop), Wp d 90 39 ls (.int v :: .int j :: .ref a :: st) M Q = ((((kX M a).1 = 1 ∨ (kX M a).1 = 2) ∧ inB j (kX M a).2 = true) ∧ Wp d 90 40 ls st (sA M a j.toNatClampNeg (nrw (kX M a).1 v)) Q) := fun d ls a j v st M Q => w_bastore (show ins 90 39 = some (.bastore, 1) by decide +kernel)
set_option maxRecDepth 100000 in
theorem r_90_40 : ∀ (d : Nat) (l0 l1 l2 : Option Value) (z : Int) (st : List Value) (M : Mem) (Q : Outcome → Mem → Prop), (lo l2 = false) → Wp d 90 40 [l0, l1, l2, some (.int (I z))] st M Q = Wp d 90 43 [l0, l1, l2, some (.int (I (z + 1)))] st M Q := fun d l0 l1 l2 z st M Q hl => w_iinc (show ins 90 40 = some (.iinc 3 1, 3) by decide +kernel) rfl (st1_S rfl rfl hl)
set_option maxRecDepth 100000 in
theorem r_90_43 : ∀ (d : Nat) (ls : Lc) (st : List Value) (M : Mem) (Q : Outcome → Mem → Prop), Wp d 90 43 ls st M Q = Wp d 90 12 ls st M Q := fun d ls st M Q => w_goto (show ins 90 43 = some (.goto (-31), 3) by decide +kernel) rfl
set_option maxRecDepth 100000 in
theorem r_90_46 : ∀ (d : Nat) (ls : Lc) (M : Mem) (Q : Outcome → Mem → Prop), Wp d 90 46 ls [] M Q = Q (.returned none) M := fun d ls M Q => w_return (show ins 90 46 = some (.return_, 1) by decide +kernel) (by decide +kernel)
set_option maxRecDepth 100000 in
theorem w_90_12 : (type_of% r_90_12) := r_90_12
set_option maxRecDepth 100000 in
theorem W_90 : (type_of% r_90_0) ∧ (type_of% r_90_0_1) ∧ (type_of% r_90_1) ∧ (type_of% r_90_2) ∧ (type_of% r_90_5) ∧ (type_of% r_90_5_1) ∧ (type_of% r_90_6) ∧ (type_of% r_90_7) ∧ (type_of% r_90_8) ∧ (type_of% r_90_9) ∧ (type_of% r_90_10) ∧ (type_of% r_90_11) ∧ (type_of% r_90_13) ∧ (type_of% r_90_14) ∧ (type_of% r_90_17) ∧ (type_of% r_90_20) ∧ (type_of% r_90_20_1) ∧ (type_of% r_90_21) ∧ (type_of% r_90_22) ∧ (type_of% r_90_23) ∧ (type_of% r_90_24) ∧ (type_of% r_90_25) ∧ (type_of% r_90_28) ∧ (type_of% r_90_29) ∧ (type_of% r_90_30) ∧ (type_of% r_90_33) ∧ (type_of% r_90_34) ∧ (type_of% r_90_37) ∧ (type_of% r_90_38) ∧ (type_of% r_90_39) ∧ (type_of% r_90_40) ∧ (type_of% r_90_43) ∧ (type_of% r_90_46) := ⟨r_90_0, r_90_0_1, r_90_1, r_90_2, r_90_5, r_90_5_1, r_90_6, r_90_7, r_90_8, r_90_9, r_90_10, r_90_11, r_90_13, r_90_14, r_90_17, r_90_20, r_90_20_1, r_90_21, r_90_22, r_90_23, r_90_24, r_90_25, r_90_28, r_90_29, r_90_30, r_90_33, r_90_34, r_90_37, r_90_38, r_90_39, r_90_40, r_90_43, r_90_46⟩
set_option maxRecDepth 100000 in
theorem ca_90 {d y pc : Nat} {ls : Lc} {a : Nat} {o0 : Option Nat} {z1 : Int32} {r : List Value} {M : Mem} {Q : Outcome → Mem → Prop} (hd : 0 < d) (hw : Wp (d - 1) 90 0 [some (.ref a), some (va_rf o0), some (.int z1), none] [] M (Cq d y pc ls r Q)) : Ca d y pc ls 90 [.ref a, va_rf o0, .int z1] r M Q := ca_of (mq_get (by decide)) (by cases o0 <;> rfl) hd hw
/-! 91 PackedTree$Room.isTaken([BI)Z; loop heads [] -/
set_option maxRecDepth 100000 in
theorem r_91_0 : ∀ (d : Nat) (l1 : Option Value) (v : Nat) (st : List Value) (M : Mem) (Q : Outcome → Mem → Prop), Wp d 91 0 [some (.ref v), l1] st M Q = Wp d 91 1 [some (.ref v), l1] (.ref v :: st) M Q := fun d l1 v st M Q => wA (show ins 91 0 = some (.aload_n 0, 1) by decide +kernel) rfl
set_option maxRecDepth 100000 in
theorem r_91_0_1 : ∀ (d : Nat) (l1 : Option Value) (st : List Value) (M : Mem) (Q : Outcome → Mem → Prop), Wp d 91 0 [some .null, l1] st M Q = Wp d 91 1 [some .null, l1] (.null :: st) M Q := fun d l1 st M Q => wA (show ins 91 0 = some (.aload_n 0, 1) by decide +kernel) rfl
set_option maxRecDepth 100000 in
theorem r_91_1 : ∀ (d : Nat) (ls : Lc) (st : List Value) (M : Mem) (Q : Outcome → Mem → Prop), Wp d 91 1 ls st M Q = Wp d 91 2 ls (.int (I 1) :: st) M Q := fun d ls st M Q => w_iconst (show ins 91 1 = some (.iconst 1, 1) by decide +kernel)
set_option maxRecDepth 100000 in
theorem r_91_2 : ∀ (d : Nat) (l0 : Option Value) (v : Int32) (st : List Value) (M : Mem) (Q : Outcome → Mem → Prop), Wp d 91 2 [l0, some (.int v)] st M Q = Wp d 91 3 [l0, some (.int v)] (.int v :: st) M Q := fun d l0 v st M Q => wA (show ins 91 2 = some (.iload_n 1, 1) by decide +kernel) rfl
set_option maxRecDepth 100000 in
theorem r_91_3 : ∀ (d : Nat) (ls : Lc) (a b : Int) (st : List Value) (M : Mem) (Q : Outcome → Mem → Prop), Wp d 91 3 ls (.int (I b) :: .int (I a) :: st) M Q = Wp d 91 4 ls (.int (I (a + b)) :: st) M Q := fun d ls a b st M Q => w_iadd (show ins 91 3 = some (.iadd, 1) by decide +kernel)
set_option maxRecDepth 100000 in
theorem r_91_4 : ∀ (d : Nat) (ls : Lc) (a : Nat) (j : Int32) (st : List Value) (M : Mem) (Q : Outcome → Mem → Prop), Wp d 91 4 ls (.int j :: .ref a :: st) M Q = ((((kX M a).1 = 1 ∨ (kX M a).1 = 2) ∧ inB j (kX M a).2 = true) ∧ Wp d 91 5 ls (.int (mA M a j.toNatClampNeg) :: st) M Q) := fun d ls a j st M Q => w_baload (show ins 91 4 = some (.baload, 1) by decide +kernel)
set_option maxRecDepth 100000 in
theorem r_91_5 : ∀ (d : Nat) (ls : Lc) (st : List Value) (M : Mem) (Q : Outcome → Mem → Prop), Wp d 91 5 ls st M Q = Wp d 91 6 ls (.int (I 1) :: st) M Q := fun d ls st M Q => w_iconst (show ins 91 5 = some (.iconst 1, 1) by decide +kernel)
set_option maxRecDepth 100000 in
theorem r_91_6 : ∀ (d : Nat) (ls : Lc) (a b : Int32) (st : List Value) (M : Mem) (Q : Outcome → Mem → Prop), Wp d 91 6 ls (.int b :: .int a :: st) M Q = Br (¬ a = b) d 91 13 9 ls st M Q := fun d ls a b st M Q => w_icmp (show ins 91 6 = some (.if_icmp .ne 7, 3) by decide +kernel) rfl rfl
set_option maxRecDepth 100000 in
theorem r_91_9 : ∀ (d : Nat) (ls : Lc) (st : List Value) (M : Mem) (Q : Outcome → Mem → Prop), Wp d 91 9 ls st M Q = Wp d 91 10 ls (.int (I 1) :: st) M Q := fun d ls st M Q => w_iconst (show ins 91 9 = some (.iconst 1, 1) by decide +kernel)
set_option maxRecDepth 100000 in
theorem r_91_10 : ∀ (d : Nat) (ls : Lc) (st : List Value) (M : Mem) (Q : Outcome → Mem → Prop), Wp d 91 10 ls st M Q = Wp d 91 14 ls st M Q := fun d ls st M Q => w_goto (show ins 91 10 = some (.goto 4, 3) by decide +kernel) rfl
set_option maxRecDepth 100000 in
theorem r_91_13 : ∀ (d : Nat) (ls : Lc) (st : List Value) (M : Mem) (Q : Outcome → Mem → Prop), Wp d 91 13 ls st M Q = Wp d 91 14 ls (.int (I 0) :: st) M Q := fun d ls st M Q => w_iconst (show ins 91 13 = some (.iconst 0, 1) by decide +kernel)
set_option maxRecDepth 100000 in
theorem r_91_14 : ∀ (d : Nat) (ls : Lc) (z : Int) (M : Mem) (Q : Outcome → Mem → Prop), (z = 0 ∨ z = 1) → Wp d 91 14 ls [.int (I z)] M Q = Q (.returned (some (.int (I z)))) M := fun d ls z M Q h0 => w_zretI (show ins 91 14 = some (.ireturn, 1) by decide +kernel) (by decide +kernel) h0
set_option maxRecDepth 100000 in
theorem r_91_14_1 : ∀ (d : Nat) (ls : Lc) (b : Bool) (M : Mem) (Q : Outcome → Mem → Prop), Wp d 91 14 ls [.int (I (bI b))] M Q = Q (.returned (some (.int (I (bI b))))) M := fun d ls b M Q => w_zretB (show ins 91 14 = some (.ireturn, 1) by decide +kernel) (by decide +kernel)
set_option maxRecDepth 100000 in
theorem W_91 : (type_of% r_91_0) ∧ (type_of% r_91_0_1) ∧ (type_of% r_91_1) ∧ (type_of% r_91_2) ∧ (type_of% r_91_3) ∧ (type_of% r_91_4) ∧ (type_of% r_91_5) ∧ (type_of% r_91_6) ∧ (type_of% r_91_9) ∧ (type_of% r_91_10) ∧ (type_of% r_91_13) ∧ (type_of% r_91_14) ∧ (type_of% r_91_14_1) := ⟨r_91_0, r_91_0_1, r_91_1, r_91_2, r_91_3, r_91_4, r_91_5, r_91_6, r_91_9, r_91_10, r_91_13, r_91_14, r_91_14_1⟩
set_option maxRecDepth 100000 in
theorem ca_91 {d y pc : Nat} {ls : Lc} {o0 : Option Nat} {z1 : Int32} {r : List Value} {M : Mem} {Q : Outcome → Mem → Prop} (hd : 0 < d) (hw : Wp (d - 1) 91 0 [some (va_rf o0), some (.int z1)] [] M (Cq d y pc ls r Q)) : Ca d y pc ls 91 [va_rf o0, .int z1] r M Q := ca_of (mq_get (by decide)) (by cases o0 <;> rfl) hd hw
/-! 92 PackedTree$Room.takeFrom([B)V; loop heads [2] -/
set_option maxRecDepth 100000 in
theorem r_92_0 : ∀ (d : Nat) (ls : Lc) (st : List Value) (M : Mem) (Q : Outcome → Mem → Prop), Wp d 92 0 ls st M Q = Wp d 92 1 ls (.int (I 0) :: st) M Q := fun d ls st M Q => w_iconst (show ins 92 0 = some (.iconst 0, 1) by decide +kernel)
set_option maxRecDepth 100000 in
theorem r_92_1 : ∀ (d : Nat) (l0 l1 l2 : Option Value) (v : Int32) (st : List Value) (M : Mem) (Q : Outcome → Mem → Prop), (lo l1 = false) → Wp d 92 1 [l0, l1, l2] (.int v :: st) M Q = Wp d 92 2 [l0, l1, some (.int v)] st M Q := fun d l0 l1 l2 v st M Q hl => w_istore_n (show ins 92 1 = some (.istore_n 2, 1) by decide +kernel) (st1_S rfl rfl hl)
set_option maxRecDepth 100000 in
theorem r_92_2 : ∀ (d : Nat) (l0 l1 : Option Value) (v : Int32) (st : List Value) (M : Mem) (Q : Outcome → Mem → Prop), Wp d 92 2 [l0, l1, some (.int v)] st M Q = Wp d 92 3 [l0, l1, some (.int v)] (.int v :: st) M Q := fun d l0 l1 v st M Q => wA (show ins 92 2 = some (.iload_n 2, 1) by decide +kernel) rfl
set_option maxRecDepth 100000 in
theorem r_92_3 : ∀ (d : Nat) (l1 l2 : Option Value) (v : Nat) (st : List Value) (M : Mem) (Q : Outcome → Mem → Prop), Wp d 92 3 [some (.ref v), l1, l2] st M Q = Wp d 92 4 [some (.ref v), l1, l2] (.ref v :: st) M Q := fun d l1 l2 v st M Q => wA (show ins 92 3 = some (.aload_n 0, 1) by decide +kernel) rfl
set_option maxRecDepth 100000 in
theorem r_92_4 : ∀ (d : Nat) (ls : Lc) (a : Nat) (st : List Value) (M : Mem) (Q : Outcome → Mem → Prop), Wp d 92 4 ls (.ref a :: st) M Q = (fk 10 (kO M a) = true ∧ Wp d 92 7 ls (.int (mF M 10 a) :: st) M Q) := fun d ls a st M Q => w_getI (show ins 92 4 = some (.getfield 15, 3) by decide +kernel) (show fRes (mC 92) 15 = some (10, 2, false) by decide +kernel) (by decide +kernel)
set_option maxRecDepth 100000 in
theorem r_92_7 : ∀ (d : Nat) (ls : Lc) (a b : Int32) (st : List Value) (M : Mem) (Q : Outcome → Mem → Prop), Wp d 92 7 ls (.int b :: .int a :: st) M Q = Br (b ≤ a) d 92 27 10 ls st M Q := fun d ls a b st M Q => w_icmp (show ins 92 7 = some (.if_icmp .ge 20, 3) by decide +kernel) rfl rfl
set_option maxRecDepth 100000 in
theorem r_92_10 : ∀ (d : Nat) (l1 l2 : Option Value) (v : Nat) (st : List Value) (M : Mem) (Q : Outcome → Mem → Prop), Wp d 92 10 [some (.ref v), l1, l2] st M Q = Wp d 92 11 [some (.ref v), l1, l2] (.ref v :: st) M Q := fun d l1 l2 v st M Q => wA (show ins 92 10 = some (.aload_n 0, 1) by decide +kernel) rfl
set_option maxRecDepth 100000 in
theorem r_92_11 : ∀ (d : Nat) (ls : Lc) (a : Nat) (st : List Value) (M : Mem) (Q : Outcome → Mem → Prop), Wp d 92 11 ls (.ref a :: st) M Q = (fk 11 (kO M a) = true ∧ Wp d 92 14 ls (va_rf (mR M 11 a) :: st) M Q) := fun d ls a st M Q => w_getR (show ins 92 11 = some (.getfield 9, 3) by decide +kernel) (show fRes (mC 92) 9 = some (11, 2, false) by decide +kernel) (by decide +kernel)
set_option maxRecDepth 100000 in
theorem r_92_14 : ∀ (d : Nat) (l0 l1 : Option Value) (v : Int32) (st : List Value) (M : Mem) (Q : Outcome → Mem → Prop), Wp d 92 14 [l0, l1, some (.int v)] st M Q = Wp d 92 15 [l0, l1, some (.int v)] (.int v :: st) M Q := fun d l0 l1 v st M Q => wA (show ins 92 14 = some (.iload_n 2, 1) by decide +kernel) rfl
set_option maxRecDepth 100000 in
theorem r_92_15 : ∀ (d : Nat) (l0 l2 : Option Value) (v : Nat) (st : List Value) (M : Mem) (Q : Outcome → Mem → Prop), Wp d 92 15 [l0, some (.ref v), l2] st M Q = Wp d 92 16 [l0, some (.ref v), l2] (.ref v :: st) M Q := fun d l0 l2 v st M Q => wA (show ins 92 15 = some (.aload_n 1, 1) by decide +kernel) rfl
set_option maxRecDepth 100000 in
theorem r_92_15_1 : ∀ (d : Nat) (l0 l2 : Option Value) (st : List Value) (M : Mem) (Q : Outcome → Mem → Prop), Wp d 92 15 [l0, some .null, l2] st M Q = Wp d 92 16 [l0, some .null, l2] (.null :: st) M Q := fun d l0 l2 st M Q => wA (show ins 92 15 = some (.aload_n 1, 1) by decide +kernel) rfl
set_option maxRecDepth 100000 in
theorem r_92_16 : ∀ (d : Nat) (l0 l1 : Option Value) (v : Int32) (st : List Value) (M : Mem) (Q : Outcome → Mem → Prop), Wp d 92 16 [l0, l1, some (.int v)] st M Q = Wp d 92 17 [l0, l1, some (.int v)] (.int v :: st) M Q := fun d l0 l1 v st M Q => wA (show ins 92 16 = some (.iload_n 2, 1) by decide +kernel) rfl
set_option maxRecDepth 100000 in
theorem r_92_17 : ∀ (d : Nat) (ls : Lc) (v0 v1 : Value)  (st : List Value) (M : Mem) (Q : Outcome → Mem → Prop), (smallR st = true) → Wp d 92 17 ls (v1 :: v0 :: st) M Q = Ca d 92 17 ls 91 [v0, v1] st M Q := fun d ls v0 v1 st M Q h0 => w_stat (as := [v0, v1]) (show ins 92 17 = some (.invokestatic 26, 3) by decide +kernel) (show mRes (mC 92) 26 = some (0, 2, [(0, 91)]) by decide +kernel) (by decide +kernel) (by decide +kernel) rfl h0
set_option maxRecDepth 100000 in
theorem r_92_20 : ∀ (d : Nat) (ls : Lc) (a : Nat) (j v : Int32) (st : List Value) (M : Mem) (Q : Outcome → Mem → Prop), Wp d 92 20 ls (.int v :: .int j :: .ref a :: st) M Q = ((((kX M a).1 = 1 ∨ (kX M a).1 = 2) ∧ inB j (kX M a).2 = true) ∧ Wp d 92 21 ls st (sA M a j.toNatClampNeg (nrw (kX M a).1 v)) Q) := fun d ls a j v st M Q => w_bastore (show ins 92 20 = some (.bastore, 1) by decide +kernel)
set_option maxRecDepth 100000 in
theorem r_92_21 : ∀ (d : Nat) (l0 l1 : Option Value) (z : Int) (st : List Value) (M : Mem) (Q : Outcome → Mem → Prop), (lo l1 = false) → Wp d 92 21 [l0, l1, some (.int (I z))] st M Q = Wp d 92 24 [l0, l1, some (.int (I (z + 1)))] st M Q := fun d l0 l1 z st M Q hl => w_iinc (show ins 92 21 = some (.iinc 2 1, 3) by decide +kernel) rfl (st1_S rfl rfl hl)
set_option maxRecDepth 100000 in
theorem r_92_24 : ∀ (d : Nat) (ls : Lc) (st : List Value) (M : Mem) (Q : Outcome → Mem → Prop), Wp d 92 24 ls st M Q = Wp d 92 2 ls st M Q := fun d ls st M Q => w_goto (show ins 92 24 = some (.goto (-22), 3) by decide +kernel) rfl
set_option maxRecDepth 100000 in
theorem r_92_27 : ∀ (d : Nat) (ls : Lc) (M : Mem) (Q : Outcome → Mem → Prop), Wp d 92 27 ls [] M Q = Q (.returned none) M := fun d ls M Q => w_return (show ins 92 27 = some (.return_, 1) by decide +kernel) (by decide +kernel)
set_option maxRecDepth 100000 in
theorem w_92_2 : (type_of% r_92_2) := r_92_2
set_option maxRecDepth 100000 in
theorem W_92 : (type_of% r_92_0) ∧ (type_of% r_92_1) ∧ (type_of% r_92_3) ∧ (type_of% r_92_4) ∧ (type_of% r_92_7) ∧ (type_of% r_92_10) ∧ (type_of% r_92_11) ∧ (type_of% r_92_14) ∧ (type_of% r_92_15) ∧ (type_of% r_92_15_1) ∧ (type_of% r_92_16) ∧ (type_of% r_92_17) ∧ (type_of% r_92_20) ∧ (type_of% r_92_21) ∧ (type_of% r_92_24) ∧ (type_of% r_92_27) := ⟨r_92_0, r_92_1, r_92_3, r_92_4, r_92_7, r_92_10, r_92_11, r_92_14, r_92_15, r_92_15_1, r_92_16, r_92_17, r_92_20, r_92_21, r_92_24, r_92_27⟩
set_option maxRecDepth 100000 in
theorem ca_92 {d y pc : Nat} {ls : Lc} {a : Nat} {o0 : Option Nat} {r : List Value} {M : Mem} {Q : Outcome → Mem → Prop} (hd : 0 < d) (hw : Wp (d - 1) 92 0 [some (.ref a), some (va_rf o0), none] [] M (Cq d y pc ls r Q)) : Ca d y pc ls 92 [.ref a, va_rf o0] r M Q := ca_of (mq_get (by decide)) (by cases o0 <;> rfl) hd hw
/-! 93 PackedTree$Room.many()I; loop heads [4] -/
set_option maxRecDepth 100000 in
theorem r_93_0 : ∀ (d : Nat) (ls : Lc) (st : List Value) (M : Mem) (Q : Outcome → Mem → Prop), Wp d 93 0 ls st M Q = Wp d 93 1 ls (.int (I 0) :: st) M Q := fun d ls st M Q => w_iconst (show ins 93 0 = some (.iconst 0, 1) by decide +kernel)
set_option maxRecDepth 100000 in
theorem r_93_1 : ∀ (d : Nat) (l0 l1 l2 : Option Value) (v : Int32) (st : List Value) (M : Mem) (Q : Outcome → Mem → Prop), (lo l0 = false) → Wp d 93 1 [l0, l1, l2] (.int v :: st) M Q = Wp d 93 2 [l0, some (.int v), l2] st M Q := fun d l0 l1 l2 v st M Q hl => w_istore_n (show ins 93 1 = some (.istore_n 1, 1) by decide +kernel) (st1_S rfl rfl hl)
set_option maxRecDepth 100000 in
theorem r_93_2 : ∀ (d : Nat) (ls : Lc) (st : List Value) (M : Mem) (Q : Outcome → Mem → Prop), Wp d 93 2 ls st M Q = Wp d 93 3 ls (.int (I 0) :: st) M Q := fun d ls st M Q => w_iconst (show ins 93 2 = some (.iconst 0, 1) by decide +kernel)
set_option maxRecDepth 100000 in
theorem r_93_3 : ∀ (d : Nat) (l0 l1 l2 : Option Value) (v : Int32) (st : List Value) (M : Mem) (Q : Outcome → Mem → Prop), (lo l1 = false) → Wp d 93 3 [l0, l1, l2] (.int v :: st) M Q = Wp d 93 4 [l0, l1, some (.int v)] st M Q := fun d l0 l1 l2 v st M Q hl => w_istore_n (show ins 93 3 = some (.istore_n 2, 1) by decide +kernel) (st1_S rfl rfl hl)
set_option maxRecDepth 100000 in
theorem r_93_4 : ∀ (d : Nat) (l0 l1 : Option Value) (v : Int32) (st : List Value) (M : Mem) (Q : Outcome → Mem → Prop), Wp d 93 4 [l0, l1, some (.int v)] st M Q = Wp d 93 5 [l0, l1, some (.int v)] (.int v :: st) M Q := fun d l0 l1 v st M Q => wA (show ins 93 4 = some (.iload_n 2, 1) by decide +kernel) rfl
set_option maxRecDepth 100000 in
theorem r_93_5 : ∀ (d : Nat) (l1 l2 : Option Value) (v : Nat) (st : List Value) (M : Mem) (Q : Outcome → Mem → Prop), Wp d 93 5 [some (.ref v), l1, l2] st M Q = Wp d 93 6 [some (.ref v), l1, l2] (.ref v :: st) M Q := fun d l1 l2 v st M Q => wA (show ins 93 5 = some (.aload_n 0, 1) by decide +kernel) rfl
set_option maxRecDepth 100000 in
theorem r_93_6 : ∀ (d : Nat) (ls : Lc) (a : Nat) (st : List Value) (M : Mem) (Q : Outcome → Mem → Prop), Wp d 93 6 ls (.ref a :: st) M Q = (fk 10 (kO M a) = true ∧ Wp d 93 9 ls (.int (mF M 10 a) :: st) M Q) := fun d ls a st M Q => w_getI (show ins 93 6 = some (.getfield 15, 3) by decide +kernel) (show fRes (mC 93) 15 = some (10, 2, false) by decide +kernel) (by decide +kernel)
set_option maxRecDepth 100000 in
theorem r_93_9 : ∀ (d : Nat) (ls : Lc) (a b : Int32) (st : List Value) (M : Mem) (Q : Outcome → Mem → Prop), Wp d 93 9 ls (.int b :: .int a :: st) M Q = Br (b ≤ a) d 93 35 12 ls st M Q := fun d ls a b st M Q => w_icmp (show ins 93 9 = some (.if_icmp .ge 26, 3) by decide +kernel) rfl rfl
set_option maxRecDepth 100000 in
theorem r_93_12 : ∀ (d : Nat) (l0 l2 : Option Value) (v : Int32) (st : List Value) (M : Mem) (Q : Outcome → Mem → Prop), Wp d 93 12 [l0, some (.int v), l2] st M Q = Wp d 93 13 [l0, some (.int v), l2] (.int v :: st) M Q := fun d l0 l2 v st M Q => wA (show ins 93 12 = some (.iload_n 1, 1) by decide +kernel) rfl
set_option maxRecDepth 100000 in
theorem r_93_13 : ∀ (d : Nat) (l1 l2 : Option Value) (v : Nat) (st : List Value) (M : Mem) (Q : Outcome → Mem → Prop), Wp d 93 13 [some (.ref v), l1, l2] st M Q = Wp d 93 14 [some (.ref v), l1, l2] (.ref v :: st) M Q := fun d l1 l2 v st M Q => wA (show ins 93 13 = some (.aload_n 0, 1) by decide +kernel) rfl
set_option maxRecDepth 100000 in
theorem r_93_14 : ∀ (d : Nat) (ls : Lc) (a : Nat) (st : List Value) (M : Mem) (Q : Outcome → Mem → Prop), Wp d 93 14 ls (.ref a :: st) M Q = (fk 11 (kO M a) = true ∧ Wp d 93 17 ls (va_rf (mR M 11 a) :: st) M Q) := fun d ls a st M Q => w_getR (show ins 93 14 = some (.getfield 9, 3) by decide +kernel) (show fRes (mC 93) 9 = some (11, 2, false) by decide +kernel) (by decide +kernel)
set_option maxRecDepth 100000 in
theorem r_93_17 : ∀ (d : Nat) (l0 l1 : Option Value) (v : Int32) (st : List Value) (M : Mem) (Q : Outcome → Mem → Prop), Wp d 93 17 [l0, l1, some (.int v)] st M Q = Wp d 93 18 [l0, l1, some (.int v)] (.int v :: st) M Q := fun d l0 l1 v st M Q => wA (show ins 93 17 = some (.iload_n 2, 1) by decide +kernel) rfl
set_option maxRecDepth 100000 in
theorem r_93_18 : ∀ (d : Nat) (ls : Lc) (a : Nat) (j : Int32) (st : List Value) (M : Mem) (Q : Outcome → Mem → Prop), Wp d 93 18 ls (.int j :: .ref a :: st) M Q = ((((kX M a).1 = 1 ∨ (kX M a).1 = 2) ∧ inB j (kX M a).2 = true) ∧ Wp d 93 19 ls (.int (mA M a j.toNatClampNeg) :: st) M Q) := fun d ls a j st M Q => w_baload (show ins 93 18 = some (.baload, 1) by decide +kernel)
set_option maxRecDepth 100000 in
theorem r_93_19 : ∀ (d : Nat) (ls : Lc) (a : Int32) (st : List Value) (M : Mem) (Q : Outcome → Mem → Prop), Wp d 93 19 ls (.int a :: st) M Q = Br (a = I 0) d 93 26 22 ls st M Q := fun d ls a st M Q => w_if (show ins 93 19 = some (.ifCond .eq 7, 3) by decide +kernel) rfl rfl
set_option maxRecDepth 100000 in
theorem r_93_22 : ∀ (d : Nat) (ls : Lc) (st : List Value) (M : Mem) (Q : Outcome → Mem → Prop), Wp d 93 22 ls st M Q = Wp d 93 23 ls (.int (I 1) :: st) M Q := fun d ls st M Q => w_iconst (show ins 93 22 = some (.iconst 1, 1) by decide +kernel)
set_option maxRecDepth 100000 in
theorem r_93_23 : ∀ (d : Nat) (ls : Lc) (st : List Value) (M : Mem) (Q : Outcome → Mem → Prop), Wp d 93 23 ls st M Q = Wp d 93 27 ls st M Q := fun d ls st M Q => w_goto (show ins 93 23 = some (.goto 4, 3) by decide +kernel) rfl
set_option maxRecDepth 100000 in
theorem r_93_26 : ∀ (d : Nat) (ls : Lc) (st : List Value) (M : Mem) (Q : Outcome → Mem → Prop), Wp d 93 26 ls st M Q = Wp d 93 27 ls (.int (I 0) :: st) M Q := fun d ls st M Q => w_iconst (show ins 93 26 = some (.iconst 0, 1) by decide +kernel)
set_option maxRecDepth 100000 in
theorem r_93_27 : ∀ (d : Nat) (ls : Lc) (a b : Int) (st : List Value) (M : Mem) (Q : Outcome → Mem → Prop), Wp d 93 27 ls (.int (I b) :: .int (I a) :: st) M Q = Wp d 93 28 ls (.int (I (a + b)) :: st) M Q := fun d ls a b st M Q => w_iadd (show ins 93 27 = some (.iadd, 1) by decide +kernel)
set_option maxRecDepth 100000 in
theorem r_93_28 : ∀ (d : Nat) (l0 l1 l2 : Option Value) (v : Int32) (st : List Value) (M : Mem) (Q : Outcome → Mem → Prop), (lo l0 = false) → Wp d 93 28 [l0, l1, l2] (.int v :: st) M Q = Wp d 93 29 [l0, some (.int v), l2] st M Q := fun d l0 l1 l2 v st M Q hl => w_istore_n (show ins 93 28 = some (.istore_n 1, 1) by decide +kernel) (st1_S rfl rfl hl)
set_option maxRecDepth 100000 in
theorem r_93_29 : ∀ (d : Nat) (l0 l1 : Option Value) (z : Int) (st : List Value) (M : Mem) (Q : Outcome → Mem → Prop), (lo l1 = false) → Wp d 93 29 [l0, l1, some (.int (I z))] st M Q = Wp d 93 32 [l0, l1, some (.int (I (z + 1)))] st M Q := fun d l0 l1 z st M Q hl => w_iinc (show ins 93 29 = some (.iinc 2 1, 3) by decide +kernel) rfl (st1_S rfl rfl hl)
set_option maxRecDepth 100000 in
theorem r_93_32 : ∀ (d : Nat) (ls : Lc) (st : List Value) (M : Mem) (Q : Outcome → Mem → Prop), Wp d 93 32 ls st M Q = Wp d 93 4 ls st M Q := fun d ls st M Q => w_goto (show ins 93 32 = some (.goto (-28), 3) by decide +kernel) rfl
set_option maxRecDepth 100000 in
theorem r_93_35 : ∀ (d : Nat) (l0 l2 : Option Value) (v : Int32) (st : List Value) (M : Mem) (Q : Outcome → Mem → Prop), Wp d 93 35 [l0, some (.int v), l2] st M Q = Wp d 93 36 [l0, some (.int v), l2] (.int v :: st) M Q := fun d l0 l2 v st M Q => wA (show ins 93 35 = some (.iload_n 1, 1) by decide +kernel) rfl
set_option maxRecDepth 100000 in
theorem r_93_36 : ∀ (d : Nat) (ls : Lc) (v : Int32) (M : Mem) (Q : Outcome → Mem → Prop), Wp d 93 36 ls [.int v] M Q = Q (.returned (some (.int v))) M := fun d ls v M Q => w_ireturn (show ins 93 36 = some (.ireturn, 1) by decide +kernel) (by decide +kernel)
set_option maxRecDepth 100000 in
theorem w_93_4 : (type_of% r_93_4) := r_93_4
set_option maxRecDepth 100000 in
theorem W_93 : (type_of% r_93_0) ∧ (type_of% r_93_1) ∧ (type_of% r_93_2) ∧ (type_of% r_93_3) ∧ (type_of% r_93_5) ∧ (type_of% r_93_6) ∧ (type_of% r_93_9) ∧ (type_of% r_93_12) ∧ (type_of% r_93_13) ∧ (type_of% r_93_14) ∧ (type_of% r_93_17) ∧ (type_of% r_93_18) ∧ (type_of% r_93_19) ∧ (type_of% r_93_22) ∧ (type_of% r_93_23) ∧ (type_of% r_93_26) ∧ (type_of% r_93_27) ∧ (type_of% r_93_28) ∧ (type_of% r_93_29) ∧ (type_of% r_93_32) ∧ (type_of% r_93_35) ∧ (type_of% r_93_36) := ⟨r_93_0, r_93_1, r_93_2, r_93_3, r_93_5, r_93_6, r_93_9, r_93_12, r_93_13, r_93_14, r_93_17, r_93_18, r_93_19, r_93_22, r_93_23, r_93_26, r_93_27, r_93_28, r_93_29, r_93_32, r_93_35, r_93_36⟩
set_option maxRecDepth 100000 in
theorem ca_93 {d y pc : Nat} {ls : Lc} {a : Nat} {r : List Value} {M : Mem} {Q : Outcome → Mem → Prop} (hd : 0 < d) (hw : Wp (d - 1) 93 0 [some (.ref a), none, none] [] M (Cq d y pc ls r Q)) : Ca d y pc ls 93 [.ref a] r M Q := ca_of (mq_get (by decide)) (by rfl) hd hw
/-! 94 PackedTree$Tree.<init>(LPackedTree$Room;)V; loop heads [] -/
set_option maxRecDepth 100000 in
theorem r_94_0 : ∀ (d : Nat) (l1 : Option Value) (v : Nat) (st : List Value) (M : Mem) (Q : Outcome → Mem → Prop), Wp d 94 0 [some (.ref v), l1] st M Q = Wp d 94 1 [some (.ref v), l1] (.ref v :: st) M Q := fun d l1 v st M Q => wA (show ins 94 0 = some (.aload_n 0, 1) by decide +kernel) rfl
set_option maxRecDepth 100000 in
theorem r_94_1 : ∀ (d : Nat) (ls : Lc) (a : Nat) (st : List Value) (M : Mem) (Q : Outcome → Mem → Prop), (smallR st = true) → Wp d 94 1 ls (.ref a :: st) M Q = Wp d 94 4 ls st M Q := fun d ls a st M Q h0 => w_obj (show ins 94 1 = some (.invokespecial 3, 3) by decide +kernel) (show mRes (mC 94) 3 = some (2, 10, [(0, 232)]) by decide +kernel) h0
set_option maxRecDepth 100000 in
theorem r_94_4 : ∀ (d : Nat) (l1 : Option Value) (v : Nat) (st : List Value) (M : Mem) (Q : Outcome → Mem → Prop), Wp d 94 4 [some (.ref v), l1] st M Q = Wp d 94 5 [some (.ref v), l1] (.ref v :: st) M Q := fun d l1 v st M Q => wA (show ins 94 4 = some (.aload_n 0, 1) by decide +kernel) rfl
set_option maxRecDepth 100000 in
theorem r_94_5 : ∀ (d : Nat) (ls : Lc) (st : List Value) (M : Mem) (Q : Outcome → Mem → Prop), Wp d 94 5 ls st M Q = Wp d 94 7 ls (.int (I 96) :: st) M Q := fun d ls st M Q => w_bipush (show ins 94 5 = some (.bipush 96, 2) by decide +kernel) (by decide)
set_option maxRecDepth 100000 in
theorem r_94_7 : ∀ (d : Nat) (ls : Lc) (n : Int) (st : List Value) (M : Mem) (Q : Outcome → Mem → Prop), (0 ≤ n) → (n ≤ 60000) → Wp d 94 7 ls (.int (I n) :: st) M Q = Wp d 94 10 ls (.ref (mN M) :: st) (nw M (.inr (5, n.toNat)) n.toNat) Q := fun d ls n st M Q h0 h1 => w_anewarray (show ins 94 7 = some (.anewarray 9, 3) by decide +kernel) (show cRes (mC 94) 9 = some 5 by decide +kernel) (by decide +kernel) h0 h1
set_option maxRecDepth 100000 in
theorem r_94_10 : ∀ (d : Nat) (ls : Lc) (a b : Nat) (st : List Value) (M : Mem) (Q : Outcome → Mem → Prop), Wp d 94 10 ls (.ref b :: .ref a :: st) M Q = (fk 15 (kO M a) = true ∧ Wp d 94 13 ls st (sR M 15 a (some b)) Q) := fun d ls a b st M Q => w_putR (v := some b) (show ins 94 10 = some (.putfield 11, 3) by decide +kernel) (show fRes (mC 94) 11 = some (15, 3, false) by decide +kernel) (by decide +kernel) (by decide +kernel)
set_option maxRecDepth 100000 in
theorem r_94_10_1 : ∀ (d : Nat) (ls : Lc) (a : Nat) (st : List Value) (M : Mem) (Q : Outcome → Mem → Prop), Wp d 94 10 ls (.null :: .ref a :: st) M Q = (fk 15 (kO M a) = true ∧ Wp d 94 13 ls st (sR M 15 a none) Q) := fun d ls a st M Q => w_putR (v := none) (show ins 94 10 = some (.putfield 11, 3) by decide +kernel) (show fRes (mC 94) 11 = some (15, 3, false) by decide +kernel) (by decide +kernel) (by decide +kernel)
set_option maxRecDepth 100000 in
theorem r_94_13 : ∀ (d : Nat) (l1 : Option Value) (v : Nat) (st : List Value) (M : Mem) (Q : Outcome → Mem → Prop), Wp d 94 13 [some (.ref v), l1] st M Q = Wp d 94 14 [some (.ref v), l1] (.ref v :: st) M Q := fun d l1 v st M Q => wA (show ins 94 13 = some (.aload_n 0, 1) by decide +kernel) rfl
set_option maxRecDepth 100000 in
theorem r_94_14 : ∀ (d : Nat) (ls : Lc) (st : List Value) (M : Mem) (Q : Outcome → Mem → Prop), Wp d 94 14 ls st M Q = Wp d 94 16 ls (.int (I 96) :: st) M Q := fun d ls st M Q => w_bipush (show ins 94 14 = some (.bipush 96, 2) by decide +kernel) (by decide)
set_option maxRecDepth 100000 in
theorem r_94_16 : ∀ (d : Nat) (ls : Lc) (n : Int) (st : List Value) (M : Mem) (Q : Outcome → Mem → Prop), (0 ≤ n) → (n ≤ 60000) → Wp d 94 16 ls (.int (I n) :: st) M Q = Wp d 94 19 ls (.ref (mN M) :: st) (nw M (.inr (6, n.toNat)) n.toNat) Q := fun d ls n st M Q h0 h1 => w_anewarray (show ins 94 16 = some (.anewarray 17, 3) by decide +kernel) (show cRes (mC 94) 17 = some 6 by decide +kernel) (by decide +kernel) h0 h1
set_option maxRecDepth 100000 in
theorem r_94_19 : ∀ (d : Nat) (ls : Lc) (a b : Nat) (st : List Value) (M : Mem) (Q : Outcome → Mem → Prop), Wp d 94 19 ls (.ref b :: .ref a :: st) M Q = (fk 12 (kO M a) = true ∧ Wp d 94 22 ls st (sR M 12 a (some b)) Q) := fun d ls a b st M Q => w_putR (v := some b) (show ins 94 19 = some (.putfield 19, 3) by decide +kernel) (show fRes (mC 94) 19 = some (12, 3, false) by decide +kernel) (by decide +kernel) (by decide +kernel)
set_option maxRecDepth 100000 in
theorem r_94_19_1 : ∀ (d : Nat) (ls : Lc) (a : Nat) (st : List Value) (M : Mem) (Q : Outcome → Mem → Prop), Wp d 94 19 ls (.null :: .ref a :: st) M Q = (fk 12 (kO M a) = true ∧ Wp d 94 22 ls st (sR M 12 a none) Q) := fun d ls a st M Q => w_putR (v := none) (show ins 94 19 = some (.putfield 19, 3) by decide +kernel) (show fRes (mC 94) 19 = some (12, 3, false) by decide +kernel) (by decide +kernel) (by decide +kernel)
set_option maxRecDepth 100000 in
theorem r_94_22 : ∀ (d : Nat) (l1 : Option Value) (v : Nat) (st : List Value) (M : Mem) (Q : Outcome → Mem → Prop), Wp d 94 22 [some (.ref v), l1] st M Q = Wp d 94 23 [some (.ref v), l1] (.ref v :: st) M Q := fun d l1 v st M Q => wA (show ins 94 22 = some (.aload_n 0, 1) by decide +kernel) rfl
set_option maxRecDepth 100000 in
theorem r_94_23 : ∀ (d : Nat) (ls : Lc) (st : List Value) (M : Mem) (Q : Outcome → Mem → Prop), Wp d 94 23 ls st M Q = Wp d 94 25 ls (.int (I 8) :: st) M Q := fun d ls st M Q => w_bipush (show ins 94 23 = some (.bipush 8, 2) by decide +kernel) (by decide)
set_option maxRecDepth 100000 in
theorem r_94_25 : ∀ (d : Nat) (ls : Lc) (n : Int) (st : List Value) (M : Mem) (Q : Outcome → Mem → Prop), (0 ≤ n) → (n ≤ 60000) → Wp d 94 25 ls (.int (I n) :: st) M Q = Wp d 94 28 ls (.ref (mN M) :: st) (nw M (.inr (7, n.toNat)) n.toNat) Q := fun d ls n st M Q h0 h1 => w_anewarray (show ins 94 25 = some (.anewarray 23, 3) by decide +kernel) (show cRes (mC 94) 23 = some 7 by decide +kernel) (by decide +kernel) h0 h1
set_option maxRecDepth 100000 in
theorem r_94_28 : ∀ (d : Nat) (ls : Lc) (a b : Nat) (st : List Value) (M : Mem) (Q : Outcome → Mem → Prop), Wp d 94 28 ls (.ref b :: .ref a :: st) M Q = (fk 13 (kO M a) = true ∧ Wp d 94 31 ls st (sR M 13 a (some b)) Q) := fun d ls a b st M Q => w_putR (v := some b) (show ins 94 28 = some (.putfield 25, 3) by decide +kernel) (show fRes (mC 94) 25 = some (13, 3, false) by decide +kernel) (by decide +kernel) (by decide +kernel)
set_option maxRecDepth 100000 in
theorem r_94_28_1 : ∀ (d : Nat) (ls : Lc) (a : Nat) (st : List Value) (M : Mem) (Q : Outcome → Mem → Prop), Wp d 94 28 ls (.null :: .ref a :: st) M Q = (fk 13 (kO M a) = true ∧ Wp d 94 31 ls st (sR M 13 a none) Q) := fun d ls a st M Q => w_putR (v := none) (show ins 94 28 = some (.putfield 25, 3) by decide +kernel) (show fRes (mC 94) 25 = some (13, 3, false) by decide +kernel) (by decide +kernel) (by decide +kernel)
set_option maxRecDepth 100000 in
theorem r_94_31 : ∀ (d : Nat) (l1 : Option Value) (v : Nat) (st : List Value) (M : Mem) (Q : Outcome → Mem → Prop), Wp d 94 31 [some (.ref v), l1] st M Q = Wp d 94 32 [some (.ref v), l1] (.ref v :: st) M Q := fun d l1 v st M Q => wA (show ins 94 31 = some (.aload_n 0, 1) by decide +kernel) rfl
set_option maxRecDepth 100000 in
theorem r_94_32 : ∀ (d : Nat) (l0 : Option Value) (v : Nat) (st : List Value) (M : Mem) (Q : Outcome → Mem → Prop), Wp d 94 32 [l0, some (.ref v)] st M Q = Wp d 94 33 [l0, some (.ref v)] (.ref v :: st) M Q := fun d l0 v st M Q => wA (show ins 94 32 = some (.aload_n 1, 1) by decide +kernel) rfl
set_option maxRecDepth 100000 in
theorem r_94_32_1 : ∀ (d : Nat) (l0 : Option Value) (st : List Value) (M : Mem) (Q : Outcome → Mem → Prop), Wp d 94 32 [l0, some .null] st M Q = Wp d 94 33 [l0, some .null] (.null :: st) M Q := fun d l0 st M Q => wA (show ins 94 32 = some (.aload_n 1, 1) by decide +kernel) rfl
set_option maxRecDepth 100000 in
theorem r_94_33 : ∀ (d : Nat) (ls : Lc) (a b : Nat) (st : List Value) (M : Mem) (Q : Outcome → Mem → Prop), Wp d 94 33 ls (.ref b :: .ref a :: st) M Q = (fk 17 (kO M a) = true ∧ Wp d 94 36 ls st (sR M 17 a (some b)) Q) := fun d ls a b st M Q => w_putR (v := some b) (show ins 94 33 = some (.putfield 29, 3) by decide +kernel) (show fRes (mC 94) 29 = some (17, 3, false) by decide +kernel) (by decide +kernel) (by decide +kernel)
set_option maxRecDepth 100000 in
theorem r_94_33_1 : ∀ (d : Nat) (ls : Lc) (a : Nat) (st : List Value) (M : Mem) (Q : Outcome → Mem → Prop), Wp d 94 33 ls (.null :: .ref a :: st) M Q = (fk 17 (kO M a) = true ∧ Wp d 94 36 ls st (sR M 17 a none) Q) := fun d ls a st M Q => w_putR (v := none) (show ins 94 33 = some (.putfield 29, 3) by decide +kernel) (show fRes (mC 94) 29 = some (17, 3, false) by decide +kernel) (by decide +kernel) (by decide +kernel)
set_option maxRecDepth 100000 in
theorem r_94_36 : ∀ (d : Nat) (ls : Lc) (M : Mem) (Q : Outcome → Mem → Prop), Wp d 94 36 ls [] M Q = Q (.returned none) M := fun d ls M Q => w_return (show ins 94 36 = some (.return_, 1) by decide +kernel) (by decide +kernel)
set_option maxRecDepth 100000 in
theorem W_94 : (type_of% r_94_0) ∧ (type_of% r_94_1) ∧ (type_of% r_94_4) ∧ (type_of% r_94_5) ∧ (type_of% r_94_7) ∧ (type_of% r_94_10) ∧ (type_of% r_94_10_1) ∧ (type_of% r_94_13) ∧ (type_of% r_94_14) ∧ (type_of% r_94_16) ∧ (type_of% r_94_19) ∧ (type_of% r_94_19_1) ∧ (type_of% r_94_22) ∧ (type_of% r_94_23) ∧ (type_of% r_94_25) ∧ (type_of% r_94_28) ∧ (type_of% r_94_28_1) ∧ (type_of% r_94_31) ∧ (type_of% r_94_32) ∧ (type_of% r_94_32_1) ∧ (type_of% r_94_33) ∧ (type_of% r_94_33_1) ∧ (type_of% r_94_36) := ⟨r_94_0, r_94_1, r_94_4, r_94_5, r_94_7, r_94_10, r_94_10_1, r_94_13, r_94_14, r_94_16, r_94_19, r_94_19_1, r_94_22, r_94_23, r_94_25, r_94_28, r_94_28_1, r_94_31, r_94_32, r_94_32_1, r_94_33, r_94_33_1, r_94_36⟩
set_option maxRecDepth 100000 in
theorem ca_94 {d y pc : Nat} {ls : Lc} {a : Nat} {o0 : Option Nat} {r : List Value} {M : Mem} {Q : Outcome → Mem → Prop} (hd : 0 < d) (hw : Wp (d - 1) 94 0 [some (.ref a), some (va_rf o0)] [] M (Cq d y pc ls r Q)) : Ca d y pc ls 94 [.ref a, va_rf o0] r M Q := ca_of (mq_get (by decide)) (by cases o0 <;> rfl) hd hw
/-! 95 PackedTree$Tree.begin()V; loop heads [] -/
set_option maxRecDepth 100000 in
theorem r_95_0 : ∀ (d : Nat) (v : Nat) (st : List Value) (M : Mem) (Q : Outcome → Mem → Prop), Wp d 95 0 [some (.ref v)] st M Q = Wp d 95 1 [some (.ref v)] (.ref v :: st) M Q := fun d v st M Q => wA (show ins 95 0 = some (.aload_n 0, 1) by decide +kernel) rfl
set_option maxRecDepth 100000 in
theorem r_95_1 : ∀ (d : Nat) (v : Nat) (st : List Value) (M : Mem) (Q : Outcome → Mem → Prop), Wp d 95 1 [some (.ref v)] st M Q = Wp d 95 2 [some (.ref v)] (.ref v :: st) M Q := fun d v st M Q => wA (show ins 95 1 = some (.aload_n 0, 1) by decide +kernel) rfl
set_option maxRecDepth 100000 in
theorem r_95_2 : ∀ (d : Nat) (v : Nat) (st : List Value) (M : Mem) (Q : Outcome → Mem → Prop), Wp d 95 2 [some (.ref v)] st M Q = Wp d 95 3 [some (.ref v)] (.ref v :: st) M Q := fun d v st M Q => wA (show ins 95 2 = some (.aload_n 0, 1) by decide +kernel) rfl
set_option maxRecDepth 100000 in
theorem r_95_3 : ∀ (d : Nat) (ls : Lc) (a : Nat) (st : List Value) (M : Mem) (Q : Outcome → Mem → Prop), Wp d 95 3 ls (.ref a :: st) M Q = (fk 17 (kO M a) = true ∧ Wp d 95 6 ls (va_rf (mR M 17 a) :: st) M Q) := fun d ls a st M Q => w_getR (show ins 95 3 = some (.getfield 29, 3) by decide +kernel) (show fRes (mC 95) 29 = some (17, 3, false) by decide +kernel) (by decide +kernel)
set_option maxRecDepth 100000 in
theorem r_95_6 : ∀ (d : Nat) (ls : Lc) (a : Nat) (st : List Value) (M : Mem) (Q : Outcome → Mem → Prop), (smallR st = true) → Wp d 95 6 ls (.ref a :: st) M Q = (kO M a = 2 ∧ Ca d 95 6 ls 88 (.ref a :: []) st M Q) := fun d ls a st M Q h0 => w_virt1 (as := []) (show ins 95 6 = some (.invokevirtual 42, 3) by decide +kernel) (show mRes (mC 95) 42 = some (3, 2, [(2, 88)]) by decide +kernel) (by decide +kernel) rfl (by decide +kernel) (by decide +kernel) h0
set_option maxRecDepth 100000 in
theorem r_95_9 : ∀ (d : Nat) (ls : Lc) (v0 : Value) (a : Nat) (st : List Value) (M : Mem) (Q : Outcome → Mem → Prop), (smallR st = true) → Wp d 95 9 ls (v0 :: .ref a :: st) M Q = (kO M a = 3 ∧ Ca d 95 9 ls 96 (.ref a :: [v0]) st M Q) := fun d ls v0 a st M Q h0 => w_virt1 (as := [v0]) (show ins 95 9 = some (.invokevirtual 48, 3) by decide +kernel) (show mRes (mC 95) 48 = some (3, 3, [(3, 96)]) by decide +kernel) (by decide +kernel) rfl (by decide +kernel) (by decide +kernel) h0
set_option maxRecDepth 100000 in
theorem r_95_12 : ∀ (d : Nat) (ls : Lc) (a b : Nat) (st : List Value) (M : Mem) (Q : Outcome → Mem → Prop), Wp d 95 12 ls (.ref b :: .ref a :: st) M Q = (fk 18 (kO M a) = true ∧ Wp d 95 15 ls st (sR M 18 a (some b)) Q) := fun d ls a b st M Q => w_putR (v := some b) (show ins 95 12 = some (.putfield 52, 3) by decide +kernel) (show fRes (mC 95) 52 = some (18, 3, false) by decide +kernel) (by decide +kernel) (by decide +kernel)
set_option maxRecDepth 100000 in
theorem r_95_12_1 : ∀ (d : Nat) (ls : Lc) (a : Nat) (st : List Value) (M : Mem) (Q : Outcome → Mem → Prop), Wp d 95 12 ls (.null :: .ref a :: st) M Q = (fk 18 (kO M a) = true ∧ Wp d 95 15 ls st (sR M 18 a none) Q) := fun d ls a st M Q => w_putR (v := none) (show ins 95 12 = some (.putfield 52, 3) by decide +kernel) (show fRes (mC 95) 52 = some (18, 3, false) by decide +kernel) (by decide +kernel) (by decide +kernel)
set_option maxRecDepth 100000 in
theorem r_95_15 : ∀ (d : Nat) (ls : Lc) (M : Mem) (Q : Outcome → Mem → Prop), Wp d 95 15 ls [] M Q = Q (.returned none) M := fun d ls M Q => w_return (show ins 95 15 = some (.return_, 1) by decide +kernel) (by decide +kernel)
set_option maxRecDepth 100000 in
theorem W_95 : (type_of% r_95_0) ∧ (type_of% r_95_1) ∧ (type_of% r_95_2) ∧ (type_of% r_95_3) ∧ (type_of% r_95_6) ∧ (type_of% r_95_9) ∧ (type_of% r_95_12) ∧ (type_of% r_95_12_1) ∧ (type_of% r_95_15) := ⟨r_95_0, r_95_1, r_95_2, r_95_3, r_95_6, r_95_9, r_95_12, r_95_12_1, r_95_15⟩
set_option maxRecDepth 100000 in
theorem ca_95 {d y pc : Nat} {ls : Lc} {a : Nat} {r : List Value} {M : Mem} {Q : Outcome → Mem → Prop} (hd : 0 < d) (hw : Wp (d - 1) 95 0 [some (.ref a)] [] M (Cq d y pc ls r Q)) : Ca d y pc ls 95 [.ref a] r M Q := ca_of (mq_get (by decide)) (by rfl) hd hw
/-! 96 PackedTree$Tree.leafAt(I)LPackedTree$Leaf;; loop heads [] -/
set_option maxRecDepth 100000 in
theorem r_96_0 : ∀ (d : Nat) (l1 : Option Value) (v : Nat) (st : List Value) (M : Mem) (Q : Outcome → Mem → Prop), Wp d 96 0 [some (.ref v), l1] st M Q = Wp d 96 1 [some (.ref v), l1] (.ref v :: st) M Q := fun d l1 v st M Q => wA (show ins 96 0 = some (.aload_n 0, 1) by decide +kernel) rfl
set_option maxRecDepth 100000 in
theorem r_96_1 : ∀ (d : Nat) (ls : Lc) (a : Nat) (st : List Value) (M : Mem) (Q : Outcome → Mem → Prop), Wp d 96 1 ls (.ref a :: st) M Q = (fk 15 (kO M a) = true ∧ Wp d 96 4 ls (va_rf (mR M 15 a) :: st) M Q) := fun d ls a st M Q => w_getR (show ins 96 1 = some (.getfield 11, 3) by decide +kernel) (show fRes (mC 96) 11 = some (15, 3, false) by decide +kernel) (by decide +kernel)
set_option maxRecDepth 100000 in
theorem r_96_4 : ∀ (d : Nat) (l0 : Option Value) (v : Int32) (st : List Value) (M : Mem) (Q : Outcome → Mem → Prop), Wp d 96 4 [l0, some (.int v)] st M Q = Wp d 96 5 [l0, some (.int v)] (.int v :: st) M Q := fun d l0 v st M Q => wA (show ins 96 4 = some (.iload_n 1, 1) by decide +kernel) rfl
set_option maxRecDepth 100000 in
theorem r_96_5 : ∀ (d : Nat) (ls : Lc) (a : Nat) (j : Int32) (st : List Value) (M : Mem) (Q : Outcome → Mem → Prop), Wp d 96 5 ls (.int j :: .ref a :: st) M Q = ((((kX M a).1 = 4 ∨ (kX M a).1 = 5 ∨ (kX M a).1 = 6 ∨ (kX M a).1 = 7) ∧ inB j (kX M a).2 = true) ∧ Wp d 96 6 ls (va_rf (mQ M a j.toNatClampNeg) :: st) M Q) := fun d ls a j st M Q => w_aaload (show ins 96 5 = some (.aaload, 1) by decide +kernel)
set_option maxRecDepth 100000 in
theorem r_96_6 : ∀ (d : Nat) (ls : Lc) (st : List Value) (M : Mem) (Q : Outcome → Mem → Prop), Wp d 96 6 ls (.null :: st) M Q = Wp d 96 9 ls st M Q := fun d ls st M Q => w_ifnnN (show ins 96 6 = some (.ifnonnull 17, 3) by decide +kernel) (t := 23) rfl
set_option maxRecDepth 100000 in
theorem r_96_6_1 : ∀ (d : Nat) (ls : Lc) (v : Nat) (st : List Value) (M : Mem) (Q : Outcome → Mem → Prop), Wp d 96 6 ls (.ref v :: st) M Q = Wp d 96 23 ls st M Q := fun d ls v st M Q => w_ifnnR (show ins 96 6 = some (.ifnonnull 17, 3) by decide +kernel) rfl
set_option maxRecDepth 100000 in
theorem r_96_9 : ∀ (d : Nat) (l1 : Option Value) (v : Nat) (st : List Value) (M : Mem) (Q : Outcome → Mem → Prop), Wp d 96 9 [some (.ref v), l1] st M Q = Wp d 96 10 [some (.ref v), l1] (.ref v :: st) M Q := fun d l1 v st M Q => wA (show ins 96 9 = some (.aload_n 0, 1) by decide +kernel) rfl
set_option maxRecDepth 100000 in
theorem r_96_10 : ∀ (d : Nat) (ls : Lc) (a : Nat) (st : List Value) (M : Mem) (Q : Outcome → Mem → Prop), Wp d 96 10 ls (.ref a :: st) M Q = (fk 15 (kO M a) = true ∧ Wp d 96 13 ls (va_rf (mR M 15 a) :: st) M Q) := fun d ls a st M Q => w_getR (show ins 96 10 = some (.getfield 11, 3) by decide +kernel) (show fRes (mC 96) 11 = some (15, 3, false) by decide +kernel) (by decide +kernel)
set_option maxRecDepth 100000 in
theorem r_96_13 : ∀ (d : Nat) (l0 : Option Value) (v : Int32) (st : List Value) (M : Mem) (Q : Outcome → Mem → Prop), Wp d 96 13 [l0, some (.int v)] st M Q = Wp d 96 14 [l0, some (.int v)] (.int v :: st) M Q := fun d l0 v st M Q => wA (show ins 96 13 = some (.iload_n 1, 1) by decide +kernel) rfl
set_option maxRecDepth 100000 in
theorem r_96_14 : ∀ (d : Nat) (ls : Lc) (st : List Value) (M : Mem) (Q : Outcome → Mem → Prop), Wp d 96 14 ls st M Q = Wp d 96 17 ls (.ref (mN M) :: st) (nw M (.inl 5) (cSz 5)) Q := fun d ls st M Q => w_new (show ins 96 14 = some (.new 9, 3) by decide +kernel) (show cRes (mC 96) 9 = some 5 by decide +kernel) (by decide +kernel) (by decide +kernel)
set_option maxRecDepth 100000 in
theorem r_96_17 : ∀ (d : Nat) (ls : Lc) (v : Nat) (st : List Value) (M : Mem) (Q : Outcome → Mem → Prop), Wp d 96 17 ls (.ref v :: st) M Q = Wp d 96 18 ls (.ref v :: .ref v :: st) M Q := fun d ls v st M Q => wA (show ins 96 17 = some (.dup, 1) by decide +kernel) rfl
set_option maxRecDepth 100000 in
theorem r_96_17_1 : ∀ (d : Nat) (ls : Lc) (v : Int32) (st : List Value) (M : Mem) (Q : Outcome → Mem → Prop), Wp d 96 17 ls (.int v :: st) M Q = Wp d 96 18 ls (.int v :: .int v :: st) M Q := fun d ls v st M Q => wA (show ins 96 17 = some (.dup, 1) by decide +kernel) rfl
set_option maxRecDepth 100000 in
theorem r_96_18 : ∀ (d : Nat) (l0 : Option Value) (v : Int32) (st : List Value) (M : Mem) (Q : Outcome → Mem → Prop), Wp d 96 18 [l0, some (.int v)] st M Q = Wp d 96 19 [l0, some (.int v)] (.int v :: st) M Q := fun d l0 v st M Q => wA (show ins 96 18 = some (.iload_n 1, 1) by decide +kernel) rfl
set_option maxRecDepth 100000 in
theorem r_96_19 : ∀ (d : Nat) (ls : Lc) (v0 : Value) (a : Nat) (st : List Value) (M : Mem) (Q : Outcome → Mem → Prop), (smallR st = true) → Wp d 96 19 ls (v0 :: .ref a :: st) M Q = Ca d 96 19 ls 120 (.ref a :: [v0]) st M Q := fun d ls v0 a st M Q h0 => w_spec (as := [v0]) (show ins 96 19 = some (.invokespecial 33, 3) by decide +kernel) (show mRes (mC 96) 33 = some (2, 5, [(0, 120)]) by decide +kernel) (by decide +kernel) rfl h0
set_option maxRecDepth 100000 in
theorem r_96_22 : ∀ (d : Nat) (ls : Lc) (a : Nat) (j : Int32) (st : List Value) (M : Mem) (Q : Outcome → Mem → Prop), Wp d 96 22 ls (.null :: .int j :: .ref a :: st) M Q = ((((kX M a).1 = 5 ∨ (kX M a).1 = 6 ∨ (kX M a).1 = 7) ∧ inB j (kX M a).2 = true) ∧ Wp d 96 23 ls st (sQ M a j.toNatClampNeg none) Q) := fun d ls a j st M Q => w_aastoreN (show ins 96 22 = some (.aastore, 1) by decide +kernel)
set_option maxRecDepth 100000 in
theorem r_96_22_1 : ∀ (d : Nat) (ls : Lc) (a v : Nat) (j : Int32) (st : List Value) (M : Mem) (Q : Outcome → Mem → Prop), Wp d 96 22 ls (.ref v :: .int j :: .ref a :: st) M Q = ((fitQ (kX M a).1 (kO M v) = true ∧ inB j (kX M a).2 = true) ∧ Wp d 96 23 ls st (sQ M a j.toNatClampNeg (some v)) Q) := fun d ls a v j st M Q => w_aastore (show ins 96 22 = some (.aastore, 1) by decide +kernel)
set_option maxRecDepth 100000 in
theorem r_96_23 : ∀ (d : Nat) (l1 : Option Value) (v : Nat) (st : List Value) (M : Mem) (Q : Outcome → Mem → Prop), Wp d 96 23 [some (.ref v), l1] st M Q = Wp d 96 24 [some (.ref v), l1] (.ref v :: st) M Q := fun d l1 v st M Q => wA (show ins 96 23 = some (.aload_n 0, 1) by decide +kernel) rfl
set_option maxRecDepth 100000 in
theorem r_96_24 : ∀ (d : Nat) (ls : Lc) (a : Nat) (st : List Value) (M : Mem) (Q : Outcome → Mem → Prop), Wp d 96 24 ls (.ref a :: st) M Q = (fk 15 (kO M a) = true ∧ Wp d 96 27 ls (va_rf (mR M 15 a) :: st) M Q) := fun d ls a st M Q => w_getR (show ins 96 24 = some (.getfield 11, 3) by decide +kernel) (show fRes (mC 96) 11 = some (15, 3, false) by decide +kernel) (by decide +kernel)
set_option maxRecDepth 100000 in
theorem r_96_27 : ∀ (d : Nat) (l0 : Option Value) (v : Int32) (st : List Value) (M : Mem) (Q : Outcome → Mem → Prop), Wp d 96 27 [l0, some (.int v)] st M Q = Wp d 96 28 [l0, some (.int v)] (.int v :: st) M Q := fun d l0 v st M Q => wA (show ins 96 27 = some (.iload_n 1, 1) by decide +kernel) rfl
set_option maxRecDepth 100000 in
theorem r_96_28 : ∀ (d : Nat) (ls : Lc) (a : Nat) (j : Int32) (st : List Value) (M : Mem) (Q : Outcome → Mem → Prop), Wp d 96 28 ls (.int j :: .ref a :: st) M Q = ((((kX M a).1 = 4 ∨ (kX M a).1 = 5 ∨ (kX M a).1 = 6 ∨ (kX M a).1 = 7) ∧ inB j (kX M a).2 = true) ∧ Wp d 96 29 ls (va_rf (mQ M a j.toNatClampNeg) :: st) M Q) := fun d ls a j st M Q => w_aaload (show ins 96 28 = some (.aaload, 1) by decide +kernel)
set_option maxRecDepth 100000 in
theorem r_96_29 : ∀ (d : Nat) (ls : Lc) (a : Nat) (st : List Value) (M : Mem) (Q : Outcome → Mem → Prop), (smallR st = true) → Wp d 96 29 ls (.ref a :: st) M Q = (kO M a = 5 ∧ Ca d 96 29 ls 121 (.ref a :: []) st M Q) := fun d ls a st M Q h0 => w_virt1 (as := []) (show ins 96 29 = some (.invokevirtual 36, 3) by decide +kernel) (show mRes (mC 96) 36 = some (3, 5, [(5, 121)]) by decide +kernel) (by decide +kernel) rfl (by decide +kernel) (by decide +kernel) h0
set_option maxRecDepth 100000 in
theorem r_96_32 : ∀ (d : Nat) (l1 : Option Value) (v : Nat) (st : List Value) (M : Mem) (Q : Outcome → Mem → Prop), Wp d 96 32 [some (.ref v), l1] st M Q = Wp d 96 33 [some (.ref v), l1] (.ref v :: st) M Q := fun d l1 v st M Q => wA (show ins 96 32 = some (.aload_n 0, 1) by decide +kernel) rfl
set_option maxRecDepth 100000 in
theorem r_96_33 : ∀ (d : Nat) (ls : Lc) (a : Nat) (st : List Value) (M : Mem) (Q : Outcome → Mem → Prop), Wp d 96 33 ls (.ref a :: st) M Q = (fk 15 (kO M a) = true ∧ Wp d 96 36 ls (va_rf (mR M 15 a) :: st) M Q) := fun d ls a st M Q => w_getR (show ins 96 33 = some (.getfield 11, 3) by decide +kernel) (show fRes (mC 96) 11 = some (15, 3, false) by decide +kernel) (by decide +kernel)
set_option maxRecDepth 100000 in
theorem r_96_36 : ∀ (d : Nat) (l0 : Option Value) (v : Int32) (st : List Value) (M : Mem) (Q : Outcome → Mem → Prop), Wp d 96 36 [l0, some (.int v)] st M Q = Wp d 96 37 [l0, some (.int v)] (.int v :: st) M Q := fun d l0 v st M Q => wA (show ins 96 36 = some (.iload_n 1, 1) by decide +kernel) rfl
set_option maxRecDepth 100000 in
theorem r_96_37 : ∀ (d : Nat) (ls : Lc) (a : Nat) (j : Int32) (st : List Value) (M : Mem) (Q : Outcome → Mem → Prop), Wp d 96 37 ls (.int j :: .ref a :: st) M Q = ((((kX M a).1 = 4 ∨ (kX M a).1 = 5 ∨ (kX M a).1 = 6 ∨ (kX M a).1 = 7) ∧ inB j (kX M a).2 = true) ∧ Wp d 96 38 ls (va_rf (mQ M a j.toNatClampNeg) :: st) M Q) := fun d ls a j st M Q => w_aaload (show ins 96 37 = some (.aaload, 1) by decide +kernel)
set_option maxRecDepth 100000 in
theorem r_96_38 : ∀ (d : Nat) (ls : Lc) (a : Nat) (M : Mem) (Q : Outcome → Mem → Prop), Wp d 96 38 ls [.ref a] M Q = Q (.returned (some (.ref a))) M := fun d ls a M Q => w_areturn (show ins 96 38 = some (.areturn, 1) by decide +kernel) (by decide +kernel)
set_option maxRecDepth 100000 in
theorem r_96_38_1 : ∀ (d : Nat) (ls : Lc) (M : Mem) (Q : Outcome → Mem → Prop), Wp d 96 38 ls [.null] M Q = Q (.returned (some .null)) M := fun d ls M Q => w_areturnN (show ins 96 38 = some (.areturn, 1) by decide +kernel) (by decide +kernel)
set_option maxRecDepth 100000 in
theorem W_96 : (type_of% r_96_0) ∧ (type_of% r_96_1) ∧ (type_of% r_96_4) ∧ (type_of% r_96_5) ∧ (type_of% r_96_6) ∧ (type_of% r_96_6_1) ∧ (type_of% r_96_9) ∧ (type_of% r_96_10) ∧ (type_of% r_96_13) ∧ (type_of% r_96_14) ∧ (type_of% r_96_17) ∧ (type_of% r_96_17_1) ∧ (type_of% r_96_18) ∧ (type_of% r_96_19) ∧ (type_of% r_96_22) ∧ (type_of% r_96_22_1) ∧ (type_of% r_96_23) ∧ (type_of% r_96_24) ∧ (type_of% r_96_27) ∧ (type_of% r_96_28) ∧ (type_of% r_96_29) ∧ (type_of% r_96_32) ∧ (type_of% r_96_33) ∧ (type_of% r_96_36) ∧ (type_of% r_96_37) ∧ (type_of% r_96_38) ∧ (type_of% r_96_38_1) := ⟨r_96_0, r_96_1, r_96_4, r_96_5, r_96_6, r_96_6_1, r_96_9, r_96_10, r_96_13, r_96_14, r_96_17, r_96_17_1, r_96_18, r_96_19, r_96_22, r_96_22_1, r_96_23, r_96_24, r_96_27, r_96_28, r_96_29, r_96_32, r_96_33, r_96_36, r_96_37, r_96_38, r_96_38_1⟩
set_option maxRecDepth 100000 in
theorem ca_96 {d y pc : Nat} {ls : Lc} {a : Nat} {z0 : Int32} {r : List Value} {M : Mem} {Q : Outcome → Mem → Prop} (hd : 0 < d) (hw : Wp (d - 1) 96 0 [some (.ref a), some (.int z0)] [] M (Cq d y pc ls r Q)) : Ca d y pc ls 96 [.ref a, .int z0] r M Q := ca_of (mq_get (by decide)) (by rfl) hd hw
/-! 97 PackedTree$Tree.set(I[BI)V; loop heads [] -/
set_option maxRecDepth 100000 in
theorem r_97_0 : ∀ (d : Nat) (l1 l2 l3 l4 l5 l6 : Option Value) (v : Nat) (st : List Value) (M : Mem) (Q : Outcome → Mem → Prop), Wp d 97 0 [some (.ref v), l1, l2, l3, l4, l5, l6] st M Q = Wp d 97 1 [some (.ref v), l1, l2, l3, l4, l5, l6] (.ref v :: st) M Q := fun d l1 l2 l3 l4 l5 l6 v st M Q => wA (show ins 97 0 = some (.aload_n 0, 1) by decide +kernel) rfl
set_option maxRecDepth 100000 in
theorem r_97_1 : ∀ (d : Nat) (l0 l2 l3 l4 l5 l6 : Option Value) (v : Int32) (st : List Value) (M : Mem) (Q : Outcome → Mem → Prop), Wp d 97 1 [l0, some (.int v), l2, l3, l4, l5, l6] st M Q = Wp d 97 2 [l0, some (.int v), l2, l3, l4, l5, l6] (.int v :: st) M Q := fun d l0 l2 l3 l4 l5 l6 v st M Q => wA (show ins 97 1 = some (.iload_n 1, 1) by decide +kernel) rfl
set_option maxRecDepth 100000 in
theorem r_97_2 : ∀ (d : Nat) (ls : Lc) (v0 : Value) (a : Nat) (st : List Value) (M : Mem) (Q : Outcome → Mem → Prop), (smallR st = true) → Wp d 97 2 ls (v0 :: .ref a :: st) M Q = (kO M a = 3 ∧ Ca d 97 2 ls 98 (.ref a :: [v0]) st M Q) := fun d ls v0 a st M Q h0 => w_virt1 (as := [v0]) (show ins 97 2 = some (.invokevirtual 124, 3) by decide +kernel) (show mRes (mC 97) 124 = some (3, 3, [(3, 98)]) by decide +kernel) (by decide +kernel) rfl (by decide +kernel) (by decide +kernel) h0
set_option maxRecDepth 100000 in
theorem r_97_5 : ∀ (d : Nat) (l0 l1 l2 l3 l4 l5 l6 : Option Value) (v : Int32) (st : List Value) (M : Mem) (Q : Outcome → Mem → Prop), (lo l3 = false) → Wp d 97 5 [l0, l1, l2, l3, l4, l5, l6] (.int v :: st) M Q = Wp d 97 7 [l0, l1, l2, l3, some (.int v), l5, l6] st M Q := fun d l0 l1 l2 l3 l4 l5 l6 v st M Q hl => w_istore (show ins 97 5 = some (.istore 4, 2) by decide +kernel) (st1_S rfl rfl hl)
set_option maxRecDepth 100000 in
theorem r_97_7 : ∀ (d : Nat) (l1 l2 l3 l4 l5 l6 : Option Value) (v : Nat) (st : List Value) (M : Mem) (Q : Outcome → Mem → Prop), Wp d 97 7 [some (.ref v), l1, l2, l3, l4, l5, l6] st M Q = Wp d 97 8 [some (.ref v), l1, l2, l3, l4, l5, l6] (.ref v :: st) M Q := fun d l1 l2 l3 l4 l5 l6 v st M Q => wA (show ins 97 7 = some (.aload_n 0, 1) by decide +kernel) rfl
set_option maxRecDepth 100000 in
theorem r_97_8 : ∀ (d : Nat) (ls : Lc) (a : Nat) (st : List Value) (M : Mem) (Q : Outcome → Mem → Prop), Wp d 97 8 ls (.ref a :: st) M Q = (fk 14 (kO M a) = true ∧ Wp d 97 11 ls (va_rf (mR M 14 a) :: st) M Q) := fun d ls a st M Q => w_getR (show ins 97 8 = some (.getfield 104, 3) by decide +kernel) (show fRes (mC 97) 104 = some (14, 3, false) by decide +kernel) (by decide +kernel)
set_option maxRecDepth 100000 in
theorem r_97_11 : ∀ (d : Nat) (l0 l1 l2 l3 l4 l5 l6 : Option Value) (v : Nat) (st : List Value) (M : Mem) (Q : Outcome → Mem → Prop), (lo l4 = false) → Wp d 97 11 [l0, l1, l2, l3, l4, l5, l6] (.ref v :: st) M Q = Wp d 97 13 [l0, l1, l2, l3, l4, some (.ref v), l6] st M Q := fun d l0 l1 l2 l3 l4 l5 l6 v st M Q hl => w_astore (show ins 97 11 = some (.astore 5, 2) by decide +kernel) (st1_S rfl rfl hl)
set_option maxRecDepth 100000 in
theorem r_97_11_1 : ∀ (d : Nat) (l0 l1 l2 l3 l4 l5 l6 : Option Value) (st : List Value) (M : Mem) (Q : Outcome → Mem → Prop), (lo l4 = false) → Wp d 97 11 [l0, l1, l2, l3, l4, l5, l6] (.null :: st) M Q = Wp d 97 13 [l0, l1, l2, l3, l4, some (.null), l6] st M Q := fun d l0 l1 l2 l3 l4 l5 l6 st M Q hl => w_astoreN (show ins 97 11 = some (.astore 5, 2) by decide +kernel) (st1_S rfl rfl hl)
set_option maxRecDepth 100000 in
theorem r_97_13 : ∀ (d : Nat) (l0 l1 l2 l3 l5 l6 : Option Value) (v : Int32) (st : List Value) (M : Mem) (Q : Outcome → Mem → Prop), Wp d 97 13 [l0, l1, l2, l3, some (.int v), l5, l6] st M Q = Wp d 97 15 [l0, l1, l2, l3, some (.int v), l5, l6] (.int v :: st) M Q := fun d l0 l1 l2 l3 l5 l6 v st M Q => wA (show ins 97 13 = some (.iload 4, 2) by decide +kernel) rfl
set_option maxRecDepth 100000 in
theorem r_97_15 : ∀ (d : Nat) (ls : Lc) (a : Int32) (st : List Value) (M : Mem) (Q : Outcome → Mem → Prop), Wp d 97 15 ls (.int a :: st) M Q = Br (a = I 0) d 97 31 18 ls st M Q := fun d ls a st M Q => w_if (show ins 97 15 = some (.ifCond .eq 16, 3) by decide +kernel) rfl rfl
set_option maxRecDepth 100000 in
theorem r_97_18 : ∀ (d : Nat) (l0 l1 l2 l3 l4 l6 : Option Value) (v : Nat) (st : List Value) (M : Mem) (Q : Outcome → Mem → Prop), Wp d 97 18 [l0, l1, l2, l3, l4, some (.ref v), l6] st M Q = Wp d 97 20 [l0, l1, l2, l3, l4, some (.ref v), l6] (.ref v :: st) M Q := fun d l0 l1 l2 l3 l4 l6 v st M Q => wA (show ins 97 18 = some (.aload 5, 2) by decide +kernel) rfl
set_option maxRecDepth 100000 in
theorem r_97_18_1 : ∀ (d : Nat) (l0 l1 l2 l3 l4 l6 : Option Value) (st : List Value) (M : Mem) (Q : Outcome → Mem → Prop), Wp d 97 18 [l0, l1, l2, l3, l4, some .null, l6] st M Q = Wp d 97 20 [l0, l1, l2, l3, l4, some .null, l6] (.null :: st) M Q := fun d l0 l1 l2 l3 l4 l6 st M Q => wA (show ins 97 18 = some (.aload 5, 2) by decide +kernel) rfl
set_option maxRecDepth 100000 in
theorem r_97_20 : ∀ (d : Nat) (ls : Lc) (a : Nat) (st : List Value) (M : Mem) (Q : Outcome → Mem → Prop), Wp d 97 20 ls (.ref a :: st) M Q = (fk 38 (kO M a) = true ∧ Wp d 97 23 ls (va_rf (mR M 38 a) :: st) M Q) := fun d ls a st M Q => w_getR (show ins 97 20 = some (.getfield 128, 3) by decide +kernel) (show fRes (mC 97) 128 = some (38, 5, true) by decide +kernel) (by decide +kernel)
set_option maxRecDepth 100000 in
theorem r_97_23 : ∀ (d : Nat) (l1 l2 l3 l4 l5 l6 : Option Value) (v : Nat) (st : List Value) (M : Mem) (Q : Outcome → Mem → Prop), Wp d 97 23 [some (.ref v), l1, l2, l3, l4, l5, l6] st M Q = Wp d 97 24 [some (.ref v), l1, l2, l3, l4, l5, l6] (.ref v :: st) M Q := fun d l1 l2 l3 l4 l5 l6 v st M Q => wA (show ins 97 23 = some (.aload_n 0, 1) by decide +kernel) rfl
set_option maxRecDepth 100000 in
theorem r_97_24 : ∀ (d : Nat) (ls : Lc) (a : Nat) (st : List Value) (M : Mem) (Q : Outcome → Mem → Prop), Wp d 97 24 ls (.ref a :: st) M Q = (fk 16 (kO M a) = true ∧ Wp d 97 27 ls (.int (mF M 16 a) :: st) M Q) := fun d ls a st M Q => w_getI (show ins 97 24 = some (.getfield 112, 3) by decide +kernel) (show fRes (mC 97) 112 = some (16, 3, false) by decide +kernel) (by decide +kernel)
set_option maxRecDepth 100000 in
theorem r_97_27 : ∀ (d : Nat) (ls : Lc) (a : Nat) (j : Int32) (st : List Value) (M : Mem) (Q : Outcome → Mem → Prop), Wp d 97 27 ls (.int j :: .ref a :: st) M Q = ((((kX M a).1 = 0 ∨ (kX M a).1 = 8) ∧ inB j (kX M a).2 = true) ∧ Wp d 97 28 ls (.int (mA M a j.toNatClampNeg) :: st) M Q) := fun d ls a j st M Q => w_iaload (show ins 97 27 = some (.iaload, 1) by decide +kernel)
set_option maxRecDepth 100000 in
theorem r_97_28 : ∀ (d : Nat) (ls : Lc) (st : List Value) (M : Mem) (Q : Outcome → Mem → Prop), Wp d 97 28 ls st M Q = Wp d 97 32 ls st M Q := fun d ls st M Q => w_goto (show ins 97 28 = some (.goto 4, 3) by decide +kernel) rfl
set_option maxRecDepth 100000 in
theorem r_97_31 : ∀ (d : Nat) (ls : Lc) (st : List Value) (M : Mem) (Q : Outcome → Mem → Prop), Wp d 97 31 ls st M Q = Wp d 97 32 ls (.int (I 0) :: st) M Q := fun d ls st M Q => w_iconst (show ins 97 31 = some (.iconst 0, 1) by decide +kernel)
set_option maxRecDepth 100000 in
theorem r_97_32 : ∀ (d : Nat) (l0 l1 l2 l3 l4 l5 l6 : Option Value) (v : Int32) (st : List Value) (M : Mem) (Q : Outcome → Mem → Prop), (lo l5 = false) → Wp d 97 32 [l0, l1, l2, l3, l4, l5, l6] (.int v :: st) M Q = Wp d 97 34 [l0, l1, l2, l3, l4, l5, some (.int v)] st M Q := fun d l0 l1 l2 l3 l4 l5 l6 v st M Q hl => w_istore (show ins 97 32 = some (.istore 6, 2) by decide +kernel) (st1_S rfl rfl hl)
set_option maxRecDepth 100000 in
theorem r_97_34 : ∀ (d : Nat) (l0 l1 l2 l3 l5 l6 : Option Value) (v : Int32) (st : List Value) (M : Mem) (Q : Outcome → Mem → Prop), Wp d 97 34 [l0, l1, l2, l3, some (.int v), l5, l6] st M Q = Wp d 97 36 [l0, l1, l2, l3, some (.int v), l5, l6] (.int v :: st) M Q := fun d l0 l1 l2 l3 l5 l6 v st M Q => wA (show ins 97 34 = some (.iload 4, 2) by decide +kernel) rfl
set_option maxRecDepth 100000 in
theorem r_97_36 : ∀ (d : Nat) (ls : Lc) (a : Int32) (st : List Value) (M : Mem) (Q : Outcome → Mem → Prop), Wp d 97 36 ls (.int a :: st) M Q = Br (a = I 0) d 97 48 39 ls st M Q := fun d ls a st M Q => w_if (show ins 97 36 = some (.ifCond .eq 12, 3) by decide +kernel) rfl rfl
set_option maxRecDepth 100000 in
theorem r_97_39 : ∀ (d : Nat) (l0 l1 l2 l3 l4 l6 : Option Value) (v : Nat) (st : List Value) (M : Mem) (Q : Outcome → Mem → Prop), Wp d 97 39 [l0, l1, l2, l3, l4, some (.ref v), l6] st M Q = Wp d 97 41 [l0, l1, l2, l3, l4, some (.ref v), l6] (.ref v :: st) M Q := fun d l0 l1 l2 l3 l4 l6 v st M Q => wA (show ins 97 39 = some (.aload 5, 2) by decide +kernel) rfl
set_option maxRecDepth 100000 in
theorem r_97_39_1 : ∀ (d : Nat) (l0 l1 l2 l3 l4 l6 : Option Value) (st : List Value) (M : Mem) (Q : Outcome → Mem → Prop), Wp d 97 39 [l0, l1, l2, l3, l4, some .null, l6] st M Q = Wp d 97 41 [l0, l1, l2, l3, l4, some .null, l6] (.null :: st) M Q := fun d l0 l1 l2 l3 l4 l6 st M Q => wA (show ins 97 39 = some (.aload 5, 2) by decide +kernel) rfl
set_option maxRecDepth 100000 in
theorem r_97_41 : ∀ (d : Nat) (l1 l2 l3 l4 l5 l6 : Option Value) (v : Nat) (st : List Value) (M : Mem) (Q : Outcome → Mem → Prop), Wp d 97 41 [some (.ref v), l1, l2, l3, l4, l5, l6] st M Q = Wp d 97 42 [some (.ref v), l1, l2, l3, l4, l5, l6] (.ref v :: st) M Q := fun d l1 l2 l3 l4 l5 l6 v st M Q => wA (show ins 97 41 = some (.aload_n 0, 1) by decide +kernel) rfl
set_option maxRecDepth 100000 in
theorem r_97_42 : ∀ (d : Nat) (ls : Lc) (a : Nat) (st : List Value) (M : Mem) (Q : Outcome → Mem → Prop), Wp d 97 42 ls (.ref a :: st) M Q = (fk 16 (kO M a) = true ∧ Wp d 97 45 ls (.int (mF M 16 a) :: st) M Q) := fun d ls a st M Q => w_getI (show ins 97 42 = some (.getfield 112, 3) by decide +kernel) (show fRes (mC 97) 112 = some (16, 3, false) by decide +kernel) (by decide +kernel)
set_option maxRecDepth 100000 in
theorem r_97_45 : ∀ (d : Nat) (ls : Lc) (v0 : Value) (a : Nat) (st : List Value) (M : Mem) (Q : Outcome → Mem → Prop), (smallR st = true) → Wp d 97 45 ls (v0 :: .ref a :: st) M Q = (kO M a = 5 ∧ Ca d 97 45 ls 125 (.ref a :: [v0]) st M Q) := fun d ls v0 a st M Q h0 => w_virt1 (as := [v0]) (show ins 97 45 = some (.invokevirtual 132, 3) by decide +kernel) (show mRes (mC 97) 132 = some (3, 5, [(5, 125)]) by decide +kernel) (by decide +kernel) rfl (by decide +kernel) (by decide +kernel) h0
set_option maxRecDepth 100000 in
theorem r_97_48 : ∀ (d : Nat) (l0 l1 l2 l4 l5 l6 : Option Value) (v : Int32) (st : List Value) (M : Mem) (Q : Outcome → Mem → Prop), Wp d 97 48 [l0, l1, l2, some (.int v), l4, l5, l6] st M Q = Wp d 97 49 [l0, l1, l2, some (.int v), l4, l5, l6] (.int v :: st) M Q := fun d l0 l1 l2 l4 l5 l6 v st M Q => wA (show ins 97 48 = some (.iload_n 3, 1) by decide +kernel) rfl
set_option maxRecDepth 100000 in
theorem r_97_49 : ∀ (d : Nat) (ls : Lc) (a : Int32) (st : List Value) (M : Mem) (Q : Outcome → Mem → Prop), Wp d 97 49 ls (.int a :: st) M Q = Br (a ≤ I 0) d 97 65 52 ls st M Q := fun d ls a st M Q => w_if (show ins 97 49 = some (.ifCond .le 16, 3) by decide +kernel) rfl rfl
set_option maxRecDepth 100000 in
theorem r_97_52 : ∀ (d : Nat) (l0 l1 l2 l3 l4 l6 : Option Value) (v : Nat) (st : List Value) (M : Mem) (Q : Outcome → Mem → Prop), Wp d 97 52 [l0, l1, l2, l3, l4, some (.ref v), l6] st M Q = Wp d 97 54 [l0, l1, l2, l3, l4, some (.ref v), l6] (.ref v :: st) M Q := fun d l0 l1 l2 l3 l4 l6 v st M Q => wA (show ins 97 52 = some (.aload 5, 2) by decide +kernel) rfl
set_option maxRecDepth 100000 in
theorem r_97_52_1 : ∀ (d : Nat) (l0 l1 l2 l3 l4 l6 : Option Value) (st : List Value) (M : Mem) (Q : Outcome → Mem → Prop), Wp d 97 52 [l0, l1, l2, l3, l4, some .null, l6] st M Q = Wp d 97 54 [l0, l1, l2, l3, l4, some .null, l6] (.null :: st) M Q := fun d l0 l1 l2 l3 l4 l6 st M Q => wA (show ins 97 52 = some (.aload 5, 2) by decide +kernel) rfl
set_option maxRecDepth 100000 in
theorem r_97_54 : ∀ (d : Nat) (l1 l2 l3 l4 l5 l6 : Option Value) (v : Nat) (st : List Value) (M : Mem) (Q : Outcome → Mem → Prop), Wp d 97 54 [some (.ref v), l1, l2, l3, l4, l5, l6] st M Q = Wp d 97 55 [some (.ref v), l1, l2, l3, l4, l5, l6] (.ref v :: st) M Q := fun d l1 l2 l3 l4 l5 l6 v st M Q => wA (show ins 97 54 = some (.aload_n 0, 1) by decide +kernel) rfl
set_option maxRecDepth 100000 in
theorem r_97_55 : ∀ (d : Nat) (ls : Lc) (a : Nat) (st : List Value) (M : Mem) (Q : Outcome → Mem → Prop), Wp d 97 55 ls (.ref a :: st) M Q = (fk 16 (kO M a) = true ∧ Wp d 97 58 ls (.int (mF M 16 a) :: st) M Q) := fun d ls a st M Q => w_getI (show ins 97 55 = some (.getfield 112, 3) by decide +kernel) (show fRes (mC 97) 112 = some (16, 3, false) by decide +kernel) (by decide +kernel)
set_option maxRecDepth 100000 in
theorem r_97_58 : ∀ (d : Nat) (l0 l2 l3 l4 l5 l6 : Option Value) (v : Int32) (st : List Value) (M : Mem) (Q : Outcome → Mem → Prop), Wp d 97 58 [l0, some (.int v), l2, l3, l4, l5, l6] st M Q = Wp d 97 59 [l0, some (.int v), l2, l3, l4, l5, l6] (.int v :: st) M Q := fun d l0 l2 l3 l4 l5 l6 v st M Q => wA (show ins 97 58 = some (.iload_n 1, 1) by decide +kernel) rfl
set_option maxRecDepth 100000 in
theorem r_97_59 : ∀ (d : Nat) (l0 l1 l3 l4 l5 l6 : Option Value) (v : Nat) (st : List Value) (M : Mem) (Q : Outcome → Mem → Prop), Wp d 97 59 [l0, l1, some (.ref v), l3, l4, l5, l6] st M Q = Wp d 97 60 [l0, l1, some (.ref v), l3, l4, l5, l6] (.ref v :: st) M Q := fun d l0 l1 l3 l4 l5 l6 v st M Q => wA (show ins 97 59 = some (.aload_n 2, 1) by decide +kernel) rfl
set_option maxRecDepth 100000 in
theorem r_97_59_1 : ∀ (d : Nat) (l0 l1 l3 l4 l5 l6 : Option Value) (st : List Value) (M : Mem) (Q : Outcome → Mem → Prop), Wp d 97 59 [l0, l1, some .null, l3, l4, l5, l6] st M Q = Wp d 97 60 [l0, l1, some .null, l3, l4, l5, l6] (.null :: st) M Q := fun d l0 l1 l3 l4 l5 l6 st M Q => wA (show ins 97 59 = some (.aload_n 2, 1) by decide +kernel) rfl
set_option maxRecDepth 100000 in
theorem r_97_60 : ∀ (d : Nat) (ls : Lc) (st : List Value) (M : Mem) (Q : Outcome → Mem → Prop), Wp d 97 60 ls st M Q = Wp d 97 61 ls (.int (I 0) :: st) M Q := fun d ls st M Q => w_iconst (show ins 97 60 = some (.iconst 0, 1) by decide +kernel)
set_option maxRecDepth 100000 in
theorem r_97_61 : ∀ (d : Nat) (l0 l1 l2 l4 l5 l6 : Option Value) (v : Int32) (st : List Value) (M : Mem) (Q : Outcome → Mem → Prop), Wp d 97 61 [l0, l1, l2, some (.int v), l4, l5, l6] st M Q = Wp d 97 62 [l0, l1, l2, some (.int v), l4, l5, l6] (.int v :: st) M Q := fun d l0 l1 l2 l4 l5 l6 v st M Q => wA (show ins 97 61 = some (.iload_n 3, 1) by decide +kernel) rfl
set_option maxRecDepth 100000 in
theorem r_97_62 : ∀ (d : Nat) (ls : Lc) (v0 v1 v2 v3 v4 : Value) (a : Nat) (st : List Value) (M : Mem) (Q : Outcome → Mem → Prop), (smallR st = true) → Wp d 97 62 ls (v4 :: v3 :: v2 :: v1 :: v0 :: .ref a :: st) M Q = (kO M a = 5 ∧ Ca d 97 62 ls 127 (.ref a :: [v0, v1, v2, v3, v4]) st M Q) := fun d ls v0 v1 v2 v3 v4 a st M Q h0 => w_virt1 (as := [v0, v1, v2, v3, v4]) (show ins 97 62 = some (.invokevirtual 135, 3) by decide +kernel) (show mRes (mC 97) 135 = some (3, 5, [(5, 127)]) by decide +kernel) (by decide +kernel) rfl (by decide +kernel) (by decide +kernel) h0
set_option maxRecDepth 100000 in
theorem r_97_65 : ∀ (d : Nat) (l0 l1 l2 l4 l5 l6 : Option Value) (v : Int32) (st : List Value) (M : Mem) (Q : Outcome → Mem → Prop), Wp d 97 65 [l0, l1, l2, some (.int v), l4, l5, l6] st M Q = Wp d 97 66 [l0, l1, l2, some (.int v), l4, l5, l6] (.int v :: st) M Q := fun d l0 l1 l2 l4 l5 l6 v st M Q => wA (show ins 97 65 = some (.iload_n 3, 1) by decide +kernel) rfl
set_option maxRecDepth 100000 in
theorem r_97_66 : ∀ (d : Nat) (l0 l1 l2 l3 l4 l5 : Option Value) (v : Int32) (st : List Value) (M : Mem) (Q : Outcome → Mem → Prop), Wp d 97 66 [l0, l1, l2, l3, l4, l5, some (.int v)] st M Q = Wp d 97 68 [l0, l1, l2, l3, l4, l5, some (.int v)] (.int v :: st) M Q := fun d l0 l1 l2 l3 l4 l5 v st M Q => wA (show ins 97 66 = some (.iload 6, 2) by decide +kernel) rfl
set_option maxRecDepth 100000 in
theorem r_97_68 : ∀ (d : Nat) (ls : Lc) (a b : Int32) (st : List Value) (M : Mem) (Q : Outcome → Mem → Prop), Wp d 97 68 ls (.int b :: .int a :: st) M Q = Br (a ≤ b) d 97 80 71 ls st M Q := fun d ls a b st M Q => w_icmp (show ins 97 68 = some (.if_icmp .le 12, 3) by decide +kernel) rfl rfl
set_option maxRecDepth 100000 in
theorem r_97_71 : ∀ (d : Nat) (l1 l2 l3 l4 l5 l6 : Option Value) (v : Nat) (st : List Value) (M : Mem) (Q : Outcome → Mem → Prop), Wp d 97 71 [some (.ref v), l1, l2, l3, l4, l5, l6] st M Q = Wp d 97 72 [some (.ref v), l1, l2, l3, l4, l5, l6] (.ref v :: st) M Q := fun d l1 l2 l3 l4 l5 l6 v st M Q => wA (show ins 97 71 = some (.aload_n 0, 1) by decide +kernel) rfl
set_option maxRecDepth 100000 in
theorem r_97_72 : ∀ (d : Nat) (l0 l1 l2 l3 l4 l6 : Option Value) (v : Nat) (st : List Value) (M : Mem) (Q : Outcome → Mem → Prop), Wp d 97 72 [l0, l1, l2, l3, l4, some (.ref v), l6] st M Q = Wp d 97 74 [l0, l1, l2, l3, l4, some (.ref v), l6] (.ref v :: st) M Q := fun d l0 l1 l2 l3 l4 l6 v st M Q => wA (show ins 97 72 = some (.aload 5, 2) by decide +kernel) rfl
set_option maxRecDepth 100000 in
theorem r_97_72_1 : ∀ (d : Nat) (l0 l1 l2 l3 l4 l6 : Option Value) (st : List Value) (M : Mem) (Q : Outcome → Mem → Prop), Wp d 97 72 [l0, l1, l2, l3, l4, some .null, l6] st M Q = Wp d 97 74 [l0, l1, l2, l3, l4, some .null, l6] (.null :: st) M Q := fun d l0 l1 l2 l3 l4 l6 st M Q => wA (show ins 97 72 = some (.aload 5, 2) by decide +kernel) rfl
set_option maxRecDepth 100000 in
theorem r_97_74 : ∀ (d : Nat) (ls : Lc) (v0 : Value) (a : Nat) (st : List Value) (M : Mem) (Q : Outcome → Mem → Prop), (smallR st = true) → Wp d 97 74 ls (v0 :: .ref a :: st) M Q = (kO M a = 3 ∧ Ca d 97 74 ls 100 (.ref a :: [v0]) st M Q) := fun d ls v0 a st M Q h0 => w_virt1 (as := [v0]) (show ins 97 74 = some (.invokevirtual 138, 3) by decide +kernel) (show mRes (mC 97) 138 = some (3, 3, [(3, 100)]) by decide +kernel) (by decide +kernel) rfl (by decide +kernel) (by decide +kernel) h0
set_option maxRecDepth 100000 in
theorem r_97_77 : ∀ (d : Nat) (ls : Lc) (st : List Value) (M : Mem) (Q : Outcome → Mem → Prop), Wp d 97 77 ls st M Q = Wp d 97 92 ls st M Q := fun d ls st M Q => w_goto (show ins 97 77 = some (.goto 15, 3) by decide +kernel) rfl
set_option maxRecDepth 100000 in
theorem r_97_80 : ∀ (d : Nat) (l0 l1 l2 l4 l5 l6 : Option Value) (v : Int32) (st : List Value) (M : Mem) (Q : Outcome → Mem → Prop), Wp d 97 80 [l0, l1, l2, some (.int v), l4, l5, l6] st M Q = Wp d 97 81 [l0, l1, l2, some (.int v), l4, l5, l6] (.int v :: st) M Q := fun d l0 l1 l2 l4 l5 l6 v st M Q => wA (show ins 97 80 = some (.iload_n 3, 1) by decide +kernel) rfl
set_option maxRecDepth 100000 in
theorem r_97_81 : ∀ (d : Nat) (l0 l1 l2 l3 l4 l5 : Option Value) (v : Int32) (st : List Value) (M : Mem) (Q : Outcome → Mem → Prop), Wp d 97 81 [l0, l1, l2, l3, l4, l5, some (.int v)] st M Q = Wp d 97 83 [l0, l1, l2, l3, l4, l5, some (.int v)] (.int v :: st) M Q := fun d l0 l1 l2 l3 l4 l5 v st M Q => wA (show ins 97 81 = some (.iload 6, 2) by decide +kernel) rfl
set_option maxRecDepth 100000 in
theorem r_97_83 : ∀ (d : Nat) (ls : Lc) (a b : Int32) (st : List Value) (M : Mem) (Q : Outcome → Mem → Prop), Wp d 97 83 ls (.int b :: .int a :: st) M Q = Br (b ≤ a) d 97 92 86 ls st M Q := fun d ls a b st M Q => w_icmp (show ins 97 83 = some (.if_icmp .ge 9, 3) by decide +kernel) rfl rfl
set_option maxRecDepth 100000 in
theorem r_97_86 : ∀ (d : Nat) (l1 l2 l3 l4 l5 l6 : Option Value) (v : Nat) (st : List Value) (M : Mem) (Q : Outcome → Mem → Prop), Wp d 97 86 [some (.ref v), l1, l2, l3, l4, l5, l6] st M Q = Wp d 97 87 [some (.ref v), l1, l2, l3, l4, l5, l6] (.ref v :: st) M Q := fun d l1 l2 l3 l4 l5 l6 v st M Q => wA (show ins 97 86 = some (.aload_n 0, 1) by decide +kernel) rfl
set_option maxRecDepth 100000 in
theorem r_97_87 : ∀ (d : Nat) (l0 l1 l2 l3 l4 l6 : Option Value) (v : Nat) (st : List Value) (M : Mem) (Q : Outcome → Mem → Prop), Wp d 97 87 [l0, l1, l2, l3, l4, some (.ref v), l6] st M Q = Wp d 97 89 [l0, l1, l2, l3, l4, some (.ref v), l6] (.ref v :: st) M Q := fun d l0 l1 l2 l3 l4 l6 v st M Q => wA (show ins 97 87 = some (.aload 5, 2) by decide +kernel) rfl
set_option maxRecDepth 100000 in
theorem r_97_87_1 : ∀ (d : Nat) (l0 l1 l2 l3 l4 l6 : Option Value) (st : List Value) (M : Mem) (Q : Outcome → Mem → Prop), Wp d 97 87 [l0, l1, l2, l3, l4, some .null, l6] st M Q = Wp d 97 89 [l0, l1, l2, l3, l4, some .null, l6] (.null :: st) M Q := fun d l0 l1 l2 l3 l4 l6 st M Q => wA (show ins 97 87 = some (.aload 5, 2) by decide +kernel) rfl
set_option maxRecDepth 100000 in
theorem r_97_89 : ∀ (d : Nat) (ls : Lc) (v0 : Value) (a : Nat) (st : List Value) (M : Mem) (Q : Outcome → Mem → Prop), (smallR st = true) → Wp d 97 89 ls (v0 :: .ref a :: st) M Q = (kO M a = 3 ∧ Ca d 97 89 ls 103 (.ref a :: [v0]) st M Q) := fun d ls v0 a st M Q h0 => w_virt1 (as := [v0]) (show ins 97 89 = some (.invokevirtual 142, 3) by decide +kernel) (show mRes (mC 97) 142 = some (3, 3, [(3, 103)]) by decide +kernel) (by decide +kernel) rfl (by decide +kernel) (by decide +kernel) h0
set_option maxRecDepth 100000 in
theorem r_97_92 : ∀ (d : Nat) (ls : Lc) (M : Mem) (Q : Outcome → Mem → Prop), Wp d 97 92 ls [] M Q = Q (.returned none) M := fun d ls M Q => w_return (show ins 97 92 = some (.return_, 1) by decide +kernel) (by decide +kernel)
set_option maxRecDepth 100000 in
theorem W_97 : (type_of% r_97_0) ∧ (type_of% r_97_1) ∧ (type_of% r_97_2) ∧ (type_of% r_97_5) ∧ (type_of% r_97_7) ∧ (type_of% r_97_8) ∧ (type_of% r_97_11) ∧ (type_of% r_97_11_1) ∧ (type_of% r_97_13) ∧ (type_of% r_97_15) ∧ (type_of% r_97_18) ∧ (type_of% r_97_18_1) ∧ (type_of% r_97_20) ∧ (type_of% r_97_23) ∧ (type_of% r_97_24) ∧ (type_of% r_97_27) ∧ (type_of% r_97_28) ∧ (type_of% r_97_31) ∧ (type_of% r_97_32) ∧ (type_of% r_97_34) ∧ (type_of% r_97_36) ∧ (type_of% r_97_39) ∧ (type_of% r_97_39_1) ∧ (type_of% r_97_41) ∧ (type_of% r_97_42) ∧ (type_of% r_97_45) ∧ (type_of% r_97_48) ∧ (type_of% r_97_49) ∧ (type_of% r_97_52) ∧ (type_of% r_97_52_1) ∧ (type_of% r_97_54) ∧ (type_of% r_97_55) ∧ (type_of% r_97_58) ∧ (type_of% r_97_59) ∧ (type_of% r_97_59_1) ∧ (type_of% r_97_60) ∧ (type_of% r_97_61) ∧ (type_of% r_97_62) ∧ (type_of% r_97_65) ∧ (type_of% r_97_66) ∧ (type_of% r_97_68) ∧ (type_of% r_97_71) ∧ (type_of% r_97_72) ∧ (type_of% r_97_72_1) ∧ (type_of% r_97_74) ∧ (type_of% r_97_77) ∧ (type_of% r_97_80) ∧ (type_of% r_97_81) ∧ (type_of% r_97_83) ∧ (type_of% r_97_86) ∧ (type_of% r_97_87) ∧ (type_of% r_97_87_1) ∧ (type_of% r_97_89) ∧ (type_of% r_97_92) := ⟨r_97_0, r_97_1, r_97_2, r_97_5, r_97_7, r_97_8, r_97_11, r_97_11_1, r_97_13, r_97_15, r_97_18, r_97_18_1, r_97_20, r_97_23, r_97_24, r_97_27, r_97_28, r_97_31, r_97_32, r_97_34, r_97_36, r_97_39, r_97_39_1, r_97_41, r_97_42, r_97_45, r_97_48, r_97_49, r_97_52, r_97_52_1, r_97_54, r_97_55, r_97_58, r_97_59, r_97_59_1, r_97_60, r_97_61, r_97_62, r_97_65, r_97_66, r_97_68, r_97_71, r_97_72, r_97_72_1, r_97_74, r_97_77, r_97_80, r_97_81, r_97_83, r_97_86, r_97_87, r_97_87_1, r_97_89, r_97_92⟩
set_option maxRecDepth 100000 in
theorem ca_97 {d y pc : Nat} {ls : Lc} {a : Nat} {z0 : Int32} {o1 : Option Nat} {z2 : Int32} {r : List Value} {M : Mem} {Q : Outcome → Mem → Prop} (hd : 0 < d) (hw : Wp (d - 1) 97 0 [some (.ref a), some (.int z0), some (va_rf o1), some (.int z2), none, none, none] [] M (Cq d y pc ls r Q)) : Ca d y pc ls 97 [.ref a, .int z0, va_rf o1, .int z2] r M Q := ca_of (mq_get (by decide)) (by cases o1 <;> rfl) hd hw
/-! 98 PackedTree$Tree.find(I)Z; loop heads [] -/
set_option maxRecDepth 100000 in
theorem r_98_0 : ∀ (d : Nat) (l1 : Option Value) (v : Nat) (st : List Value) (M : Mem) (Q : Outcome → Mem → Prop), Wp d 98 0 [some (.ref v), l1] st M Q = Wp d 98 1 [some (.ref v), l1] (.ref v :: st) M Q := fun d l1 v st M Q => wA (show ins 98 0 = some (.aload_n 0, 1) by decide +kernel) rfl
set_option maxRecDepth 100000 in
theorem r_98_1 : ∀ (d : Nat) (l1 : Option Value) (v : Nat) (st : List Value) (M : Mem) (Q : Outcome → Mem → Prop), Wp d 98 1 [some (.ref v), l1] st M Q = Wp d 98 2 [some (.ref v), l1] (.ref v :: st) M Q := fun d l1 v st M Q => wA (show ins 98 1 = some (.aload_n 0, 1) by decide +kernel) rfl
set_option maxRecDepth 100000 in
theorem r_98_2 : ∀ (d : Nat) (l0 : Option Value) (v : Int32) (st : List Value) (M : Mem) (Q : Outcome → Mem → Prop), Wp d 98 2 [l0, some (.int v)] st M Q = Wp d 98 3 [l0, some (.int v)] (.int v :: st) M Q := fun d l0 v st M Q => wA (show ins 98 2 = some (.iload_n 1, 1) by decide +kernel) rfl
set_option maxRecDepth 100000 in
theorem r_98_3 : ∀ (d : Nat) (ls : Lc) (v0 : Value) (a : Nat) (st : List Value) (M : Mem) (Q : Outcome → Mem → Prop), (smallR st = true) → Wp d 98 3 ls (v0 :: .ref a :: st) M Q = (kO M a = 3 ∧ Ca d 98 3 ls 99 (.ref a :: [v0]) st M Q) := fun d ls v0 a st M Q h0 => w_virt1 (as := [v0]) (show ins 98 3 = some (.invokevirtual 101, 3) by decide +kernel) (show mRes (mC 98) 101 = some (3, 3, [(3, 99)]) by decide +kernel) (by decide +kernel) rfl (by decide +kernel) (by decide +kernel) h0
set_option maxRecDepth 100000 in
theorem r_98_6 : ∀ (d : Nat) (ls : Lc) (a b : Nat) (st : List Value) (M : Mem) (Q : Outcome → Mem → Prop), Wp d 98 6 ls (.ref b :: .ref a :: st) M Q = (fk 14 (kO M a) = true ∧ Wp d 98 9 ls st (sR M 14 a (some b)) Q) := fun d ls a b st M Q => w_putR (v := some b) (show ins 98 6 = some (.putfield 104, 3) by decide +kernel) (show fRes (mC 98) 104 = some (14, 3, false) by decide +kernel) (by decide +kernel) (by decide +kernel)
set_option maxRecDepth 100000 in
theorem r_98_6_1 : ∀ (d : Nat) (ls : Lc) (a : Nat) (st : List Value) (M : Mem) (Q : Outcome → Mem → Prop), Wp d 98 6 ls (.null :: .ref a :: st) M Q = (fk 14 (kO M a) = true ∧ Wp d 98 9 ls st (sR M 14 a none) Q) := fun d ls a st M Q => w_putR (v := none) (show ins 98 6 = some (.putfield 104, 3) by decide +kernel) (show fRes (mC 98) 104 = some (14, 3, false) by decide +kernel) (by decide +kernel) (by decide +kernel)
set_option maxRecDepth 100000 in
theorem r_98_9 : ∀ (d : Nat) (l1 : Option Value) (v : Nat) (st : List Value) (M : Mem) (Q : Outcome → Mem → Prop), Wp d 98 9 [some (.ref v), l1] st M Q = Wp d 98 10 [some (.ref v), l1] (.ref v :: st) M Q := fun d l1 v st M Q => wA (show ins 98 9 = some (.aload_n 0, 1) by decide +kernel) rfl
set_option maxRecDepth 100000 in
theorem r_98_10 : ∀ (d : Nat) (l1 : Option Value) (v : Nat) (st : List Value) (M : Mem) (Q : Outcome → Mem → Prop), Wp d 98 10 [some (.ref v), l1] st M Q = Wp d 98 11 [some (.ref v), l1] (.ref v :: st) M Q := fun d l1 v st M Q => wA (show ins 98 10 = some (.aload_n 0, 1) by decide +kernel) rfl
set_option maxRecDepth 100000 in
theorem r_98_11 : ∀ (d : Nat) (ls : Lc) (a : Nat) (st : List Value) (M : Mem) (Q : Outcome → Mem → Prop), Wp d 98 11 ls (.ref a :: st) M Q = (fk 14 (kO M a) = true ∧ Wp d 98 14 ls (va_rf (mR M 14 a) :: st) M Q) := fun d ls a st M Q => w_getR (show ins 98 11 = some (.getfield 104, 3) by decide +kernel) (show fRes (mC 98) 104 = some (14, 3, false) by decide +kernel) (by decide +kernel)
set_option maxRecDepth 100000 in
theorem r_98_14 : ∀ (d : Nat) (l0 : Option Value) (v : Int32) (st : List Value) (M : Mem) (Q : Outcome → Mem → Prop), Wp d 98 14 [l0, some (.int v)] st M Q = Wp d 98 15 [l0, some (.int v)] (.int v :: st) M Q := fun d l0 v st M Q => wA (show ins 98 14 = some (.iload_n 1, 1) by decide +kernel) rfl
set_option maxRecDepth 100000 in
theorem r_98_15 : ∀ (d : Nat) (ls : Lc) (v0 : Value) (a : Nat) (st : List Value) (M : Mem) (Q : Outcome → Mem → Prop), (smallR st = true) → Wp d 98 15 ls (v0 :: .ref a :: st) M Q = (kO M a = 5 ∧ Ca d 98 15 ls 123 (.ref a :: [v0]) st M Q) := fun d ls v0 a st M Q h0 => w_virt1 (as := [v0]) (show ins 98 15 = some (.invokevirtual 108, 3) by decide +kernel) (show mRes (mC 98) 108 = some (3, 5, [(5, 123)]) by decide +kernel) (by decide +kernel) rfl (by decide +kernel) (by decide +kernel) h0
set_option maxRecDepth 100000 in
theorem r_98_18 : ∀ (d : Nat) (ls : Lc) (a : Nat) (v : Int32) (st : List Value) (M : Mem) (Q : Outcome → Mem → Prop), Wp d 98 18 ls (.int v :: .ref a :: st) M Q = (fk 16 (kO M a) = true ∧ Wp d 98 21 ls st (sF M 16 a v) Q) := fun d ls a v st M Q => w_putI (show ins 98 18 = some (.putfield 112, 3) by decide +kernel) (show fRes (mC 98) 112 = some (16, 3, false) by decide +kernel) (by decide +kernel) (by decide +kernel)
set_option maxRecDepth 100000 in
theorem r_98_21 : ∀ (d : Nat) (l1 : Option Value) (v : Nat) (st : List Value) (M : Mem) (Q : Outcome → Mem → Prop), Wp d 98 21 [some (.ref v), l1] st M Q = Wp d 98 22 [some (.ref v), l1] (.ref v :: st) M Q := fun d l1 v st M Q => wA (show ins 98 21 = some (.aload_n 0, 1) by decide +kernel) rfl
set_option maxRecDepth 100000 in
theorem r_98_22 : ∀ (d : Nat) (ls : Lc) (a : Nat) (st : List Value) (M : Mem) (Q : Outcome → Mem → Prop), Wp d 98 22 ls (.ref a :: st) M Q = (fk 14 (kO M a) = true ∧ Wp d 98 25 ls (va_rf (mR M 14 a) :: st) M Q) := fun d ls a st M Q => w_getR (show ins 98 22 = some (.getfield 104, 3) by decide +kernel) (show fRes (mC 98) 104 = some (14, 3, false) by decide +kernel) (by decide +kernel)
set_option maxRecDepth 100000 in
theorem r_98_25 : ∀ (d : Nat) (l1 : Option Value) (v : Nat) (st : List Value) (M : Mem) (Q : Outcome → Mem → Prop), Wp d 98 25 [some (.ref v), l1] st M Q = Wp d 98 26 [some (.ref v), l1] (.ref v :: st) M Q := fun d l1 v st M Q => wA (show ins 98 25 = some (.aload_n 0, 1) by decide +kernel) rfl
set_option maxRecDepth 100000 in
theorem r_98_26 : ∀ (d : Nat) (ls : Lc) (a : Nat) (st : List Value) (M : Mem) (Q : Outcome → Mem → Prop), Wp d 98 26 ls (.ref a :: st) M Q = (fk 16 (kO M a) = true ∧ Wp d 98 29 ls (.int (mF M 16 a) :: st) M Q) := fun d ls a st M Q => w_getI (show ins 98 26 = some (.getfield 112, 3) by decide +kernel) (show fRes (mC 98) 112 = some (16, 3, false) by decide +kernel) (by decide +kernel)
set_option maxRecDepth 100000 in
theorem r_98_29 : ∀ (d : Nat) (l0 : Option Value) (v : Int32) (st : List Value) (M : Mem) (Q : Outcome → Mem → Prop), Wp d 98 29 [l0, some (.int v)] st M Q = Wp d 98 30 [l0, some (.int v)] (.int v :: st) M Q := fun d l0 v st M Q => wA (show ins 98 29 = some (.iload_n 1, 1) by decide +kernel) rfl
set_option maxRecDepth 100000 in
theorem r_98_30 : ∀ (d : Nat) (ls : Lc) (v0 v1 : Value) (a : Nat) (st : List Value) (M : Mem) (Q : Outcome → Mem → Prop), (smallR st = true) → Wp d 98 30 ls (v1 :: v0 :: .ref a :: st) M Q = (kO M a = 5 ∧ Ca d 98 30 ls 124 (.ref a :: [v0, v1]) st M Q) := fun d ls v0 v1 a st M Q h0 => w_virt1 (as := [v0, v1]) (show ins 98 30 = some (.invokevirtual 114, 3) by decide +kernel) (show mRes (mC 98) 114 = some (3, 5, [(5, 124)]) by decide +kernel) (by decide +kernel) rfl (by decide +kernel) (by decide +kernel) h0
set_option maxRecDepth 100000 in
theorem r_98_33 : ∀ (d : Nat) (ls : Lc) (z : Int) (M : Mem) (Q : Outcome → Mem → Prop), (z = 0 ∨ z = 1) → Wp d 98 33 ls [.int (I z)] M Q = Q (.returned (some (.int (I z)))) M := fun d ls z M Q h0 => w_zretI (show ins 98 33 = some (.ireturn, 1) by decide +kernel) (by decide +kernel) h0
set_option maxRecDepth 100000 in
theorem r_98_33_1 : ∀ (d : Nat) (ls : Lc) (b : Bool) (M : Mem) (Q : Outcome → Mem → Prop), Wp d 98 33 ls [.int (I (bI b))] M Q = Q (.returned (some (.int (I (bI b))))) M := fun d ls b M Q => w_zretB (show ins 98 33 = some (.ireturn, 1) by decide +kernel) (by decide +kernel)
set_option maxRecDepth 100000 in
theorem W_98 : (type_of% r_98_0) ∧ (type_of% r_98_1) ∧ (type_of% r_98_2) ∧ (type_of% r_98_3) ∧ (type_of% r_98_6) ∧ (type_of% r_98_6_1) ∧ (type_of% r_98_9) ∧ (type_of% r_98_10) ∧ (type_of% r_98_11) ∧ (type_of% r_98_14) ∧ (type_of% r_98_15) ∧ (type_of% r_98_18) ∧ (type_of% r_98_21) ∧ (type_of% r_98_22) ∧ (type_of% r_98_25) ∧ (type_of% r_98_26) ∧ (type_of% r_98_29) ∧ (type_of% r_98_30) ∧ (type_of% r_98_33) ∧ (type_of% r_98_33_1) := ⟨r_98_0, r_98_1, r_98_2, r_98_3, r_98_6, r_98_6_1, r_98_9, r_98_10, r_98_11, r_98_14, r_98_15, r_98_18, r_98_21, r_98_22, r_98_25, r_98_26, r_98_29, r_98_30, r_98_33, r_98_33_1⟩
set_option maxRecDepth 100000 in
theorem ca_98 {d y pc : Nat} {ls : Lc} {a : Nat} {z0 : Int32} {r : List Value} {M : Mem} {Q : Outcome → Mem → Prop} (hd : 0 < d) (hw : Wp (d - 1) 98 0 [some (.ref a), some (.int z0)] [] M (Cq d y pc ls r Q)) : Ca d y pc ls 98 [.ref a, .int z0] r M Q := ca_of (mq_get (by decide)) (by rfl) hd hw
/-! 99 PackedTree$Tree.leafFor(I)LPackedTree$Leaf;; loop heads [5] -/
set_option maxRecDepth 100000 in
theorem r_99_0 : ∀ (d : Nat) (l1 l2 : Option Value) (v : Nat) (st : List Value) (M : Mem) (Q : Outcome → Mem → Prop), Wp d 99 0 [some (.ref v), l1, l2] st M Q = Wp d 99 1 [some (.ref v), l1, l2] (.ref v :: st) M Q := fun d l1 l2 v st M Q => wA (show ins 99 0 = some (.aload_n 0, 1) by decide +kernel) rfl
set_option maxRecDepth 100000 in
theorem r_99_1 : ∀ (d : Nat) (ls : Lc) (a : Nat) (st : List Value) (M : Mem) (Q : Outcome → Mem → Prop), Wp d 99 1 ls (.ref a :: st) M Q = (fk 18 (kO M a) = true ∧ Wp d 99 4 ls (va_rf (mR M 18 a) :: st) M Q) := fun d ls a st M Q => w_getR (show ins 99 1 = some (.getfield 52, 3) by decide +kernel) (show fRes (mC 99) 52 = some (18, 3, false) by decide +kernel) (by decide +kernel)
set_option maxRecDepth 100000 in
theorem r_99_4 : ∀ (d : Nat) (l0 l1 l2 : Option Value) (v : Nat) (st : List Value) (M : Mem) (Q : Outcome → Mem → Prop), (lo l1 = false) → Wp d 99 4 [l0, l1, l2] (.ref v :: st) M Q = Wp d 99 5 [l0, l1, some (.ref v)] st M Q := fun d l0 l1 l2 v st M Q hl => w_astore_n (show ins 99 4 = some (.astore_n 2, 1) by decide +kernel) (st1_S rfl rfl hl)
set_option maxRecDepth 100000 in
theorem r_99_4_1 : ∀ (d : Nat) (l0 l1 l2 : Option Value) (st : List Value) (M : Mem) (Q : Outcome → Mem → Prop), (lo l1 = false) → Wp d 99 4 [l0, l1, l2] (.null :: st) M Q = Wp d 99 5 [l0, l1, some (.null)] st M Q := fun d l0 l1 l2 st M Q hl => w_astoreN_n (show ins 99 4 = some (.astore_n 2, 1) by decide +kernel) (st1_S rfl rfl hl)
set_option maxRecDepth 100000 in
theorem r_99_5 : ∀ (d : Nat) (l0 l1 : Option Value) (v : Nat) (st : List Value) (M : Mem) (Q : Outcome → Mem → Prop), Wp d 99 5 [l0, l1, some (.ref v)] st M Q = Wp d 99 6 [l0, l1, some (.ref v)] (.ref v :: st) M Q := fun d l0 l1 v st M Q => wA (show ins 99 5 = some (.aload_n 2, 1) by decide +kernel) rfl
set_option maxRecDepth 100000 in
theorem r_99_5_1 : ∀ (d : Nat) (l0 l1 : Option Value) (st : List Value) (M : Mem) (Q : Outcome → Mem → Prop), Wp d 99 5 [l0, l1, some .null] st M Q = Wp d 99 6 [l0, l1, some .null] (.null :: st) M Q := fun d l0 l1 st M Q => wA (show ins 99 5 = some (.aload_n 2, 1) by decide +kernel) rfl
set_option maxRecDepth 100000 in
theorem r_99_6 : ∀ (d : Nat) (ls : Lc) (a : Nat) (st : List Value) (M : Mem) (Q : Outcome → Mem → Prop), Wp d 99 6 ls (.ref a :: st) M Q = ((kO M a = 5 ∨ kO M a = 6) ∧ Wp d 99 9 ls (.int (I (if kO M a = 6 then 1 else 0)) :: st) M Q) := fun d ls a st M Q => w_inst (show ins 99 6 = some (.instanceof 17, 3) by decide +kernel) (show cRes (mC 99) 17 = some 6 by decide +kernel)
set_option maxRecDepth 100000 in
theorem r_99_9 : ∀ (d : Nat) (ls : Lc) (a : Int32) (st : List Value) (M : Mem) (Q : Outcome → Mem → Prop), Wp d 99 9 ls (.int a :: st) M Q = Br (a = I 0) d 99 24 12 ls st M Q := fun d ls a st M Q => w_if (show ins 99 9 = some (.ifCond .eq 15, 3) by decide +kernel) rfl rfl
set_option maxRecDepth 100000 in
theorem r_99_12 : ∀ (d : Nat) (l0 l1 : Option Value) (v : Nat) (st : List Value) (M : Mem) (Q : Outcome → Mem → Prop), Wp d 99 12 [l0, l1, some (.ref v)] st M Q = Wp d 99 13 [l0, l1, some (.ref v)] (.ref v :: st) M Q := fun d l0 l1 v st M Q => wA (show ins 99 12 = some (.aload_n 2, 1) by decide +kernel) rfl
set_option maxRecDepth 100000 in
theorem r_99_12_1 : ∀ (d : Nat) (l0 l1 : Option Value) (st : List Value) (M : Mem) (Q : Outcome → Mem → Prop), Wp d 99 12 [l0, l1, some .null] st M Q = Wp d 99 13 [l0, l1, some .null] (.null :: st) M Q := fun d l0 l1 st M Q => wA (show ins 99 12 = some (.aload_n 2, 1) by decide +kernel) rfl
set_option maxRecDepth 100000 in
theorem r_99_13 : ∀ (d : Nat) (ls : Lc) (st : List Value) (M : Mem) (Q : Outcome → Mem → Prop), Wp d 99 13 ls (.null :: st) M Q = Wp d 99 16 ls (.null :: st) M Q := fun d ls st M Q => w_castN (show ins 99 13 = some (.checkcast 17, 3) by decide +kernel)
set_option maxRecDepth 100000 in
theorem r_99_13_1 : ∀ (d : Nat) (ls : Lc) (a : Nat) (st : List Value) (M : Mem) (Q : Outcome → Mem → Prop), Wp d 99 13 ls (.ref a :: st) M Q = (kO M a = 6 ∧ Wp d 99 16 ls (.ref a :: st) M Q) := fun d ls a st M Q => w_cast (show ins 99 13 = some (.checkcast 17, 3) by decide +kernel) (show cRes (mC 99) 17 = some 6 by decide +kernel) (by decide +kernel)
set_option maxRecDepth 100000 in
theorem r_99_16 : ∀ (d : Nat) (l0 l2 : Option Value) (v : Int32) (st : List Value) (M : Mem) (Q : Outcome → Mem → Prop), Wp d 99 16 [l0, some (.int v), l2] st M Q = Wp d 99 17 [l0, some (.int v), l2] (.int v :: st) M Q := fun d l0 l2 v st M Q => wA (show ins 99 16 = some (.iload_n 1, 1) by decide +kernel) rfl
set_option maxRecDepth 100000 in
theorem r_99_17 : ∀ (d : Nat) (ls : Lc) (v0 : Value) (a : Nat) (st : List Value) (M : Mem) (Q : Outcome → Mem → Prop), (smallR st = true) → Wp d 99 17 ls (v0 :: .ref a :: st) M Q = (kO M a = 6 ∧ Ca d 99 17 ls 137 (.ref a :: [v0]) st M Q) := fun d ls v0 a st M Q h0 => w_virt1 (as := [v0]) (show ins 99 17 = some (.invokevirtual 97, 3) by decide +kernel) (show mRes (mC 99) 97 = some (3, 6, [(6, 137)]) by decide +kernel) (by decide +kernel) rfl (by decide +kernel) (by decide +kernel) h0
set_option maxRecDepth 100000 in
theorem r_99_20 : ∀ (d : Nat) (l0 l1 l2 : Option Value) (v : Nat) (st : List Value) (M : Mem) (Q : Outcome → Mem → Prop), (lo l1 = false) → Wp d 99 20 [l0, l1, l2] (.ref v :: st) M Q = Wp d 99 21 [l0, l1, some (.ref v)] st M Q := fun d l0 l1 l2 v st M Q hl => w_astore_n (show ins 99 20 = some (.astore_n 2, 1) by decide +kernel) (st1_S rfl rfl hl)
set_option maxRecDepth 100000 in
theorem r_99_20_1 : ∀ (d : Nat) (l0 l1 l2 : Option Value) (st : List Value) (M : Mem) (Q : Outcome → Mem → Prop), (lo l1 = false) → Wp d 99 20 [l0, l1, l2] (.null :: st) M Q = Wp d 99 21 [l0, l1, some (.null)] st M Q := fun d l0 l1 l2 st M Q hl => w_astoreN_n (show ins 99 20 = some (.astore_n 2, 1) by decide +kernel) (st1_S rfl rfl hl)
set_option maxRecDepth 100000 in
theorem r_99_21 : ∀ (d : Nat) (ls : Lc) (st : List Value) (M : Mem) (Q : Outcome → Mem → Prop), Wp d 99 21 ls st M Q = Wp d 99 5 ls st M Q := fun d ls st M Q => w_goto (show ins 99 21 = some (.goto (-16), 3) by decide +kernel) rfl
set_option maxRecDepth 100000 in
theorem r_99_24 : ∀ (d : Nat) (l0 l1 : Option Value) (v : Nat) (st : List Value) (M : Mem) (Q : Outcome → Mem → Prop), Wp d 99 24 [l0, l1, some (.ref v)] st M Q = Wp d 99 25 [l0, l1, some (.ref v)] (.ref v :: st) M Q := fun d l0 l1 v st M Q => wA (show ins 99 24 = some (.aload_n 2, 1) by decide +kernel) rfl
set_option maxRecDepth 100000 in
theorem r_99_24_1 : ∀ (d : Nat) (l0 l1 : Option Value) (st : List Value) (M : Mem) (Q : Outcome → Mem → Prop), Wp d 99 24 [l0, l1, some .null] st M Q = Wp d 99 25 [l0, l1, some .null] (.null :: st) M Q := fun d l0 l1 st M Q => wA (show ins 99 24 = some (.aload_n 2, 1) by decide +kernel) rfl
set_option maxRecDepth 100000 in
theorem r_99_25 : ∀ (d : Nat) (ls : Lc) (st : List Value) (M : Mem) (Q : Outcome → Mem → Prop), Wp d 99 25 ls (.null :: st) M Q = Wp d 99 28 ls (.null :: st) M Q := fun d ls st M Q => w_castN (show ins 99 25 = some (.checkcast 9, 3) by decide +kernel)
set_option maxRecDepth 100000 in
theorem r_99_25_1 : ∀ (d : Nat) (ls : Lc) (a : Nat) (st : List Value) (M : Mem) (Q : Outcome → Mem → Prop), Wp d 99 25 ls (.ref a :: st) M Q = (kO M a = 5 ∧ Wp d 99 28 ls (.ref a :: st) M Q) := fun d ls a st M Q => w_cast (show ins 99 25 = some (.checkcast 9, 3) by decide +kernel) (show cRes (mC 99) 9 = some 5 by decide +kernel) (by decide +kernel)
set_option maxRecDepth 100000 in
theorem r_99_28 : ∀ (d : Nat) (ls : Lc) (a : Nat) (M : Mem) (Q : Outcome → Mem → Prop), Wp d 99 28 ls [.ref a] M Q = Q (.returned (some (.ref a))) M := fun d ls a M Q => w_areturn (show ins 99 28 = some (.areturn, 1) by decide +kernel) (by decide +kernel)
set_option maxRecDepth 100000 in
theorem r_99_28_1 : ∀ (d : Nat) (ls : Lc) (M : Mem) (Q : Outcome → Mem → Prop), Wp d 99 28 ls [.null] M Q = Q (.returned (some .null)) M := fun d ls M Q => w_areturnN (show ins 99 28 = some (.areturn, 1) by decide +kernel) (by decide +kernel)
set_option maxRecDepth 100000 in
theorem w_99_5 : (type_of% r_99_5) ∧ (type_of% r_99_5_1) := ⟨r_99_5, r_99_5_1⟩
set_option maxRecDepth 100000 in
theorem W_99 : (type_of% r_99_0) ∧ (type_of% r_99_1) ∧ (type_of% r_99_4) ∧ (type_of% r_99_4_1) ∧ (type_of% r_99_6) ∧ (type_of% r_99_9) ∧ (type_of% r_99_12) ∧ (type_of% r_99_12_1) ∧ (type_of% r_99_13) ∧ (type_of% r_99_13_1) ∧ (type_of% r_99_16) ∧ (type_of% r_99_17) ∧ (type_of% r_99_20) ∧ (type_of% r_99_20_1) ∧ (type_of% r_99_21) ∧ (type_of% r_99_24) ∧ (type_of% r_99_24_1) ∧ (type_of% r_99_25) ∧ (type_of% r_99_25_1) ∧ (type_of% r_99_28) ∧ (type_of% r_99_28_1) := ⟨r_99_0, r_99_1, r_99_4, r_99_4_1, r_99_6, r_99_9, r_99_12, r_99_12_1, r_99_13, r_99_13_1, r_99_16, r_99_17, r_99_20, r_99_20_1, r_99_21, r_99_24, r_99_24_1, r_99_25, r_99_25_1, r_99_28, r_99_28_1⟩
set_option maxRecDepth 100000 in
theorem ca_99 {d y pc : Nat} {ls : Lc} {a : Nat} {z0 : Int32} {r : List Value} {M : Mem} {Q : Outcome → Mem → Prop} (hd : 0 < d) (hw : Wp (d - 1) 99 0 [some (.ref a), some (.int z0), none] [] M (Cq d y pc ls r Q)) : Ca d y pc ls 99 [.ref a, .int z0] r M Q := ca_of (mq_get (by decide)) (by rfl) hd hw
/-! 100 PackedTree$Tree.share(LPackedTree$Leaf;)V; loop heads [8, 52, 121] -/
set_option maxRecDepth 100000 in
theorem r_100_0 : ∀ (d : Nat) (l0 l2 l3 l4 : Option Value) (v : Nat) (st : List Value) (M : Mem) (Q : Outcome → Mem → Prop), Wp d 100 0 [l0, some (.ref v), l2, l3, l4] st M Q = Wp d 100 1 [l0, some (.ref v), l2, l3, l4] (.ref v :: st) M Q := fun d l0 l2 l3 l4 v st M Q => wA (show ins 100 0 = some (.aload_n 1, 1) by decide +kernel) rfl
set_option maxRecDepth 100000 in
theorem r_100_0_1 : ∀ (d : Nat) (l0 l2 l3 l4 : Option Value) (st : List Value) (M : Mem) (Q : Outcome → Mem → Prop), Wp d 100 0 [l0, some .null, l2, l3, l4] st M Q = Wp d 100 1 [l0, some .null, l2, l3, l4] (.null :: st) M Q := fun d l0 l2 l3 l4 st M Q => wA (show ins 100 0 = some (.aload_n 1, 1) by decide +kernel) rfl
set_option maxRecDepth 100000 in
theorem r_100_1 : ∀ (d : Nat) (ls : Lc) (a : Nat) (st : List Value) (M : Mem) (Q : Outcome → Mem → Prop), Wp d 100 1 ls (.ref a :: st) M Q = (fk 30 (kO M a) = true ∧ Wp d 100 4 ls (va_rf (mR M 30 a) :: st) M Q) := fun d ls a st M Q => w_getR (show ins 100 1 = some (.getfield 145, 3) by decide +kernel) (show fRes (mC 100) 145 = some (30, 5, false) by decide +kernel) (by decide +kernel)
set_option maxRecDepth 100000 in
theorem r_100_4 : ∀ (d : Nat) (ls : Lc) (st : List Value) (M : Mem) (Q : Outcome → Mem → Prop), Wp d 100 4 ls (.null :: st) M Q = Wp d 100 7 ls (.null :: st) M Q := fun d ls st M Q => w_castN (show ins 100 4 = some (.checkcast 9, 3) by decide +kernel)
set_option maxRecDepth 100000 in
theorem r_100_4_1 : ∀ (d : Nat) (ls : Lc) (a : Nat) (st : List Value) (M : Mem) (Q : Outcome → Mem → Prop), Wp d 100 4 ls (.ref a :: st) M Q = (kO M a = 5 ∧ Wp d 100 7 ls (.ref a :: st) M Q) := fun d ls a st M Q => w_cast (show ins 100 4 = some (.checkcast 9, 3) by decide +kernel) (show cRes (mC 100) 9 = some 5 by decide +kernel) (by decide +kernel)
set_option maxRecDepth 100000 in
theorem r_100_7 : ∀ (d : Nat) (l0 l1 l2 l3 l4 : Option Value) (v : Nat) (st : List Value) (M : Mem) (Q : Outcome → Mem → Prop), (lo l1 = false) → Wp d 100 7 [l0, l1, l2, l3, l4] (.ref v :: st) M Q = Wp d 100 8 [l0, l1, some (.ref v), l3, l4] st M Q := fun d l0 l1 l2 l3 l4 v st M Q hl => w_astore_n (show ins 100 7 = some (.astore_n 2, 1) by decide +kernel) (st1_S rfl rfl hl)
set_option maxRecDepth 100000 in
theorem r_100_7_1 : ∀ (d : Nat) (l0 l1 l2 l3 l4 : Option Value) (st : List Value) (M : Mem) (Q : Outcome → Mem → Prop), (lo l1 = false) → Wp d 100 7 [l0, l1, l2, l3, l4] (.null :: st) M Q = Wp d 100 8 [l0, l1, some (.null), l3, l4] st M Q := fun d l0 l1 l2 l3 l4 st M Q hl => w_astoreN_n (show ins 100 7 = some (.astore_n 2, 1) by decide +kernel) (st1_S rfl rfl hl)
set_option maxRecDepth 100000 in
theorem r_100_8 : ∀ (d : Nat) (l0 l2 l3 l4 : Option Value) (v : Nat) (st : List Value) (M : Mem) (Q : Outcome → Mem → Prop), Wp d 100 8 [l0, some (.ref v), l2, l3, l4] st M Q = Wp d 100 9 [l0, some (.ref v), l2, l3, l4] (.ref v :: st) M Q := fun d l0 l2 l3 l4 v st M Q => wA (show ins 100 8 = some (.aload_n 1, 1) by decide +kernel) rfl
set_option maxRecDepth 100000 in
theorem r_100_8_1 : ∀ (d : Nat) (l0 l2 l3 l4 : Option Value) (st : List Value) (M : Mem) (Q : Outcome → Mem → Prop), Wp d 100 8 [l0, some .null, l2, l3, l4] st M Q = Wp d 100 9 [l0, some .null, l2, l3, l4] (.null :: st) M Q := fun d l0 l2 l3 l4 st M Q => wA (show ins 100 8 = some (.aload_n 1, 1) by decide +kernel) rfl
set_option maxRecDepth 100000 in
theorem r_100_9 : ∀ (d : Nat) (ls : Lc) (a : Nat) (st : List Value) (M : Mem) (Q : Outcome → Mem → Prop), (smallR st = true) → Wp d 100 9 ls (.ref a :: st) M Q = (kO M a = 5 ∧ Ca d 100 9 ls 128 (.ref a :: []) st M Q) := fun d ls a st M Q h0 => w_virt1 (as := []) (show ins 100 9 = some (.invokevirtual 146, 3) by decide +kernel) (show mRes (mC 100) 146 = some (3, 5, [(5, 128)]) by decide +kernel) (by decide +kernel) rfl (by decide +kernel) (by decide +kernel) h0
set_option maxRecDepth 100000 in
theorem r_100_12 : ∀ (d : Nat) (ls : Lc) (a : Int32) (st : List Value) (M : Mem) (Q : Outcome → Mem → Prop), Wp d 100 12 ls (.int a :: st) M Q = Br (a = I 0) d 100 44 15 ls st M Q := fun d ls a st M Q => w_if (show ins 100 12 = some (.ifCond .eq 32, 3) by decide +kernel) rfl rfl
set_option maxRecDepth 100000 in
theorem r_100_15 : ∀ (d : Nat) (l0 l1 l3 l4 : Option Value) (v : Nat) (st : List Value) (M : Mem) (Q : Outcome → Mem → Prop), Wp d 100 15 [l0, l1, some (.ref v), l3, l4] st M Q = Wp d 100 16 [l0, l1, some (.ref v), l3, l4] (.ref v :: st) M Q := fun d l0 l1 l3 l4 v st M Q => wA (show ins 100 15 = some (.aload_n 2, 1) by decide +kernel) rfl
set_option maxRecDepth 100000 in
theorem r_100_15_1 : ∀ (d : Nat) (l0 l1 l3 l4 : Option Value) (st : List Value) (M : Mem) (Q : Outcome → Mem → Prop), Wp d 100 15 [l0, l1, some .null, l3, l4] st M Q = Wp d 100 16 [l0, l1, some .null, l3, l4] (.null :: st) M Q := fun d l0 l1 l3 l4 st M Q => wA (show ins 100 15 = some (.aload_n 2, 1) by decide +kernel) rfl
set_option maxRecDepth 100000 in
theorem r_100_16 : ∀ (d : Nat) (ls : Lc) (st : List Value) (M : Mem) (Q : Outcome → Mem → Prop), Wp d 100 16 ls (.null :: st) M Q = Wp d 100 44 ls st M Q := fun d ls st M Q => w_ifnullN (show ins 100 16 = some (.ifnull 28, 3) by decide +kernel) rfl
set_option maxRecDepth 100000 in
theorem r_100_16_1 : ∀ (d : Nat) (ls : Lc) (v : Nat) (st : List Value) (M : Mem) (Q : Outcome → Mem → Prop), Wp d 100 16 ls (.ref v :: st) M Q = Wp d 100 19 ls st M Q := fun d ls v st M Q => w_ifnullR (show ins 100 16 = some (.ifnull 28, 3) by decide +kernel) (t := 44) rfl
set_option maxRecDepth 100000 in
theorem r_100_19 : ∀ (d : Nat) (l0 l1 l3 l4 : Option Value) (v : Nat) (st : List Value) (M : Mem) (Q : Outcome → Mem → Prop), Wp d 100 19 [l0, l1, some (.ref v), l3, l4] st M Q = Wp d 100 20 [l0, l1, some (.ref v), l3, l4] (.ref v :: st) M Q := fun d l0 l1 l3 l4 v st M Q => wA (show ins 100 19 = some (.aload_n 2, 1) by decide +kernel) rfl
set_option maxRecDepth 100000 in
theorem r_100_19_1 : ∀ (d : Nat) (l0 l1 l3 l4 : Option Value) (st : List Value) (M : Mem) (Q : Outcome → Mem → Prop), Wp d 100 19 [l0, l1, some .null, l3, l4] st M Q = Wp d 100 20 [l0, l1, some .null, l3, l4] (.null :: st) M Q := fun d l0 l1 l3 l4 st M Q => wA (show ins 100 19 = some (.aload_n 2, 1) by decide +kernel) rfl
set_option maxRecDepth 100000 in
theorem r_100_20 : ∀ (d : Nat) (l0 l2 l3 l4 : Option Value) (v : Nat) (st : List Value) (M : Mem) (Q : Outcome → Mem → Prop), Wp d 100 20 [l0, some (.ref v), l2, l3, l4] st M Q = Wp d 100 21 [l0, some (.ref v), l2, l3, l4] (.ref v :: st) M Q := fun d l0 l2 l3 l4 v st M Q => wA (show ins 100 20 = some (.aload_n 1, 1) by decide +kernel) rfl
set_option maxRecDepth 100000 in
theorem r_100_20_1 : ∀ (d : Nat) (l0 l2 l3 l4 : Option Value) (st : List Value) (M : Mem) (Q : Outcome → Mem → Prop), Wp d 100 20 [l0, some .null, l2, l3, l4] st M Q = Wp d 100 21 [l0, some .null, l2, l3, l4] (.null :: st) M Q := fun d l0 l2 l3 l4 st M Q => wA (show ins 100 20 = some (.aload_n 1, 1) by decide +kernel) rfl
set_option maxRecDepth 100000 in
theorem r_100_21 : ∀ (d : Nat) (ls : Lc) (st : List Value) (M : Mem) (Q : Outcome → Mem → Prop), Wp d 100 21 ls st M Q = Wp d 100 22 ls (.int (I 0) :: st) M Q := fun d ls st M Q => w_iconst (show ins 100 21 = some (.iconst 0, 1) by decide +kernel)
set_option maxRecDepth 100000 in
theorem r_100_22 : ∀ (d : Nat) (ls : Lc) (v0 : Value) (a : Nat) (st : List Value) (M : Mem) (Q : Outcome → Mem → Prop), (smallR st = true) → Wp d 100 22 ls (v0 :: .ref a :: st) M Q = (kO M a = 5 ∧ Ca d 100 22 ls 130 (.ref a :: [v0]) st M Q) := fun d ls v0 a st M Q h0 => w_virt1 (as := [v0]) (show ins 100 22 = some (.invokevirtual 150, 3) by decide +kernel) (show mRes (mC 100) 150 = some (3, 5, [(5, 130)]) by decide +kernel) (by decide +kernel) rfl (by decide +kernel) (by decide +kernel) h0
set_option maxRecDepth 100000 in
theorem r_100_25 : ∀ (d : Nat) (ls : Lc) (v0 : Value) (a : Nat) (st : List Value) (M : Mem) (Q : Outcome → Mem → Prop), (smallR st = true) → Wp d 100 25 ls (v0 :: .ref a :: st) M Q = (kO M a = 5 ∧ Ca d 100 25 ls 131 (.ref a :: [v0]) st M Q) := fun d ls v0 a st M Q h0 => w_virt1 (as := [v0]) (show ins 100 25 = some (.invokevirtual 153, 3) by decide +kernel) (show mRes (mC 100) 153 = some (3, 5, [(5, 131)]) by decide +kernel) (by decide +kernel) rfl (by decide +kernel) (by decide +kernel) h0
set_option maxRecDepth 100000 in
theorem r_100_28 : ∀ (d : Nat) (ls : Lc) (a : Int32) (st : List Value) (M : Mem) (Q : Outcome → Mem → Prop), Wp d 100 28 ls (.int a :: st) M Q = Br (a = I 0) d 100 44 31 ls st M Q := fun d ls a st M Q => w_if (show ins 100 28 = some (.ifCond .eq 16, 3) by decide +kernel) rfl rfl
set_option maxRecDepth 100000 in
theorem r_100_31 : ∀ (d : Nat) (l0 l2 l3 l4 : Option Value) (v : Nat) (st : List Value) (M : Mem) (Q : Outcome → Mem → Prop), Wp d 100 31 [l0, some (.ref v), l2, l3, l4] st M Q = Wp d 100 32 [l0, some (.ref v), l2, l3, l4] (.ref v :: st) M Q := fun d l0 l2 l3 l4 v st M Q => wA (show ins 100 31 = some (.aload_n 1, 1) by decide +kernel) rfl
set_option maxRecDepth 100000 in
theorem r_100_31_1 : ∀ (d : Nat) (l0 l2 l3 l4 : Option Value) (st : List Value) (M : Mem) (Q : Outcome → Mem → Prop), Wp d 100 31 [l0, some .null, l2, l3, l4] st M Q = Wp d 100 32 [l0, some .null, l2, l3, l4] (.null :: st) M Q := fun d l0 l2 l3 l4 st M Q => wA (show ins 100 31 = some (.aload_n 1, 1) by decide +kernel) rfl
set_option maxRecDepth 100000 in
theorem r_100_32 : ∀ (d : Nat) (ls : Lc) (st : List Value) (M : Mem) (Q : Outcome → Mem → Prop), Wp d 100 32 ls st M Q = Wp d 100 33 ls (.int (I 0) :: st) M Q := fun d ls st M Q => w_iconst (show ins 100 32 = some (.iconst 0, 1) by decide +kernel)
set_option maxRecDepth 100000 in
theorem r_100_33 : ∀ (d : Nat) (l0 l1 l3 l4 : Option Value) (v : Nat) (st : List Value) (M : Mem) (Q : Outcome → Mem → Prop), Wp d 100 33 [l0, l1, some (.ref v), l3, l4] st M Q = Wp d 100 34 [l0, l1, some (.ref v), l3, l4] (.ref v :: st) M Q := fun d l0 l1 l3 l4 v st M Q => wA (show ins 100 33 = some (.aload_n 2, 1) by decide +kernel) rfl
set_option maxRecDepth 100000 in
theorem r_100_33_1 : ∀ (d : Nat) (l0 l1 l3 l4 : Option Value) (st : List Value) (M : Mem) (Q : Outcome → Mem → Prop), Wp d 100 33 [l0, l1, some .null, l3, l4] st M Q = Wp d 100 34 [l0, l1, some .null, l3, l4] (.null :: st) M Q := fun d l0 l1 l3 l4 st M Q => wA (show ins 100 33 = some (.aload_n 2, 1) by decide +kernel) rfl
set_option maxRecDepth 100000 in
theorem r_100_34 : ∀ (d : Nat) (l0 l1 l3 l4 : Option Value) (v : Nat) (st : List Value) (M : Mem) (Q : Outcome → Mem → Prop), Wp d 100 34 [l0, l1, some (.ref v), l3, l4] st M Q = Wp d 100 35 [l0, l1, some (.ref v), l3, l4] (.ref v :: st) M Q := fun d l0 l1 l3 l4 v st M Q => wA (show ins 100 34 = some (.aload_n 2, 1) by decide +kernel) rfl
set_option maxRecDepth 100000 in
theorem r_100_34_1 : ∀ (d : Nat) (l0 l1 l3 l4 : Option Value) (st : List Value) (M : Mem) (Q : Outcome → Mem → Prop), Wp d 100 34 [l0, l1, some .null, l3, l4] st M Q = Wp d 100 35 [l0, l1, some .null, l3, l4] (.null :: st) M Q := fun d l0 l1 l3 l4 st M Q => wA (show ins 100 34 = some (.aload_n 2, 1) by decide +kernel) rfl
set_option maxRecDepth 100000 in
theorem r_100_35 : ∀ (d : Nat) (ls : Lc) (a : Nat) (st : List Value) (M : Mem) (Q : Outcome → Mem → Prop), Wp d 100 35 ls (.ref a :: st) M Q = (fk 37 (kO M a) = true ∧ Wp d 100 38 ls (.int (mF M 37 a) :: st) M Q) := fun d ls a st M Q => w_getI (show ins 100 35 = some (.getfield 156, 3) by decide +kernel) (show fRes (mC 100) 156 = some (37, 5, true) by decide +kernel) (by decide +kernel)
set_option maxRecDepth 100000 in
theorem r_100_38 : ∀ (d : Nat) (ls : Lc) (v0 v1 v2 : Value) (a : Nat) (st : List Value) (M : Mem) (Q : Outcome → Mem → Prop), (smallR st = true) → Wp d 100 38 ls (v2 :: v1 :: v0 :: .ref a :: st) M Q = (kO M a = 5 ∧ Ca d 100 38 ls 132 (.ref a :: [v0, v1, v2]) st M Q) := fun d ls v0 v1 v2 a st M Q h0 => w_virt1 (as := [v0, v1, v2]) (show ins 100 38 = some (.invokevirtual 157, 3) by decide +kernel) (show mRes (mC 100) 157 = some (3, 5, [(5, 132)]) by decide +kernel) (by decide +kernel) rfl (by decide +kernel) (by decide +kernel) h0
set_option maxRecDepth 100000 in
theorem r_100_41 : ∀ (d : Nat) (ls : Lc) (st : List Value) (M : Mem) (Q : Outcome → Mem → Prop), Wp d 100 41 ls st M Q = Wp d 100 8 ls st M Q := fun d ls st M Q => w_goto (show ins 100 41 = some (.goto (-33), 3) by decide +kernel) rfl
set_option maxRecDepth 100000 in
theorem r_100_44 : ∀ (d : Nat) (l0 l2 l3 l4 : Option Value) (v : Nat) (st : List Value) (M : Mem) (Q : Outcome → Mem → Prop), Wp d 100 44 [l0, some (.ref v), l2, l3, l4] st M Q = Wp d 100 45 [l0, some (.ref v), l2, l3, l4] (.ref v :: st) M Q := fun d l0 l2 l3 l4 v st M Q => wA (show ins 100 44 = some (.aload_n 1, 1) by decide +kernel) rfl
set_option maxRecDepth 100000 in
theorem r_100_44_1 : ∀ (d : Nat) (l0 l2 l3 l4 : Option Value) (st : List Value) (M : Mem) (Q : Outcome → Mem → Prop), Wp d 100 44 [l0, some .null, l2, l3, l4] st M Q = Wp d 100 45 [l0, some .null, l2, l3, l4] (.null :: st) M Q := fun d l0 l2 l3 l4 st M Q => wA (show ins 100 44 = some (.aload_n 1, 1) by decide +kernel) rfl
set_option maxRecDepth 100000 in
theorem r_100_45 : ∀ (d : Nat) (ls : Lc) (a : Nat) (st : List Value) (M : Mem) (Q : Outcome → Mem → Prop), Wp d 100 45 ls (.ref a :: st) M Q = (fk 31 (kO M a) = true ∧ Wp d 100 48 ls (va_rf (mR M 31 a) :: st) M Q) := fun d ls a st M Q => w_getR (show ins 100 45 = some (.getfield 161, 3) by decide +kernel) (show fRes (mC 100) 161 = some (31, 5, false) by decide +kernel) (by decide +kernel)
set_option maxRecDepth 100000 in
theorem r_100_48 : ∀ (d : Nat) (ls : Lc) (st : List Value) (M : Mem) (Q : Outcome → Mem → Prop), Wp d 100 48 ls (.null :: st) M Q = Wp d 100 51 ls (.null :: st) M Q := fun d ls st M Q => w_castN (show ins 100 48 = some (.checkcast 9, 3) by decide +kernel)
set_option maxRecDepth 100000 in
theorem r_100_48_1 : ∀ (d : Nat) (ls : Lc) (a : Nat) (st : List Value) (M : Mem) (Q : Outcome → Mem → Prop), Wp d 100 48 ls (.ref a :: st) M Q = (kO M a = 5 ∧ Wp d 100 51 ls (.ref a :: st) M Q) := fun d ls a st M Q => w_cast (show ins 100 48 = some (.checkcast 9, 3) by decide +kernel) (show cRes (mC 100) 9 = some 5 by decide +kernel) (by decide +kernel)
set_option maxRecDepth 100000 in
theorem r_100_51 : ∀ (d : Nat) (l0 l1 l2 l3 l4 : Option Value) (v : Nat) (st : List Value) (M : Mem) (Q : Outcome → Mem → Prop), (lo l2 = false) → Wp d 100 51 [l0, l1, l2, l3, l4] (.ref v :: st) M Q = Wp d 100 52 [l0, l1, l2, some (.ref v), l4] st M Q := fun d l0 l1 l2 l3 l4 v st M Q hl => w_astore_n (show ins 100 51 = some (.astore_n 3, 1) by decide +kernel) (st1_S rfl rfl hl)
set_option maxRecDepth 100000 in
theorem r_100_51_1 : ∀ (d : Nat) (l0 l1 l2 l3 l4 : Option Value) (st : List Value) (M : Mem) (Q : Outcome → Mem → Prop), (lo l2 = false) → Wp d 100 51 [l0, l1, l2, l3, l4] (.null :: st) M Q = Wp d 100 52 [l0, l1, l2, some (.null), l4] st M Q := fun d l0 l1 l2 l3 l4 st M Q hl => w_astoreN_n (show ins 100 51 = some (.astore_n 3, 1) by decide +kernel) (st1_S rfl rfl hl)
set_option maxRecDepth 100000 in
theorem r_100_52 : ∀ (d : Nat) (l0 l2 l3 l4 : Option Value) (v : Nat) (st : List Value) (M : Mem) (Q : Outcome → Mem → Prop), Wp d 100 52 [l0, some (.ref v), l2, l3, l4] st M Q = Wp d 100 53 [l0, some (.ref v), l2, l3, l4] (.ref v :: st) M Q := fun d l0 l2 l3 l4 v st M Q => wA (show ins 100 52 = some (.aload_n 1, 1) by decide +kernel) rfl
set_option maxRecDepth 100000 in
theorem r_100_52_1 : ∀ (d : Nat) (l0 l2 l3 l4 : Option Value) (st : List Value) (M : Mem) (Q : Outcome → Mem → Prop), Wp d 100 52 [l0, some .null, l2, l3, l4] st M Q = Wp d 100 53 [l0, some .null, l2, l3, l4] (.null :: st) M Q := fun d l0 l2 l3 l4 st M Q => wA (show ins 100 52 = some (.aload_n 1, 1) by decide +kernel) rfl
set_option maxRecDepth 100000 in
theorem r_100_53 : ∀ (d : Nat) (ls : Lc) (a : Nat) (st : List Value) (M : Mem) (Q : Outcome → Mem → Prop), (smallR st = true) → Wp d 100 53 ls (.ref a :: st) M Q = (kO M a = 5 ∧ Ca d 100 53 ls 128 (.ref a :: []) st M Q) := fun d ls a st M Q h0 => w_virt1 (as := []) (show ins 100 53 = some (.invokevirtual 146, 3) by decide +kernel) (show mRes (mC 100) 146 = some (3, 5, [(5, 128)]) by decide +kernel) (by decide +kernel) rfl (by decide +kernel) (by decide +kernel) h0
set_option maxRecDepth 100000 in
theorem r_100_56 : ∀ (d : Nat) (ls : Lc) (a : Int32) (st : List Value) (M : Mem) (Q : Outcome → Mem → Prop), Wp d 100 56 ls (.int a :: st) M Q = Br (a = I 0) d 100 95 59 ls st M Q := fun d ls a st M Q => w_if (show ins 100 56 = some (.ifCond .eq 39, 3) by decide +kernel) rfl rfl
set_option maxRecDepth 100000 in
theorem r_100_59 : ∀ (d : Nat) (l0 l1 l2 l4 : Option Value) (v : Nat) (st : List Value) (M : Mem) (Q : Outcome → Mem → Prop), Wp d 100 59 [l0, l1, l2, some (.ref v), l4] st M Q = Wp d 100 60 [l0, l1, l2, some (.ref v), l4] (.ref v :: st) M Q := fun d l0 l1 l2 l4 v st M Q => wA (show ins 100 59 = some (.aload_n 3, 1) by decide +kernel) rfl
set_option maxRecDepth 100000 in
theorem r_100_59_1 : ∀ (d : Nat) (l0 l1 l2 l4 : Option Value) (st : List Value) (M : Mem) (Q : Outcome → Mem → Prop), Wp d 100 59 [l0, l1, l2, some .null, l4] st M Q = Wp d 100 60 [l0, l1, l2, some .null, l4] (.null :: st) M Q := fun d l0 l1 l2 l4 st M Q => wA (show ins 100 59 = some (.aload_n 3, 1) by decide +kernel) rfl
set_option maxRecDepth 100000 in
theorem r_100_60 : ∀ (d : Nat) (ls : Lc) (st : List Value) (M : Mem) (Q : Outcome → Mem → Prop), Wp d 100 60 ls (.null :: st) M Q = Wp d 100 95 ls st M Q := fun d ls st M Q => w_ifnullN (show ins 100 60 = some (.ifnull 35, 3) by decide +kernel) rfl
set_option maxRecDepth 100000 in
theorem r_100_60_1 : ∀ (d : Nat) (ls : Lc) (v : Nat) (st : List Value) (M : Mem) (Q : Outcome → Mem → Prop), Wp d 100 60 ls (.ref v :: st) M Q = Wp d 100 63 ls st M Q := fun d ls v st M Q => w_ifnullR (show ins 100 60 = some (.ifnull 35, 3) by decide +kernel) (t := 95) rfl
set_option maxRecDepth 100000 in
theorem r_100_63 : ∀ (d : Nat) (l0 l1 l2 l4 : Option Value) (v : Nat) (st : List Value) (M : Mem) (Q : Outcome → Mem → Prop), Wp d 100 63 [l0, l1, l2, some (.ref v), l4] st M Q = Wp d 100 64 [l0, l1, l2, some (.ref v), l4] (.ref v :: st) M Q := fun d l0 l1 l2 l4 v st M Q => wA (show ins 100 63 = some (.aload_n 3, 1) by decide +kernel) rfl
set_option maxRecDepth 100000 in
theorem r_100_63_1 : ∀ (d : Nat) (l0 l1 l2 l4 : Option Value) (st : List Value) (M : Mem) (Q : Outcome → Mem → Prop), Wp d 100 63 [l0, l1, l2, some .null, l4] st M Q = Wp d 100 64 [l0, l1, l2, some .null, l4] (.null :: st) M Q := fun d l0 l1 l2 l4 st M Q => wA (show ins 100 63 = some (.aload_n 3, 1) by decide +kernel) rfl
set_option maxRecDepth 100000 in
theorem r_100_64 : ∀ (d : Nat) (l0 l2 l3 l4 : Option Value) (v : Nat) (st : List Value) (M : Mem) (Q : Outcome → Mem → Prop), Wp d 100 64 [l0, some (.ref v), l2, l3, l4] st M Q = Wp d 100 65 [l0, some (.ref v), l2, l3, l4] (.ref v :: st) M Q := fun d l0 l2 l3 l4 v st M Q => wA (show ins 100 64 = some (.aload_n 1, 1) by decide +kernel) rfl
set_option maxRecDepth 100000 in
theorem r_100_64_1 : ∀ (d : Nat) (l0 l2 l3 l4 : Option Value) (st : List Value) (M : Mem) (Q : Outcome → Mem → Prop), Wp d 100 64 [l0, some .null, l2, l3, l4] st M Q = Wp d 100 65 [l0, some .null, l2, l3, l4] (.null :: st) M Q := fun d l0 l2 l3 l4 st M Q => wA (show ins 100 64 = some (.aload_n 1, 1) by decide +kernel) rfl
set_option maxRecDepth 100000 in
theorem r_100_65 : ∀ (d : Nat) (l0 l2 l3 l4 : Option Value) (v : Nat) (st : List Value) (M : Mem) (Q : Outcome → Mem → Prop), Wp d 100 65 [l0, some (.ref v), l2, l3, l4] st M Q = Wp d 100 66 [l0, some (.ref v), l2, l3, l4] (.ref v :: st) M Q := fun d l0 l2 l3 l4 v st M Q => wA (show ins 100 65 = some (.aload_n 1, 1) by decide +kernel) rfl
set_option maxRecDepth 100000 in
theorem r_100_65_1 : ∀ (d : Nat) (l0 l2 l3 l4 : Option Value) (st : List Value) (M : Mem) (Q : Outcome → Mem → Prop), Wp d 100 65 [l0, some .null, l2, l3, l4] st M Q = Wp d 100 66 [l0, some .null, l2, l3, l4] (.null :: st) M Q := fun d l0 l2 l3 l4 st M Q => wA (show ins 100 65 = some (.aload_n 1, 1) by decide +kernel) rfl
set_option maxRecDepth 100000 in
theorem r_100_66 : ∀ (d : Nat) (ls : Lc) (a : Nat) (st : List Value) (M : Mem) (Q : Outcome → Mem → Prop), Wp d 100 66 ls (.ref a :: st) M Q = (fk 37 (kO M a) = true ∧ Wp d 100 69 ls (.int (mF M 37 a) :: st) M Q) := fun d ls a st M Q => w_getI (show ins 100 66 = some (.getfield 156, 3) by decide +kernel) (show fRes (mC 100) 156 = some (37, 5, true) by decide +kernel) (by decide +kernel)
set_option maxRecDepth 100000 in
theorem r_100_69 : ∀ (d : Nat) (ls : Lc) (st : List Value) (M : Mem) (Q : Outcome → Mem → Prop), Wp d 100 69 ls st M Q = Wp d 100 70 ls (.int (I 1) :: st) M Q := fun d ls st M Q => w_iconst (show ins 100 69 = some (.iconst 1, 1) by decide +kernel)
set_option maxRecDepth 100000 in
theorem r_100_70 : ∀ (d : Nat) (ls : Lc) (a b : Int) (st : List Value) (M : Mem) (Q : Outcome → Mem → Prop), Wp d 100 70 ls (.int (I b) :: .int (I a) :: st) M Q = Wp d 100 71 ls (.int (I (a - b)) :: st) M Q := fun d ls a b st M Q => w_isub (show ins 100 70 = some (.isub, 1) by decide +kernel)
set_option maxRecDepth 100000 in
theorem r_100_71 : ∀ (d : Nat) (ls : Lc) (v0 : Value) (a : Nat) (st : List Value) (M : Mem) (Q : Outcome → Mem → Prop), (smallR st = true) → Wp d 100 71 ls (v0 :: .ref a :: st) M Q = (kO M a = 5 ∧ Ca d 100 71 ls 130 (.ref a :: [v0]) st M Q) := fun d ls v0 a st M Q h0 => w_virt1 (as := [v0]) (show ins 100 71 = some (.invokevirtual 150, 3) by decide +kernel) (show mRes (mC 100) 150 = some (3, 5, [(5, 130)]) by decide +kernel) (by decide +kernel) rfl (by decide +kernel) (by decide +kernel) h0
set_option maxRecDepth 100000 in
theorem r_100_74 : ∀ (d : Nat) (ls : Lc) (v0 : Value) (a : Nat) (st : List Value) (M : Mem) (Q : Outcome → Mem → Prop), (smallR st = true) → Wp d 100 74 ls (v0 :: .ref a :: st) M Q = (kO M a = 5 ∧ Ca d 100 74 ls 131 (.ref a :: [v0]) st M Q) := fun d ls v0 a st M Q h0 => w_virt1 (as := [v0]) (show ins 100 74 = some (.invokevirtual 153, 3) by decide +kernel) (show mRes (mC 100) 153 = some (3, 5, [(5, 131)]) by decide +kernel) (by decide +kernel) rfl (by decide +kernel) (by decide +kernel) h0
set_option maxRecDepth 100000 in
theorem r_100_77 : ∀ (d : Nat) (ls : Lc) (a : Int32) (st : List Value) (M : Mem) (Q : Outcome → Mem → Prop), Wp d 100 77 ls (.int a :: st) M Q = Br (a = I 0) d 100 95 80 ls st M Q := fun d ls a st M Q => w_if (show ins 100 77 = some (.ifCond .eq 18, 3) by decide +kernel) rfl rfl
set_option maxRecDepth 100000 in
theorem r_100_80 : ∀ (d : Nat) (l0 l2 l3 l4 : Option Value) (v : Nat) (st : List Value) (M : Mem) (Q : Outcome → Mem → Prop), Wp d 100 80 [l0, some (.ref v), l2, l3, l4] st M Q = Wp d 100 81 [l0, some (.ref v), l2, l3, l4] (.ref v :: st) M Q := fun d l0 l2 l3 l4 v st M Q => wA (show ins 100 80 = some (.aload_n 1, 1) by decide +kernel) rfl
set_option maxRecDepth 100000 in
theorem r_100_80_1 : ∀ (d : Nat) (l0 l2 l3 l4 : Option Value) (st : List Value) (M : Mem) (Q : Outcome → Mem → Prop), Wp d 100 80 [l0, some .null, l2, l3, l4] st M Q = Wp d 100 81 [l0, some .null, l2, l3, l4] (.null :: st) M Q := fun d l0 l2 l3 l4 st M Q => wA (show ins 100 80 = some (.aload_n 1, 1) by decide +kernel) rfl
set_option maxRecDepth 100000 in
theorem r_100_81 : ∀ (d : Nat) (l0 l2 l3 l4 : Option Value) (v : Nat) (st : List Value) (M : Mem) (Q : Outcome → Mem → Prop), Wp d 100 81 [l0, some (.ref v), l2, l3, l4] st M Q = Wp d 100 82 [l0, some (.ref v), l2, l3, l4] (.ref v :: st) M Q := fun d l0 l2 l3 l4 v st M Q => wA (show ins 100 81 = some (.aload_n 1, 1) by decide +kernel) rfl
set_option maxRecDepth 100000 in
theorem r_100_81_1 : ∀ (d : Nat) (l0 l2 l3 l4 : Option Value) (st : List Value) (M : Mem) (Q : Outcome → Mem → Prop), Wp d 100 81 [l0, some .null, l2, l3, l4] st M Q = Wp d 100 82 [l0, some .null, l2, l3, l4] (.null :: st) M Q := fun d l0 l2 l3 l4 st M Q => wA (show ins 100 81 = some (.aload_n 1, 1) by decide +kernel) rfl
set_option maxRecDepth 100000 in
theorem r_100_82 : ∀ (d : Nat) (ls : Lc) (a : Nat) (st : List Value) (M : Mem) (Q : Outcome → Mem → Prop), Wp d 100 82 ls (.ref a :: st) M Q = (fk 37 (kO M a) = true ∧ Wp d 100 85 ls (.int (mF M 37 a) :: st) M Q) := fun d ls a st M Q => w_getI (show ins 100 82 = some (.getfield 156, 3) by decide +kernel) (show fRes (mC 100) 156 = some (37, 5, true) by decide +kernel) (by decide +kernel)
set_option maxRecDepth 100000 in
theorem r_100_85 : ∀ (d : Nat) (ls : Lc) (st : List Value) (M : Mem) (Q : Outcome → Mem → Prop), Wp d 100 85 ls st M Q = Wp d 100 86 ls (.int (I 1) :: st) M Q := fun d ls st M Q => w_iconst (show ins 100 85 = some (.iconst 1, 1) by decide +kernel)
set_option maxRecDepth 100000 in
theorem r_100_86 : ∀ (d : Nat) (ls : Lc) (a b : Int) (st : List Value) (M : Mem) (Q : Outcome → Mem → Prop), Wp d 100 86 ls (.int (I b) :: .int (I a) :: st) M Q = Wp d 100 87 ls (.int (I (a - b)) :: st) M Q := fun d ls a b st M Q => w_isub (show ins 100 86 = some (.isub, 1) by decide +kernel)
set_option maxRecDepth 100000 in
theorem r_100_87 : ∀ (d : Nat) (l0 l1 l2 l4 : Option Value) (v : Nat) (st : List Value) (M : Mem) (Q : Outcome → Mem → Prop), Wp d 100 87 [l0, l1, l2, some (.ref v), l4] st M Q = Wp d 100 88 [l0, l1, l2, some (.ref v), l4] (.ref v :: st) M Q := fun d l0 l1 l2 l4 v st M Q => wA (show ins 100 87 = some (.aload_n 3, 1) by decide +kernel) rfl
set_option maxRecDepth 100000 in
theorem r_100_87_1 : ∀ (d : Nat) (l0 l1 l2 l4 : Option Value) (st : List Value) (M : Mem) (Q : Outcome → Mem → Prop), Wp d 100 87 [l0, l1, l2, some .null, l4] st M Q = Wp d 100 88 [l0, l1, l2, some .null, l4] (.null :: st) M Q := fun d l0 l1 l2 l4 st M Q => wA (show ins 100 87 = some (.aload_n 3, 1) by decide +kernel) rfl
set_option maxRecDepth 100000 in
theorem r_100_88 : ∀ (d : Nat) (ls : Lc) (st : List Value) (M : Mem) (Q : Outcome → Mem → Prop), Wp d 100 88 ls st M Q = Wp d 100 89 ls (.int (I 0) :: st) M Q := fun d ls st M Q => w_iconst (show ins 100 88 = some (.iconst 0, 1) by decide +kernel)
set_option maxRecDepth 100000 in
theorem r_100_89 : ∀ (d : Nat) (ls : Lc) (v0 v1 v2 : Value) (a : Nat) (st : List Value) (M : Mem) (Q : Outcome → Mem → Prop), (smallR st = true) → Wp d 100 89 ls (v2 :: v1 :: v0 :: .ref a :: st) M Q = (kO M a = 5 ∧ Ca d 100 89 ls 132 (.ref a :: [v0, v1, v2]) st M Q) := fun d ls v0 v1 v2 a st M Q h0 => w_virt1 (as := [v0, v1, v2]) (show ins 100 89 = some (.invokevirtual 157, 3) by decide +kernel) (show mRes (mC 100) 157 = some (3, 5, [(5, 132)]) by decide +kernel) (by decide +kernel) rfl (by decide +kernel) (by decide +kernel) h0
set_option maxRecDepth 100000 in
theorem r_100_92 : ∀ (d : Nat) (ls : Lc) (st : List Value) (M : Mem) (Q : Outcome → Mem → Prop), Wp d 100 92 ls st M Q = Wp d 100 52 ls st M Q := fun d ls st M Q => w_goto (show ins 100 92 = some (.goto (-40), 3) by decide +kernel) rfl
set_option maxRecDepth 100000 in
theorem r_100_95 : ∀ (d : Nat) (l0 l2 l3 l4 : Option Value) (v : Nat) (st : List Value) (M : Mem) (Q : Outcome → Mem → Prop), Wp d 100 95 [l0, some (.ref v), l2, l3, l4] st M Q = Wp d 100 96 [l0, some (.ref v), l2, l3, l4] (.ref v :: st) M Q := fun d l0 l2 l3 l4 v st M Q => wA (show ins 100 95 = some (.aload_n 1, 1) by decide +kernel) rfl
set_option maxRecDepth 100000 in
theorem r_100_95_1 : ∀ (d : Nat) (l0 l2 l3 l4 : Option Value) (st : List Value) (M : Mem) (Q : Outcome → Mem → Prop), Wp d 100 95 [l0, some .null, l2, l3, l4] st M Q = Wp d 100 96 [l0, some .null, l2, l3, l4] (.null :: st) M Q := fun d l0 l2 l3 l4 st M Q => wA (show ins 100 95 = some (.aload_n 1, 1) by decide +kernel) rfl
set_option maxRecDepth 100000 in
theorem r_100_96 : ∀ (d : Nat) (ls : Lc) (a : Nat) (st : List Value) (M : Mem) (Q : Outcome → Mem → Prop), (smallR st = true) → Wp d 100 96 ls (.ref a :: st) M Q = (kO M a = 5 ∧ Ca d 100 96 ls 128 (.ref a :: []) st M Q) := fun d ls a st M Q h0 => w_virt1 (as := []) (show ins 100 96 = some (.invokevirtual 146, 3) by decide +kernel) (show mRes (mC 100) 146 = some (3, 5, [(5, 128)]) by decide +kernel) (by decide +kernel) rfl (by decide +kernel) (by decide +kernel) h0
set_option maxRecDepth 100000 in
theorem r_100_99 : ∀ (d : Nat) (ls : Lc) (a : Int32) (st : List Value) (M : Mem) (Q : Outcome → Mem → Prop), Wp d 100 99 ls (.int a :: st) M Q = Br (a = I 0) d 100 151 102 ls st M Q := fun d ls a st M Q => w_if (show ins 100 99 = some (.ifCond .eq 52, 3) by decide +kernel) rfl rfl
set_option maxRecDepth 100000 in
theorem r_100_102 : ∀ (d : Nat) (l1 l2 l3 l4 : Option Value) (v : Nat) (st : List Value) (M : Mem) (Q : Outcome → Mem → Prop), Wp d 100 102 [some (.ref v), l1, l2, l3, l4] st M Q = Wp d 100 103 [some (.ref v), l1, l2, l3, l4] (.ref v :: st) M Q := fun d l1 l2 l3 l4 v st M Q => wA (show ins 100 102 = some (.aload_n 0, 1) by decide +kernel) rfl
set_option maxRecDepth 100000 in
theorem r_100_103 : ∀ (d : Nat) (l1 l2 l3 l4 : Option Value) (v : Nat) (st : List Value) (M : Mem) (Q : Outcome → Mem → Prop), Wp d 100 103 [some (.ref v), l1, l2, l3, l4] st M Q = Wp d 100 104 [some (.ref v), l1, l2, l3, l4] (.ref v :: st) M Q := fun d l1 l2 l3 l4 v st M Q => wA (show ins 100 103 = some (.aload_n 0, 1) by decide +kernel) rfl
set_option maxRecDepth 100000 in
theorem r_100_104 : ∀ (d : Nat) (ls : Lc) (a : Nat) (st : List Value) (M : Mem) (Q : Outcome → Mem → Prop), Wp d 100 104 ls (.ref a :: st) M Q = (fk 17 (kO M a) = true ∧ Wp d 100 107 ls (va_rf (mR M 17 a) :: st) M Q) := fun d ls a st M Q => w_getR (show ins 100 104 = some (.getfield 29, 3) by decide +kernel) (show fRes (mC 100) 29 = some (17, 3, false) by decide +kernel) (by decide +kernel)
set_option maxRecDepth 100000 in
theorem r_100_107 : ∀ (d : Nat) (ls : Lc) (a : Nat) (st : List Value) (M : Mem) (Q : Outcome → Mem → Prop), (smallR st = true) → Wp d 100 107 ls (.ref a :: st) M Q = (kO M a = 2 ∧ Ca d 100 107 ls 88 (.ref a :: []) st M Q) := fun d ls a st M Q h0 => w_virt1 (as := []) (show ins 100 107 = some (.invokevirtual 42, 3) by decide +kernel) (show mRes (mC 100) 42 = some (3, 2, [(2, 88)]) by decide +kernel) (by decide +kernel) rfl (by decide +kernel) (by decide +kernel) h0
set_option maxRecDepth 100000 in
theorem r_100_110 : ∀ (d : Nat) (ls : Lc) (v0 : Value) (a : Nat) (st : List Value) (M : Mem) (Q : Outcome → Mem → Prop), (smallR st = true) → Wp d 100 110 ls (v0 :: .ref a :: st) M Q = (kO M a = 3 ∧ Ca d 100 110 ls 96 (.ref a :: [v0]) st M Q) := fun d ls v0 a st M Q h0 => w_virt1 (as := [v0]) (show ins 100 110 = some (.invokevirtual 48, 3) by decide +kernel) (show mRes (mC 100) 48 = some (3, 3, [(3, 96)]) by decide +kernel) (by decide +kernel) rfl (by decide +kernel) (by decide +kernel) h0
set_option maxRecDepth 100000 in
theorem r_100_113 : ∀ (d : Nat) (l0 l1 l2 l3 l4 : Option Value) (v : Nat) (st : List Value) (M : Mem) (Q : Outcome → Mem → Prop), (lo l3 = false) → Wp d 100 113 [l0, l1, l2, l3, l4] (.ref v :: st) M Q = Wp d 100 115 [l0, l1, l2, l3, some (.ref v)] st M Q := fun d l0 l1 l2 l3 l4 v st M Q hl => w_astore (show ins 100 113 = some (.astore 4, 2) by decide +kernel) (st1_S rfl rfl hl)
set_option maxRecDepth 100000 in
theorem r_100_113_1 : ∀ (d : Nat) (l0 l1 l2 l3 l4 : Option Value) (st : List Value) (M : Mem) (Q : Outcome → Mem → Prop), (lo l3 = false) → Wp d 100 113 [l0, l1, l2, l3, l4] (.null :: st) M Q = Wp d 100 115 [l0, l1, l2, l3, some (.null)] st M Q := fun d l0 l1 l2 l3 l4 st M Q hl => w_astoreN (show ins 100 113 = some (.astore 4, 2) by decide +kernel) (st1_S rfl rfl hl)
set_option maxRecDepth 100000 in
theorem r_100_115 : ∀ (d : Nat) (l0 l1 l2 l3 : Option Value) (v : Nat) (st : List Value) (M : Mem) (Q : Outcome → Mem → Prop), Wp d 100 115 [l0, l1, l2, l3, some (.ref v)] st M Q = Wp d 100 117 [l0, l1, l2, l3, some (.ref v)] (.ref v :: st) M Q := fun d l0 l1 l2 l3 v st M Q => wA (show ins 100 115 = some (.aload 4, 2) by decide +kernel) rfl
set_option maxRecDepth 100000 in
theorem r_100_115_1 : ∀ (d : Nat) (l0 l1 l2 l3 : Option Value) (st : List Value) (M : Mem) (Q : Outcome → Mem → Prop), Wp d 100 115 [l0, l1, l2, l3, some .null] st M Q = Wp d 100 117 [l0, l1, l2, l3, some .null] (.null :: st) M Q := fun d l0 l1 l2 l3 st M Q => wA (show ins 100 115 = some (.aload 4, 2) by decide +kernel) rfl
set_option maxRecDepth 100000 in
theorem r_100_117 : ∀ (d : Nat) (l0 l2 l3 l4 : Option Value) (v : Nat) (st : List Value) (M : Mem) (Q : Outcome → Mem → Prop), Wp d 100 117 [l0, some (.ref v), l2, l3, l4] st M Q = Wp d 100 118 [l0, some (.ref v), l2, l3, l4] (.ref v :: st) M Q := fun d l0 l2 l3 l4 v st M Q => wA (show ins 100 117 = some (.aload_n 1, 1) by decide +kernel) rfl
set_option maxRecDepth 100000 in
theorem r_100_117_1 : ∀ (d : Nat) (l0 l2 l3 l4 : Option Value) (st : List Value) (M : Mem) (Q : Outcome → Mem → Prop), Wp d 100 117 [l0, some .null, l2, l3, l4] st M Q = Wp d 100 118 [l0, some .null, l2, l3, l4] (.null :: st) M Q := fun d l0 l2 l3 l4 st M Q => wA (show ins 100 117 = some (.aload_n 1, 1) by decide +kernel) rfl
set_option maxRecDepth 100000 in
theorem r_100_118 : ∀ (d : Nat) (ls : Lc) (v0 : Value) (a : Nat) (st : List Value) (M : Mem) (Q : Outcome → Mem → Prop), (smallR st = true) → Wp d 100 118 ls (v0 :: .ref a :: st) M Q = (kO M a = 5 ∧ Ca d 100 118 ls 151 (.ref a :: [v0]) st M Q) := fun d ls v0 a st M Q h0 => w_virt1 (as := [v0]) (show ins 100 118 = some (.invokevirtual 162, 3) by decide +kernel) (show mRes (mC 100) 162 = some (4, 5, [(5, 151)]) by decide +kernel) (by decide +kernel) rfl (by decide +kernel) (by decide +kernel) h0
set_option maxRecDepth 100000 in
theorem r_100_121 : ∀ (d : Nat) (l0 l2 l3 l4 : Option Value) (v : Nat) (st : List Value) (M : Mem) (Q : Outcome → Mem → Prop), Wp d 100 121 [l0, some (.ref v), l2, l3, l4] st M Q = Wp d 100 122 [l0, some (.ref v), l2, l3, l4] (.ref v :: st) M Q := fun d l0 l2 l3 l4 v st M Q => wA (show ins 100 121 = some (.aload_n 1, 1) by decide +kernel) rfl
set_option maxRecDepth 100000 in
theorem r_100_121_1 : ∀ (d : Nat) (l0 l2 l3 l4 : Option Value) (st : List Value) (M : Mem) (Q : Outcome → Mem → Prop), Wp d 100 121 [l0, some .null, l2, l3, l4] st M Q = Wp d 100 122 [l0, some .null, l2, l3, l4] (.null :: st) M Q := fun d l0 l2 l3 l4 st M Q => wA (show ins 100 121 = some (.aload_n 1, 1) by decide +kernel) rfl
set_option maxRecDepth 100000 in
theorem r_100_122 : ∀ (d : Nat) (ls : Lc) (a : Nat) (st : List Value) (M : Mem) (Q : Outcome → Mem → Prop), (smallR st = true) → Wp d 100 122 ls (.ref a :: st) M Q = (kO M a = 5 ∧ Ca d 100 122 ls 128 (.ref a :: []) st M Q) := fun d ls a st M Q h0 => w_virt1 (as := []) (show ins 100 122 = some (.invokevirtual 146, 3) by decide +kernel) (show mRes (mC 100) 146 = some (3, 5, [(5, 128)]) by decide +kernel) (by decide +kernel) rfl (by decide +kernel) (by decide +kernel) h0
set_option maxRecDepth 100000 in
theorem r_100_125 : ∀ (d : Nat) (ls : Lc) (a : Int32) (st : List Value) (M : Mem) (Q : Outcome → Mem → Prop), Wp d 100 125 ls (.int a :: st) M Q = Br (a = I 0) d 100 144 128 ls st M Q := fun d ls a st M Q => w_if (show ins 100 125 = some (.ifCond .eq 19, 3) by decide +kernel) rfl rfl
set_option maxRecDepth 100000 in
theorem r_100_128 : ∀ (d : Nat) (l0 l2 l3 l4 : Option Value) (v : Nat) (st : List Value) (M : Mem) (Q : Outcome → Mem → Prop), Wp d 100 128 [l0, some (.ref v), l2, l3, l4] st M Q = Wp d 100 129 [l0, some (.ref v), l2, l3, l4] (.ref v :: st) M Q := fun d l0 l2 l3 l4 v st M Q => wA (show ins 100 128 = some (.aload_n 1, 1) by decide +kernel) rfl
set_option maxRecDepth 100000 in
theorem r_100_128_1 : ∀ (d : Nat) (l0 l2 l3 l4 : Option Value) (st : List Value) (M : Mem) (Q : Outcome → Mem → Prop), Wp d 100 128 [l0, some .null, l2, l3, l4] st M Q = Wp d 100 129 [l0, some .null, l2, l3, l4] (.null :: st) M Q := fun d l0 l2 l3 l4 st M Q => wA (show ins 100 128 = some (.aload_n 1, 1) by decide +kernel) rfl
set_option maxRecDepth 100000 in
theorem r_100_129 : ∀ (d : Nat) (l0 l2 l3 l4 : Option Value) (v : Nat) (st : List Value) (M : Mem) (Q : Outcome → Mem → Prop), Wp d 100 129 [l0, some (.ref v), l2, l3, l4] st M Q = Wp d 100 130 [l0, some (.ref v), l2, l3, l4] (.ref v :: st) M Q := fun d l0 l2 l3 l4 v st M Q => wA (show ins 100 129 = some (.aload_n 1, 1) by decide +kernel) rfl
set_option maxRecDepth 100000 in
theorem r_100_129_1 : ∀ (d : Nat) (l0 l2 l3 l4 : Option Value) (st : List Value) (M : Mem) (Q : Outcome → Mem → Prop), Wp d 100 129 [l0, some .null, l2, l3, l4] st M Q = Wp d 100 130 [l0, some .null, l2, l3, l4] (.null :: st) M Q := fun d l0 l2 l3 l4 st M Q => wA (show ins 100 129 = some (.aload_n 1, 1) by decide +kernel) rfl
set_option maxRecDepth 100000 in
theorem r_100_130 : ∀ (d : Nat) (ls : Lc) (a : Nat) (st : List Value) (M : Mem) (Q : Outcome → Mem → Prop), Wp d 100 130 ls (.ref a :: st) M Q = (fk 37 (kO M a) = true ∧ Wp d 100 133 ls (.int (mF M 37 a) :: st) M Q) := fun d ls a st M Q => w_getI (show ins 100 130 = some (.getfield 156, 3) by decide +kernel) (show fRes (mC 100) 156 = some (37, 5, true) by decide +kernel) (by decide +kernel)
set_option maxRecDepth 100000 in
theorem r_100_133 : ∀ (d : Nat) (ls : Lc) (st : List Value) (M : Mem) (Q : Outcome → Mem → Prop), Wp d 100 133 ls st M Q = Wp d 100 134 ls (.int (I 1) :: st) M Q := fun d ls st M Q => w_iconst (show ins 100 133 = some (.iconst 1, 1) by decide +kernel)
set_option maxRecDepth 100000 in
theorem r_100_134 : ∀ (d : Nat) (ls : Lc) (a b : Int) (st : List Value) (M : Mem) (Q : Outcome → Mem → Prop), Wp d 100 134 ls (.int (I b) :: .int (I a) :: st) M Q = Wp d 100 135 ls (.int (I (a - b)) :: st) M Q := fun d ls a b st M Q => w_isub (show ins 100 134 = some (.isub, 1) by decide +kernel)
set_option maxRecDepth 100000 in
theorem r_100_135 : ∀ (d : Nat) (l0 l1 l2 l3 : Option Value) (v : Nat) (st : List Value) (M : Mem) (Q : Outcome → Mem → Prop), Wp d 100 135 [l0, l1, l2, l3, some (.ref v)] st M Q = Wp d 100 137 [l0, l1, l2, l3, some (.ref v)] (.ref v :: st) M Q := fun d l0 l1 l2 l3 v st M Q => wA (show ins 100 135 = some (.aload 4, 2) by decide +kernel) rfl
set_option maxRecDepth 100000 in
theorem r_100_135_1 : ∀ (d : Nat) (l0 l1 l2 l3 : Option Value) (st : List Value) (M : Mem) (Q : Outcome → Mem → Prop), Wp d 100 135 [l0, l1, l2, l3, some .null] st M Q = Wp d 100 137 [l0, l1, l2, l3, some .null] (.null :: st) M Q := fun d l0 l1 l2 l3 st M Q => wA (show ins 100 135 = some (.aload 4, 2) by decide +kernel) rfl
set_option maxRecDepth 100000 in
theorem r_100_137 : ∀ (d : Nat) (ls : Lc) (st : List Value) (M : Mem) (Q : Outcome → Mem → Prop), Wp d 100 137 ls st M Q = Wp d 100 138 ls (.int (I 0) :: st) M Q := fun d ls st M Q => w_iconst (show ins 100 137 = some (.iconst 0, 1) by decide +kernel)
set_option maxRecDepth 100000 in
theorem r_100_138 : ∀ (d : Nat) (ls : Lc) (v0 v1 v2 : Value) (a : Nat) (st : List Value) (M : Mem) (Q : Outcome → Mem → Prop), (smallR st = true) → Wp d 100 138 ls (v2 :: v1 :: v0 :: .ref a :: st) M Q = (kO M a = 5 ∧ Ca d 100 138 ls 132 (.ref a :: [v0, v1, v2]) st M Q) := fun d ls v0 v1 v2 a st M Q h0 => w_virt1 (as := [v0, v1, v2]) (show ins 100 138 = some (.invokevirtual 157, 3) by decide +kernel) (show mRes (mC 100) 157 = some (3, 5, [(5, 132)]) by decide +kernel) (by decide +kernel) rfl (by decide +kernel) (by decide +kernel) h0
set_option maxRecDepth 100000 in
theorem r_100_141 : ∀ (d : Nat) (ls : Lc) (st : List Value) (M : Mem) (Q : Outcome → Mem → Prop), Wp d 100 141 ls st M Q = Wp d 100 121 ls st M Q := fun d ls st M Q => w_goto (show ins 100 141 = some (.goto (-20), 3) by decide +kernel) rfl
set_option maxRecDepth 100000 in
theorem r_100_144 : ∀ (d : Nat) (l1 l2 l3 l4 : Option Value) (v : Nat) (st : List Value) (M : Mem) (Q : Outcome → Mem → Prop), Wp d 100 144 [some (.ref v), l1, l2, l3, l4] st M Q = Wp d 100 145 [some (.ref v), l1, l2, l3, l4] (.ref v :: st) M Q := fun d l1 l2 l3 l4 v st M Q => wA (show ins 100 144 = some (.aload_n 0, 1) by decide +kernel) rfl
set_option maxRecDepth 100000 in
theorem r_100_145 : ∀ (d : Nat) (l0 l2 l3 l4 : Option Value) (v : Nat) (st : List Value) (M : Mem) (Q : Outcome → Mem → Prop), Wp d 100 145 [l0, some (.ref v), l2, l3, l4] st M Q = Wp d 100 146 [l0, some (.ref v), l2, l3, l4] (.ref v :: st) M Q := fun d l0 l2 l3 l4 v st M Q => wA (show ins 100 145 = some (.aload_n 1, 1) by decide +kernel) rfl
set_option maxRecDepth 100000 in
theorem r_100_145_1 : ∀ (d : Nat) (l0 l2 l3 l4 : Option Value) (st : List Value) (M : Mem) (Q : Outcome → Mem → Prop), Wp d 100 145 [l0, some .null, l2, l3, l4] st M Q = Wp d 100 146 [l0, some .null, l2, l3, l4] (.null :: st) M Q := fun d l0 l2 l3 l4 st M Q => wA (show ins 100 145 = some (.aload_n 1, 1) by decide +kernel) rfl
set_option maxRecDepth 100000 in
theorem r_100_146 : ∀ (d : Nat) (l0 l1 l2 l3 : Option Value) (v : Nat) (st : List Value) (M : Mem) (Q : Outcome → Mem → Prop), Wp d 100 146 [l0, l1, l2, l3, some (.ref v)] st M Q = Wp d 100 148 [l0, l1, l2, l3, some (.ref v)] (.ref v :: st) M Q := fun d l0 l1 l2 l3 v st M Q => wA (show ins 100 146 = some (.aload 4, 2) by decide +kernel) rfl
set_option maxRecDepth 100000 in
theorem r_100_146_1 : ∀ (d : Nat) (l0 l1 l2 l3 : Option Value) (st : List Value) (M : Mem) (Q : Outcome → Mem → Prop), Wp d 100 146 [l0, l1, l2, l3, some .null] st M Q = Wp d 100 148 [l0, l1, l2, l3, some .null] (.null :: st) M Q := fun d l0 l1 l2 l3 st M Q => wA (show ins 100 146 = some (.aload 4, 2) by decide +kernel) rfl
set_option maxRecDepth 100000 in
theorem r_100_148 : ∀ (d : Nat) (ls : Lc) (v0 v1 : Value) (a : Nat) (st : List Value) (M : Mem) (Q : Outcome → Mem → Prop), (smallR st = true) → Wp d 100 148 ls (v1 :: v0 :: .ref a :: st) M Q = (kO M a = 3 ∧ Ca d 100 148 ls 101 (.ref a :: [v0, v1]) st M Q) := fun d ls v0 v1 a st M Q h0 => w_virt1 (as := [v0, v1]) (show ins 100 148 = some (.invokevirtual 166, 3) by decide +kernel) (show mRes (mC 100) 166 = some (3, 3, [(3, 101)]) by decide +kernel) (by decide +kernel) rfl (by decide +kernel) (by decide +kernel) h0
set_option maxRecDepth 100000 in
theorem r_100_151 : ∀ (d : Nat) (ls : Lc) (M : Mem) (Q : Outcome → Mem → Prop), Wp d 100 151 ls [] M Q = Q (.returned none) M := fun d ls M Q => w_return (show ins 100 151 = some (.return_, 1) by decide +kernel) (by decide +kernel)
set_option maxRecDepth 100000 in
theorem w_100_8 : (type_of% r_100_8) ∧ (type_of% r_100_8_1) := ⟨r_100_8, r_100_8_1⟩
set_option maxRecDepth 100000 in
theorem w_100_52 : (type_of% r_100_52) ∧ (type_of% r_100_52_1) := ⟨r_100_52, r_100_52_1⟩
set_option maxRecDepth 100000 in
theorem w_100_121 : (type_of% r_100_121) ∧ (type_of% r_100_121_1) := ⟨r_100_121, r_100_121_1⟩
set_option maxRecDepth 100000 in
theorem W_100 : (type_of% r_100_0) ∧ (type_of% r_100_0_1) ∧ (type_of% r_100_1) ∧ (type_of% r_100_4) ∧ (type_of% r_100_4_1) ∧ (type_of% r_100_7) ∧ (type_of% r_100_7_1) ∧ (type_of% r_100_9) ∧ (type_of% r_100_12) ∧ (type_of% r_100_15) ∧ (type_of% r_100_15_1) ∧ (type_of% r_100_16) ∧ (type_of% r_100_16_1) ∧ (type_of% r_100_19) ∧ (type_of% r_100_19_1) ∧ (type_of% r_100_20) ∧ (type_of% r_100_20_1) ∧ (type_of% r_100_21) ∧ (type_of% r_100_22) ∧ (type_of% r_100_25) ∧ (type_of% r_100_28) ∧ (type_of% r_100_31) ∧ (type_of% r_100_31_1) ∧ (type_of% r_100_32) ∧ (type_of% r_100_33) ∧ (type_of% r_100_33_1) ∧ (type_of% r_100_34) ∧ (type_of% r_100_34_1) ∧ (type_of% r_100_35) ∧ (type_of% r_100_38) ∧ (type_of% r_100_41) ∧ (type_of% r_100_44) ∧ (type_of% r_100_44_1) ∧ (type_of% r_100_45) ∧ (type_of% r_100_48) ∧ (type_of% r_100_48_1) ∧ (type_of% r_100_51) ∧ (type_of% r_100_51_1) ∧ (type_of% r_100_53) ∧ (type_of% r_100_56) ∧ (type_of% r_100_59) ∧ (type_of% r_100_59_1) ∧ (type_of% r_100_60) ∧ (type_of% r_100_60_1) ∧ (type_of% r_100_63) ∧ (type_of% r_100_63_1) ∧ (type_of% r_100_64) ∧ (type_of% r_100_64_1) ∧ (type_of% r_100_65) ∧ (type_of% r_100_65_1) ∧ (type_of% r_100_66) ∧ (type_of% r_100_69) ∧ (type_of% r_100_70) ∧ (type_of% r_100_71) ∧ (type_of% r_100_74) ∧ (type_of% r_100_77) ∧ (type_of% r_100_80) ∧ (type_of% r_100_80_1) ∧ (type_of% r_100_81) ∧ (type_of% r_100_81_1) ∧ (type_of% r_100_82) ∧ (type_of% r_100_85) ∧ (type_of% r_100_86) ∧ (type_of% r_100_87) ∧ (type_of% r_100_87_1) ∧ (type_of% r_100_88) ∧ (type_of% r_100_89) ∧ (type_of% r_100_92) ∧ (type_of% r_100_95) ∧ (type_of% r_100_95_1) ∧ (type_of% r_100_96) ∧ (type_of% r_100_99) ∧ (type_of% r_100_102) ∧ (type_of% r_100_103) ∧ (type_of% r_100_104) ∧ (type_of% r_100_107) ∧ (type_of% r_100_110) ∧ (type_of% r_100_113) ∧ (type_of% r_100_113_1) ∧ (type_of% r_100_115) ∧ (type_of% r_100_115_1) ∧ (type_of% r_100_117) ∧ (type_of% r_100_117_1) ∧ (type_of% r_100_118) ∧ (type_of% r_100_122) ∧ (type_of% r_100_125) ∧ (type_of% r_100_128) ∧ (type_of% r_100_128_1) ∧ (type_of% r_100_129) ∧ (type_of% r_100_129_1) ∧ (type_of% r_100_130) ∧ (type_of% r_100_133) ∧ (type_of% r_100_134) ∧ (type_of% r_100_135) ∧ (type_of% r_100_135_1) ∧ (type_of% r_100_137) ∧ (type_of% r_100_138) ∧ (type_of% r_100_141) ∧ (type_of% r_100_144) ∧ (type_of% r_100_145) ∧ (type_of% r_100_145_1) ∧ (type_of% r_100_146) ∧ (type_of% r_100_146_1) ∧ (type_of% r_100_148) ∧ (type_of% r_100_151) := ⟨r_100_0, r_100_0_1, r_100_1, r_100_4, r_100_4_1, r_100_7, r_100_7_1, r_100_9, r_100_12, r_100_15, r_100_15_1, r_100_16, r_100_16_1, r_100_19, r_100_19_1, r_100_20, r_100_20_1, r_100_21, r_100_22, r_100_25, r_100_28, r_100_31, r_100_31_1, r_100_32, r_100_33, r_100_33_1, r_100_34, r_100_34_1, r_100_35, r_100_38, r_100_41, r_100_44, r_100_44_1, r_100_45, r_100_48, r_100_48_1, r_100_51, r_100_51_1, r_100_53, r_100_56, r_100_59, r_100_59_1, r_100_60, r_100_60_1, r_100_63, r_100_63_1, r_100_64, r_100_64_1, r_100_65, r_100_65_1, r_100_66, r_100_69, r_100_70, r_100_71, r_100_74, r_100_77, r_100_80, r_100_80_1, r_100_81, r_100_81_1, r_100_82, r_100_85, r_100_86, r_100_87, r_100_87_1, r_100_88, r_100_89, r_100_92, r_100_95, r_100_95_1, r_100_96, r_100_99, r_100_102, r_100_103, r_100_104, r_100_107, r_100_110, r_100_113, r_100_113_1, r_100_115, r_100_115_1, r_100_117, r_100_117_1, r_100_118, r_100_122, r_100_125, r_100_128, r_100_128_1, r_100_129, r_100_129_1, r_100_130, r_100_133, r_100_134, r_100_135, r_100_135_1, r_100_137, r_100_138, r_100_141, r_100_144, r_100_145, r_100_145_1, r_100_146, r_100_146_1, r_100_148, r_100_151⟩
set_option maxRecDepth 100000 in
theorem ca_100 {d y pc : Nat} {ls : Lc} {a : Nat} {o0 : Option Nat} {r : List Value} {M : Mem} {Q : Outcome → Mem → Prop} (hd : 0 < d) (hw : Wp (d - 1) 100 0 [some (.ref a), some (va_rf o0), none, none, none] [] M (Cq d y pc ls r Q)) : Ca d y pc ls 100 [.ref a, va_rf o0] r M Q := ca_of (mq_get (by decide)) (by cases o0 <;> rfl) hd hw
/-! 101 PackedTree$Tree.add(LPackedTree$Node;LPackedTree$Node;)V; loop heads [95] -/
set_option maxRecDepth 100000 in
theorem r_101_0 : ∀ (d : Nat) (l0 l2 l3 l4 l5 : Option Value) (v : Nat) (st : List Value) (M : Mem) (Q : Outcome → Mem → Prop), Wp d 101 0 [l0, some (.ref v), l2, l3, l4, l5] st M Q = Wp d 101 1 [l0, some (.ref v), l2, l3, l4, l5] (.ref v :: st) M Q := fun d l0 l2 l3 l4 l5 v st M Q => wA (show ins 101 0 = some (.aload_n 1, 1) by decide +kernel) rfl
set_option maxRecDepth 100000 in
theorem r_101_0_1 : ∀ (d : Nat) (l0 l2 l3 l4 l5 : Option Value) (st : List Value) (M : Mem) (Q : Outcome → Mem → Prop), Wp d 101 0 [l0, some .null, l2, l3, l4, l5] st M Q = Wp d 101 1 [l0, some .null, l2, l3, l4, l5] (.null :: st) M Q := fun d l0 l2 l3 l4 l5 st M Q => wA (show ins 101 0 = some (.aload_n 1, 1) by decide +kernel) rfl
set_option maxRecDepth 100000 in
theorem r_101_1 : ∀ (d : Nat) (ls : Lc) (a : Nat) (st : List Value) (M : Mem) (Q : Outcome → Mem → Prop), Wp d 101 1 ls (.ref a :: st) M Q = (fk 33 (kO M a) = true ∧ Wp d 101 4 ls (va_rf (mR M 33 a) :: st) M Q) := fun d ls a st M Q => w_getR (show ins 101 1 = some (.getfield 170, 3) by decide +kernel) (show fRes (mC 101) 170 = some (33, 7, false) by decide +kernel) (by decide +kernel)
set_option maxRecDepth 100000 in
theorem r_101_4 : ∀ (d : Nat) (l0 l1 l2 l3 l4 l5 : Option Value) (v : Nat) (st : List Value) (M : Mem) (Q : Outcome → Mem → Prop), (lo l2 = false) → Wp d 101 4 [l0, l1, l2, l3, l4, l5] (.ref v :: st) M Q = Wp d 101 5 [l0, l1, l2, some (.ref v), l4, l5] st M Q := fun d l0 l1 l2 l3 l4 l5 v st M Q hl => w_astore_n (show ins 101 4 = some (.astore_n 3, 1) by decide +kernel) (st1_S rfl rfl hl)
set_option maxRecDepth 100000 in
theorem r_101_4_1 : ∀ (d : Nat) (l0 l1 l2 l3 l4 l5 : Option Value) (st : List Value) (M : Mem) (Q : Outcome → Mem → Prop), (lo l2 = false) → Wp d 101 4 [l0, l1, l2, l3, l4, l5] (.null :: st) M Q = Wp d 101 5 [l0, l1, l2, some (.null), l4, l5] st M Q := fun d l0 l1 l2 l3 l4 l5 st M Q hl => w_astoreN_n (show ins 101 4 = some (.astore_n 3, 1) by decide +kernel) (st1_S rfl rfl hl)
set_option maxRecDepth 100000 in
theorem r_101_5 : ∀ (d : Nat) (l0 l1 l2 l4 l5 : Option Value) (v : Nat) (st : List Value) (M : Mem) (Q : Outcome → Mem → Prop), Wp d 101 5 [l0, l1, l2, some (.ref v), l4, l5] st M Q = Wp d 101 6 [l0, l1, l2, some (.ref v), l4, l5] (.ref v :: st) M Q := fun d l0 l1 l2 l4 l5 v st M Q => wA (show ins 101 5 = some (.aload_n 3, 1) by decide +kernel) rfl
set_option maxRecDepth 100000 in
theorem r_101_5_1 : ∀ (d : Nat) (l0 l1 l2 l4 l5 : Option Value) (st : List Value) (M : Mem) (Q : Outcome → Mem → Prop), Wp d 101 5 [l0, l1, l2, some .null, l4, l5] st M Q = Wp d 101 6 [l0, l1, l2, some .null, l4, l5] (.null :: st) M Q := fun d l0 l1 l2 l4 l5 st M Q => wA (show ins 101 5 = some (.aload_n 3, 1) by decide +kernel) rfl
set_option maxRecDepth 100000 in
theorem r_101_6 : ∀ (d : Nat) (ls : Lc) (st : List Value) (M : Mem) (Q : Outcome → Mem → Prop), Wp d 101 6 ls (.null :: st) M Q = Wp d 101 9 ls st M Q := fun d ls st M Q => w_ifnnN (show ins 101 6 = some (.ifnonnull 43, 3) by decide +kernel) (t := 49) rfl
set_option maxRecDepth 100000 in
theorem r_101_6_1 : ∀ (d : Nat) (ls : Lc) (v : Nat) (st : List Value) (M : Mem) (Q : Outcome → Mem → Prop), Wp d 101 6 ls (.ref v :: st) M Q = Wp d 101 49 ls st M Q := fun d ls v st M Q => w_ifnnR (show ins 101 6 = some (.ifnonnull 43, 3) by decide +kernel) rfl
set_option maxRecDepth 100000 in
theorem r_101_9 : ∀ (d : Nat) (l1 l2 l3 l4 l5 : Option Value) (v : Nat) (st : List Value) (M : Mem) (Q : Outcome → Mem → Prop), Wp d 101 9 [some (.ref v), l1, l2, l3, l4, l5] st M Q = Wp d 101 10 [some (.ref v), l1, l2, l3, l4, l5] (.ref v :: st) M Q := fun d l1 l2 l3 l4 l5 v st M Q => wA (show ins 101 9 = some (.aload_n 0, 1) by decide +kernel) rfl
set_option maxRecDepth 100000 in
theorem r_101_10 : ∀ (d : Nat) (l1 l2 l3 l4 l5 : Option Value) (v : Nat) (st : List Value) (M : Mem) (Q : Outcome → Mem → Prop), Wp d 101 10 [some (.ref v), l1, l2, l3, l4, l5] st M Q = Wp d 101 11 [some (.ref v), l1, l2, l3, l4, l5] (.ref v :: st) M Q := fun d l1 l2 l3 l4 l5 v st M Q => wA (show ins 101 10 = some (.aload_n 0, 1) by decide +kernel) rfl
set_option maxRecDepth 100000 in
theorem r_101_11 : ∀ (d : Nat) (ls : Lc) (a : Nat) (st : List Value) (M : Mem) (Q : Outcome → Mem → Prop), Wp d 101 11 ls (.ref a :: st) M Q = (fk 17 (kO M a) = true ∧ Wp d 101 14 ls (va_rf (mR M 17 a) :: st) M Q) := fun d ls a st M Q => w_getR (show ins 101 11 = some (.getfield 29, 3) by decide +kernel) (show fRes (mC 101) 29 = some (17, 3, false) by decide +kernel) (by decide +kernel)
set_option maxRecDepth 100000 in
theorem r_101_14 : ∀ (d : Nat) (ls : Lc) (a : Nat) (st : List Value) (M : Mem) (Q : Outcome → Mem → Prop), (smallR st = true) → Wp d 101 14 ls (.ref a :: st) M Q = (kO M a = 2 ∧ Ca d 101 14 ls 88 (.ref a :: []) st M Q) := fun d ls a st M Q h0 => w_virt1 (as := []) (show ins 101 14 = some (.invokevirtual 42, 3) by decide +kernel) (show mRes (mC 101) 42 = some (3, 2, [(2, 88)]) by decide +kernel) (by decide +kernel) rfl (by decide +kernel) (by decide +kernel) h0
set_option maxRecDepth 100000 in
theorem r_101_17 : ∀ (d : Nat) (l0 l2 l3 l4 l5 : Option Value) (v : Nat) (st : List Value) (M : Mem) (Q : Outcome → Mem → Prop), Wp d 101 17 [l0, some (.ref v), l2, l3, l4, l5] st M Q = Wp d 101 18 [l0, some (.ref v), l2, l3, l4, l5] (.ref v :: st) M Q := fun d l0 l2 l3 l4 l5 v st M Q => wA (show ins 101 17 = some (.aload_n 1, 1) by decide +kernel) rfl
set_option maxRecDepth 100000 in
theorem r_101_17_1 : ∀ (d : Nat) (l0 l2 l3 l4 l5 : Option Value) (st : List Value) (M : Mem) (Q : Outcome → Mem → Prop), Wp d 101 17 [l0, some .null, l2, l3, l4, l5] st M Q = Wp d 101 18 [l0, some .null, l2, l3, l4, l5] (.null :: st) M Q := fun d l0 l2 l3 l4 l5 st M Q => wA (show ins 101 17 = some (.aload_n 1, 1) by decide +kernel) rfl
set_option maxRecDepth 100000 in
theorem r_101_18 : ∀ (d : Nat) (ls : Lc) (a : Nat) (st : List Value) (M : Mem) (Q : Outcome → Mem → Prop), (smallR st = true) → Wp d 101 18 ls (.ref a :: st) M Q = ((kO M a = 5 ∧ Ca d 101 18 ls 133 (.ref a :: []) st M Q) ∨ (kO M a = 6 ∧ Ca d 101 18 ls 139 (.ref a :: []) st M Q)) := fun d ls a st M Q h0 => w_virt2 (as := []) (show ins 101 18 = some (.invokevirtual 118, 3) by decide +kernel) (show mRes (mC 101) 118 = some (4, 7, [(5, 133), (6, 139)]) by decide +kernel) (by decide +kernel) rfl (by decide +kernel) (by decide +kernel) (by decide +kernel) (by decide +kernel) (by decide +kernel) h0
set_option maxRecDepth 100000 in
theorem r_101_21 : ∀ (d : Nat) (ls : Lc) (st : List Value) (M : Mem) (Q : Outcome → Mem → Prop), Wp d 101 21 ls st M Q = Wp d 101 22 ls (.int (I 1) :: st) M Q := fun d ls st M Q => w_iconst (show ins 101 21 = some (.iconst 1, 1) by decide +kernel)
set_option maxRecDepth 100000 in
theorem r_101_22 : ∀ (d : Nat) (ls : Lc) (a b : Int) (st : List Value) (M : Mem) (Q : Outcome → Mem → Prop), Wp d 101 22 ls (.int (I b) :: .int (I a) :: st) M Q = Wp d 101 23 ls (.int (I (a + b)) :: st) M Q := fun d ls a b st M Q => w_iadd (show ins 101 22 = some (.iadd, 1) by decide +kernel)
set_option maxRecDepth 100000 in
theorem r_101_23 : ∀ (d : Nat) (ls : Lc) (v0 v1 : Value) (a : Nat) (st : List Value) (M : Mem) (Q : Outcome → Mem → Prop), (smallR st = true) → Wp d 101 23 ls (v1 :: v0 :: .ref a :: st) M Q = (kO M a = 3 ∧ Ca d 101 23 ls 102 (.ref a :: [v0, v1]) st M Q) := fun d ls v0 v1 a st M Q h0 => w_virt1 (as := [v0, v1]) (show ins 101 23 = some (.invokevirtual 83, 3) by decide +kernel) (show mRes (mC 101) 83 = some (3, 3, [(3, 102)]) by decide +kernel) (by decide +kernel) rfl (by decide +kernel) (by decide +kernel) h0
set_option maxRecDepth 100000 in
theorem r_101_26 : ∀ (d : Nat) (l0 l1 l2 l3 l4 l5 : Option Value) (v : Nat) (st : List Value) (M : Mem) (Q : Outcome → Mem → Prop), (lo l3 = false) → Wp d 101 26 [l0, l1, l2, l3, l4, l5] (.ref v :: st) M Q = Wp d 101 28 [l0, l1, l2, l3, some (.ref v), l5] st M Q := fun d l0 l1 l2 l3 l4 l5 v st M Q hl => w_astore (show ins 101 26 = some (.astore 4, 2) by decide +kernel) (st1_S rfl rfl hl)
set_option maxRecDepth 100000 in
theorem r_101_26_1 : ∀ (d : Nat) (l0 l1 l2 l3 l4 l5 : Option Value) (st : List Value) (M : Mem) (Q : Outcome → Mem → Prop), (lo l3 = false) → Wp d 101 26 [l0, l1, l2, l3, l4, l5] (.null :: st) M Q = Wp d 101 28 [l0, l1, l2, l3, some (.null), l5] st M Q := fun d l0 l1 l2 l3 l4 l5 st M Q hl => w_astoreN (show ins 101 26 = some (.astore 4, 2) by decide +kernel) (st1_S rfl rfl hl)
set_option maxRecDepth 100000 in
theorem r_101_28 : ∀ (d : Nat) (l0 l1 l2 l3 l5 : Option Value) (v : Nat) (st : List Value) (M : Mem) (Q : Outcome → Mem → Prop), Wp d 101 28 [l0, l1, l2, l3, some (.ref v), l5] st M Q = Wp d 101 30 [l0, l1, l2, l3, some (.ref v), l5] (.ref v :: st) M Q := fun d l0 l1 l2 l3 l5 v st M Q => wA (show ins 101 28 = some (.aload 4, 2) by decide +kernel) rfl
set_option maxRecDepth 100000 in
theorem r_101_28_1 : ∀ (d : Nat) (l0 l1 l2 l3 l5 : Option Value) (st : List Value) (M : Mem) (Q : Outcome → Mem → Prop), Wp d 101 28 [l0, l1, l2, l3, some .null, l5] st M Q = Wp d 101 30 [l0, l1, l2, l3, some .null, l5] (.null :: st) M Q := fun d l0 l1 l2 l3 l5 st M Q => wA (show ins 101 28 = some (.aload 4, 2) by decide +kernel) rfl
set_option maxRecDepth 100000 in
theorem r_101_30 : ∀ (d : Nat) (ls : Lc) (st : List Value) (M : Mem) (Q : Outcome → Mem → Prop), Wp d 101 30 ls st M Q = Wp d 101 31 ls (.int (I 0) :: st) M Q := fun d ls st M Q => w_iconst (show ins 101 30 = some (.iconst 0, 1) by decide +kernel)
set_option maxRecDepth 100000 in
theorem r_101_31 : ∀ (d : Nat) (l0 l2 l3 l4 l5 : Option Value) (v : Nat) (st : List Value) (M : Mem) (Q : Outcome → Mem → Prop), Wp d 101 31 [l0, some (.ref v), l2, l3, l4, l5] st M Q = Wp d 101 32 [l0, some (.ref v), l2, l3, l4, l5] (.ref v :: st) M Q := fun d l0 l2 l3 l4 l5 v st M Q => wA (show ins 101 31 = some (.aload_n 1, 1) by decide +kernel) rfl
set_option maxRecDepth 100000 in
theorem r_101_31_1 : ∀ (d : Nat) (l0 l2 l3 l4 l5 : Option Value) (st : List Value) (M : Mem) (Q : Outcome → Mem → Prop), Wp d 101 31 [l0, some .null, l2, l3, l4, l5] st M Q = Wp d 101 32 [l0, some .null, l2, l3, l4, l5] (.null :: st) M Q := fun d l0 l2 l3 l4 l5 st M Q => wA (show ins 101 31 = some (.aload_n 1, 1) by decide +kernel) rfl
set_option maxRecDepth 100000 in
theorem r_101_32 : ∀ (d : Nat) (ls : Lc) (v0 v1 : Value) (a : Nat) (st : List Value) (M : Mem) (Q : Outcome → Mem → Prop), (smallR st = true) → Wp d 101 32 ls (v1 :: v0 :: .ref a :: st) M Q = (kO M a = 6 ∧ Ca d 101 32 ls 142 (.ref a :: [v0, v1]) st M Q) := fun d ls v0 v1 a st M Q h0 => w_virt1 (as := [v0, v1]) (show ins 101 32 = some (.invokevirtual 87, 3) by decide +kernel) (show mRes (mC 101) 87 = some (3, 6, [(6, 142)]) by decide +kernel) (by decide +kernel) rfl (by decide +kernel) (by decide +kernel) h0
set_option maxRecDepth 100000 in
theorem r_101_35 : ∀ (d : Nat) (l0 l1 l2 l3 l5 : Option Value) (v : Nat) (st : List Value) (M : Mem) (Q : Outcome → Mem → Prop), Wp d 101 35 [l0, l1, l2, l3, some (.ref v), l5] st M Q = Wp d 101 37 [l0, l1, l2, l3, some (.ref v), l5] (.ref v :: st) M Q := fun d l0 l1 l2 l3 l5 v st M Q => wA (show ins 101 35 = some (.aload 4, 2) by decide +kernel) rfl
set_option maxRecDepth 100000 in
theorem r_101_35_1 : ∀ (d : Nat) (l0 l1 l2 l3 l5 : Option Value) (st : List Value) (M : Mem) (Q : Outcome → Mem → Prop), Wp d 101 35 [l0, l1, l2, l3, some .null, l5] st M Q = Wp d 101 37 [l0, l1, l2, l3, some .null, l5] (.null :: st) M Q := fun d l0 l1 l2 l3 l5 st M Q => wA (show ins 101 35 = some (.aload 4, 2) by decide +kernel) rfl
set_option maxRecDepth 100000 in
theorem r_101_37 : ∀ (d : Nat) (ls : Lc) (st : List Value) (M : Mem) (Q : Outcome → Mem → Prop), Wp d 101 37 ls st M Q = Wp d 101 38 ls (.int (I 1) :: st) M Q := fun d ls st M Q => w_iconst (show ins 101 37 = some (.iconst 1, 1) by decide +kernel)
set_option maxRecDepth 100000 in
theorem r_101_38 : ∀ (d : Nat) (l0 l1 l3 l4 l5 : Option Value) (v : Nat) (st : List Value) (M : Mem) (Q : Outcome → Mem → Prop), Wp d 101 38 [l0, l1, some (.ref v), l3, l4, l5] st M Q = Wp d 101 39 [l0, l1, some (.ref v), l3, l4, l5] (.ref v :: st) M Q := fun d l0 l1 l3 l4 l5 v st M Q => wA (show ins 101 38 = some (.aload_n 2, 1) by decide +kernel) rfl
set_option maxRecDepth 100000 in
theorem r_101_38_1 : ∀ (d : Nat) (l0 l1 l3 l4 l5 : Option Value) (st : List Value) (M : Mem) (Q : Outcome → Mem → Prop), Wp d 101 38 [l0, l1, some .null, l3, l4, l5] st M Q = Wp d 101 39 [l0, l1, some .null, l3, l4, l5] (.null :: st) M Q := fun d l0 l1 l3 l4 l5 st M Q => wA (show ins 101 38 = some (.aload_n 2, 1) by decide +kernel) rfl
set_option maxRecDepth 100000 in
theorem r_101_39 : ∀ (d : Nat) (ls : Lc) (v0 v1 : Value) (a : Nat) (st : List Value) (M : Mem) (Q : Outcome → Mem → Prop), (smallR st = true) → Wp d 101 39 ls (v1 :: v0 :: .ref a :: st) M Q = (kO M a = 6 ∧ Ca d 101 39 ls 142 (.ref a :: [v0, v1]) st M Q) := fun d ls v0 v1 a st M Q h0 => w_virt1 (as := [v0, v1]) (show ins 101 39 = some (.invokevirtual 87, 3) by decide +kernel) (show mRes (mC 101) 87 = some (3, 6, [(6, 142)]) by decide +kernel) (by decide +kernel) rfl (by decide +kernel) (by decide +kernel) h0
set_option maxRecDepth 100000 in
theorem r_101_42 : ∀ (d : Nat) (l1 l2 l3 l4 l5 : Option Value) (v : Nat) (st : List Value) (M : Mem) (Q : Outcome → Mem → Prop), Wp d 101 42 [some (.ref v), l1, l2, l3, l4, l5] st M Q = Wp d 101 43 [some (.ref v), l1, l2, l3, l4, l5] (.ref v :: st) M Q := fun d l1 l2 l3 l4 l5 v st M Q => wA (show ins 101 42 = some (.aload_n 0, 1) by decide +kernel) rfl
set_option maxRecDepth 100000 in
theorem r_101_43 : ∀ (d : Nat) (l0 l1 l2 l3 l5 : Option Value) (v : Nat) (st : List Value) (M : Mem) (Q : Outcome → Mem → Prop), Wp d 101 43 [l0, l1, l2, l3, some (.ref v), l5] st M Q = Wp d 101 45 [l0, l1, l2, l3, some (.ref v), l5] (.ref v :: st) M Q := fun d l0 l1 l2 l3 l5 v st M Q => wA (show ins 101 43 = some (.aload 4, 2) by decide +kernel) rfl
set_option maxRecDepth 100000 in
theorem r_101_43_1 : ∀ (d : Nat) (l0 l1 l2 l3 l5 : Option Value) (st : List Value) (M : Mem) (Q : Outcome → Mem → Prop), Wp d 101 43 [l0, l1, l2, l3, some .null, l5] st M Q = Wp d 101 45 [l0, l1, l2, l3, some .null, l5] (.null :: st) M Q := fun d l0 l1 l2 l3 l5 st M Q => wA (show ins 101 43 = some (.aload 4, 2) by decide +kernel) rfl
set_option maxRecDepth 100000 in
theorem r_101_45 : ∀ (d : Nat) (ls : Lc) (a b : Nat) (st : List Value) (M : Mem) (Q : Outcome → Mem → Prop), Wp d 101 45 ls (.ref b :: .ref a :: st) M Q = (fk 18 (kO M a) = true ∧ Wp d 101 48 ls st (sR M 18 a (some b)) Q) := fun d ls a b st M Q => w_putR (v := some b) (show ins 101 45 = some (.putfield 52, 3) by decide +kernel) (show fRes (mC 101) 52 = some (18, 3, false) by decide +kernel) (by decide +kernel) (by decide +kernel)
set_option maxRecDepth 100000 in
theorem r_101_45_1 : ∀ (d : Nat) (ls : Lc) (a : Nat) (st : List Value) (M : Mem) (Q : Outcome → Mem → Prop), Wp d 101 45 ls (.null :: .ref a :: st) M Q = (fk 18 (kO M a) = true ∧ Wp d 101 48 ls st (sR M 18 a none) Q) := fun d ls a st M Q => w_putR (v := none) (show ins 101 45 = some (.putfield 52, 3) by decide +kernel) (show fRes (mC 101) 52 = some (18, 3, false) by decide +kernel) (by decide +kernel) (by decide +kernel)
set_option maxRecDepth 100000 in
theorem r_101_48 : ∀ (d : Nat) (ls : Lc) (M : Mem) (Q : Outcome → Mem → Prop), Wp d 101 48 ls [] M Q = Q (.returned none) M := fun d ls M Q => w_return (show ins 101 48 = some (.return_, 1) by decide +kernel) (by decide +kernel)
set_option maxRecDepth 100000 in
theorem r_101_49 : ∀ (d : Nat) (l0 l1 l2 l4 l5 : Option Value) (v : Nat) (st : List Value) (M : Mem) (Q : Outcome → Mem → Prop), Wp d 101 49 [l0, l1, l2, some (.ref v), l4, l5] st M Q = Wp d 101 50 [l0, l1, l2, some (.ref v), l4, l5] (.ref v :: st) M Q := fun d l0 l1 l2 l4 l5 v st M Q => wA (show ins 101 49 = some (.aload_n 3, 1) by decide +kernel) rfl
set_option maxRecDepth 100000 in
theorem r_101_49_1 : ∀ (d : Nat) (l0 l1 l2 l4 l5 : Option Value) (st : List Value) (M : Mem) (Q : Outcome → Mem → Prop), Wp d 101 49 [l0, l1, l2, some .null, l4, l5] st M Q = Wp d 101 50 [l0, l1, l2, some .null, l4, l5] (.null :: st) M Q := fun d l0 l1 l2 l4 l5 st M Q => wA (show ins 101 49 = some (.aload_n 3, 1) by decide +kernel) rfl
set_option maxRecDepth 100000 in
theorem r_101_50 : ∀ (d : Nat) (l0 l1 l2 l4 l5 : Option Value) (v : Nat) (st : List Value) (M : Mem) (Q : Outcome → Mem → Prop), Wp d 101 50 [l0, l1, l2, some (.ref v), l4, l5] st M Q = Wp d 101 51 [l0, l1, l2, some (.ref v), l4, l5] (.ref v :: st) M Q := fun d l0 l1 l2 l4 l5 v st M Q => wA (show ins 101 50 = some (.aload_n 3, 1) by decide +kernel) rfl
set_option maxRecDepth 100000 in
theorem r_101_50_1 : ∀ (d : Nat) (l0 l1 l2 l4 l5 : Option Value) (st : List Value) (M : Mem) (Q : Outcome → Mem → Prop), Wp d 101 50 [l0, l1, l2, some .null, l4, l5] st M Q = Wp d 101 51 [l0, l1, l2, some .null, l4, l5] (.null :: st) M Q := fun d l0 l1 l2 l4 l5 st M Q => wA (show ins 101 50 = some (.aload_n 3, 1) by decide +kernel) rfl
set_option maxRecDepth 100000 in
theorem r_101_51 : ∀ (d : Nat) (l0 l2 l3 l4 l5 : Option Value) (v : Nat) (st : List Value) (M : Mem) (Q : Outcome → Mem → Prop), Wp d 101 51 [l0, some (.ref v), l2, l3, l4, l5] st M Q = Wp d 101 52 [l0, some (.ref v), l2, l3, l4, l5] (.ref v :: st) M Q := fun d l0 l2 l3 l4 l5 v st M Q => wA (show ins 101 51 = some (.aload_n 1, 1) by decide +kernel) rfl
set_option maxRecDepth 100000 in
theorem r_101_51_1 : ∀ (d : Nat) (l0 l2 l3 l4 l5 : Option Value) (st : List Value) (M : Mem) (Q : Outcome → Mem → Prop), Wp d 101 51 [l0, some .null, l2, l3, l4, l5] st M Q = Wp d 101 52 [l0, some .null, l2, l3, l4, l5] (.null :: st) M Q := fun d l0 l2 l3 l4 l5 st M Q => wA (show ins 101 51 = some (.aload_n 1, 1) by decide +kernel) rfl
set_option maxRecDepth 100000 in
theorem r_101_52 : ∀ (d : Nat) (ls : Lc) (v0 : Value) (a : Nat) (st : List Value) (M : Mem) (Q : Outcome → Mem → Prop), (smallR st = true) → Wp d 101 52 ls (v0 :: .ref a :: st) M Q = (kO M a = 6 ∧ Ca d 101 52 ls 143 (.ref a :: [v0]) st M Q) := fun d ls v0 a st M Q h0 => w_virt1 (as := [v0]) (show ins 101 52 = some (.invokevirtual 174, 3) by decide +kernel) (show mRes (mC 101) 174 = some (3, 6, [(6, 143)]) by decide +kernel) (by decide +kernel) rfl (by decide +kernel) (by decide +kernel) h0
set_option maxRecDepth 100000 in
theorem r_101_55 : ∀ (d : Nat) (ls : Lc) (st : List Value) (M : Mem) (Q : Outcome → Mem → Prop), Wp d 101 55 ls st M Q = Wp d 101 56 ls (.int (I 1) :: st) M Q := fun d ls st M Q => w_iconst (show ins 101 55 = some (.iconst 1, 1) by decide +kernel)
set_option maxRecDepth 100000 in
theorem r_101_56 : ∀ (d : Nat) (ls : Lc) (a b : Int) (st : List Value) (M : Mem) (Q : Outcome → Mem → Prop), Wp d 101 56 ls (.int (I b) :: .int (I a) :: st) M Q = Wp d 101 57 ls (.int (I (a + b)) :: st) M Q := fun d ls a b st M Q => w_iadd (show ins 101 56 = some (.iadd, 1) by decide +kernel)
set_option maxRecDepth 100000 in
theorem r_101_57 : ∀ (d : Nat) (l0 l1 l3 l4 l5 : Option Value) (v : Nat) (st : List Value) (M : Mem) (Q : Outcome → Mem → Prop), Wp d 101 57 [l0, l1, some (.ref v), l3, l4, l5] st M Q = Wp d 101 58 [l0, l1, some (.ref v), l3, l4, l5] (.ref v :: st) M Q := fun d l0 l1 l3 l4 l5 v st M Q => wA (show ins 101 57 = some (.aload_n 2, 1) by decide +kernel) rfl
set_option maxRecDepth 100000 in
theorem r_101_57_1 : ∀ (d : Nat) (l0 l1 l3 l4 l5 : Option Value) (st : List Value) (M : Mem) (Q : Outcome → Mem → Prop), Wp d 101 57 [l0, l1, some .null, l3, l4, l5] st M Q = Wp d 101 58 [l0, l1, some .null, l3, l4, l5] (.null :: st) M Q := fun d l0 l1 l3 l4 l5 st M Q => wA (show ins 101 57 = some (.aload_n 2, 1) by decide +kernel) rfl
set_option maxRecDepth 100000 in
theorem r_101_58 : ∀ (d : Nat) (ls : Lc) (v0 v1 : Value) (a : Nat) (st : List Value) (M : Mem) (Q : Outcome → Mem → Prop), (smallR st = true) → Wp d 101 58 ls (v1 :: v0 :: .ref a :: st) M Q = (kO M a = 6 ∧ Ca d 101 58 ls 142 (.ref a :: [v0, v1]) st M Q) := fun d ls v0 v1 a st M Q h0 => w_virt1 (as := [v0, v1]) (show ins 101 58 = some (.invokevirtual 87, 3) by decide +kernel) (show mRes (mC 101) 87 = some (3, 6, [(6, 142)]) by decide +kernel) (by decide +kernel) rfl (by decide +kernel) (by decide +kernel) h0
set_option maxRecDepth 100000 in
theorem r_101_61 : ∀ (d : Nat) (l0 l1 l2 l4 l5 : Option Value) (v : Nat) (st : List Value) (M : Mem) (Q : Outcome → Mem → Prop), Wp d 101 61 [l0, l1, l2, some (.ref v), l4, l5] st M Q = Wp d 101 62 [l0, l1, l2, some (.ref v), l4, l5] (.ref v :: st) M Q := fun d l0 l1 l2 l4 l5 v st M Q => wA (show ins 101 61 = some (.aload_n 3, 1) by decide +kernel) rfl
set_option maxRecDepth 100000 in
theorem r_101_61_1 : ∀ (d : Nat) (l0 l1 l2 l4 l5 : Option Value) (st : List Value) (M : Mem) (Q : Outcome → Mem → Prop), Wp d 101 61 [l0, l1, l2, some .null, l4, l5] st M Q = Wp d 101 62 [l0, l1, l2, some .null, l4, l5] (.null :: st) M Q := fun d l0 l1 l2 l4 l5 st M Q => wA (show ins 101 61 = some (.aload_n 3, 1) by decide +kernel) rfl
set_option maxRecDepth 100000 in
theorem r_101_62 : ∀ (d : Nat) (ls : Lc) (a : Nat) (st : List Value) (M : Mem) (Q : Outcome → Mem → Prop), Wp d 101 62 ls (.ref a :: st) M Q = (fk 41 (kO M a) = true ∧ Wp d 101 65 ls (.int (mF M 41 a) :: st) M Q) := fun d ls a st M Q => w_getI (show ins 101 62 = some (.getfield 67, 3) by decide +kernel) (show fRes (mC 101) 67 = some (41, 6, true) by decide +kernel) (by decide +kernel)
set_option maxRecDepth 100000 in
theorem r_101_65 : ∀ (d : Nat) (ls : Lc) (st : List Value) (M : Mem) (Q : Outcome → Mem → Prop), Wp d 101 65 ls st M Q = Wp d 101 66 ls (.int (I 5) :: st) M Q := fun d ls st M Q => w_iconst (show ins 101 65 = some (.iconst 5, 1) by decide +kernel)
set_option maxRecDepth 100000 in
theorem r_101_66 : ∀ (d : Nat) (ls : Lc) (a b : Int32) (st : List Value) (M : Mem) (Q : Outcome → Mem → Prop), Wp d 101 66 ls (.int b :: .int a :: st) M Q = Br (a ≤ b) d 101 130 69 ls st M Q := fun d ls a b st M Q => w_icmp (show ins 101 66 = some (.if_icmp .le 64, 3) by decide +kernel) rfl rfl
set_option maxRecDepth 100000 in
theorem r_101_69 : ∀ (d : Nat) (l1 l2 l3 l4 l5 : Option Value) (v : Nat) (st : List Value) (M : Mem) (Q : Outcome → Mem → Prop), Wp d 101 69 [some (.ref v), l1, l2, l3, l4, l5] st M Q = Wp d 101 70 [some (.ref v), l1, l2, l3, l4, l5] (.ref v :: st) M Q := fun d l1 l2 l3 l4 l5 v st M Q => wA (show ins 101 69 = some (.aload_n 0, 1) by decide +kernel) rfl
set_option maxRecDepth 100000 in
theorem r_101_70 : ∀ (d : Nat) (l1 l2 l3 l4 l5 : Option Value) (v : Nat) (st : List Value) (M : Mem) (Q : Outcome → Mem → Prop), Wp d 101 70 [some (.ref v), l1, l2, l3, l4, l5] st M Q = Wp d 101 71 [some (.ref v), l1, l2, l3, l4, l5] (.ref v :: st) M Q := fun d l1 l2 l3 l4 l5 v st M Q => wA (show ins 101 70 = some (.aload_n 0, 1) by decide +kernel) rfl
set_option maxRecDepth 100000 in
theorem r_101_71 : ∀ (d : Nat) (ls : Lc) (a : Nat) (st : List Value) (M : Mem) (Q : Outcome → Mem → Prop), Wp d 101 71 ls (.ref a :: st) M Q = (fk 17 (kO M a) = true ∧ Wp d 101 74 ls (va_rf (mR M 17 a) :: st) M Q) := fun d ls a st M Q => w_getR (show ins 101 71 = some (.getfield 29, 3) by decide +kernel) (show fRes (mC 101) 29 = some (17, 3, false) by decide +kernel) (by decide +kernel)
set_option maxRecDepth 100000 in
theorem r_101_74 : ∀ (d : Nat) (ls : Lc) (a : Nat) (st : List Value) (M : Mem) (Q : Outcome → Mem → Prop), (smallR st = true) → Wp d 101 74 ls (.ref a :: st) M Q = (kO M a = 2 ∧ Ca d 101 74 ls 88 (.ref a :: []) st M Q) := fun d ls a st M Q h0 => w_virt1 (as := []) (show ins 101 74 = some (.invokevirtual 42, 3) by decide +kernel) (show mRes (mC 101) 42 = some (3, 2, [(2, 88)]) by decide +kernel) (by decide +kernel) rfl (by decide +kernel) (by decide +kernel) h0
set_option maxRecDepth 100000 in
theorem r_101_77 : ∀ (d : Nat) (l0 l1 l2 l4 l5 : Option Value) (v : Nat) (st : List Value) (M : Mem) (Q : Outcome → Mem → Prop), Wp d 101 77 [l0, l1, l2, some (.ref v), l4, l5] st M Q = Wp d 101 78 [l0, l1, l2, some (.ref v), l4, l5] (.ref v :: st) M Q := fun d l0 l1 l2 l4 l5 v st M Q => wA (show ins 101 77 = some (.aload_n 3, 1) by decide +kernel) rfl
set_option maxRecDepth 100000 in
theorem r_101_77_1 : ∀ (d : Nat) (l0 l1 l2 l4 l5 : Option Value) (st : List Value) (M : Mem) (Q : Outcome → Mem → Prop), Wp d 101 77 [l0, l1, l2, some .null, l4, l5] st M Q = Wp d 101 78 [l0, l1, l2, some .null, l4, l5] (.null :: st) M Q := fun d l0 l1 l2 l4 l5 st M Q => wA (show ins 101 77 = some (.aload_n 3, 1) by decide +kernel) rfl
set_option maxRecDepth 100000 in
theorem r_101_78 : ∀ (d : Nat) (ls : Lc) (a : Nat) (st : List Value) (M : Mem) (Q : Outcome → Mem → Prop), Wp d 101 78 ls (.ref a :: st) M Q = (fk 40 (kO M a) = true ∧ Wp d 101 81 ls (.int (mF M 40 a) :: st) M Q) := fun d ls a st M Q => w_getI (show ins 101 78 = some (.getfield 178, 3) by decide +kernel) (show fRes (mC 101) 178 = some (40, 6, true) by decide +kernel) (by decide +kernel)
set_option maxRecDepth 100000 in
theorem r_101_81 : ∀ (d : Nat) (ls : Lc) (v0 v1 : Value) (a : Nat) (st : List Value) (M : Mem) (Q : Outcome → Mem → Prop), (smallR st = true) → Wp d 101 81 ls (v1 :: v0 :: .ref a :: st) M Q = (kO M a = 3 ∧ Ca d 101 81 ls 102 (.ref a :: [v0, v1]) st M Q) := fun d ls v0 v1 a st M Q h0 => w_virt1 (as := [v0, v1]) (show ins 101 81 = some (.invokevirtual 83, 3) by decide +kernel) (show mRes (mC 101) 83 = some (3, 3, [(3, 102)]) by decide +kernel) (by decide +kernel) rfl (by decide +kernel) (by decide +kernel) h0
set_option maxRecDepth 100000 in
theorem r_101_84 : ∀ (d : Nat) (l0 l1 l2 l3 l4 l5 : Option Value) (v : Nat) (st : List Value) (M : Mem) (Q : Outcome → Mem → Prop), (lo l3 = false) → Wp d 101 84 [l0, l1, l2, l3, l4, l5] (.ref v :: st) M Q = Wp d 101 86 [l0, l1, l2, l3, some (.ref v), l5] st M Q := fun d l0 l1 l2 l3 l4 l5 v st M Q hl => w_astore (show ins 101 84 = some (.astore 4, 2) by decide +kernel) (st1_S rfl rfl hl)
set_option maxRecDepth 100000 in
theorem r_101_84_1 : ∀ (d : Nat) (l0 l1 l2 l3 l4 l5 : Option Value) (st : List Value) (M : Mem) (Q : Outcome → Mem → Prop), (lo l3 = false) → Wp d 101 84 [l0, l1, l2, l3, l4, l5] (.null :: st) M Q = Wp d 101 86 [l0, l1, l2, l3, some (.null), l5] st M Q := fun d l0 l1 l2 l3 l4 l5 st M Q hl => w_astoreN (show ins 101 84 = some (.astore 4, 2) by decide +kernel) (st1_S rfl rfl hl)
set_option maxRecDepth 100000 in
theorem r_101_86 : ∀ (d : Nat) (l0 l1 l2 l3 l5 : Option Value) (v : Nat) (st : List Value) (M : Mem) (Q : Outcome → Mem → Prop), Wp d 101 86 [l0, l1, l2, l3, some (.ref v), l5] st M Q = Wp d 101 88 [l0, l1, l2, l3, some (.ref v), l5] (.ref v :: st) M Q := fun d l0 l1 l2 l3 l5 v st M Q => wA (show ins 101 86 = some (.aload 4, 2) by decide +kernel) rfl
set_option maxRecDepth 100000 in
theorem r_101_86_1 : ∀ (d : Nat) (l0 l1 l2 l3 l5 : Option Value) (st : List Value) (M : Mem) (Q : Outcome → Mem → Prop), Wp d 101 86 [l0, l1, l2, l3, some .null, l5] st M Q = Wp d 101 88 [l0, l1, l2, l3, some .null, l5] (.null :: st) M Q := fun d l0 l1 l2 l3 l5 st M Q => wA (show ins 101 86 = some (.aload 4, 2) by decide +kernel) rfl
set_option maxRecDepth 100000 in
theorem r_101_88 : ∀ (d : Nat) (l0 l1 l2 l4 l5 : Option Value) (v : Nat) (st : List Value) (M : Mem) (Q : Outcome → Mem → Prop), Wp d 101 88 [l0, l1, l2, some (.ref v), l4, l5] st M Q = Wp d 101 89 [l0, l1, l2, some (.ref v), l4, l5] (.ref v :: st) M Q := fun d l0 l1 l2 l4 l5 v st M Q => wA (show ins 101 88 = some (.aload_n 3, 1) by decide +kernel) rfl
set_option maxRecDepth 100000 in
theorem r_101_88_1 : ∀ (d : Nat) (l0 l1 l2 l4 l5 : Option Value) (st : List Value) (M : Mem) (Q : Outcome → Mem → Prop), Wp d 101 88 [l0, l1, l2, some .null, l4, l5] st M Q = Wp d 101 89 [l0, l1, l2, some .null, l4, l5] (.null :: st) M Q := fun d l0 l1 l2 l4 l5 st M Q => wA (show ins 101 88 = some (.aload_n 3, 1) by decide +kernel) rfl
set_option maxRecDepth 100000 in
theorem r_101_89 : ∀ (d : Nat) (ls : Lc) (v0 : Value) (a : Nat) (st : List Value) (M : Mem) (Q : Outcome → Mem → Prop), (smallR st = true) → Wp d 101 89 ls (v0 :: .ref a :: st) M Q = (kO M a = 6 ∧ Ca d 101 89 ls 151 (.ref a :: [v0]) st M Q) := fun d ls v0 a st M Q h0 => w_virt1 (as := [v0]) (show ins 101 89 = some (.invokevirtual 180, 3) by decide +kernel) (show mRes (mC 101) 180 = some (4, 6, [(6, 151)]) by decide +kernel) (by decide +kernel) rfl (by decide +kernel) (by decide +kernel) h0
set_option maxRecDepth 100000 in
theorem r_101_92 : ∀ (d : Nat) (ls : Lc) (st : List Value) (M : Mem) (Q : Outcome → Mem → Prop), Wp d 101 92 ls st M Q = Wp d 101 93 ls (.int (I 0) :: st) M Q := fun d ls st M Q => w_iconst (show ins 101 92 = some (.iconst 0, 1) by decide +kernel)
set_option maxRecDepth 100000 in
theorem r_101_93 : ∀ (d : Nat) (l0 l1 l2 l3 l4 l5 : Option Value) (v : Int32) (st : List Value) (M : Mem) (Q : Outcome → Mem → Prop), (lo l4 = false) → Wp d 101 93 [l0, l1, l2, l3, l4, l5] (.int v :: st) M Q = Wp d 101 95 [l0, l1, l2, l3, l4, some (.int v)] st M Q := fun d l0 l1 l2 l3 l4 l5 v st M Q hl => w_istore (show ins 101 93 = some (.istore 5, 2) by decide +kernel) (st1_S rfl rfl hl)
set_option maxRecDepth 100000 in
theorem r_101_95 : ∀ (d : Nat) (l0 l1 l2 l3 l4 : Option Value) (v : Int32) (st : List Value) (M : Mem) (Q : Outcome → Mem → Prop), Wp d 101 95 [l0, l1, l2, l3, l4, some (.int v)] st M Q = Wp d 101 97 [l0, l1, l2, l3, l4, some (.int v)] (.int v :: st) M Q := fun d l0 l1 l2 l3 l4 v st M Q => wA (show ins 101 95 = some (.iload 5, 2) by decide +kernel) rfl
set_option maxRecDepth 100000 in
theorem r_101_97 : ∀ (d : Nat) (ls : Lc) (st : List Value) (M : Mem) (Q : Outcome → Mem → Prop), Wp d 101 97 ls st M Q = Wp d 101 98 ls (.int (I 3) :: st) M Q := fun d ls st M Q => w_iconst (show ins 101 97 = some (.iconst 3, 1) by decide +kernel)
set_option maxRecDepth 100000 in
theorem r_101_98 : ∀ (d : Nat) (ls : Lc) (a b : Int32) (st : List Value) (M : Mem) (Q : Outcome → Mem → Prop), Wp d 101 98 ls (.int b :: .int a :: st) M Q = Br (b ≤ a) d 101 123 101 ls st M Q := fun d ls a b st M Q => w_icmp (show ins 101 98 = some (.if_icmp .ge 25, 3) by decide +kernel) rfl rfl
set_option maxRecDepth 100000 in
theorem r_101_101 : ∀ (d : Nat) (l0 l1 l2 l3 l5 : Option Value) (v : Nat) (st : List Value) (M : Mem) (Q : Outcome → Mem → Prop), Wp d 101 101 [l0, l1, l2, l3, some (.ref v), l5] st M Q = Wp d 101 103 [l0, l1, l2, l3, some (.ref v), l5] (.ref v :: st) M Q := fun d l0 l1 l2 l3 l5 v st M Q => wA (show ins 101 101 = some (.aload 4, 2) by decide +kernel) rfl
set_option maxRecDepth 100000 in
theorem r_101_101_1 : ∀ (d : Nat) (l0 l1 l2 l3 l5 : Option Value) (st : List Value) (M : Mem) (Q : Outcome → Mem → Prop), Wp d 101 101 [l0, l1, l2, l3, some .null, l5] st M Q = Wp d 101 103 [l0, l1, l2, l3, some .null, l5] (.null :: st) M Q := fun d l0 l1 l2 l3 l5 st M Q => wA (show ins 101 101 = some (.aload 4, 2) by decide +kernel) rfl
set_option maxRecDepth 100000 in
theorem r_101_103 : ∀ (d : Nat) (ls : Lc) (st : List Value) (M : Mem) (Q : Outcome → Mem → Prop), Wp d 101 103 ls st M Q = Wp d 101 104 ls (.int (I 0) :: st) M Q := fun d ls st M Q => w_iconst (show ins 101 103 = some (.iconst 0, 1) by decide +kernel)
set_option maxRecDepth 100000 in
theorem r_101_104 : ∀ (d : Nat) (l0 l1 l2 l4 l5 : Option Value) (v : Nat) (st : List Value) (M : Mem) (Q : Outcome → Mem → Prop), Wp d 101 104 [l0, l1, l2, some (.ref v), l4, l5] st M Q = Wp d 101 105 [l0, l1, l2, some (.ref v), l4, l5] (.ref v :: st) M Q := fun d l0 l1 l2 l4 l5 v st M Q => wA (show ins 101 104 = some (.aload_n 3, 1) by decide +kernel) rfl
set_option maxRecDepth 100000 in
theorem r_101_104_1 : ∀ (d : Nat) (l0 l1 l2 l4 l5 : Option Value) (st : List Value) (M : Mem) (Q : Outcome → Mem → Prop), Wp d 101 104 [l0, l1, l2, some .null, l4, l5] st M Q = Wp d 101 105 [l0, l1, l2, some .null, l4, l5] (.null :: st) M Q := fun d l0 l1 l2 l4 l5 st M Q => wA (show ins 101 104 = some (.aload_n 3, 1) by decide +kernel) rfl
set_option maxRecDepth 100000 in
theorem r_101_105 : ∀ (d : Nat) (l0 l1 l2 l4 l5 : Option Value) (v : Nat) (st : List Value) (M : Mem) (Q : Outcome → Mem → Prop), Wp d 101 105 [l0, l1, l2, some (.ref v), l4, l5] st M Q = Wp d 101 106 [l0, l1, l2, some (.ref v), l4, l5] (.ref v :: st) M Q := fun d l0 l1 l2 l4 l5 v st M Q => wA (show ins 101 105 = some (.aload_n 3, 1) by decide +kernel) rfl
set_option maxRecDepth 100000 in
theorem r_101_105_1 : ∀ (d : Nat) (l0 l1 l2 l4 l5 : Option Value) (st : List Value) (M : Mem) (Q : Outcome → Mem → Prop), Wp d 101 105 [l0, l1, l2, some .null, l4, l5] st M Q = Wp d 101 106 [l0, l1, l2, some .null, l4, l5] (.null :: st) M Q := fun d l0 l1 l2 l4 l5 st M Q => wA (show ins 101 105 = some (.aload_n 3, 1) by decide +kernel) rfl
set_option maxRecDepth 100000 in
theorem r_101_106 : ∀ (d : Nat) (ls : Lc) (a : Nat) (st : List Value) (M : Mem) (Q : Outcome → Mem → Prop), Wp d 101 106 ls (.ref a :: st) M Q = (fk 41 (kO M a) = true ∧ Wp d 101 109 ls (.int (mF M 41 a) :: st) M Q) := fun d ls a st M Q => w_getI (show ins 101 106 = some (.getfield 67, 3) by decide +kernel) (show fRes (mC 101) 67 = some (41, 6, true) by decide +kernel) (by decide +kernel)
set_option maxRecDepth 100000 in
theorem r_101_109 : ∀ (d : Nat) (ls : Lc) (st : List Value) (M : Mem) (Q : Outcome → Mem → Prop), Wp d 101 109 ls st M Q = Wp d 101 110 ls (.int (I 1) :: st) M Q := fun d ls st M Q => w_iconst (show ins 101 109 = some (.iconst 1, 1) by decide +kernel)
set_option maxRecDepth 100000 in
theorem r_101_110 : ∀ (d : Nat) (ls : Lc) (a b : Int) (st : List Value) (M : Mem) (Q : Outcome → Mem → Prop), Wp d 101 110 ls (.int (I b) :: .int (I a) :: st) M Q = Wp d 101 111 ls (.int (I (a - b)) :: st) M Q := fun d ls a b st M Q => w_isub (show ins 101 110 = some (.isub, 1) by decide +kernel)
set_option maxRecDepth 100000 in
theorem r_101_111 : ∀ (d : Nat) (ls : Lc) (v0 : Value) (a : Nat) (st : List Value) (M : Mem) (Q : Outcome → Mem → Prop), (smallR st = true) → Wp d 101 111 ls (v0 :: .ref a :: st) M Q = (kO M a = 6 ∧ Ca d 101 111 ls 144 (.ref a :: [v0]) st M Q) := fun d ls v0 a st M Q h0 => w_virt1 (as := [v0]) (show ins 101 111 = some (.invokevirtual 181, 3) by decide +kernel) (show mRes (mC 101) 181 = some (3, 6, [(6, 144)]) by decide +kernel) (by decide +kernel) rfl (by decide +kernel) (by decide +kernel) h0
set_option maxRecDepth 100000 in
theorem r_101_114 : ∀ (d : Nat) (ls : Lc) (v0 v1 : Value) (a : Nat) (st : List Value) (M : Mem) (Q : Outcome → Mem → Prop), (smallR st = true) → Wp d 101 114 ls (v1 :: v0 :: .ref a :: st) M Q = (kO M a = 6 ∧ Ca d 101 114 ls 142 (.ref a :: [v0, v1]) st M Q) := fun d ls v0 v1 a st M Q h0 => w_virt1 (as := [v0, v1]) (show ins 101 114 = some (.invokevirtual 87, 3) by decide +kernel) (show mRes (mC 101) 87 = some (3, 6, [(6, 142)]) by decide +kernel) (by decide +kernel) rfl (by decide +kernel) (by decide +kernel) h0
set_option maxRecDepth 100000 in
theorem r_101_117 : ∀ (d : Nat) (l0 l1 l2 l3 l4 : Option Value) (z : Int) (st : List Value) (M : Mem) (Q : Outcome → Mem → Prop), (lo l4 = false) → Wp d 101 117 [l0, l1, l2, l3, l4, some (.int (I z))] st M Q = Wp d 101 120 [l0, l1, l2, l3, l4, some (.int (I (z + 1)))] st M Q := fun d l0 l1 l2 l3 l4 z st M Q hl => w_iinc (show ins 101 117 = some (.iinc 5 1, 3) by decide +kernel) rfl (st1_S rfl rfl hl)
set_option maxRecDepth 100000 in
theorem r_101_120 : ∀ (d : Nat) (ls : Lc) (st : List Value) (M : Mem) (Q : Outcome → Mem → Prop), Wp d 101 120 ls st M Q = Wp d 101 95 ls st M Q := fun d ls st M Q => w_goto (show ins 101 120 = some (.goto (-25), 3) by decide +kernel) rfl
set_option maxRecDepth 100000 in
theorem r_101_123 : ∀ (d : Nat) (l1 l2 l3 l4 l5 : Option Value) (v : Nat) (st : List Value) (M : Mem) (Q : Outcome → Mem → Prop), Wp d 101 123 [some (.ref v), l1, l2, l3, l4, l5] st M Q = Wp d 101 124 [some (.ref v), l1, l2, l3, l4, l5] (.ref v :: st) M Q := fun d l1 l2 l3 l4 l5 v st M Q => wA (show ins 101 123 = some (.aload_n 0, 1) by decide +kernel) rfl
set_option maxRecDepth 100000 in
theorem r_101_124 : ∀ (d : Nat) (l0 l1 l2 l4 l5 : Option Value) (v : Nat) (st : List Value) (M : Mem) (Q : Outcome → Mem → Prop), Wp d 101 124 [l0, l1, l2, some (.ref v), l4, l5] st M Q = Wp d 101 125 [l0, l1, l2, some (.ref v), l4, l5] (.ref v :: st) M Q := fun d l0 l1 l2 l4 l5 v st M Q => wA (show ins 101 124 = some (.aload_n 3, 1) by decide +kernel) rfl
set_option maxRecDepth 100000 in
theorem r_101_124_1 : ∀ (d : Nat) (l0 l1 l2 l4 l5 : Option Value) (st : List Value) (M : Mem) (Q : Outcome → Mem → Prop), Wp d 101 124 [l0, l1, l2, some .null, l4, l5] st M Q = Wp d 101 125 [l0, l1, l2, some .null, l4, l5] (.null :: st) M Q := fun d l0 l1 l2 l4 l5 st M Q => wA (show ins 101 124 = some (.aload_n 3, 1) by decide +kernel) rfl
set_option maxRecDepth 100000 in
theorem r_101_125 : ∀ (d : Nat) (l0 l1 l2 l3 l5 : Option Value) (v : Nat) (st : List Value) (M : Mem) (Q : Outcome → Mem → Prop), Wp d 101 125 [l0, l1, l2, l3, some (.ref v), l5] st M Q = Wp d 101 127 [l0, l1, l2, l3, some (.ref v), l5] (.ref v :: st) M Q := fun d l0 l1 l2 l3 l5 v st M Q => wA (show ins 101 125 = some (.aload 4, 2) by decide +kernel) rfl
set_option maxRecDepth 100000 in
theorem r_101_125_1 : ∀ (d : Nat) (l0 l1 l2 l3 l5 : Option Value) (st : List Value) (M : Mem) (Q : Outcome → Mem → Prop), Wp d 101 125 [l0, l1, l2, l3, some .null, l5] st M Q = Wp d 101 127 [l0, l1, l2, l3, some .null, l5] (.null :: st) M Q := fun d l0 l1 l2 l3 l5 st M Q => wA (show ins 101 125 = some (.aload 4, 2) by decide +kernel) rfl
set_option maxRecDepth 100000 in
theorem r_101_127 : ∀ (d : Nat) (ls : Lc) (v0 v1 : Value) (a : Nat) (st : List Value) (M : Mem) (Q : Outcome → Mem → Prop), (smallR st = true) → Wp d 101 127 ls (v1 :: v0 :: .ref a :: st) M Q = (kO M a = 3 ∧ Ca d 101 127 ls 101 (.ref a :: [v0, v1]) st M Q) := fun d ls v0 v1 a st M Q h0 => w_virt1 (as := [v0, v1]) (show ins 101 127 = some (.invokevirtual 166, 3) by decide +kernel) (show mRes (mC 101) 166 = some (3, 3, [(3, 101)]) by decide +kernel) (by decide +kernel) rfl (by decide +kernel) (by decide +kernel) h0
set_option maxRecDepth 100000 in
theorem r_101_130 : ∀ (d : Nat) (ls : Lc) (M : Mem) (Q : Outcome → Mem → Prop), Wp d 101 130 ls [] M Q = Q (.returned none) M := fun d ls M Q => w_return (show ins 101 130 = some (.return_, 1) by decide +kernel) (by decide +kernel)
set_option maxRecDepth 100000 in
theorem w_101_95 : (type_of% r_101_95) := r_101_95
set_option maxRecDepth 100000 in
theorem W_101 : (type_of% r_101_0) ∧ (type_of% r_101_0_1) ∧ (type_of% r_101_1) ∧ (type_of% r_101_4) ∧ (type_of% r_101_4_1) ∧ (type_of% r_101_5) ∧ (type_of% r_101_5_1) ∧ (type_of% r_101_6) ∧ (type_of% r_101_6_1) ∧ (type_of% r_101_9) ∧ (type_of% r_101_10) ∧ (type_of% r_101_11) ∧ (type_of% r_101_14) ∧ (type_of% r_101_17) ∧ (type_of% r_101_17_1) ∧ (type_of% r_101_18) ∧ (type_of% r_101_21) ∧ (type_of% r_101_22) ∧ (type_of% r_101_23) ∧ (type_of% r_101_26) ∧ (type_of% r_101_26_1) ∧ (type_of% r_101_28) ∧ (type_of% r_101_28_1) ∧ (type_of% r_101_30) ∧ (type_of% r_101_31) ∧ (type_of% r_101_31_1) ∧ (type_of% r_101_32) ∧ (type_of% r_101_35) ∧ (type_of% r_101_35_1) ∧ (type_of% r_101_37) ∧ (type_of% r_101_38) ∧ (type_of% r_101_38_1) ∧ (type_of% r_101_39) ∧ (type_of% r_101_42) ∧ (type_of% r_101_43) ∧ (type_of% r_101_43_1) ∧ (type_of% r_101_45) ∧ (type_of% r_101_45_1) ∧ (type_of% r_101_48) ∧ (type_of% r_101_49) ∧ (type_of% r_101_49_1) ∧ (type_of% r_101_50) ∧ (type_of% r_101_50_1) ∧ (type_of% r_101_51) ∧ (type_of% r_101_51_1) ∧ (type_of% r_101_52) ∧ (type_of% r_101_55) ∧ (type_of% r_101_56) ∧ (type_of% r_101_57) ∧ (type_of% r_101_57_1) ∧ (type_of% r_101_58) ∧ (type_of% r_101_61) ∧ (type_of% r_101_61_1) ∧ (type_of% r_101_62) ∧ (type_of% r_101_65) ∧ (type_of% r_101_66) ∧ (type_of% r_101_69) ∧ (type_of% r_101_70) ∧ (type_of% r_101_71) ∧ (type_of% r_101_74) ∧ (type_of% r_101_77) ∧ (type_of% r_101_77_1) ∧ (type_of% r_101_78) ∧ (type_of% r_101_81) ∧ (type_of% r_101_84) ∧ (type_of% r_101_84_1) ∧ (type_of% r_101_86) ∧ (type_of% r_101_86_1) ∧ (type_of% r_101_88) ∧ (type_of% r_101_88_1) ∧ (type_of% r_101_89) ∧ (type_of% r_101_92) ∧ (type_of% r_101_93) ∧ (type_of% r_101_97) ∧ (type_of% r_101_98) ∧ (type_of% r_101_101) ∧ (type_of% r_101_101_1) ∧ (type_of% r_101_103) ∧ (type_of% r_101_104) ∧ (type_of% r_101_104_1) ∧ (type_of% r_101_105) ∧ (type_of% r_101_105_1) ∧ (type_of% r_101_106) ∧ (type_of% r_101_109) ∧ (type_of% r_101_110) ∧ (type_of% r_101_111) ∧ (type_of% r_101_114) ∧ (type_of% r_101_117) ∧ (type_of% r_101_120) ∧ (type_of% r_101_123) ∧ (type_of% r_101_124) ∧ (type_of% r_101_124_1) ∧ (type_of% r_101_125) ∧ (type_of% r_101_125_1) ∧ (type_of% r_101_127) ∧ (type_of% r_101_130) := ⟨r_101_0, r_101_0_1, r_101_1, r_101_4, r_101_4_1, r_101_5, r_101_5_1, r_101_6, r_101_6_1, r_101_9, r_101_10, r_101_11, r_101_14, r_101_17, r_101_17_1, r_101_18, r_101_21, r_101_22, r_101_23, r_101_26, r_101_26_1, r_101_28, r_101_28_1, r_101_30, r_101_31, r_101_31_1, r_101_32, r_101_35, r_101_35_1, r_101_37, r_101_38, r_101_38_1, r_101_39, r_101_42, r_101_43, r_101_43_1, r_101_45, r_101_45_1, r_101_48, r_101_49, r_101_49_1, r_101_50, r_101_50_1, r_101_51, r_101_51_1, r_101_52, r_101_55, r_101_56, r_101_57, r_101_57_1, r_101_58, r_101_61, r_101_61_1, r_101_62, r_101_65, r_101_66, r_101_69, r_101_70, r_101_71, r_101_74, r_101_77, r_101_77_1, r_101_78, r_101_81, r_101_84, r_101_84_1, r_101_86, r_101_86_1, r_101_88, r_101_88_1, r_101_89, r_101_92, r_101_93, r_101_97, r_101_98, r_101_101, r_101_101_1, r_101_103, r_101_104, r_101_104_1, r_101_105, r_101_105_1, r_101_106, r_101_109, r_101_110, r_101_111, r_101_114, r_101_117, r_101_120, r_101_123, r_101_124, r_101_124_1, r_101_125, r_101_125_1, r_101_127, r_101_130⟩
set_option maxRecDepth 100000 in
theorem ca_101 {d y pc : Nat} {ls : Lc} {a : Nat} {o0 : Option Nat} {o1 : Option Nat} {r : List Value} {M : Mem} {Q : Outcome → Mem → Prop} (hd : 0 < d) (hw : Wp (d - 1) 101 0 [some (.ref a), some (va_rf o0), some (va_rf o1), none, none, none] [] M (Cq d y pc ls r Q)) : Ca d y pc ls 101 [.ref a, va_rf o0, va_rf o1] r M Q := ca_of (mq_get (by decide)) (by cases o0 <;> cases o1 <;> rfl) hd hw
/-! 102 PackedTree$Tree.innerAt(II)LPackedTree$Inner;; loop heads [] -/
set_option maxRecDepth 100000 in
theorem r_102_0 : ∀ (d : Nat) (l1 l2 : Option Value) (v : Nat) (st : List Value) (M : Mem) (Q : Outcome → Mem → Prop), Wp d 102 0 [some (.ref v), l1, l2] st M Q = Wp d 102 1 [some (.ref v), l1, l2] (.ref v :: st) M Q := fun d l1 l2 v st M Q => wA (show ins 102 0 = some (.aload_n 0, 1) by decide +kernel) rfl
set_option maxRecDepth 100000 in
theorem r_102_1 : ∀ (d : Nat) (ls : Lc) (a : Nat) (st : List Value) (M : Mem) (Q : Outcome → Mem → Prop), Wp d 102 1 ls (.ref a :: st) M Q = (fk 12 (kO M a) = true ∧ Wp d 102 4 ls (va_rf (mR M 12 a) :: st) M Q) := fun d ls a st M Q => w_getR (show ins 102 1 = some (.getfield 19, 3) by decide +kernel) (show fRes (mC 102) 19 = some (12, 3, false) by decide +kernel) (by decide +kernel)
set_option maxRecDepth 100000 in
theorem r_102_4 : ∀ (d : Nat) (l0 l2 : Option Value) (v : Int32) (st : List Value) (M : Mem) (Q : Outcome → Mem → Prop), Wp d 102 4 [l0, some (.int v), l2] st M Q = Wp d 102 5 [l0, some (.int v), l2] (.int v :: st) M Q := fun d l0 l2 v st M Q => wA (show ins 102 4 = some (.iload_n 1, 1) by decide +kernel) rfl
set_option maxRecDepth 100000 in
theorem r_102_5 : ∀ (d : Nat) (ls : Lc) (a : Nat) (j : Int32) (st : List Value) (M : Mem) (Q : Outcome → Mem → Prop), Wp d 102 5 ls (.int j :: .ref a :: st) M Q = ((((kX M a).1 = 4 ∨ (kX M a).1 = 5 ∨ (kX M a).1 = 6 ∨ (kX M a).1 = 7) ∧ inB j (kX M a).2 = true) ∧ Wp d 102 6 ls (va_rf (mQ M a j.toNatClampNeg) :: st) M Q) := fun d ls a j st M Q => w_aaload (show ins 102 5 = some (.aaload, 1) by decide +kernel)
set_option maxRecDepth 100000 in
theorem r_102_6 : ∀ (d : Nat) (ls : Lc) (st : List Value) (M : Mem) (Q : Outcome → Mem → Prop), Wp d 102 6 ls (.null :: st) M Q = Wp d 102 9 ls st M Q := fun d ls st M Q => w_ifnnN (show ins 102 6 = some (.ifnonnull 17, 3) by decide +kernel) (t := 23) rfl
set_option maxRecDepth 100000 in
theorem r_102_6_1 : ∀ (d : Nat) (ls : Lc) (v : Nat) (st : List Value) (M : Mem) (Q : Outcome → Mem → Prop), Wp d 102 6 ls (.ref v :: st) M Q = Wp d 102 23 ls st M Q := fun d ls v st M Q => w_ifnnR (show ins 102 6 = some (.ifnonnull 17, 3) by decide +kernel) rfl
set_option maxRecDepth 100000 in
theorem r_102_9 : ∀ (d : Nat) (l1 l2 : Option Value) (v : Nat) (st : List Value) (M : Mem) (Q : Outcome → Mem → Prop), Wp d 102 9 [some (.ref v), l1, l2] st M Q = Wp d 102 10 [some (.ref v), l1, l2] (.ref v :: st) M Q := fun d l1 l2 v st M Q => wA (show ins 102 9 = some (.aload_n 0, 1) by decide +kernel) rfl
set_option maxRecDepth 100000 in
theorem r_102_10 : ∀ (d : Nat) (ls : Lc) (a : Nat) (st : List Value) (M : Mem) (Q : Outcome → Mem → Prop), Wp d 102 10 ls (.ref a :: st) M Q = (fk 12 (kO M a) = true ∧ Wp d 102 13 ls (va_rf (mR M 12 a) :: st) M Q) := fun d ls a st M Q => w_getR (show ins 102 10 = some (.getfield 19, 3) by decide +kernel) (show fRes (mC 102) 19 = some (12, 3, false) by decide +kernel) (by decide +kernel)
set_option maxRecDepth 100000 in
theorem r_102_13 : ∀ (d : Nat) (l0 l2 : Option Value) (v : Int32) (st : List Value) (M : Mem) (Q : Outcome → Mem → Prop), Wp d 102 13 [l0, some (.int v), l2] st M Q = Wp d 102 14 [l0, some (.int v), l2] (.int v :: st) M Q := fun d l0 l2 v st M Q => wA (show ins 102 13 = some (.iload_n 1, 1) by decide +kernel) rfl
set_option maxRecDepth 100000 in
theorem r_102_14 : ∀ (d : Nat) (ls : Lc) (st : List Value) (M : Mem) (Q : Outcome → Mem → Prop), Wp d 102 14 ls st M Q = Wp d 102 17 ls (.ref (mN M) :: st) (nw M (.inl 6) (cSz 6)) Q := fun d ls st M Q => w_new (show ins 102 14 = some (.new 17, 3) by decide +kernel) (show cRes (mC 102) 17 = some 6 by decide +kernel) (by decide +kernel) (by decide +kernel)
set_option maxRecDepth 100000 in
theorem r_102_17 : ∀ (d : Nat) (ls : Lc) (v : Nat) (st : List Value) (M : Mem) (Q : Outcome → Mem → Prop), Wp d 102 17 ls (.ref v :: st) M Q = Wp d 102 18 ls (.ref v :: .ref v :: st) M Q := fun d ls v st M Q => wA (show ins 102 17 = some (.dup, 1) by decide +kernel) rfl
set_option maxRecDepth 100000 in
theorem r_102_17_1 : ∀ (d : Nat) (ls : Lc) (v : Int32) (st : List Value) (M : Mem) (Q : Outcome → Mem → Prop), Wp d 102 17 ls (.int v :: st) M Q = Wp d 102 18 ls (.int v :: .int v :: st) M Q := fun d ls v st M Q => wA (show ins 102 17 = some (.dup, 1) by decide +kernel) rfl
set_option maxRecDepth 100000 in
theorem r_102_18 : ∀ (d : Nat) (l0 l2 : Option Value) (v : Int32) (st : List Value) (M : Mem) (Q : Outcome → Mem → Prop), Wp d 102 18 [l0, some (.int v), l2] st M Q = Wp d 102 19 [l0, some (.int v), l2] (.int v :: st) M Q := fun d l0 l2 v st M Q => wA (show ins 102 18 = some (.iload_n 1, 1) by decide +kernel) rfl
set_option maxRecDepth 100000 in
theorem r_102_19 : ∀ (d : Nat) (ls : Lc) (v0 : Value) (a : Nat) (st : List Value) (M : Mem) (Q : Outcome → Mem → Prop), (smallR st = true) → Wp d 102 19 ls (v0 :: .ref a :: st) M Q = Ca d 102 19 ls 140 (.ref a :: [v0]) st M Q := fun d ls v0 a st M Q h0 => w_spec (as := [v0]) (show ins 102 19 = some (.invokespecial 39, 3) by decide +kernel) (show mRes (mC 102) 39 = some (2, 6, [(0, 140)]) by decide +kernel) (by decide +kernel) rfl h0
set_option maxRecDepth 100000 in
theorem r_102_22 : ∀ (d : Nat) (ls : Lc) (a : Nat) (j : Int32) (st : List Value) (M : Mem) (Q : Outcome → Mem → Prop), Wp d 102 22 ls (.null :: .int j :: .ref a :: st) M Q = ((((kX M a).1 = 5 ∨ (kX M a).1 = 6 ∨ (kX M a).1 = 7) ∧ inB j (kX M a).2 = true) ∧ Wp d 102 23 ls st (sQ M a j.toNatClampNeg none) Q) := fun d ls a j st M Q => w_aastoreN (show ins 102 22 = some (.aastore, 1) by decide +kernel)
set_option maxRecDepth 100000 in
theorem r_102_22_1 : ∀ (d : Nat) (ls : Lc) (a v : Nat) (j : Int32) (st : List Value) (M : Mem) (Q : Outcome → Mem → Prop), Wp d 102 22 ls (.ref v :: .int j :: .ref a :: st) M Q = ((fitQ (kX M a).1 (kO M v) = true ∧ inB j (kX M a).2 = true) ∧ Wp d 102 23 ls st (sQ M a j.toNatClampNeg (some v)) Q) := fun d ls a v j st M Q => w_aastore (show ins 102 22 = some (.aastore, 1) by decide +kernel)
set_option maxRecDepth 100000 in
theorem r_102_23 : ∀ (d : Nat) (l1 l2 : Option Value) (v : Nat) (st : List Value) (M : Mem) (Q : Outcome → Mem → Prop), Wp d 102 23 [some (.ref v), l1, l2] st M Q = Wp d 102 24 [some (.ref v), l1, l2] (.ref v :: st) M Q := fun d l1 l2 v st M Q => wA (show ins 102 23 = some (.aload_n 0, 1) by decide +kernel) rfl
set_option maxRecDepth 100000 in
theorem r_102_24 : ∀ (d : Nat) (ls : Lc) (a : Nat) (st : List Value) (M : Mem) (Q : Outcome → Mem → Prop), Wp d 102 24 ls (.ref a :: st) M Q = (fk 12 (kO M a) = true ∧ Wp d 102 27 ls (va_rf (mR M 12 a) :: st) M Q) := fun d ls a st M Q => w_getR (show ins 102 24 = some (.getfield 19, 3) by decide +kernel) (show fRes (mC 102) 19 = some (12, 3, false) by decide +kernel) (by decide +kernel)
set_option maxRecDepth 100000 in
theorem r_102_27 : ∀ (d : Nat) (l0 l2 : Option Value) (v : Int32) (st : List Value) (M : Mem) (Q : Outcome → Mem → Prop), Wp d 102 27 [l0, some (.int v), l2] st M Q = Wp d 102 28 [l0, some (.int v), l2] (.int v :: st) M Q := fun d l0 l2 v st M Q => wA (show ins 102 27 = some (.iload_n 1, 1) by decide +kernel) rfl
set_option maxRecDepth 100000 in
theorem r_102_28 : ∀ (d : Nat) (ls : Lc) (a : Nat) (j : Int32) (st : List Value) (M : Mem) (Q : Outcome → Mem → Prop), Wp d 102 28 ls (.int j :: .ref a :: st) M Q = ((((kX M a).1 = 4 ∨ (kX M a).1 = 5 ∨ (kX M a).1 = 6 ∨ (kX M a).1 = 7) ∧ inB j (kX M a).2 = true) ∧ Wp d 102 29 ls (va_rf (mQ M a j.toNatClampNeg) :: st) M Q) := fun d ls a j st M Q => w_aaload (show ins 102 28 = some (.aaload, 1) by decide +kernel)
set_option maxRecDepth 100000 in
theorem r_102_29 : ∀ (d : Nat) (l0 l1 : Option Value) (v : Int32) (st : List Value) (M : Mem) (Q : Outcome → Mem → Prop), Wp d 102 29 [l0, l1, some (.int v)] st M Q = Wp d 102 30 [l0, l1, some (.int v)] (.int v :: st) M Q := fun d l0 l1 v st M Q => wA (show ins 102 29 = some (.iload_n 2, 1) by decide +kernel) rfl
set_option maxRecDepth 100000 in
theorem r_102_30 : ∀ (d : Nat) (ls : Lc) (v0 : Value) (a : Nat) (st : List Value) (M : Mem) (Q : Outcome → Mem → Prop), (smallR st = true) → Wp d 102 30 ls (v0 :: .ref a :: st) M Q = (kO M a = 6 ∧ Ca d 102 30 ls 141 (.ref a :: [v0]) st M Q) := fun d ls v0 a st M Q h0 => w_virt1 (as := [v0]) (show ins 102 30 = some (.invokevirtual 40, 3) by decide +kernel) (show mRes (mC 102) 40 = some (3, 6, [(6, 141)]) by decide +kernel) (by decide +kernel) rfl (by decide +kernel) (by decide +kernel) h0
set_option maxRecDepth 100000 in
theorem r_102_33 : ∀ (d : Nat) (l1 l2 : Option Value) (v : Nat) (st : List Value) (M : Mem) (Q : Outcome → Mem → Prop), Wp d 102 33 [some (.ref v), l1, l2] st M Q = Wp d 102 34 [some (.ref v), l1, l2] (.ref v :: st) M Q := fun d l1 l2 v st M Q => wA (show ins 102 33 = some (.aload_n 0, 1) by decide +kernel) rfl
set_option maxRecDepth 100000 in
theorem r_102_34 : ∀ (d : Nat) (ls : Lc) (a : Nat) (st : List Value) (M : Mem) (Q : Outcome → Mem → Prop), Wp d 102 34 ls (.ref a :: st) M Q = (fk 12 (kO M a) = true ∧ Wp d 102 37 ls (va_rf (mR M 12 a) :: st) M Q) := fun d ls a st M Q => w_getR (show ins 102 34 = some (.getfield 19, 3) by decide +kernel) (show fRes (mC 102) 19 = some (12, 3, false) by decide +kernel) (by decide +kernel)
set_option maxRecDepth 100000 in
theorem r_102_37 : ∀ (d : Nat) (l0 l2 : Option Value) (v : Int32) (st : List Value) (M : Mem) (Q : Outcome → Mem → Prop), Wp d 102 37 [l0, some (.int v), l2] st M Q = Wp d 102 38 [l0, some (.int v), l2] (.int v :: st) M Q := fun d l0 l2 v st M Q => wA (show ins 102 37 = some (.iload_n 1, 1) by decide +kernel) rfl
set_option maxRecDepth 100000 in
theorem r_102_38 : ∀ (d : Nat) (ls : Lc) (a : Nat) (j : Int32) (st : List Value) (M : Mem) (Q : Outcome → Mem → Prop), Wp d 102 38 ls (.int j :: .ref a :: st) M Q = ((((kX M a).1 = 4 ∨ (kX M a).1 = 5 ∨ (kX M a).1 = 6 ∨ (kX M a).1 = 7) ∧ inB j (kX M a).2 = true) ∧ Wp d 102 39 ls (va_rf (mQ M a j.toNatClampNeg) :: st) M Q) := fun d ls a j st M Q => w_aaload (show ins 102 38 = some (.aaload, 1) by decide +kernel)
set_option maxRecDepth 100000 in
theorem r_102_39 : ∀ (d : Nat) (ls : Lc) (a : Nat) (M : Mem) (Q : Outcome → Mem → Prop), Wp d 102 39 ls [.ref a] M Q = Q (.returned (some (.ref a))) M := fun d ls a M Q => w_areturn (show ins 102 39 = some (.areturn, 1) by decide +kernel) (by decide +kernel)
set_option maxRecDepth 100000 in
theorem r_102_39_1 : ∀ (d : Nat) (ls : Lc) (M : Mem) (Q : Outcome → Mem → Prop), Wp d 102 39 ls [.null] M Q = Q (.returned (some .null)) M := fun d ls M Q => w_areturnN (show ins 102 39 = some (.areturn, 1) by decide +kernel) (by decide +kernel)
set_option maxRecDepth 100000 in
theorem W_102 : (type_of% r_102_0) ∧ (type_of% r_102_1) ∧ (type_of% r_102_4) ∧ (type_of% r_102_5) ∧ (type_of% r_102_6) ∧ (type_of% r_102_6_1) ∧ (type_of% r_102_9) ∧ (type_of% r_102_10) ∧ (type_of% r_102_13) ∧ (type_of% r_102_14) ∧ (type_of% r_102_17) ∧ (type_of% r_102_17_1) ∧ (type_of% r_102_18) ∧ (type_of% r_102_19) ∧ (type_of% r_102_22) ∧ (type_of% r_102_22_1) ∧ (type_of% r_102_23) ∧ (type_of% r_102_24) ∧ (type_of% r_102_27) ∧ (type_of% r_102_28) ∧ (type_of% r_102_29) ∧ (type_of% r_102_30) ∧ (type_of% r_102_33) ∧ (type_of% r_102_34) ∧ (type_of% r_102_37) ∧ (type_of% r_102_38) ∧ (type_of% r_102_39) ∧ (type_of% r_102_39_1) := ⟨r_102_0, r_102_1, r_102_4, r_102_5, r_102_6, r_102_6_1, r_102_9, r_102_10, r_102_13, r_102_14, r_102_17, r_102_17_1, r_102_18, r_102_19, r_102_22, r_102_22_1, r_102_23, r_102_24, r_102_27, r_102_28, r_102_29, r_102_30, r_102_33, r_102_34, r_102_37, r_102_38, r_102_39, r_102_39_1⟩
set_option maxRecDepth 100000 in
theorem ca_102 {d y pc : Nat} {ls : Lc} {a : Nat} {z0 : Int32} {z1 : Int32} {r : List Value} {M : Mem} {Q : Outcome → Mem → Prop} (hd : 0 < d) (hw : Wp (d - 1) 102 0 [some (.ref a), some (.int z0), some (.int z1)] [] M (Cq d y pc ls r Q)) : Ca d y pc ls 102 [.ref a, .int z0, .int z1] r M Q := ca_of (mq_get (by decide)) (by rfl) hd hw
/-! 103 PackedTree$Tree.join(LPackedTree$Leaf;)V; loop heads [2, 65, 104] -/
set_option maxRecDepth 100000 in
theorem r_103_0 : ∀ (d : Nat) (l0 l2 l3 l4 : Option Value) (v : Nat) (st : List Value) (M : Mem) (Q : Outcome → Mem → Prop), Wp d 103 0 [l0, some (.ref v), l2, l3, l4] st M Q = Wp d 103 1 [l0, some (.ref v), l2, l3, l4] (.ref v :: st) M Q := fun d l0 l2 l3 l4 v st M Q => wA (show ins 103 0 = some (.aload_n 1, 1) by decide +kernel) rfl
set_option maxRecDepth 100000 in
theorem r_103_0_1 : ∀ (d : Nat) (l0 l2 l3 l4 : Option Value) (st : List Value) (M : Mem) (Q : Outcome → Mem → Prop), Wp d 103 0 [l0, some .null, l2, l3, l4] st M Q = Wp d 103 1 [l0, some .null, l2, l3, l4] (.null :: st) M Q := fun d l0 l2 l3 l4 st M Q => wA (show ins 103 0 = some (.aload_n 1, 1) by decide +kernel) rfl
set_option maxRecDepth 100000 in
theorem r_103_1 : ∀ (d : Nat) (l0 l1 l2 l3 l4 : Option Value) (v : Nat) (st : List Value) (M : Mem) (Q : Outcome → Mem → Prop), (lo l1 = false) → Wp d 103 1 [l0, l1, l2, l3, l4] (.ref v :: st) M Q = Wp d 103 2 [l0, l1, some (.ref v), l3, l4] st M Q := fun d l0 l1 l2 l3 l4 v st M Q hl => w_astore_n (show ins 103 1 = some (.astore_n 2, 1) by decide +kernel) (st1_S rfl rfl hl)
set_option maxRecDepth 100000 in
theorem r_103_1_1 : ∀ (d : Nat) (l0 l1 l2 l3 l4 : Option Value) (st : List Value) (M : Mem) (Q : Outcome → Mem → Prop), (lo l1 = false) → Wp d 103 1 [l0, l1, l2, l3, l4] (.null :: st) M Q = Wp d 103 2 [l0, l1, some (.null), l3, l4] st M Q := fun d l0 l1 l2 l3 l4 st M Q hl => w_astoreN_n (show ins 103 1 = some (.astore_n 2, 1) by decide +kernel) (st1_S rfl rfl hl)
set_option maxRecDepth 100000 in
theorem r_103_2 : ∀ (d : Nat) (l0 l1 l3 l4 : Option Value) (v : Nat) (st : List Value) (M : Mem) (Q : Outcome → Mem → Prop), Wp d 103 2 [l0, l1, some (.ref v), l3, l4] st M Q = Wp d 103 3 [l0, l1, some (.ref v), l3, l4] (.ref v :: st) M Q := fun d l0 l1 l3 l4 v st M Q => wA (show ins 103 2 = some (.aload_n 2, 1) by decide +kernel) rfl
set_option maxRecDepth 100000 in
theorem r_103_2_1 : ∀ (d : Nat) (l0 l1 l3 l4 : Option Value) (st : List Value) (M : Mem) (Q : Outcome → Mem → Prop), Wp d 103 2 [l0, l1, some .null, l3, l4] st M Q = Wp d 103 3 [l0, l1, some .null, l3, l4] (.null :: st) M Q := fun d l0 l1 l3 l4 st M Q => wA (show ins 103 2 = some (.aload_n 2, 1) by decide +kernel) rfl
set_option maxRecDepth 100000 in
theorem r_103_3 : ∀ (d : Nat) (ls : Lc) (st : List Value) (M : Mem) (Q : Outcome → Mem → Prop), Wp d 103 3 ls (.null :: st) M Q = Wp d 103 140 ls st M Q := fun d ls st M Q => w_ifnullN (show ins 103 3 = some (.ifnull 137, 3) by decide +kernel) rfl
set_option maxRecDepth 100000 in
theorem r_103_3_1 : ∀ (d : Nat) (ls : Lc) (v : Nat) (st : List Value) (M : Mem) (Q : Outcome → Mem → Prop), Wp d 103 3 ls (.ref v :: st) M Q = Wp d 103 6 ls st M Q := fun d ls v st M Q => w_ifnullR (show ins 103 3 = some (.ifnull 137, 3) by decide +kernel) (t := 140) rfl
set_option maxRecDepth 100000 in
theorem r_103_6 : ∀ (d : Nat) (l0 l1 l3 l4 : Option Value) (v : Nat) (st : List Value) (M : Mem) (Q : Outcome → Mem → Prop), Wp d 103 6 [l0, l1, some (.ref v), l3, l4] st M Q = Wp d 103 7 [l0, l1, some (.ref v), l3, l4] (.ref v :: st) M Q := fun d l0 l1 l3 l4 v st M Q => wA (show ins 103 6 = some (.aload_n 2, 1) by decide +kernel) rfl
set_option maxRecDepth 100000 in
theorem r_103_6_1 : ∀ (d : Nat) (l0 l1 l3 l4 : Option Value) (st : List Value) (M : Mem) (Q : Outcome → Mem → Prop), Wp d 103 6 [l0, l1, some .null, l3, l4] st M Q = Wp d 103 7 [l0, l1, some .null, l3, l4] (.null :: st) M Q := fun d l0 l1 l3 l4 st M Q => wA (show ins 103 6 = some (.aload_n 2, 1) by decide +kernel) rfl
set_option maxRecDepth 100000 in
theorem r_103_7 : ∀ (d : Nat) (ls : Lc) (a : Nat) (st : List Value) (M : Mem) (Q : Outcome → Mem → Prop), Wp d 103 7 ls (.ref a :: st) M Q = (fk 30 (kO M a) = true ∧ Wp d 103 10 ls (va_rf (mR M 30 a) :: st) M Q) := fun d ls a st M Q => w_getR (show ins 103 7 = some (.getfield 145, 3) by decide +kernel) (show fRes (mC 103) 145 = some (30, 5, false) by decide +kernel) (by decide +kernel)
set_option maxRecDepth 100000 in
theorem r_103_10 : ∀ (d : Nat) (ls : Lc) (st : List Value) (M : Mem) (Q : Outcome → Mem → Prop), Wp d 103 10 ls (.null :: st) M Q = Wp d 103 13 ls (.null :: st) M Q := fun d ls st M Q => w_castN (show ins 103 10 = some (.checkcast 9, 3) by decide +kernel)
set_option maxRecDepth 100000 in
theorem r_103_10_1 : ∀ (d : Nat) (ls : Lc) (a : Nat) (st : List Value) (M : Mem) (Q : Outcome → Mem → Prop), Wp d 103 10 ls (.ref a :: st) M Q = (kO M a = 5 ∧ Wp d 103 13 ls (.ref a :: st) M Q) := fun d ls a st M Q => w_cast (show ins 103 10 = some (.checkcast 9, 3) by decide +kernel) (show cRes (mC 103) 9 = some 5 by decide +kernel) (by decide +kernel)
set_option maxRecDepth 100000 in
theorem r_103_13 : ∀ (d : Nat) (l0 l1 l2 l3 l4 : Option Value) (v : Nat) (st : List Value) (M : Mem) (Q : Outcome → Mem → Prop), (lo l2 = false) → Wp d 103 13 [l0, l1, l2, l3, l4] (.ref v :: st) M Q = Wp d 103 14 [l0, l1, l2, some (.ref v), l4] st M Q := fun d l0 l1 l2 l3 l4 v st M Q hl => w_astore_n (show ins 103 13 = some (.astore_n 3, 1) by decide +kernel) (st1_S rfl rfl hl)
set_option maxRecDepth 100000 in
theorem r_103_13_1 : ∀ (d : Nat) (l0 l1 l2 l3 l4 : Option Value) (st : List Value) (M : Mem) (Q : Outcome → Mem → Prop), (lo l2 = false) → Wp d 103 13 [l0, l1, l2, l3, l4] (.null :: st) M Q = Wp d 103 14 [l0, l1, l2, some (.null), l4] st M Q := fun d l0 l1 l2 l3 l4 st M Q hl => w_astoreN_n (show ins 103 13 = some (.astore_n 3, 1) by decide +kernel) (st1_S rfl rfl hl)
set_option maxRecDepth 100000 in
theorem r_103_14 : ∀ (d : Nat) (l0 l1 l3 l4 : Option Value) (v : Nat) (st : List Value) (M : Mem) (Q : Outcome → Mem → Prop), Wp d 103 14 [l0, l1, some (.ref v), l3, l4] st M Q = Wp d 103 15 [l0, l1, some (.ref v), l3, l4] (.ref v :: st) M Q := fun d l0 l1 l3 l4 v st M Q => wA (show ins 103 14 = some (.aload_n 2, 1) by decide +kernel) rfl
set_option maxRecDepth 100000 in
theorem r_103_14_1 : ∀ (d : Nat) (l0 l1 l3 l4 : Option Value) (st : List Value) (M : Mem) (Q : Outcome → Mem → Prop), Wp d 103 14 [l0, l1, some .null, l3, l4] st M Q = Wp d 103 15 [l0, l1, some .null, l3, l4] (.null :: st) M Q := fun d l0 l1 l3 l4 st M Q => wA (show ins 103 14 = some (.aload_n 2, 1) by decide +kernel) rfl
set_option maxRecDepth 100000 in
theorem r_103_15 : ∀ (d : Nat) (ls : Lc) (a : Nat) (st : List Value) (M : Mem) (Q : Outcome → Mem → Prop), Wp d 103 15 ls (.ref a :: st) M Q = (fk 31 (kO M a) = true ∧ Wp d 103 18 ls (va_rf (mR M 31 a) :: st) M Q) := fun d ls a st M Q => w_getR (show ins 103 15 = some (.getfield 161, 3) by decide +kernel) (show fRes (mC 103) 161 = some (31, 5, false) by decide +kernel) (by decide +kernel)
set_option maxRecDepth 100000 in
theorem r_103_18 : ∀ (d : Nat) (ls : Lc) (st : List Value) (M : Mem) (Q : Outcome → Mem → Prop), Wp d 103 18 ls (.null :: st) M Q = Wp d 103 21 ls (.null :: st) M Q := fun d ls st M Q => w_castN (show ins 103 18 = some (.checkcast 9, 3) by decide +kernel)
set_option maxRecDepth 100000 in
theorem r_103_18_1 : ∀ (d : Nat) (ls : Lc) (a : Nat) (st : List Value) (M : Mem) (Q : Outcome → Mem → Prop), Wp d 103 18 ls (.ref a :: st) M Q = (kO M a = 5 ∧ Wp d 103 21 ls (.ref a :: st) M Q) := fun d ls a st M Q => w_cast (show ins 103 18 = some (.checkcast 9, 3) by decide +kernel) (show cRes (mC 103) 9 = some 5 by decide +kernel) (by decide +kernel)
set_option maxRecDepth 100000 in
theorem r_103_21 : ∀ (d : Nat) (l0 l1 l2 l3 l4 : Option Value) (v : Nat) (st : List Value) (M : Mem) (Q : Outcome → Mem → Prop), (lo l3 = false) → Wp d 103 21 [l0, l1, l2, l3, l4] (.ref v :: st) M Q = Wp d 103 23 [l0, l1, l2, l3, some (.ref v)] st M Q := fun d l0 l1 l2 l3 l4 v st M Q hl => w_astore (show ins 103 21 = some (.astore 4, 2) by decide +kernel) (st1_S rfl rfl hl)
set_option maxRecDepth 100000 in
theorem r_103_21_1 : ∀ (d : Nat) (l0 l1 l2 l3 l4 : Option Value) (st : List Value) (M : Mem) (Q : Outcome → Mem → Prop), (lo l3 = false) → Wp d 103 21 [l0, l1, l2, l3, l4] (.null :: st) M Q = Wp d 103 23 [l0, l1, l2, l3, some (.null)] st M Q := fun d l0 l1 l2 l3 l4 st M Q hl => w_astoreN (show ins 103 21 = some (.astore 4, 2) by decide +kernel) (st1_S rfl rfl hl)
set_option maxRecDepth 100000 in
theorem r_103_23 : ∀ (d : Nat) (l0 l1 l3 l4 : Option Value) (v : Nat) (st : List Value) (M : Mem) (Q : Outcome → Mem → Prop), Wp d 103 23 [l0, l1, some (.ref v), l3, l4] st M Q = Wp d 103 24 [l0, l1, some (.ref v), l3, l4] (.ref v :: st) M Q := fun d l0 l1 l3 l4 v st M Q => wA (show ins 103 23 = some (.aload_n 2, 1) by decide +kernel) rfl
set_option maxRecDepth 100000 in
theorem r_103_23_1 : ∀ (d : Nat) (l0 l1 l3 l4 : Option Value) (st : List Value) (M : Mem) (Q : Outcome → Mem → Prop), Wp d 103 23 [l0, l1, some .null, l3, l4] st M Q = Wp d 103 24 [l0, l1, some .null, l3, l4] (.null :: st) M Q := fun d l0 l1 l3 l4 st M Q => wA (show ins 103 23 = some (.aload_n 2, 1) by decide +kernel) rfl
set_option maxRecDepth 100000 in
theorem r_103_24 : ∀ (d : Nat) (ls : Lc) (a : Nat) (st : List Value) (M : Mem) (Q : Outcome → Mem → Prop), Wp d 103 24 ls (.ref a :: st) M Q = (fk 37 (kO M a) = true ∧ Wp d 103 27 ls (.int (mF M 37 a) :: st) M Q) := fun d ls a st M Q => w_getI (show ins 103 24 = some (.getfield 156, 3) by decide +kernel) (show fRes (mC 103) 156 = some (37, 5, true) by decide +kernel) (by decide +kernel)
set_option maxRecDepth 100000 in
theorem r_103_27 : ∀ (d : Nat) (ls : Lc) (a : Int32) (st : List Value) (M : Mem) (Q : Outcome → Mem → Prop), Wp d 103 27 ls (.int a :: st) M Q = Br (¬ a = I 0) d 103 57 30 ls st M Q := fun d ls a st M Q => w_if (show ins 103 27 = some (.ifCond .ne 30, 3) by decide +kernel) rfl rfl
set_option maxRecDepth 100000 in
theorem r_103_30 : ∀ (d : Nat) (l0 l1 l3 l4 : Option Value) (v : Nat) (st : List Value) (M : Mem) (Q : Outcome → Mem → Prop), Wp d 103 30 [l0, l1, some (.ref v), l3, l4] st M Q = Wp d 103 31 [l0, l1, some (.ref v), l3, l4] (.ref v :: st) M Q := fun d l0 l1 l3 l4 v st M Q => wA (show ins 103 30 = some (.aload_n 2, 1) by decide +kernel) rfl
set_option maxRecDepth 100000 in
theorem r_103_30_1 : ∀ (d : Nat) (l0 l1 l3 l4 : Option Value) (st : List Value) (M : Mem) (Q : Outcome → Mem → Prop), Wp d 103 30 [l0, l1, some .null, l3, l4] st M Q = Wp d 103 31 [l0, l1, some .null, l3, l4] (.null :: st) M Q := fun d l0 l1 l3 l4 st M Q => wA (show ins 103 30 = some (.aload_n 2, 1) by decide +kernel) rfl
set_option maxRecDepth 100000 in
theorem r_103_31 : ∀ (d : Nat) (l1 l2 l3 l4 : Option Value) (v : Nat) (st : List Value) (M : Mem) (Q : Outcome → Mem → Prop), Wp d 103 31 [some (.ref v), l1, l2, l3, l4] st M Q = Wp d 103 32 [some (.ref v), l1, l2, l3, l4] (.ref v :: st) M Q := fun d l1 l2 l3 l4 v st M Q => wA (show ins 103 31 = some (.aload_n 0, 1) by decide +kernel) rfl
set_option maxRecDepth 100000 in
theorem r_103_32 : ∀ (d : Nat) (ls : Lc) (a : Nat) (st : List Value) (M : Mem) (Q : Outcome → Mem → Prop), Wp d 103 32 ls (.ref a :: st) M Q = (fk 18 (kO M a) = true ∧ Wp d 103 35 ls (va_rf (mR M 18 a) :: st) M Q) := fun d ls a st M Q => w_getR (show ins 103 32 = some (.getfield 52, 3) by decide +kernel) (show fRes (mC 103) 52 = some (18, 3, false) by decide +kernel) (by decide +kernel)
set_option maxRecDepth 100000 in
theorem r_103_35 : ∀ (d : Nat) (ls : Lc) (a b : Nat) (st : List Value) (M : Mem) (Q : Outcome → Mem → Prop), Wp d 103 35 ls (.ref b :: .ref a :: st) M Q = Br (a = b) d 103 57 38 ls st M Q := fun d ls a b st M Q => w_acmpE (show ins 103 35 = some (.if_acmp .eq 22, 3) by decide +kernel) rfl
set_option maxRecDepth 100000 in
theorem r_103_38 : ∀ (d : Nat) (l1 l2 l3 l4 : Option Value) (v : Nat) (st : List Value) (M : Mem) (Q : Outcome → Mem → Prop), Wp d 103 38 [some (.ref v), l1, l2, l3, l4] st M Q = Wp d 103 39 [some (.ref v), l1, l2, l3, l4] (.ref v :: st) M Q := fun d l1 l2 l3 l4 v st M Q => wA (show ins 103 38 = some (.aload_n 0, 1) by decide +kernel) rfl
set_option maxRecDepth 100000 in
theorem r_103_39 : ∀ (d : Nat) (l0 l1 l3 l4 : Option Value) (v : Nat) (st : List Value) (M : Mem) (Q : Outcome → Mem → Prop), Wp d 103 39 [l0, l1, some (.ref v), l3, l4] st M Q = Wp d 103 40 [l0, l1, some (.ref v), l3, l4] (.ref v :: st) M Q := fun d l0 l1 l3 l4 v st M Q => wA (show ins 103 39 = some (.aload_n 2, 1) by decide +kernel) rfl
set_option maxRecDepth 100000 in
theorem r_103_39_1 : ∀ (d : Nat) (l0 l1 l3 l4 : Option Value) (st : List Value) (M : Mem) (Q : Outcome → Mem → Prop), Wp d 103 39 [l0, l1, some .null, l3, l4] st M Q = Wp d 103 40 [l0, l1, some .null, l3, l4] (.null :: st) M Q := fun d l0 l1 l3 l4 st M Q => wA (show ins 103 39 = some (.aload_n 2, 1) by decide +kernel) rfl
set_option maxRecDepth 100000 in
theorem r_103_40 : ∀ (d : Nat) (ls : Lc) (v0 : Value) (a : Nat) (st : List Value) (M : Mem) (Q : Outcome → Mem → Prop), (smallR st = true) → Wp d 103 40 ls (v0 :: .ref a :: st) M Q = (kO M a = 3 ∧ Ca d 103 40 ls 104 (.ref a :: [v0]) st M Q) := fun d ls v0 a st M Q h0 => w_virt1 (as := [v0]) (show ins 103 40 = some (.invokevirtual 186, 3) by decide +kernel) (show mRes (mC 103) 186 = some (3, 3, [(3, 104)]) by decide +kernel) (by decide +kernel) rfl (by decide +kernel) (by decide +kernel) h0
set_option maxRecDepth 100000 in
theorem r_103_43 : ∀ (d : Nat) (l0 l1 l2 l4 : Option Value) (v : Nat) (st : List Value) (M : Mem) (Q : Outcome → Mem → Prop), Wp d 103 43 [l0, l1, l2, some (.ref v), l4] st M Q = Wp d 103 44 [l0, l1, l2, some (.ref v), l4] (.ref v :: st) M Q := fun d l0 l1 l2 l4 v st M Q => wA (show ins 103 43 = some (.aload_n 3, 1) by decide +kernel) rfl
set_option maxRecDepth 100000 in
theorem r_103_43_1 : ∀ (d : Nat) (l0 l1 l2 l4 : Option Value) (st : List Value) (M : Mem) (Q : Outcome → Mem → Prop), Wp d 103 43 [l0, l1, l2, some .null, l4] st M Q = Wp d 103 44 [l0, l1, l2, some .null, l4] (.null :: st) M Q := fun d l0 l1 l2 l4 st M Q => wA (show ins 103 43 = some (.aload_n 3, 1) by decide +kernel) rfl
set_option maxRecDepth 100000 in
theorem r_103_44 : ∀ (d : Nat) (ls : Lc) (st : List Value) (M : Mem) (Q : Outcome → Mem → Prop), Wp d 103 44 ls (.null :: st) M Q = Wp d 103 51 ls st M Q := fun d ls st M Q => w_ifnullN (show ins 103 44 = some (.ifnull 7, 3) by decide +kernel) rfl
set_option maxRecDepth 100000 in
theorem r_103_44_1 : ∀ (d : Nat) (ls : Lc) (v : Nat) (st : List Value) (M : Mem) (Q : Outcome → Mem → Prop), Wp d 103 44 ls (.ref v :: st) M Q = Wp d 103 47 ls st M Q := fun d ls v st M Q => w_ifnullR (show ins 103 44 = some (.ifnull 7, 3) by decide +kernel) (t := 51) rfl
set_option maxRecDepth 100000 in
theorem r_103_47 : ∀ (d : Nat) (l0 l1 l2 l4 : Option Value) (v : Nat) (st : List Value) (M : Mem) (Q : Outcome → Mem → Prop), Wp d 103 47 [l0, l1, l2, some (.ref v), l4] st M Q = Wp d 103 48 [l0, l1, l2, some (.ref v), l4] (.ref v :: st) M Q := fun d l0 l1 l2 l4 v st M Q => wA (show ins 103 47 = some (.aload_n 3, 1) by decide +kernel) rfl
set_option maxRecDepth 100000 in
theorem r_103_47_1 : ∀ (d : Nat) (l0 l1 l2 l4 : Option Value) (st : List Value) (M : Mem) (Q : Outcome → Mem → Prop), Wp d 103 47 [l0, l1, l2, some .null, l4] st M Q = Wp d 103 48 [l0, l1, l2, some .null, l4] (.null :: st) M Q := fun d l0 l1 l2 l4 st M Q => wA (show ins 103 47 = some (.aload_n 3, 1) by decide +kernel) rfl
set_option maxRecDepth 100000 in
theorem r_103_48 : ∀ (d : Nat) (ls : Lc) (st : List Value) (M : Mem) (Q : Outcome → Mem → Prop), Wp d 103 48 ls st M Q = Wp d 103 53 ls st M Q := fun d ls st M Q => w_goto (show ins 103 48 = some (.goto 5, 3) by decide +kernel) rfl
set_option maxRecDepth 100000 in
theorem r_103_51 : ∀ (d : Nat) (l0 l1 l2 l3 : Option Value) (v : Nat) (st : List Value) (M : Mem) (Q : Outcome → Mem → Prop), Wp d 103 51 [l0, l1, l2, l3, some (.ref v)] st M Q = Wp d 103 53 [l0, l1, l2, l3, some (.ref v)] (.ref v :: st) M Q := fun d l0 l1 l2 l3 v st M Q => wA (show ins 103 51 = some (.aload 4, 2) by decide +kernel) rfl
set_option maxRecDepth 100000 in
theorem r_103_51_1 : ∀ (d : Nat) (l0 l1 l2 l3 : Option Value) (st : List Value) (M : Mem) (Q : Outcome → Mem → Prop), Wp d 103 51 [l0, l1, l2, l3, some .null] st M Q = Wp d 103 53 [l0, l1, l2, l3, some .null] (.null :: st) M Q := fun d l0 l1 l2 l3 st M Q => wA (show ins 103 51 = some (.aload 4, 2) by decide +kernel) rfl
set_option maxRecDepth 100000 in
theorem r_103_53 : ∀ (d : Nat) (l0 l1 l2 l3 l4 : Option Value) (v : Nat) (st : List Value) (M : Mem) (Q : Outcome → Mem → Prop), (lo l1 = false) → Wp d 103 53 [l0, l1, l2, l3, l4] (.ref v :: st) M Q = Wp d 103 54 [l0, l1, some (.ref v), l3, l4] st M Q := fun d l0 l1 l2 l3 l4 v st M Q hl => w_astore_n (show ins 103 53 = some (.astore_n 2, 1) by decide +kernel) (st1_S rfl rfl hl)
set_option maxRecDepth 100000 in
theorem r_103_53_1 : ∀ (d : Nat) (l0 l1 l2 l3 l4 : Option Value) (st : List Value) (M : Mem) (Q : Outcome → Mem → Prop), (lo l1 = false) → Wp d 103 53 [l0, l1, l2, l3, l4] (.null :: st) M Q = Wp d 103 54 [l0, l1, some (.null), l3, l4] st M Q := fun d l0 l1 l2 l3 l4 st M Q hl => w_astoreN_n (show ins 103 53 = some (.astore_n 2, 1) by decide +kernel) (st1_S rfl rfl hl)
set_option maxRecDepth 100000 in
theorem r_103_54 : ∀ (d : Nat) (ls : Lc) (st : List Value) (M : Mem) (Q : Outcome → Mem → Prop), Wp d 103 54 ls st M Q = Wp d 103 137 ls st M Q := fun d ls st M Q => w_goto (show ins 103 54 = some (.goto 83, 3) by decide +kernel) rfl
set_option maxRecDepth 100000 in
theorem r_103_57 : ∀ (d : Nat) (l0 l1 l2 l4 : Option Value) (v : Nat) (st : List Value) (M : Mem) (Q : Outcome → Mem → Prop), Wp d 103 57 [l0, l1, l2, some (.ref v), l4] st M Q = Wp d 103 58 [l0, l1, l2, some (.ref v), l4] (.ref v :: st) M Q := fun d l0 l1 l2 l4 v st M Q => wA (show ins 103 57 = some (.aload_n 3, 1) by decide +kernel) rfl
set_option maxRecDepth 100000 in
theorem r_103_57_1 : ∀ (d : Nat) (l0 l1 l2 l4 : Option Value) (st : List Value) (M : Mem) (Q : Outcome → Mem → Prop), Wp d 103 57 [l0, l1, l2, some .null, l4] st M Q = Wp d 103 58 [l0, l1, l2, some .null, l4] (.null :: st) M Q := fun d l0 l1 l2 l4 st M Q => wA (show ins 103 57 = some (.aload_n 3, 1) by decide +kernel) rfl
set_option maxRecDepth 100000 in
theorem r_103_58 : ∀ (d : Nat) (l0 l1 l3 l4 : Option Value) (v : Nat) (st : List Value) (M : Mem) (Q : Outcome → Mem → Prop), Wp d 103 58 [l0, l1, some (.ref v), l3, l4] st M Q = Wp d 103 59 [l0, l1, some (.ref v), l3, l4] (.ref v :: st) M Q := fun d l0 l1 l3 l4 v st M Q => wA (show ins 103 58 = some (.aload_n 2, 1) by decide +kernel) rfl
set_option maxRecDepth 100000 in
theorem r_103_58_1 : ∀ (d : Nat) (l0 l1 l3 l4 : Option Value) (st : List Value) (M : Mem) (Q : Outcome → Mem → Prop), Wp d 103 58 [l0, l1, some .null, l3, l4] st M Q = Wp d 103 59 [l0, l1, some .null, l3, l4] (.null :: st) M Q := fun d l0 l1 l3 l4 st M Q => wA (show ins 103 58 = some (.aload_n 2, 1) by decide +kernel) rfl
set_option maxRecDepth 100000 in
theorem r_103_59 : ∀ (d : Nat) (ls : Lc) (v0 v1 : Value)  (st : List Value) (M : Mem) (Q : Outcome → Mem → Prop), (smallR st = true) → Wp d 103 59 ls (v1 :: v0 :: st) M Q = Ca d 103 59 ls 105 [v0, v1] st M Q := fun d ls v0 v1 st M Q h0 => w_stat (as := [v0, v1]) (show ins 103 59 = some (.invokestatic 189, 3) by decide +kernel) (show mRes (mC 103) 189 = some (0, 3, [(0, 105)]) by decide +kernel) (by decide +kernel) (by decide +kernel) rfl h0
set_option maxRecDepth 100000 in
theorem r_103_62 : ∀ (d : Nat) (ls : Lc) (a : Int32) (st : List Value) (M : Mem) (Q : Outcome → Mem → Prop), Wp d 103 62 ls (.int a :: st) M Q = Br (a = I 0) d 103 95 65 ls st M Q := fun d ls a st M Q => w_if (show ins 103 62 = some (.ifCond .eq 33, 3) by decide +kernel) rfl rfl
set_option maxRecDepth 100000 in
theorem r_103_65 : ∀ (d : Nat) (l0 l1 l3 l4 : Option Value) (v : Nat) (st : List Value) (M : Mem) (Q : Outcome → Mem → Prop), Wp d 103 65 [l0, l1, some (.ref v), l3, l4] st M Q = Wp d 103 66 [l0, l1, some (.ref v), l3, l4] (.ref v :: st) M Q := fun d l0 l1 l3 l4 v st M Q => wA (show ins 103 65 = some (.aload_n 2, 1) by decide +kernel) rfl
set_option maxRecDepth 100000 in
theorem r_103_65_1 : ∀ (d : Nat) (l0 l1 l3 l4 : Option Value) (st : List Value) (M : Mem) (Q : Outcome → Mem → Prop), Wp d 103 65 [l0, l1, some .null, l3, l4] st M Q = Wp d 103 66 [l0, l1, some .null, l3, l4] (.null :: st) M Q := fun d l0 l1 l3 l4 st M Q => wA (show ins 103 65 = some (.aload_n 2, 1) by decide +kernel) rfl
set_option maxRecDepth 100000 in
theorem r_103_66 : ∀ (d : Nat) (ls : Lc) (a : Nat) (st : List Value) (M : Mem) (Q : Outcome → Mem → Prop), Wp d 103 66 ls (.ref a :: st) M Q = (fk 37 (kO M a) = true ∧ Wp d 103 69 ls (.int (mF M 37 a) :: st) M Q) := fun d ls a st M Q => w_getI (show ins 103 66 = some (.getfield 156, 3) by decide +kernel) (show fRes (mC 103) 156 = some (37, 5, true) by decide +kernel) (by decide +kernel)
set_option maxRecDepth 100000 in
theorem r_103_69 : ∀ (d : Nat) (ls : Lc) (a : Int32) (st : List Value) (M : Mem) (Q : Outcome → Mem → Prop), Wp d 103 69 ls (.int a :: st) M Q = Br (a ≤ I 0) d 103 85 72 ls st M Q := fun d ls a st M Q => w_if (show ins 103 69 = some (.ifCond .le 16, 3) by decide +kernel) rfl rfl
set_option maxRecDepth 100000 in
theorem r_103_72 : ∀ (d : Nat) (l0 l1 l3 l4 : Option Value) (v : Nat) (st : List Value) (M : Mem) (Q : Outcome → Mem → Prop), Wp d 103 72 [l0, l1, some (.ref v), l3, l4] st M Q = Wp d 103 73 [l0, l1, some (.ref v), l3, l4] (.ref v :: st) M Q := fun d l0 l1 l3 l4 v st M Q => wA (show ins 103 72 = some (.aload_n 2, 1) by decide +kernel) rfl
set_option maxRecDepth 100000 in
theorem r_103_72_1 : ∀ (d : Nat) (l0 l1 l3 l4 : Option Value) (st : List Value) (M : Mem) (Q : Outcome → Mem → Prop), Wp d 103 72 [l0, l1, some .null, l3, l4] st M Q = Wp d 103 73 [l0, l1, some .null, l3, l4] (.null :: st) M Q := fun d l0 l1 l3 l4 st M Q => wA (show ins 103 72 = some (.aload_n 2, 1) by decide +kernel) rfl
set_option maxRecDepth 100000 in
theorem r_103_73 : ∀ (d : Nat) (ls : Lc) (st : List Value) (M : Mem) (Q : Outcome → Mem → Prop), Wp d 103 73 ls st M Q = Wp d 103 74 ls (.int (I 0) :: st) M Q := fun d ls st M Q => w_iconst (show ins 103 73 = some (.iconst 0, 1) by decide +kernel)
set_option maxRecDepth 100000 in
theorem r_103_74 : ∀ (d : Nat) (l0 l1 l2 l4 : Option Value) (v : Nat) (st : List Value) (M : Mem) (Q : Outcome → Mem → Prop), Wp d 103 74 [l0, l1, l2, some (.ref v), l4] st M Q = Wp d 103 75 [l0, l1, l2, some (.ref v), l4] (.ref v :: st) M Q := fun d l0 l1 l2 l4 v st M Q => wA (show ins 103 74 = some (.aload_n 3, 1) by decide +kernel) rfl
set_option maxRecDepth 100000 in
theorem r_103_74_1 : ∀ (d : Nat) (l0 l1 l2 l4 : Option Value) (st : List Value) (M : Mem) (Q : Outcome → Mem → Prop), Wp d 103 74 [l0, l1, l2, some .null, l4] st M Q = Wp d 103 75 [l0, l1, l2, some .null, l4] (.null :: st) M Q := fun d l0 l1 l2 l4 st M Q => wA (show ins 103 74 = some (.aload_n 3, 1) by decide +kernel) rfl
set_option maxRecDepth 100000 in
theorem r_103_75 : ∀ (d : Nat) (l0 l1 l2 l4 : Option Value) (v : Nat) (st : List Value) (M : Mem) (Q : Outcome → Mem → Prop), Wp d 103 75 [l0, l1, l2, some (.ref v), l4] st M Q = Wp d 103 76 [l0, l1, l2, some (.ref v), l4] (.ref v :: st) M Q := fun d l0 l1 l2 l4 v st M Q => wA (show ins 103 75 = some (.aload_n 3, 1) by decide +kernel) rfl
set_option maxRecDepth 100000 in
theorem r_103_75_1 : ∀ (d : Nat) (l0 l1 l2 l4 : Option Value) (st : List Value) (M : Mem) (Q : Outcome → Mem → Prop), Wp d 103 75 [l0, l1, l2, some .null, l4] st M Q = Wp d 103 76 [l0, l1, l2, some .null, l4] (.null :: st) M Q := fun d l0 l1 l2 l4 st M Q => wA (show ins 103 75 = some (.aload_n 3, 1) by decide +kernel) rfl
set_option maxRecDepth 100000 in
theorem r_103_76 : ∀ (d : Nat) (ls : Lc) (a : Nat) (st : List Value) (M : Mem) (Q : Outcome → Mem → Prop), Wp d 103 76 ls (.ref a :: st) M Q = (fk 37 (kO M a) = true ∧ Wp d 103 79 ls (.int (mF M 37 a) :: st) M Q) := fun d ls a st M Q => w_getI (show ins 103 76 = some (.getfield 156, 3) by decide +kernel) (show fRes (mC 103) 156 = some (37, 5, true) by decide +kernel) (by decide +kernel)
set_option maxRecDepth 100000 in
theorem r_103_79 : ∀ (d : Nat) (ls : Lc) (v0 v1 v2 : Value) (a : Nat) (st : List Value) (M : Mem) (Q : Outcome → Mem → Prop), (smallR st = true) → Wp d 103 79 ls (v2 :: v1 :: v0 :: .ref a :: st) M Q = (kO M a = 5 ∧ Ca d 103 79 ls 132 (.ref a :: [v0, v1, v2]) st M Q) := fun d ls v0 v1 v2 a st M Q h0 => w_virt1 (as := [v0, v1, v2]) (show ins 103 79 = some (.invokevirtual 157, 3) by decide +kernel) (show mRes (mC 103) 157 = some (3, 5, [(5, 132)]) by decide +kernel) (by decide +kernel) rfl (by decide +kernel) (by decide +kernel) h0
set_option maxRecDepth 100000 in
theorem r_103_82 : ∀ (d : Nat) (ls : Lc) (st : List Value) (M : Mem) (Q : Outcome → Mem → Prop), Wp d 103 82 ls st M Q = Wp d 103 65 ls st M Q := fun d ls st M Q => w_goto (show ins 103 82 = some (.goto (-17), 3) by decide +kernel) rfl
set_option maxRecDepth 100000 in
theorem r_103_85 : ∀ (d : Nat) (l1 l2 l3 l4 : Option Value) (v : Nat) (st : List Value) (M : Mem) (Q : Outcome → Mem → Prop), Wp d 103 85 [some (.ref v), l1, l2, l3, l4] st M Q = Wp d 103 86 [some (.ref v), l1, l2, l3, l4] (.ref v :: st) M Q := fun d l1 l2 l3 l4 v st M Q => wA (show ins 103 85 = some (.aload_n 0, 1) by decide +kernel) rfl
set_option maxRecDepth 100000 in
theorem r_103_86 : ∀ (d : Nat) (l0 l1 l3 l4 : Option Value) (v : Nat) (st : List Value) (M : Mem) (Q : Outcome → Mem → Prop), Wp d 103 86 [l0, l1, some (.ref v), l3, l4] st M Q = Wp d 103 87 [l0, l1, some (.ref v), l3, l4] (.ref v :: st) M Q := fun d l0 l1 l3 l4 v st M Q => wA (show ins 103 86 = some (.aload_n 2, 1) by decide +kernel) rfl
set_option maxRecDepth 100000 in
theorem r_103_86_1 : ∀ (d : Nat) (l0 l1 l3 l4 : Option Value) (st : List Value) (M : Mem) (Q : Outcome → Mem → Prop), Wp d 103 86 [l0, l1, some .null, l3, l4] st M Q = Wp d 103 87 [l0, l1, some .null, l3, l4] (.null :: st) M Q := fun d l0 l1 l3 l4 st M Q => wA (show ins 103 86 = some (.aload_n 2, 1) by decide +kernel) rfl
set_option maxRecDepth 100000 in
theorem r_103_87 : ∀ (d : Nat) (ls : Lc) (v0 : Value) (a : Nat) (st : List Value) (M : Mem) (Q : Outcome → Mem → Prop), (smallR st = true) → Wp d 103 87 ls (v0 :: .ref a :: st) M Q = (kO M a = 3 ∧ Ca d 103 87 ls 104 (.ref a :: [v0]) st M Q) := fun d ls v0 a st M Q h0 => w_virt1 (as := [v0]) (show ins 103 87 = some (.invokevirtual 186, 3) by decide +kernel) (show mRes (mC 103) 186 = some (3, 3, [(3, 104)]) by decide +kernel) (by decide +kernel) rfl (by decide +kernel) (by decide +kernel) h0
set_option maxRecDepth 100000 in
theorem r_103_90 : ∀ (d : Nat) (l0 l1 l2 l4 : Option Value) (v : Nat) (st : List Value) (M : Mem) (Q : Outcome → Mem → Prop), Wp d 103 90 [l0, l1, l2, some (.ref v), l4] st M Q = Wp d 103 91 [l0, l1, l2, some (.ref v), l4] (.ref v :: st) M Q := fun d l0 l1 l2 l4 v st M Q => wA (show ins 103 90 = some (.aload_n 3, 1) by decide +kernel) rfl
set_option maxRecDepth 100000 in
theorem r_103_90_1 : ∀ (d : Nat) (l0 l1 l2 l4 : Option Value) (st : List Value) (M : Mem) (Q : Outcome → Mem → Prop), Wp d 103 90 [l0, l1, l2, some .null, l4] st M Q = Wp d 103 91 [l0, l1, l2, some .null, l4] (.null :: st) M Q := fun d l0 l1 l2 l4 st M Q => wA (show ins 103 90 = some (.aload_n 3, 1) by decide +kernel) rfl
set_option maxRecDepth 100000 in
theorem r_103_91 : ∀ (d : Nat) (l0 l1 l2 l3 l4 : Option Value) (v : Nat) (st : List Value) (M : Mem) (Q : Outcome → Mem → Prop), (lo l1 = false) → Wp d 103 91 [l0, l1, l2, l3, l4] (.ref v :: st) M Q = Wp d 103 92 [l0, l1, some (.ref v), l3, l4] st M Q := fun d l0 l1 l2 l3 l4 v st M Q hl => w_astore_n (show ins 103 91 = some (.astore_n 2, 1) by decide +kernel) (st1_S rfl rfl hl)
set_option maxRecDepth 100000 in
theorem r_103_91_1 : ∀ (d : Nat) (l0 l1 l2 l3 l4 : Option Value) (st : List Value) (M : Mem) (Q : Outcome → Mem → Prop), (lo l1 = false) → Wp d 103 91 [l0, l1, l2, l3, l4] (.null :: st) M Q = Wp d 103 92 [l0, l1, some (.null), l3, l4] st M Q := fun d l0 l1 l2 l3 l4 st M Q hl => w_astoreN_n (show ins 103 91 = some (.astore_n 2, 1) by decide +kernel) (st1_S rfl rfl hl)
set_option maxRecDepth 100000 in
theorem r_103_92 : ∀ (d : Nat) (ls : Lc) (st : List Value) (M : Mem) (Q : Outcome → Mem → Prop), Wp d 103 92 ls st M Q = Wp d 103 137 ls st M Q := fun d ls st M Q => w_goto (show ins 103 92 = some (.goto 45, 3) by decide +kernel) rfl
set_option maxRecDepth 100000 in
theorem r_103_95 : ∀ (d : Nat) (l0 l1 l3 l4 : Option Value) (v : Nat) (st : List Value) (M : Mem) (Q : Outcome → Mem → Prop), Wp d 103 95 [l0, l1, some (.ref v), l3, l4] st M Q = Wp d 103 96 [l0, l1, some (.ref v), l3, l4] (.ref v :: st) M Q := fun d l0 l1 l3 l4 v st M Q => wA (show ins 103 95 = some (.aload_n 2, 1) by decide +kernel) rfl
set_option maxRecDepth 100000 in
theorem r_103_95_1 : ∀ (d : Nat) (l0 l1 l3 l4 : Option Value) (st : List Value) (M : Mem) (Q : Outcome → Mem → Prop), Wp d 103 95 [l0, l1, some .null, l3, l4] st M Q = Wp d 103 96 [l0, l1, some .null, l3, l4] (.null :: st) M Q := fun d l0 l1 l3 l4 st M Q => wA (show ins 103 95 = some (.aload_n 2, 1) by decide +kernel) rfl
set_option maxRecDepth 100000 in
theorem r_103_96 : ∀ (d : Nat) (l0 l1 l2 l3 : Option Value) (v : Nat) (st : List Value) (M : Mem) (Q : Outcome → Mem → Prop), Wp d 103 96 [l0, l1, l2, l3, some (.ref v)] st M Q = Wp d 103 98 [l0, l1, l2, l3, some (.ref v)] (.ref v :: st) M Q := fun d l0 l1 l2 l3 v st M Q => wA (show ins 103 96 = some (.aload 4, 2) by decide +kernel) rfl
set_option maxRecDepth 100000 in
theorem r_103_96_1 : ∀ (d : Nat) (l0 l1 l2 l3 : Option Value) (st : List Value) (M : Mem) (Q : Outcome → Mem → Prop), Wp d 103 96 [l0, l1, l2, l3, some .null] st M Q = Wp d 103 98 [l0, l1, l2, l3, some .null] (.null :: st) M Q := fun d l0 l1 l2 l3 st M Q => wA (show ins 103 96 = some (.aload 4, 2) by decide +kernel) rfl
set_option maxRecDepth 100000 in
theorem r_103_98 : ∀ (d : Nat) (ls : Lc) (v0 v1 : Value)  (st : List Value) (M : Mem) (Q : Outcome → Mem → Prop), (smallR st = true) → Wp d 103 98 ls (v1 :: v0 :: st) M Q = Ca d 103 98 ls 105 [v0, v1] st M Q := fun d ls v0 v1 st M Q h0 => w_stat (as := [v0, v1]) (show ins 103 98 = some (.invokestatic 189, 3) by decide +kernel) (show mRes (mC 103) 189 = some (0, 3, [(0, 105)]) by decide +kernel) (by decide +kernel) (by decide +kernel) rfl h0
set_option maxRecDepth 100000 in
theorem r_103_101 : ∀ (d : Nat) (ls : Lc) (a : Int32) (st : List Value) (M : Mem) (Q : Outcome → Mem → Prop), Wp d 103 101 ls (.int a :: st) M Q = Br (a = I 0) d 103 135 104 ls st M Q := fun d ls a st M Q => w_if (show ins 103 101 = some (.ifCond .eq 34, 3) by decide +kernel) rfl rfl
set_option maxRecDepth 100000 in
theorem r_103_104 : ∀ (d : Nat) (l0 l1 l2 l3 : Option Value) (v : Nat) (st : List Value) (M : Mem) (Q : Outcome → Mem → Prop), Wp d 103 104 [l0, l1, l2, l3, some (.ref v)] st M Q = Wp d 103 106 [l0, l1, l2, l3, some (.ref v)] (.ref v :: st) M Q := fun d l0 l1 l2 l3 v st M Q => wA (show ins 103 104 = some (.aload 4, 2) by decide +kernel) rfl
set_option maxRecDepth 100000 in
theorem r_103_104_1 : ∀ (d : Nat) (l0 l1 l2 l3 : Option Value) (st : List Value) (M : Mem) (Q : Outcome → Mem → Prop), Wp d 103 104 [l0, l1, l2, l3, some .null] st M Q = Wp d 103 106 [l0, l1, l2, l3, some .null] (.null :: st) M Q := fun d l0 l1 l2 l3 st M Q => wA (show ins 103 104 = some (.aload 4, 2) by decide +kernel) rfl
set_option maxRecDepth 100000 in
theorem r_103_106 : ∀ (d : Nat) (ls : Lc) (a : Nat) (st : List Value) (M : Mem) (Q : Outcome → Mem → Prop), Wp d 103 106 ls (.ref a :: st) M Q = (fk 37 (kO M a) = true ∧ Wp d 103 109 ls (.int (mF M 37 a) :: st) M Q) := fun d ls a st M Q => w_getI (show ins 103 106 = some (.getfield 156, 3) by decide +kernel) (show fRes (mC 103) 156 = some (37, 5, true) by decide +kernel) (by decide +kernel)
set_option maxRecDepth 100000 in
theorem r_103_109 : ∀ (d : Nat) (ls : Lc) (a : Int32) (st : List Value) (M : Mem) (Q : Outcome → Mem → Prop), Wp d 103 109 ls (.int a :: st) M Q = Br (a ≤ I 0) d 103 126 112 ls st M Q := fun d ls a st M Q => w_if (show ins 103 109 = some (.ifCond .le 17, 3) by decide +kernel) rfl rfl
set_option maxRecDepth 100000 in
theorem r_103_112 : ∀ (d : Nat) (l0 l1 l2 l3 : Option Value) (v : Nat) (st : List Value) (M : Mem) (Q : Outcome → Mem → Prop), Wp d 103 112 [l0, l1, l2, l3, some (.ref v)] st M Q = Wp d 103 114 [l0, l1, l2, l3, some (.ref v)] (.ref v :: st) M Q := fun d l0 l1 l2 l3 v st M Q => wA (show ins 103 112 = some (.aload 4, 2) by decide +kernel) rfl
set_option maxRecDepth 100000 in
theorem r_103_112_1 : ∀ (d : Nat) (l0 l1 l2 l3 : Option Value) (st : List Value) (M : Mem) (Q : Outcome → Mem → Prop), Wp d 103 112 [l0, l1, l2, l3, some .null] st M Q = Wp d 103 114 [l0, l1, l2, l3, some .null] (.null :: st) M Q := fun d l0 l1 l2 l3 st M Q => wA (show ins 103 112 = some (.aload 4, 2) by decide +kernel) rfl
set_option maxRecDepth 100000 in
theorem r_103_114 : ∀ (d : Nat) (ls : Lc) (st : List Value) (M : Mem) (Q : Outcome → Mem → Prop), Wp d 103 114 ls st M Q = Wp d 103 115 ls (.int (I 0) :: st) M Q := fun d ls st M Q => w_iconst (show ins 103 114 = some (.iconst 0, 1) by decide +kernel)
set_option maxRecDepth 100000 in
theorem r_103_115 : ∀ (d : Nat) (l0 l1 l3 l4 : Option Value) (v : Nat) (st : List Value) (M : Mem) (Q : Outcome → Mem → Prop), Wp d 103 115 [l0, l1, some (.ref v), l3, l4] st M Q = Wp d 103 116 [l0, l1, some (.ref v), l3, l4] (.ref v :: st) M Q := fun d l0 l1 l3 l4 v st M Q => wA (show ins 103 115 = some (.aload_n 2, 1) by decide +kernel) rfl
set_option maxRecDepth 100000 in
theorem r_103_115_1 : ∀ (d : Nat) (l0 l1 l3 l4 : Option Value) (st : List Value) (M : Mem) (Q : Outcome → Mem → Prop), Wp d 103 115 [l0, l1, some .null, l3, l4] st M Q = Wp d 103 116 [l0, l1, some .null, l3, l4] (.null :: st) M Q := fun d l0 l1 l3 l4 st M Q => wA (show ins 103 115 = some (.aload_n 2, 1) by decide +kernel) rfl
set_option maxRecDepth 100000 in
theorem r_103_116 : ∀ (d : Nat) (l0 l1 l3 l4 : Option Value) (v : Nat) (st : List Value) (M : Mem) (Q : Outcome → Mem → Prop), Wp d 103 116 [l0, l1, some (.ref v), l3, l4] st M Q = Wp d 103 117 [l0, l1, some (.ref v), l3, l4] (.ref v :: st) M Q := fun d l0 l1 l3 l4 v st M Q => wA (show ins 103 116 = some (.aload_n 2, 1) by decide +kernel) rfl
set_option maxRecDepth 100000 in
theorem r_103_116_1 : ∀ (d : Nat) (l0 l1 l3 l4 : Option Value) (st : List Value) (M : Mem) (Q : Outcome → Mem → Prop), Wp d 103 116 [l0, l1, some .null, l3, l4] st M Q = Wp d 103 117 [l0, l1, some .null, l3, l4] (.null :: st) M Q := fun d l0 l1 l3 l4 st M Q => wA (show ins 103 116 = some (.aload_n 2, 1) by decide +kernel) rfl
set_option maxRecDepth 100000 in
theorem r_103_117 : ∀ (d : Nat) (ls : Lc) (a : Nat) (st : List Value) (M : Mem) (Q : Outcome → Mem → Prop), Wp d 103 117 ls (.ref a :: st) M Q = (fk 37 (kO M a) = true ∧ Wp d 103 120 ls (.int (mF M 37 a) :: st) M Q) := fun d ls a st M Q => w_getI (show ins 103 117 = some (.getfield 156, 3) by decide +kernel) (show fRes (mC 103) 156 = some (37, 5, true) by decide +kernel) (by decide +kernel)
set_option maxRecDepth 100000 in
theorem r_103_120 : ∀ (d : Nat) (ls : Lc) (v0 v1 v2 : Value) (a : Nat) (st : List Value) (M : Mem) (Q : Outcome → Mem → Prop), (smallR st = true) → Wp d 103 120 ls (v2 :: v1 :: v0 :: .ref a :: st) M Q = (kO M a = 5 ∧ Ca d 103 120 ls 132 (.ref a :: [v0, v1, v2]) st M Q) := fun d ls v0 v1 v2 a st M Q h0 => w_virt1 (as := [v0, v1, v2]) (show ins 103 120 = some (.invokevirtual 157, 3) by decide +kernel) (show mRes (mC 103) 157 = some (3, 5, [(5, 132)]) by decide +kernel) (by decide +kernel) rfl (by decide +kernel) (by decide +kernel) h0
set_option maxRecDepth 100000 in
theorem r_103_123 : ∀ (d : Nat) (ls : Lc) (st : List Value) (M : Mem) (Q : Outcome → Mem → Prop), Wp d 103 123 ls st M Q = Wp d 103 104 ls st M Q := fun d ls st M Q => w_goto (show ins 103 123 = some (.goto (-19), 3) by decide +kernel) rfl
set_option maxRecDepth 100000 in
theorem r_103_126 : ∀ (d : Nat) (l1 l2 l3 l4 : Option Value) (v : Nat) (st : List Value) (M : Mem) (Q : Outcome → Mem → Prop), Wp d 103 126 [some (.ref v), l1, l2, l3, l4] st M Q = Wp d 103 127 [some (.ref v), l1, l2, l3, l4] (.ref v :: st) M Q := fun d l1 l2 l3 l4 v st M Q => wA (show ins 103 126 = some (.aload_n 0, 1) by decide +kernel) rfl
set_option maxRecDepth 100000 in
theorem r_103_127 : ∀ (d : Nat) (l0 l1 l2 l3 : Option Value) (v : Nat) (st : List Value) (M : Mem) (Q : Outcome → Mem → Prop), Wp d 103 127 [l0, l1, l2, l3, some (.ref v)] st M Q = Wp d 103 129 [l0, l1, l2, l3, some (.ref v)] (.ref v :: st) M Q := fun d l0 l1 l2 l3 v st M Q => wA (show ins 103 127 = some (.aload 4, 2) by decide +kernel) rfl
set_option maxRecDepth 100000 in
theorem r_103_127_1 : ∀ (d : Nat) (l0 l1 l2 l3 : Option Value) (st : List Value) (M : Mem) (Q : Outcome → Mem → Prop), Wp d 103 127 [l0, l1, l2, l3, some .null] st M Q = Wp d 103 129 [l0, l1, l2, l3, some .null] (.null :: st) M Q := fun d l0 l1 l2 l3 st M Q => wA (show ins 103 127 = some (.aload 4, 2) by decide +kernel) rfl
set_option maxRecDepth 100000 in
theorem r_103_129 : ∀ (d : Nat) (ls : Lc) (v0 : Value) (a : Nat) (st : List Value) (M : Mem) (Q : Outcome → Mem → Prop), (smallR st = true) → Wp d 103 129 ls (v0 :: .ref a :: st) M Q = (kO M a = 3 ∧ Ca d 103 129 ls 104 (.ref a :: [v0]) st M Q) := fun d ls v0 a st M Q h0 => w_virt1 (as := [v0]) (show ins 103 129 = some (.invokevirtual 186, 3) by decide +kernel) (show mRes (mC 103) 186 = some (3, 3, [(3, 104)]) by decide +kernel) (by decide +kernel) rfl (by decide +kernel) (by decide +kernel) h0
set_option maxRecDepth 100000 in
theorem r_103_132 : ∀ (d : Nat) (ls : Lc) (st : List Value) (M : Mem) (Q : Outcome → Mem → Prop), Wp d 103 132 ls st M Q = Wp d 103 137 ls st M Q := fun d ls st M Q => w_goto (show ins 103 132 = some (.goto 5, 3) by decide +kernel) rfl
set_option maxRecDepth 100000 in
theorem r_103_135 : ∀ (d : Nat) (ls : Lc) (st : List Value) (M : Mem) (Q : Outcome → Mem → Prop), Wp d 103 135 ls st M Q = Wp d 103 136 ls (.null :: st) M Q := fun d ls st M Q => wA (show ins 103 135 = some (.aconst_null, 1) by decide +kernel) rfl
set_option maxRecDepth 100000 in
theorem r_103_136 : ∀ (d : Nat) (l0 l1 l2 l3 l4 : Option Value) (v : Nat) (st : List Value) (M : Mem) (Q : Outcome → Mem → Prop), (lo l1 = false) → Wp d 103 136 [l0, l1, l2, l3, l4] (.ref v :: st) M Q = Wp d 103 137 [l0, l1, some (.ref v), l3, l4] st M Q := fun d l0 l1 l2 l3 l4 v st M Q hl => w_astore_n (show ins 103 136 = some (.astore_n 2, 1) by decide +kernel) (st1_S rfl rfl hl)
set_option maxRecDepth 100000 in
theorem r_103_136_1 : ∀ (d : Nat) (l0 l1 l2 l3 l4 : Option Value) (st : List Value) (M : Mem) (Q : Outcome → Mem → Prop), (lo l1 = false) → Wp d 103 136 [l0, l1, l2, l3, l4] (.null :: st) M Q = Wp d 103 137 [l0, l1, some (.null), l3, l4] st M Q := fun d l0 l1 l2 l3 l4 st M Q hl => w_astoreN_n (show ins 103 136 = some (.astore_n 2, 1) by decide +kernel) (st1_S rfl rfl hl)
set_option maxRecDepth 100000 in
theorem r_103_137 : ∀ (d : Nat) (ls : Lc) (st : List Value) (M : Mem) (Q : Outcome → Mem → Prop), Wp d 103 137 ls st M Q = Wp d 103 2 ls st M Q := fun d ls st M Q => w_goto (show ins 103 137 = some (.goto (-135), 3) by decide +kernel) rfl
set_option maxRecDepth 100000 in
theorem r_103_140 : ∀ (d : Nat) (ls : Lc) (M : Mem) (Q : Outcome → Mem → Prop), Wp d 103 140 ls [] M Q = Q (.returned none) M := fun d ls M Q => w_return (show ins 103 140 = some (.return_, 1) by decide +kernel) (by decide +kernel)
set_option maxRecDepth 100000 in
theorem w_103_2 : (type_of% r_103_2) ∧ (type_of% r_103_2_1) := ⟨r_103_2, r_103_2_1⟩
set_option maxRecDepth 100000 in
theorem w_103_65 : (type_of% r_103_65) ∧ (type_of% r_103_65_1) := ⟨r_103_65, r_103_65_1⟩
set_option maxRecDepth 100000 in
theorem w_103_104 : (type_of% r_103_104) ∧ (type_of% r_103_104_1) := ⟨r_103_104, r_103_104_1⟩
set_option maxRecDepth 100000 in
theorem W_103 : (type_of% r_103_0) ∧ (type_of% r_103_0_1) ∧ (type_of% r_103_1) ∧ (type_of% r_103_1_1) ∧ (type_of% r_103_3) ∧ (type_of% r_103_3_1) ∧ (type_of% r_103_6) ∧ (type_of% r_103_6_1) ∧ (type_of% r_103_7) ∧ (type_of% r_103_10) ∧ (type_of% r_103_10_1) ∧ (type_of% r_103_13) ∧ (type_of% r_103_13_1) ∧ (type_of% r_103_14) ∧ (type_of% r_103_14_1) ∧ (type_of% r_103_15) ∧ (type_of% r_103_18) ∧ (type_of% r_103_18_1) ∧ (type_of% r_103_21) ∧ (type_of% r_103_21_1) ∧ (type_of% r_103_23) ∧ (type_of% r_103_23_1) ∧ (type_of% r_103_24) ∧ (type_of% r_103_27) ∧ (type_of% r_103_30) ∧ (type_of% r_103_30_1) ∧ (type_of% r_103_31) ∧ (type_of% r_103_32) ∧ (type_of% r_103_35) ∧ (type_of% r_103_38) ∧ (type_of% r_103_39) ∧ (type_of% r_103_39_1) ∧ (type_of% r_103_40) ∧ (type_of% r_103_43) ∧ (type_of% r_103_43_1) ∧ (type_of% r_103_44) ∧ (type_of% r_103_44_1) ∧ (type_of% r_103_47) ∧ (type_of% r_103_47_1) ∧ (type_of% r_103_48) ∧ (type_of% r_103_51) ∧ (type_of% r_103_51_1) ∧ (type_of% r_103_53) ∧ (type_of% r_103_53_1) ∧ (type_of% r_103_54) ∧ (type_of% r_103_57) ∧ (type_of% r_103_57_1) ∧ (type_of% r_103_58) ∧ (type_of% r_103_58_1) ∧ (type_of% r_103_59) ∧ (type_of% r_103_62) ∧ (type_of% r_103_66) ∧ (type_of% r_103_69) ∧ (type_of% r_103_72) ∧ (type_of% r_103_72_1) ∧ (type_of% r_103_73) ∧ (type_of% r_103_74) ∧ (type_of% r_103_74_1) ∧ (type_of% r_103_75) ∧ (type_of% r_103_75_1) ∧ (type_of% r_103_76) ∧ (type_of% r_103_79) ∧ (type_of% r_103_82) ∧ (type_of% r_103_85) ∧ (type_of% r_103_86) ∧ (type_of% r_103_86_1) ∧ (type_of% r_103_87) ∧ (type_of% r_103_90) ∧ (type_of% r_103_90_1) ∧ (type_of% r_103_91) ∧ (type_of% r_103_91_1) ∧ (type_of% r_103_92) ∧ (type_of% r_103_95) ∧ (type_of% r_103_95_1) ∧ (type_of% r_103_96) ∧ (type_of% r_103_96_1) ∧ (type_of% r_103_98) ∧ (type_of% r_103_101) ∧ (type_of% r_103_106) ∧ (type_of% r_103_109) ∧ (type_of% r_103_112) ∧ (type_of% r_103_112_1) ∧ (type_of% r_103_114) ∧ (type_of% r_103_115) ∧ (type_of% r_103_115_1) ∧ (type_of% r_103_116) ∧ (type_of% r_103_116_1) ∧ (type_of% r_103_117) ∧ (type_of% r_103_120) ∧ (type_of% r_103_123) ∧ (type_of% r_103_126) ∧ (type_of% r_103_127) ∧ (type_of% r_103_127_1) ∧ (type_of% r_103_129) ∧ (type_of% r_103_132) ∧ (type_of% r_103_135) ∧ (type_of% r_103_136) ∧ (type_of% r_103_136_1) ∧ (type_of% r_103_137) ∧ (type_of% r_103_140) := ⟨r_103_0, r_103_0_1, r_103_1, r_103_1_1, r_103_3, r_103_3_1, r_103_6, r_103_6_1, r_103_7, r_103_10, r_103_10_1, r_103_13, r_103_13_1, r_103_14, r_103_14_1, r_103_15, r_103_18, r_103_18_1, r_103_21, r_103_21_1, r_103_23, r_103_23_1, r_103_24, r_103_27, r_103_30, r_103_30_1, r_103_31, r_103_32, r_103_35, r_103_38, r_103_39, r_103_39_1, r_103_40, r_103_43, r_103_43_1, r_103_44, r_103_44_1, r_103_47, r_103_47_1, r_103_48, r_103_51, r_103_51_1, r_103_53, r_103_53_1, r_103_54, r_103_57, r_103_57_1, r_103_58, r_103_58_1, r_103_59, r_103_62, r_103_66, r_103_69, r_103_72, r_103_72_1, r_103_73, r_103_74, r_103_74_1, r_103_75, r_103_75_1, r_103_76, r_103_79, r_103_82, r_103_85, r_103_86, r_103_86_1, r_103_87, r_103_90, r_103_90_1, r_103_91, r_103_91_1, r_103_92, r_103_95, r_103_95_1, r_103_96, r_103_96_1, r_103_98, r_103_101, r_103_106, r_103_109, r_103_112, r_103_112_1, r_103_114, r_103_115, r_103_115_1, r_103_116, r_103_116_1, r_103_117, r_103_120, r_103_123, r_103_126, r_103_127, r_103_127_1, r_103_129, r_103_132, r_103_135, r_103_136, r_103_136_1, r_103_137, r_103_140⟩
set_option maxRecDepth 100000 in
theorem ca_103 {d y pc : Nat} {ls : Lc} {a : Nat} {o0 : Option Nat} {r : List Value} {M : Mem} {Q : Outcome → Mem → Prop} (hd : 0 < d) (hw : Wp (d - 1) 103 0 [some (.ref a), some (va_rf o0), none, none, none] [] M (Cq d y pc ls r Q)) : Ca d y pc ls 103 [.ref a, va_rf o0] r M Q := ca_of (mq_get (by decide)) (by cases o0 <;> rfl) hd hw
/-! 104 PackedTree$Tree.gone(LPackedTree$Node;)V; loop heads [] -/
set_option maxRecDepth 100000 in
theorem r_104_0 : ∀ (d : Nat) (l0 l2 l3 l4 l5 : Option Value) (v : Nat) (st : List Value) (M : Mem) (Q : Outcome → Mem → Prop), Wp d 104 0 [l0, some (.ref v), l2, l3, l4, l5] st M Q = Wp d 104 1 [l0, some (.ref v), l2, l3, l4, l5] (.ref v :: st) M Q := fun d l0 l2 l3 l4 l5 v st M Q => wA (show ins 104 0 = some (.aload_n 1, 1) by decide +kernel) rfl
set_option maxRecDepth 100000 in
theorem r_104_0_1 : ∀ (d : Nat) (l0 l2 l3 l4 l5 : Option Value) (st : List Value) (M : Mem) (Q : Outcome → Mem → Prop), Wp d 104 0 [l0, some .null, l2, l3, l4, l5] st M Q = Wp d 104 1 [l0, some .null, l2, l3, l4, l5] (.null :: st) M Q := fun d l0 l2 l3 l4 l5 st M Q => wA (show ins 104 0 = some (.aload_n 1, 1) by decide +kernel) rfl
set_option maxRecDepth 100000 in
theorem r_104_1 : ∀ (d : Nat) (ls : Lc) (a : Nat) (st : List Value) (M : Mem) (Q : Outcome → Mem → Prop), (smallR st = true) → Wp d 104 1 ls (.ref a :: st) M Q = ((kO M a = 5 ∧ Ca d 104 1 ls 152 (.ref a :: []) st M Q) ∨ (kO M a = 6 ∧ Ca d 104 1 ls 152 (.ref a :: []) st M Q)) := fun d ls a st M Q h0 => w_virt2 (as := []) (show ins 104 1 = some (.invokevirtual 193, 3) by decide +kernel) (show mRes (mC 104) 193 = some (4, 7, [(5, 152), (6, 152)]) by decide +kernel) (by decide +kernel) rfl (by decide +kernel) (by decide +kernel) (by decide +kernel) (by decide +kernel) (by decide +kernel) h0
set_option maxRecDepth 100000 in
theorem r_104_4 : ∀ (d : Nat) (l1 l2 l3 l4 l5 : Option Value) (v : Nat) (st : List Value) (M : Mem) (Q : Outcome → Mem → Prop), Wp d 104 4 [some (.ref v), l1, l2, l3, l4, l5] st M Q = Wp d 104 5 [some (.ref v), l1, l2, l3, l4, l5] (.ref v :: st) M Q := fun d l1 l2 l3 l4 l5 v st M Q => wA (show ins 104 4 = some (.aload_n 0, 1) by decide +kernel) rfl
set_option maxRecDepth 100000 in
theorem r_104_5 : ∀ (d : Nat) (ls : Lc) (a : Nat) (st : List Value) (M : Mem) (Q : Outcome → Mem → Prop), Wp d 104 5 ls (.ref a :: st) M Q = (fk 17 (kO M a) = true ∧ Wp d 104 8 ls (va_rf (mR M 17 a) :: st) M Q) := fun d ls a st M Q => w_getR (show ins 104 5 = some (.getfield 29, 3) by decide +kernel) (show fRes (mC 104) 29 = some (17, 3, false) by decide +kernel) (by decide +kernel)
set_option maxRecDepth 100000 in
theorem r_104_8 : ∀ (d : Nat) (l0 l2 l3 l4 l5 : Option Value) (v : Nat) (st : List Value) (M : Mem) (Q : Outcome → Mem → Prop), Wp d 104 8 [l0, some (.ref v), l2, l3, l4, l5] st M Q = Wp d 104 9 [l0, some (.ref v), l2, l3, l4, l5] (.ref v :: st) M Q := fun d l0 l2 l3 l4 l5 v st M Q => wA (show ins 104 8 = some (.aload_n 1, 1) by decide +kernel) rfl
set_option maxRecDepth 100000 in
theorem r_104_8_1 : ∀ (d : Nat) (l0 l2 l3 l4 l5 : Option Value) (st : List Value) (M : Mem) (Q : Outcome → Mem → Prop), Wp d 104 8 [l0, some .null, l2, l3, l4, l5] st M Q = Wp d 104 9 [l0, some .null, l2, l3, l4, l5] (.null :: st) M Q := fun d l0 l2 l3 l4 l5 st M Q => wA (show ins 104 8 = some (.aload_n 1, 1) by decide +kernel) rfl
set_option maxRecDepth 100000 in
theorem r_104_9 : ∀ (d : Nat) (ls : Lc) (a : Nat) (st : List Value) (M : Mem) (Q : Outcome → Mem → Prop), Wp d 104 9 ls (.ref a :: st) M Q = (fk 32 (kO M a) = true ∧ Wp d 104 12 ls (.int (mF M 32 a) :: st) M Q) := fun d ls a st M Q => w_getI (show ins 104 9 = some (.getfield 60, 3) by decide +kernel) (show fRes (mC 104) 60 = some (32, 7, false) by decide +kernel) (by decide +kernel)
set_option maxRecDepth 100000 in
theorem r_104_12 : ∀ (d : Nat) (ls : Lc) (v0 : Value) (a : Nat) (st : List Value) (M : Mem) (Q : Outcome → Mem → Prop), (smallR st = true) → Wp d 104 12 ls (v0 :: .ref a :: st) M Q = (kO M a = 2 ∧ Ca d 104 12 ls 89 (.ref a :: [v0]) st M Q) := fun d ls v0 a st M Q h0 => w_virt1 (as := [v0]) (show ins 104 12 = some (.invokevirtual 196, 3) by decide +kernel) (show mRes (mC 104) 196 = some (3, 2, [(2, 89)]) by decide +kernel) (by decide +kernel) rfl (by decide +kernel) (by decide +kernel) h0
set_option maxRecDepth 100000 in
theorem r_104_15 : ∀ (d : Nat) (l0 l2 l3 l4 l5 : Option Value) (v : Nat) (st : List Value) (M : Mem) (Q : Outcome → Mem → Prop), Wp d 104 15 [l0, some (.ref v), l2, l3, l4, l5] st M Q = Wp d 104 16 [l0, some (.ref v), l2, l3, l4, l5] (.ref v :: st) M Q := fun d l0 l2 l3 l4 l5 v st M Q => wA (show ins 104 15 = some (.aload_n 1, 1) by decide +kernel) rfl
set_option maxRecDepth 100000 in
theorem r_104_15_1 : ∀ (d : Nat) (l0 l2 l3 l4 l5 : Option Value) (st : List Value) (M : Mem) (Q : Outcome → Mem → Prop), Wp d 104 15 [l0, some .null, l2, l3, l4, l5] st M Q = Wp d 104 16 [l0, some .null, l2, l3, l4, l5] (.null :: st) M Q := fun d l0 l2 l3 l4 l5 st M Q => wA (show ins 104 15 = some (.aload_n 1, 1) by decide +kernel) rfl
set_option maxRecDepth 100000 in
theorem r_104_16 : ∀ (d : Nat) (ls : Lc) (a : Nat) (st : List Value) (M : Mem) (Q : Outcome → Mem → Prop), Wp d 104 16 ls (.ref a :: st) M Q = (fk 33 (kO M a) = true ∧ Wp d 104 19 ls (va_rf (mR M 33 a) :: st) M Q) := fun d ls a st M Q => w_getR (show ins 104 16 = some (.getfield 170, 3) by decide +kernel) (show fRes (mC 104) 170 = some (33, 7, false) by decide +kernel) (by decide +kernel)
set_option maxRecDepth 100000 in
theorem r_104_19 : ∀ (d : Nat) (l0 l1 l2 l3 l4 l5 : Option Value) (v : Nat) (st : List Value) (M : Mem) (Q : Outcome → Mem → Prop), (lo l1 = false) → Wp d 104 19 [l0, l1, l2, l3, l4, l5] (.ref v :: st) M Q = Wp d 104 20 [l0, l1, some (.ref v), l3, l4, l5] st M Q := fun d l0 l1 l2 l3 l4 l5 v st M Q hl => w_astore_n (show ins 104 19 = some (.astore_n 2, 1) by decide +kernel) (st1_S rfl rfl hl)
set_option maxRecDepth 100000 in
theorem r_104_19_1 : ∀ (d : Nat) (l0 l1 l2 l3 l4 l5 : Option Value) (st : List Value) (M : Mem) (Q : Outcome → Mem → Prop), (lo l1 = false) → Wp d 104 19 [l0, l1, l2, l3, l4, l5] (.null :: st) M Q = Wp d 104 20 [l0, l1, some (.null), l3, l4, l5] st M Q := fun d l0 l1 l2 l3 l4 l5 st M Q hl => w_astoreN_n (show ins 104 19 = some (.astore_n 2, 1) by decide +kernel) (st1_S rfl rfl hl)
set_option maxRecDepth 100000 in
theorem r_104_20 : ∀ (d : Nat) (l0 l1 l3 l4 l5 : Option Value) (v : Nat) (st : List Value) (M : Mem) (Q : Outcome → Mem → Prop), Wp d 104 20 [l0, l1, some (.ref v), l3, l4, l5] st M Q = Wp d 104 21 [l0, l1, some (.ref v), l3, l4, l5] (.ref v :: st) M Q := fun d l0 l1 l3 l4 l5 v st M Q => wA (show ins 104 20 = some (.aload_n 2, 1) by decide +kernel) rfl
set_option maxRecDepth 100000 in
theorem r_104_20_1 : ∀ (d : Nat) (l0 l1 l3 l4 l5 : Option Value) (st : List Value) (M : Mem) (Q : Outcome → Mem → Prop), Wp d 104 20 [l0, l1, some .null, l3, l4, l5] st M Q = Wp d 104 21 [l0, l1, some .null, l3, l4, l5] (.null :: st) M Q := fun d l0 l1 l3 l4 l5 st M Q => wA (show ins 104 20 = some (.aload_n 2, 1) by decide +kernel) rfl
set_option maxRecDepth 100000 in
theorem r_104_21 : ∀ (d : Nat) (l0 l1 l3 l4 l5 : Option Value) (v : Nat) (st : List Value) (M : Mem) (Q : Outcome → Mem → Prop), Wp d 104 21 [l0, l1, some (.ref v), l3, l4, l5] st M Q = Wp d 104 22 [l0, l1, some (.ref v), l3, l4, l5] (.ref v :: st) M Q := fun d l0 l1 l3 l4 l5 v st M Q => wA (show ins 104 21 = some (.aload_n 2, 1) by decide +kernel) rfl
set_option maxRecDepth 100000 in
theorem r_104_21_1 : ∀ (d : Nat) (l0 l1 l3 l4 l5 : Option Value) (st : List Value) (M : Mem) (Q : Outcome → Mem → Prop), Wp d 104 21 [l0, l1, some .null, l3, l4, l5] st M Q = Wp d 104 22 [l0, l1, some .null, l3, l4, l5] (.null :: st) M Q := fun d l0 l1 l3 l4 l5 st M Q => wA (show ins 104 21 = some (.aload_n 2, 1) by decide +kernel) rfl
set_option maxRecDepth 100000 in
theorem r_104_22 : ∀ (d : Nat) (l0 l2 l3 l4 l5 : Option Value) (v : Nat) (st : List Value) (M : Mem) (Q : Outcome → Mem → Prop), Wp d 104 22 [l0, some (.ref v), l2, l3, l4, l5] st M Q = Wp d 104 23 [l0, some (.ref v), l2, l3, l4, l5] (.ref v :: st) M Q := fun d l0 l2 l3 l4 l5 v st M Q => wA (show ins 104 22 = some (.aload_n 1, 1) by decide +kernel) rfl
set_option maxRecDepth 100000 in
theorem r_104_22_1 : ∀ (d : Nat) (l0 l2 l3 l4 l5 : Option Value) (st : List Value) (M : Mem) (Q : Outcome → Mem → Prop), Wp d 104 22 [l0, some .null, l2, l3, l4, l5] st M Q = Wp d 104 23 [l0, some .null, l2, l3, l4, l5] (.null :: st) M Q := fun d l0 l2 l3 l4 l5 st M Q => wA (show ins 104 22 = some (.aload_n 1, 1) by decide +kernel) rfl
set_option maxRecDepth 100000 in
theorem r_104_23 : ∀ (d : Nat) (ls : Lc) (v0 : Value) (a : Nat) (st : List Value) (M : Mem) (Q : Outcome → Mem → Prop), (smallR st = true) → Wp d 104 23 ls (v0 :: .ref a :: st) M Q = (kO M a = 6 ∧ Ca d 104 23 ls 143 (.ref a :: [v0]) st M Q) := fun d ls v0 a st M Q h0 => w_virt1 (as := [v0]) (show ins 104 23 = some (.invokevirtual 174, 3) by decide +kernel) (show mRes (mC 104) 174 = some (3, 6, [(6, 143)]) by decide +kernel) (by decide +kernel) rfl (by decide +kernel) (by decide +kernel) h0
set_option maxRecDepth 100000 in
theorem r_104_26 : ∀ (d : Nat) (ls : Lc) (v0 : Value) (a : Nat) (st : List Value) (M : Mem) (Q : Outcome → Mem → Prop), (smallR st = true) → Wp d 104 26 ls (v0 :: .ref a :: st) M Q = (kO M a = 6 ∧ Ca d 104 26 ls 144 (.ref a :: [v0]) st M Q) := fun d ls v0 a st M Q h0 => w_virt1 (as := [v0]) (show ins 104 26 = some (.invokevirtual 181, 3) by decide +kernel) (show mRes (mC 104) 181 = some (3, 6, [(6, 144)]) by decide +kernel) (by decide +kernel) rfl (by decide +kernel) (by decide +kernel) h0
set_option maxRecDepth 100000 in
theorem r_104_29 : ∀ (d : Nat) (l0 l1 l2 l3 l4 l5 : Option Value) (v : Nat) (st : List Value) (M : Mem) (Q : Outcome → Mem → Prop), (lo l2 = false) → Wp d 104 29 [l0, l1, l2, l3, l4, l5] (.ref v :: st) M Q = Wp d 104 30 [l0, l1, l2, some (.ref v), l4, l5] st M Q := fun d l0 l1 l2 l3 l4 l5 v st M Q hl => w_astore_n (show ins 104 29 = some (.astore_n 3, 1) by decide +kernel) (st1_S rfl rfl hl)
set_option maxRecDepth 100000 in
theorem r_104_29_1 : ∀ (d : Nat) (l0 l1 l2 l3 l4 l5 : Option Value) (st : List Value) (M : Mem) (Q : Outcome → Mem → Prop), (lo l2 = false) → Wp d 104 29 [l0, l1, l2, l3, l4, l5] (.null :: st) M Q = Wp d 104 30 [l0, l1, l2, some (.null), l4, l5] st M Q := fun d l0 l1 l2 l3 l4 l5 st M Q hl => w_astoreN_n (show ins 104 29 = some (.astore_n 3, 1) by decide +kernel) (st1_S rfl rfl hl)
set_option maxRecDepth 100000 in
theorem r_104_30 : ∀ (d : Nat) (l0 l1 l3 l4 l5 : Option Value) (v : Nat) (st : List Value) (M : Mem) (Q : Outcome → Mem → Prop), Wp d 104 30 [l0, l1, some (.ref v), l3, l4, l5] st M Q = Wp d 104 31 [l0, l1, some (.ref v), l3, l4, l5] (.ref v :: st) M Q := fun d l0 l1 l3 l4 l5 v st M Q => wA (show ins 104 30 = some (.aload_n 2, 1) by decide +kernel) rfl
set_option maxRecDepth 100000 in
theorem r_104_30_1 : ∀ (d : Nat) (l0 l1 l3 l4 l5 : Option Value) (st : List Value) (M : Mem) (Q : Outcome → Mem → Prop), Wp d 104 30 [l0, l1, some .null, l3, l4, l5] st M Q = Wp d 104 31 [l0, l1, some .null, l3, l4, l5] (.null :: st) M Q := fun d l0 l1 l3 l4 l5 st M Q => wA (show ins 104 30 = some (.aload_n 2, 1) by decide +kernel) rfl
set_option maxRecDepth 100000 in
theorem r_104_31 : ∀ (d : Nat) (ls : Lc) (a : Nat) (st : List Value) (M : Mem) (Q : Outcome → Mem → Prop), Wp d 104 31 ls (.ref a :: st) M Q = (fk 41 (kO M a) = true ∧ Wp d 104 34 ls (.int (mF M 41 a) :: st) M Q) := fun d ls a st M Q => w_getI (show ins 104 31 = some (.getfield 67, 3) by decide +kernel) (show fRes (mC 104) 67 = some (41, 6, true) by decide +kernel) (by decide +kernel)
set_option maxRecDepth 100000 in
theorem r_104_34 : ∀ (d : Nat) (ls : Lc) (st : List Value) (M : Mem) (Q : Outcome → Mem → Prop), Wp d 104 34 ls st M Q = Wp d 104 35 ls (.int (I 1) :: st) M Q := fun d ls st M Q => w_iconst (show ins 104 34 = some (.iconst 1, 1) by decide +kernel)
set_option maxRecDepth 100000 in
theorem r_104_35 : ∀ (d : Nat) (ls : Lc) (a b : Int32) (st : List Value) (M : Mem) (Q : Outcome → Mem → Prop), Wp d 104 35 ls (.int b :: .int a :: st) M Q = Br (a ≤ b) d 104 39 38 ls st M Q := fun d ls a b st M Q => w_icmp (show ins 104 35 = some (.if_icmp .le 4, 3) by decide +kernel) rfl rfl
set_option maxRecDepth 100000 in
theorem r_104_38 : ∀ (d : Nat) (ls : Lc) (M : Mem) (Q : Outcome → Mem → Prop), Wp d 104 38 ls [] M Q = Q (.returned none) M := fun d ls M Q => w_return (show ins 104 38 = some (.return_, 1) by decide +kernel) (by decide +kernel)
set_option maxRecDepth 100000 in
theorem r_104_39 : ∀ (d : Nat) (l0 l1 l3 l4 l5 : Option Value) (v : Nat) (st : List Value) (M : Mem) (Q : Outcome → Mem → Prop), Wp d 104 39 [l0, l1, some (.ref v), l3, l4, l5] st M Q = Wp d 104 40 [l0, l1, some (.ref v), l3, l4, l5] (.ref v :: st) M Q := fun d l0 l1 l3 l4 l5 v st M Q => wA (show ins 104 39 = some (.aload_n 2, 1) by decide +kernel) rfl
set_option maxRecDepth 100000 in
theorem r_104_39_1 : ∀ (d : Nat) (l0 l1 l3 l4 l5 : Option Value) (st : List Value) (M : Mem) (Q : Outcome → Mem → Prop), Wp d 104 39 [l0, l1, some .null, l3, l4, l5] st M Q = Wp d 104 40 [l0, l1, some .null, l3, l4, l5] (.null :: st) M Q := fun d l0 l1 l3 l4 l5 st M Q => wA (show ins 104 39 = some (.aload_n 2, 1) by decide +kernel) rfl
set_option maxRecDepth 100000 in
theorem r_104_40 : ∀ (d : Nat) (l1 l2 l3 l4 l5 : Option Value) (v : Nat) (st : List Value) (M : Mem) (Q : Outcome → Mem → Prop), Wp d 104 40 [some (.ref v), l1, l2, l3, l4, l5] st M Q = Wp d 104 41 [some (.ref v), l1, l2, l3, l4, l5] (.ref v :: st) M Q := fun d l1 l2 l3 l4 l5 v st M Q => wA (show ins 104 40 = some (.aload_n 0, 1) by decide +kernel) rfl
set_option maxRecDepth 100000 in
theorem r_104_41 : ∀ (d : Nat) (ls : Lc) (a : Nat) (st : List Value) (M : Mem) (Q : Outcome → Mem → Prop), Wp d 104 41 ls (.ref a :: st) M Q = (fk 18 (kO M a) = true ∧ Wp d 104 44 ls (va_rf (mR M 18 a) :: st) M Q) := fun d ls a st M Q => w_getR (show ins 104 41 = some (.getfield 52, 3) by decide +kernel) (show fRes (mC 104) 52 = some (18, 3, false) by decide +kernel) (by decide +kernel)
set_option maxRecDepth 100000 in
theorem r_104_44 : ∀ (d : Nat) (ls : Lc) (a b : Nat) (st : List Value) (M : Mem) (Q : Outcome → Mem → Prop), Wp d 104 44 ls (.ref b :: .ref a :: st) M Q = Br (¬ a = b) d 104 76 47 ls st M Q := fun d ls a b st M Q => w_acmpN (show ins 104 44 = some (.if_acmp .ne 32, 3) by decide +kernel) rfl
set_option maxRecDepth 100000 in
theorem r_104_47 : ∀ (d : Nat) (l1 l2 l3 l4 l5 : Option Value) (v : Nat) (st : List Value) (M : Mem) (Q : Outcome → Mem → Prop), Wp d 104 47 [some (.ref v), l1, l2, l3, l4, l5] st M Q = Wp d 104 48 [some (.ref v), l1, l2, l3, l4, l5] (.ref v :: st) M Q := fun d l1 l2 l3 l4 l5 v st M Q => wA (show ins 104 47 = some (.aload_n 0, 1) by decide +kernel) rfl
set_option maxRecDepth 100000 in
theorem r_104_48 : ∀ (d : Nat) (l0 l1 l3 l4 l5 : Option Value) (v : Nat) (st : List Value) (M : Mem) (Q : Outcome → Mem → Prop), Wp d 104 48 [l0, l1, some (.ref v), l3, l4, l5] st M Q = Wp d 104 49 [l0, l1, some (.ref v), l3, l4, l5] (.ref v :: st) M Q := fun d l0 l1 l3 l4 l5 v st M Q => wA (show ins 104 48 = some (.aload_n 2, 1) by decide +kernel) rfl
set_option maxRecDepth 100000 in
theorem r_104_48_1 : ∀ (d : Nat) (l0 l1 l3 l4 l5 : Option Value) (st : List Value) (M : Mem) (Q : Outcome → Mem → Prop), Wp d 104 48 [l0, l1, some .null, l3, l4, l5] st M Q = Wp d 104 49 [l0, l1, some .null, l3, l4, l5] (.null :: st) M Q := fun d l0 l1 l3 l4 l5 st M Q => wA (show ins 104 48 = some (.aload_n 2, 1) by decide +kernel) rfl
set_option maxRecDepth 100000 in
theorem r_104_49 : ∀ (d : Nat) (ls : Lc) (st : List Value) (M : Mem) (Q : Outcome → Mem → Prop), Wp d 104 49 ls st M Q = Wp d 104 50 ls (.int (I 0) :: st) M Q := fun d ls st M Q => w_iconst (show ins 104 49 = some (.iconst 0, 1) by decide +kernel)
set_option maxRecDepth 100000 in
theorem r_104_50 : ∀ (d : Nat) (ls : Lc) (v0 : Value) (a : Nat) (st : List Value) (M : Mem) (Q : Outcome → Mem → Prop), (smallR st = true) → Wp d 104 50 ls (v0 :: .ref a :: st) M Q = (kO M a = 6 ∧ Ca d 104 50 ls 144 (.ref a :: [v0]) st M Q) := fun d ls v0 a st M Q h0 => w_virt1 (as := [v0]) (show ins 104 50 = some (.invokevirtual 181, 3) by decide +kernel) (show mRes (mC 104) 181 = some (3, 6, [(6, 144)]) by decide +kernel) (by decide +kernel) rfl (by decide +kernel) (by decide +kernel) h0
set_option maxRecDepth 100000 in
theorem r_104_53 : ∀ (d : Nat) (ls : Lc) (a b : Nat) (st : List Value) (M : Mem) (Q : Outcome → Mem → Prop), Wp d 104 53 ls (.ref b :: .ref a :: st) M Q = (fk 18 (kO M a) = true ∧ Wp d 104 56 ls st (sR M 18 a (some b)) Q) := fun d ls a b st M Q => w_putR (v := some b) (show ins 104 53 = some (.putfield 52, 3) by decide +kernel) (show fRes (mC 104) 52 = some (18, 3, false) by decide +kernel) (by decide +kernel) (by decide +kernel)
set_option maxRecDepth 100000 in
theorem r_104_53_1 : ∀ (d : Nat) (ls : Lc) (a : Nat) (st : List Value) (M : Mem) (Q : Outcome → Mem → Prop), Wp d 104 53 ls (.null :: .ref a :: st) M Q = (fk 18 (kO M a) = true ∧ Wp d 104 56 ls st (sR M 18 a none) Q) := fun d ls a st M Q => w_putR (v := none) (show ins 104 53 = some (.putfield 52, 3) by decide +kernel) (show fRes (mC 104) 52 = some (18, 3, false) by decide +kernel) (by decide +kernel) (by decide +kernel)
set_option maxRecDepth 100000 in
theorem r_104_56 : ∀ (d : Nat) (l1 l2 l3 l4 l5 : Option Value) (v : Nat) (st : List Value) (M : Mem) (Q : Outcome → Mem → Prop), Wp d 104 56 [some (.ref v), l1, l2, l3, l4, l5] st M Q = Wp d 104 57 [some (.ref v), l1, l2, l3, l4, l5] (.ref v :: st) M Q := fun d l1 l2 l3 l4 l5 v st M Q => wA (show ins 104 56 = some (.aload_n 0, 1) by decide +kernel) rfl
set_option maxRecDepth 100000 in
theorem r_104_57 : ∀ (d : Nat) (ls : Lc) (a : Nat) (st : List Value) (M : Mem) (Q : Outcome → Mem → Prop), Wp d 104 57 ls (.ref a :: st) M Q = (fk 18 (kO M a) = true ∧ Wp d 104 60 ls (va_rf (mR M 18 a) :: st) M Q) := fun d ls a st M Q => w_getR (show ins 104 57 = some (.getfield 52, 3) by decide +kernel) (show fRes (mC 104) 52 = some (18, 3, false) by decide +kernel) (by decide +kernel)
set_option maxRecDepth 100000 in
theorem r_104_60 : ∀ (d : Nat) (ls : Lc) (st : List Value) (M : Mem) (Q : Outcome → Mem → Prop), Wp d 104 60 ls st M Q = Wp d 104 61 ls (.null :: st) M Q := fun d ls st M Q => wA (show ins 104 60 = some (.aconst_null, 1) by decide +kernel) rfl
set_option maxRecDepth 100000 in
theorem r_104_61 : ∀ (d : Nat) (ls : Lc) (a b : Nat) (st : List Value) (M : Mem) (Q : Outcome → Mem → Prop), Wp d 104 61 ls (.ref b :: .ref a :: st) M Q = (fk 33 (kO M a) = true ∧ Wp d 104 64 ls st (sR M 33 a (some b)) Q) := fun d ls a b st M Q => w_putR (v := some b) (show ins 104 61 = some (.putfield 170, 3) by decide +kernel) (show fRes (mC 104) 170 = some (33, 7, false) by decide +kernel) (by decide +kernel) (by decide +kernel)
set_option maxRecDepth 100000 in
theorem r_104_61_1 : ∀ (d : Nat) (ls : Lc) (a : Nat) (st : List Value) (M : Mem) (Q : Outcome → Mem → Prop), Wp d 104 61 ls (.null :: .ref a :: st) M Q = (fk 33 (kO M a) = true ∧ Wp d 104 64 ls st (sR M 33 a none) Q) := fun d ls a st M Q => w_putR (v := none) (show ins 104 61 = some (.putfield 170, 3) by decide +kernel) (show fRes (mC 104) 170 = some (33, 7, false) by decide +kernel) (by decide +kernel) (by decide +kernel)
set_option maxRecDepth 100000 in
theorem r_104_64 : ∀ (d : Nat) (l1 l2 l3 l4 l5 : Option Value) (v : Nat) (st : List Value) (M : Mem) (Q : Outcome → Mem → Prop), Wp d 104 64 [some (.ref v), l1, l2, l3, l4, l5] st M Q = Wp d 104 65 [some (.ref v), l1, l2, l3, l4, l5] (.ref v :: st) M Q := fun d l1 l2 l3 l4 l5 v st M Q => wA (show ins 104 64 = some (.aload_n 0, 1) by decide +kernel) rfl
set_option maxRecDepth 100000 in
theorem r_104_65 : ∀ (d : Nat) (ls : Lc) (a : Nat) (st : List Value) (M : Mem) (Q : Outcome → Mem → Prop), Wp d 104 65 ls (.ref a :: st) M Q = (fk 17 (kO M a) = true ∧ Wp d 104 68 ls (va_rf (mR M 17 a) :: st) M Q) := fun d ls a st M Q => w_getR (show ins 104 65 = some (.getfield 29, 3) by decide +kernel) (show fRes (mC 104) 29 = some (17, 3, false) by decide +kernel) (by decide +kernel)
set_option maxRecDepth 100000 in
theorem r_104_68 : ∀ (d : Nat) (l0 l1 l3 l4 l5 : Option Value) (v : Nat) (st : List Value) (M : Mem) (Q : Outcome → Mem → Prop), Wp d 104 68 [l0, l1, some (.ref v), l3, l4, l5] st M Q = Wp d 104 69 [l0, l1, some (.ref v), l3, l4, l5] (.ref v :: st) M Q := fun d l0 l1 l3 l4 l5 v st M Q => wA (show ins 104 68 = some (.aload_n 2, 1) by decide +kernel) rfl
set_option maxRecDepth 100000 in
theorem r_104_68_1 : ∀ (d : Nat) (l0 l1 l3 l4 l5 : Option Value) (st : List Value) (M : Mem) (Q : Outcome → Mem → Prop), Wp d 104 68 [l0, l1, some .null, l3, l4, l5] st M Q = Wp d 104 69 [l0, l1, some .null, l3, l4, l5] (.null :: st) M Q := fun d l0 l1 l3 l4 l5 st M Q => wA (show ins 104 68 = some (.aload_n 2, 1) by decide +kernel) rfl
set_option maxRecDepth 100000 in
theorem r_104_69 : ∀ (d : Nat) (ls : Lc) (a : Nat) (st : List Value) (M : Mem) (Q : Outcome → Mem → Prop), Wp d 104 69 ls (.ref a :: st) M Q = (fk 32 (kO M a) = true ∧ Wp d 104 72 ls (.int (mF M 32 a) :: st) M Q) := fun d ls a st M Q => w_getI (show ins 104 69 = some (.getfield 199, 3) by decide +kernel) (show fRes (mC 104) 199 = some (32, 6, false) by decide +kernel) (by decide +kernel)
set_option maxRecDepth 100000 in
theorem r_104_72 : ∀ (d : Nat) (ls : Lc) (v0 : Value) (a : Nat) (st : List Value) (M : Mem) (Q : Outcome → Mem → Prop), (smallR st = true) → Wp d 104 72 ls (v0 :: .ref a :: st) M Q = (kO M a = 2 ∧ Ca d 104 72 ls 89 (.ref a :: [v0]) st M Q) := fun d ls v0 a st M Q h0 => w_virt1 (as := [v0]) (show ins 104 72 = some (.invokevirtual 196, 3) by decide +kernel) (show mRes (mC 104) 196 = some (3, 2, [(2, 89)]) by decide +kernel) (by decide +kernel) rfl (by decide +kernel) (by decide +kernel) h0
set_option maxRecDepth 100000 in
theorem r_104_75 : ∀ (d : Nat) (ls : Lc) (M : Mem) (Q : Outcome → Mem → Prop), Wp d 104 75 ls [] M Q = Q (.returned none) M := fun d ls M Q => w_return (show ins 104 75 = some (.return_, 1) by decide +kernel) (by decide +kernel)
set_option maxRecDepth 100000 in
theorem r_104_76 : ∀ (d : Nat) (l0 l1 l3 l4 l5 : Option Value) (v : Nat) (st : List Value) (M : Mem) (Q : Outcome → Mem → Prop), Wp d 104 76 [l0, l1, some (.ref v), l3, l4, l5] st M Q = Wp d 104 77 [l0, l1, some (.ref v), l3, l4, l5] (.ref v :: st) M Q := fun d l0 l1 l3 l4 l5 v st M Q => wA (show ins 104 76 = some (.aload_n 2, 1) by decide +kernel) rfl
set_option maxRecDepth 100000 in
theorem r_104_76_1 : ∀ (d : Nat) (l0 l1 l3 l4 l5 : Option Value) (st : List Value) (M : Mem) (Q : Outcome → Mem → Prop), Wp d 104 76 [l0, l1, some .null, l3, l4, l5] st M Q = Wp d 104 77 [l0, l1, some .null, l3, l4, l5] (.null :: st) M Q := fun d l0 l1 l3 l4 l5 st M Q => wA (show ins 104 76 = some (.aload_n 2, 1) by decide +kernel) rfl
set_option maxRecDepth 100000 in
theorem r_104_77 : ∀ (d : Nat) (ls : Lc) (a : Nat) (st : List Value) (M : Mem) (Q : Outcome → Mem → Prop), Wp d 104 77 ls (.ref a :: st) M Q = (fk 30 (kO M a) = true ∧ Wp d 104 80 ls (va_rf (mR M 30 a) :: st) M Q) := fun d ls a st M Q => w_getR (show ins 104 77 = some (.getfield 200, 3) by decide +kernel) (show fRes (mC 104) 200 = some (30, 6, false) by decide +kernel) (by decide +kernel)
set_option maxRecDepth 100000 in
theorem r_104_80 : ∀ (d : Nat) (ls : Lc) (st : List Value) (M : Mem) (Q : Outcome → Mem → Prop), Wp d 104 80 ls (.null :: st) M Q = Wp d 104 83 ls (.null :: st) M Q := fun d ls st M Q => w_castN (show ins 104 80 = some (.checkcast 17, 3) by decide +kernel)
set_option maxRecDepth 100000 in
theorem r_104_80_1 : ∀ (d : Nat) (ls : Lc) (a : Nat) (st : List Value) (M : Mem) (Q : Outcome → Mem → Prop), Wp d 104 80 ls (.ref a :: st) M Q = (kO M a = 6 ∧ Wp d 104 83 ls (.ref a :: st) M Q) := fun d ls a st M Q => w_cast (show ins 104 80 = some (.checkcast 17, 3) by decide +kernel) (show cRes (mC 104) 17 = some 6 by decide +kernel) (by decide +kernel)
set_option maxRecDepth 100000 in
theorem r_104_83 : ∀ (d : Nat) (l0 l1 l2 l3 l4 l5 : Option Value) (v : Nat) (st : List Value) (M : Mem) (Q : Outcome → Mem → Prop), (lo l3 = false) → Wp d 104 83 [l0, l1, l2, l3, l4, l5] (.ref v :: st) M Q = Wp d 104 85 [l0, l1, l2, l3, some (.ref v), l5] st M Q := fun d l0 l1 l2 l3 l4 l5 v st M Q hl => w_astore (show ins 104 83 = some (.astore 4, 2) by decide +kernel) (st1_S rfl rfl hl)
set_option maxRecDepth 100000 in
theorem r_104_83_1 : ∀ (d : Nat) (l0 l1 l2 l3 l4 l5 : Option Value) (st : List Value) (M : Mem) (Q : Outcome → Mem → Prop), (lo l3 = false) → Wp d 104 83 [l0, l1, l2, l3, l4, l5] (.null :: st) M Q = Wp d 104 85 [l0, l1, l2, l3, some (.null), l5] st M Q := fun d l0 l1 l2 l3 l4 l5 st M Q hl => w_astoreN (show ins 104 83 = some (.astore 4, 2) by decide +kernel) (st1_S rfl rfl hl)
set_option maxRecDepth 100000 in
theorem r_104_85 : ∀ (d : Nat) (l0 l1 l3 l4 l5 : Option Value) (v : Nat) (st : List Value) (M : Mem) (Q : Outcome → Mem → Prop), Wp d 104 85 [l0, l1, some (.ref v), l3, l4, l5] st M Q = Wp d 104 86 [l0, l1, some (.ref v), l3, l4, l5] (.ref v :: st) M Q := fun d l0 l1 l3 l4 l5 v st M Q => wA (show ins 104 85 = some (.aload_n 2, 1) by decide +kernel) rfl
set_option maxRecDepth 100000 in
theorem r_104_85_1 : ∀ (d : Nat) (l0 l1 l3 l4 l5 : Option Value) (st : List Value) (M : Mem) (Q : Outcome → Mem → Prop), Wp d 104 85 [l0, l1, some .null, l3, l4, l5] st M Q = Wp d 104 86 [l0, l1, some .null, l3, l4, l5] (.null :: st) M Q := fun d l0 l1 l3 l4 l5 st M Q => wA (show ins 104 85 = some (.aload_n 2, 1) by decide +kernel) rfl
set_option maxRecDepth 100000 in
theorem r_104_86 : ∀ (d : Nat) (ls : Lc) (a : Nat) (st : List Value) (M : Mem) (Q : Outcome → Mem → Prop), Wp d 104 86 ls (.ref a :: st) M Q = (fk 31 (kO M a) = true ∧ Wp d 104 89 ls (va_rf (mR M 31 a) :: st) M Q) := fun d ls a st M Q => w_getR (show ins 104 86 = some (.getfield 201, 3) by decide +kernel) (show fRes (mC 104) 201 = some (31, 6, false) by decide +kernel) (by decide +kernel)
set_option maxRecDepth 100000 in
theorem r_104_89 : ∀ (d : Nat) (ls : Lc) (st : List Value) (M : Mem) (Q : Outcome → Mem → Prop), Wp d 104 89 ls (.null :: st) M Q = Wp d 104 92 ls (.null :: st) M Q := fun d ls st M Q => w_castN (show ins 104 89 = some (.checkcast 17, 3) by decide +kernel)
set_option maxRecDepth 100000 in
theorem r_104_89_1 : ∀ (d : Nat) (ls : Lc) (a : Nat) (st : List Value) (M : Mem) (Q : Outcome → Mem → Prop), Wp d 104 89 ls (.ref a :: st) M Q = (kO M a = 6 ∧ Wp d 104 92 ls (.ref a :: st) M Q) := fun d ls a st M Q => w_cast (show ins 104 89 = some (.checkcast 17, 3) by decide +kernel) (show cRes (mC 104) 17 = some 6 by decide +kernel) (by decide +kernel)
set_option maxRecDepth 100000 in
theorem r_104_92 : ∀ (d : Nat) (l0 l1 l2 l3 l4 l5 : Option Value) (v : Nat) (st : List Value) (M : Mem) (Q : Outcome → Mem → Prop), (lo l4 = false) → Wp d 104 92 [l0, l1, l2, l3, l4, l5] (.ref v :: st) M Q = Wp d 104 94 [l0, l1, l2, l3, l4, some (.ref v)] st M Q := fun d l0 l1 l2 l3 l4 l5 v st M Q hl => w_astore (show ins 104 92 = some (.astore 5, 2) by decide +kernel) (st1_S rfl rfl hl)
set_option maxRecDepth 100000 in
theorem r_104_92_1 : ∀ (d : Nat) (l0 l1 l2 l3 l4 l5 : Option Value) (st : List Value) (M : Mem) (Q : Outcome → Mem → Prop), (lo l4 = false) → Wp d 104 92 [l0, l1, l2, l3, l4, l5] (.null :: st) M Q = Wp d 104 94 [l0, l1, l2, l3, l4, some (.null)] st M Q := fun d l0 l1 l2 l3 l4 l5 st M Q hl => w_astoreN (show ins 104 92 = some (.astore 5, 2) by decide +kernel) (st1_S rfl rfl hl)
set_option maxRecDepth 100000 in
theorem r_104_94 : ∀ (d : Nat) (l0 l1 l2 l3 l5 : Option Value) (v : Nat) (st : List Value) (M : Mem) (Q : Outcome → Mem → Prop), Wp d 104 94 [l0, l1, l2, l3, some (.ref v), l5] st M Q = Wp d 104 96 [l0, l1, l2, l3, some (.ref v), l5] (.ref v :: st) M Q := fun d l0 l1 l2 l3 l5 v st M Q => wA (show ins 104 94 = some (.aload 4, 2) by decide +kernel) rfl
set_option maxRecDepth 100000 in
theorem r_104_94_1 : ∀ (d : Nat) (l0 l1 l2 l3 l5 : Option Value) (st : List Value) (M : Mem) (Q : Outcome → Mem → Prop), Wp d 104 94 [l0, l1, l2, l3, some .null, l5] st M Q = Wp d 104 96 [l0, l1, l2, l3, some .null, l5] (.null :: st) M Q := fun d l0 l1 l2 l3 l5 st M Q => wA (show ins 104 94 = some (.aload 4, 2) by decide +kernel) rfl
set_option maxRecDepth 100000 in
theorem r_104_96 : ∀ (d : Nat) (ls : Lc) (st : List Value) (M : Mem) (Q : Outcome → Mem → Prop), Wp d 104 96 ls (.null :: st) M Q = Wp d 104 130 ls st M Q := fun d ls st M Q => w_ifnullN (show ins 104 96 = some (.ifnull 34, 3) by decide +kernel) rfl
set_option maxRecDepth 100000 in
theorem r_104_96_1 : ∀ (d : Nat) (ls : Lc) (v : Nat) (st : List Value) (M : Mem) (Q : Outcome → Mem → Prop), Wp d 104 96 ls (.ref v :: st) M Q = Wp d 104 99 ls st M Q := fun d ls v st M Q => w_ifnullR (show ins 104 96 = some (.ifnull 34, 3) by decide +kernel) (t := 130) rfl
set_option maxRecDepth 100000 in
theorem r_104_99 : ∀ (d : Nat) (l0 l1 l2 l3 l5 : Option Value) (v : Nat) (st : List Value) (M : Mem) (Q : Outcome → Mem → Prop), Wp d 104 99 [l0, l1, l2, l3, some (.ref v), l5] st M Q = Wp d 104 101 [l0, l1, l2, l3, some (.ref v), l5] (.ref v :: st) M Q := fun d l0 l1 l2 l3 l5 v st M Q => wA (show ins 104 99 = some (.aload 4, 2) by decide +kernel) rfl
set_option maxRecDepth 100000 in
theorem r_104_99_1 : ∀ (d : Nat) (l0 l1 l2 l3 l5 : Option Value) (st : List Value) (M : Mem) (Q : Outcome → Mem → Prop), Wp d 104 99 [l0, l1, l2, l3, some .null, l5] st M Q = Wp d 104 101 [l0, l1, l2, l3, some .null, l5] (.null :: st) M Q := fun d l0 l1 l2 l3 l5 st M Q => wA (show ins 104 99 = some (.aload 4, 2) by decide +kernel) rfl
set_option maxRecDepth 100000 in
theorem r_104_101 : ∀ (d : Nat) (ls : Lc) (a : Nat) (st : List Value) (M : Mem) (Q : Outcome → Mem → Prop), (smallR st = true) → Wp d 104 101 ls (.ref a :: st) M Q = (kO M a = 6 ∧ Ca d 104 101 ls 145 (.ref a :: []) st M Q) := fun d ls a st M Q h0 => w_virt1 (as := []) (show ins 104 101 = some (.invokevirtual 202, 3) by decide +kernel) (show mRes (mC 104) 202 = some (3, 6, [(6, 145)]) by decide +kernel) (by decide +kernel) rfl (by decide +kernel) (by decide +kernel) h0
set_option maxRecDepth 100000 in
theorem r_104_104 : ∀ (d : Nat) (ls : Lc) (a : Int32) (st : List Value) (M : Mem) (Q : Outcome → Mem → Prop), Wp d 104 104 ls (.int a :: st) M Q = Br (a = I 0) d 104 130 107 ls st M Q := fun d ls a st M Q => w_if (show ins 104 104 = some (.ifCond .eq 26, 3) by decide +kernel) rfl rfl
set_option maxRecDepth 100000 in
theorem r_104_107 : ∀ (d : Nat) (l0 l1 l2 l3 l5 : Option Value) (v : Nat) (st : List Value) (M : Mem) (Q : Outcome → Mem → Prop), Wp d 104 107 [l0, l1, l2, l3, some (.ref v), l5] st M Q = Wp d 104 109 [l0, l1, l2, l3, some (.ref v), l5] (.ref v :: st) M Q := fun d l0 l1 l2 l3 l5 v st M Q => wA (show ins 104 107 = some (.aload 4, 2) by decide +kernel) rfl
set_option maxRecDepth 100000 in
theorem r_104_107_1 : ∀ (d : Nat) (l0 l1 l2 l3 l5 : Option Value) (st : List Value) (M : Mem) (Q : Outcome → Mem → Prop), Wp d 104 107 [l0, l1, l2, l3, some .null, l5] st M Q = Wp d 104 109 [l0, l1, l2, l3, some .null, l5] (.null :: st) M Q := fun d l0 l1 l2 l3 l5 st M Q => wA (show ins 104 107 = some (.aload 4, 2) by decide +kernel) rfl
set_option maxRecDepth 100000 in
theorem r_104_109 : ∀ (d : Nat) (l0 l1 l2 l3 l5 : Option Value) (v : Nat) (st : List Value) (M : Mem) (Q : Outcome → Mem → Prop), Wp d 104 109 [l0, l1, l2, l3, some (.ref v), l5] st M Q = Wp d 104 111 [l0, l1, l2, l3, some (.ref v), l5] (.ref v :: st) M Q := fun d l0 l1 l2 l3 l5 v st M Q => wA (show ins 104 109 = some (.aload 4, 2) by decide +kernel) rfl
set_option maxRecDepth 100000 in
theorem r_104_109_1 : ∀ (d : Nat) (l0 l1 l2 l3 l5 : Option Value) (st : List Value) (M : Mem) (Q : Outcome → Mem → Prop), Wp d 104 109 [l0, l1, l2, l3, some .null, l5] st M Q = Wp d 104 111 [l0, l1, l2, l3, some .null, l5] (.null :: st) M Q := fun d l0 l1 l2 l3 l5 st M Q => wA (show ins 104 109 = some (.aload 4, 2) by decide +kernel) rfl
set_option maxRecDepth 100000 in
theorem r_104_111 : ∀ (d : Nat) (ls : Lc) (a : Nat) (st : List Value) (M : Mem) (Q : Outcome → Mem → Prop), Wp d 104 111 ls (.ref a :: st) M Q = (fk 41 (kO M a) = true ∧ Wp d 104 114 ls (.int (mF M 41 a) :: st) M Q) := fun d ls a st M Q => w_getI (show ins 104 111 = some (.getfield 67, 3) by decide +kernel) (show fRes (mC 104) 67 = some (41, 6, true) by decide +kernel) (by decide +kernel)
set_option maxRecDepth 100000 in
theorem r_104_114 : ∀ (d : Nat) (l0 l1 l3 l4 l5 : Option Value) (v : Nat) (st : List Value) (M : Mem) (Q : Outcome → Mem → Prop), Wp d 104 114 [l0, l1, some (.ref v), l3, l4, l5] st M Q = Wp d 104 115 [l0, l1, some (.ref v), l3, l4, l5] (.ref v :: st) M Q := fun d l0 l1 l3 l4 l5 v st M Q => wA (show ins 104 114 = some (.aload_n 2, 1) by decide +kernel) rfl
set_option maxRecDepth 100000 in
theorem r_104_114_1 : ∀ (d : Nat) (l0 l1 l3 l4 l5 : Option Value) (st : List Value) (M : Mem) (Q : Outcome → Mem → Prop), Wp d 104 114 [l0, l1, some .null, l3, l4, l5] st M Q = Wp d 104 115 [l0, l1, some .null, l3, l4, l5] (.null :: st) M Q := fun d l0 l1 l3 l4 l5 st M Q => wA (show ins 104 114 = some (.aload_n 2, 1) by decide +kernel) rfl
set_option maxRecDepth 100000 in
theorem r_104_115 : ∀ (d : Nat) (ls : Lc) (st : List Value) (M : Mem) (Q : Outcome → Mem → Prop), Wp d 104 115 ls st M Q = Wp d 104 116 ls (.int (I 0) :: st) M Q := fun d ls st M Q => w_iconst (show ins 104 115 = some (.iconst 0, 1) by decide +kernel)
set_option maxRecDepth 100000 in
theorem r_104_116 : ∀ (d : Nat) (ls : Lc) (v0 : Value) (a : Nat) (st : List Value) (M : Mem) (Q : Outcome → Mem → Prop), (smallR st = true) → Wp d 104 116 ls (v0 :: .ref a :: st) M Q = (kO M a = 6 ∧ Ca d 104 116 ls 144 (.ref a :: [v0]) st M Q) := fun d ls v0 a st M Q h0 => w_virt1 (as := [v0]) (show ins 104 116 = some (.invokevirtual 181, 3) by decide +kernel) (show mRes (mC 104) 181 = some (3, 6, [(6, 144)]) by decide +kernel) (by decide +kernel) rfl (by decide +kernel) (by decide +kernel) h0
set_option maxRecDepth 100000 in
theorem r_104_119 : ∀ (d : Nat) (ls : Lc) (v0 v1 : Value) (a : Nat) (st : List Value) (M : Mem) (Q : Outcome → Mem → Prop), (smallR st = true) → Wp d 104 119 ls (v1 :: v0 :: .ref a :: st) M Q = (kO M a = 6 ∧ Ca d 104 119 ls 142 (.ref a :: [v0, v1]) st M Q) := fun d ls v0 v1 a st M Q h0 => w_virt1 (as := [v0, v1]) (show ins 104 119 = some (.invokevirtual 87, 3) by decide +kernel) (show mRes (mC 104) 87 = some (3, 6, [(6, 142)]) by decide +kernel) (by decide +kernel) rfl (by decide +kernel) (by decide +kernel) h0
set_option maxRecDepth 100000 in
theorem r_104_122 : ∀ (d : Nat) (l1 l2 l3 l4 l5 : Option Value) (v : Nat) (st : List Value) (M : Mem) (Q : Outcome → Mem → Prop), Wp d 104 122 [some (.ref v), l1, l2, l3, l4, l5] st M Q = Wp d 104 123 [some (.ref v), l1, l2, l3, l4, l5] (.ref v :: st) M Q := fun d l1 l2 l3 l4 l5 v st M Q => wA (show ins 104 122 = some (.aload_n 0, 1) by decide +kernel) rfl
set_option maxRecDepth 100000 in
theorem r_104_123 : ∀ (d : Nat) (l0 l1 l3 l4 l5 : Option Value) (v : Nat) (st : List Value) (M : Mem) (Q : Outcome → Mem → Prop), Wp d 104 123 [l0, l1, some (.ref v), l3, l4, l5] st M Q = Wp d 104 124 [l0, l1, some (.ref v), l3, l4, l5] (.ref v :: st) M Q := fun d l0 l1 l3 l4 l5 v st M Q => wA (show ins 104 123 = some (.aload_n 2, 1) by decide +kernel) rfl
set_option maxRecDepth 100000 in
theorem r_104_123_1 : ∀ (d : Nat) (l0 l1 l3 l4 l5 : Option Value) (st : List Value) (M : Mem) (Q : Outcome → Mem → Prop), Wp d 104 123 [l0, l1, some .null, l3, l4, l5] st M Q = Wp d 104 124 [l0, l1, some .null, l3, l4, l5] (.null :: st) M Q := fun d l0 l1 l3 l4 l5 st M Q => wA (show ins 104 123 = some (.aload_n 2, 1) by decide +kernel) rfl
set_option maxRecDepth 100000 in
theorem r_104_124 : ∀ (d : Nat) (ls : Lc) (v0 : Value) (a : Nat) (st : List Value) (M : Mem) (Q : Outcome → Mem → Prop), (smallR st = true) → Wp d 104 124 ls (v0 :: .ref a :: st) M Q = (kO M a = 3 ∧ Ca d 104 124 ls 104 (.ref a :: [v0]) st M Q) := fun d ls v0 a st M Q h0 => w_virt1 (as := [v0]) (show ins 104 124 = some (.invokevirtual 186, 3) by decide +kernel) (show mRes (mC 104) 186 = some (3, 3, [(3, 104)]) by decide +kernel) (by decide +kernel) rfl (by decide +kernel) (by decide +kernel) h0
set_option maxRecDepth 100000 in
theorem r_104_127 : ∀ (d : Nat) (ls : Lc) (st : List Value) (M : Mem) (Q : Outcome → Mem → Prop), Wp d 104 127 ls st M Q = Wp d 104 198 ls st M Q := fun d ls st M Q => w_goto (show ins 104 127 = some (.goto 71, 3) by decide +kernel) rfl
set_option maxRecDepth 100000 in
theorem r_104_130 : ∀ (d : Nat) (l0 l1 l2 l3 l4 : Option Value) (v : Nat) (st : List Value) (M : Mem) (Q : Outcome → Mem → Prop), Wp d 104 130 [l0, l1, l2, l3, l4, some (.ref v)] st M Q = Wp d 104 132 [l0, l1, l2, l3, l4, some (.ref v)] (.ref v :: st) M Q := fun d l0 l1 l2 l3 l4 v st M Q => wA (show ins 104 130 = some (.aload 5, 2) by decide +kernel) rfl
set_option maxRecDepth 100000 in
theorem r_104_130_1 : ∀ (d : Nat) (l0 l1 l2 l3 l4 : Option Value) (st : List Value) (M : Mem) (Q : Outcome → Mem → Prop), Wp d 104 130 [l0, l1, l2, l3, l4, some .null] st M Q = Wp d 104 132 [l0, l1, l2, l3, l4, some .null] (.null :: st) M Q := fun d l0 l1 l2 l3 l4 st M Q => wA (show ins 104 130 = some (.aload 5, 2) by decide +kernel) rfl
set_option maxRecDepth 100000 in
theorem r_104_132 : ∀ (d : Nat) (ls : Lc) (st : List Value) (M : Mem) (Q : Outcome → Mem → Prop), Wp d 104 132 ls (.null :: st) M Q = Wp d 104 162 ls st M Q := fun d ls st M Q => w_ifnullN (show ins 104 132 = some (.ifnull 30, 3) by decide +kernel) rfl
set_option maxRecDepth 100000 in
theorem r_104_132_1 : ∀ (d : Nat) (ls : Lc) (v : Nat) (st : List Value) (M : Mem) (Q : Outcome → Mem → Prop), Wp d 104 132 ls (.ref v :: st) M Q = Wp d 104 135 ls st M Q := fun d ls v st M Q => w_ifnullR (show ins 104 132 = some (.ifnull 30, 3) by decide +kernel) (t := 162) rfl
set_option maxRecDepth 100000 in
theorem r_104_135 : ∀ (d : Nat) (l0 l1 l2 l3 l4 : Option Value) (v : Nat) (st : List Value) (M : Mem) (Q : Outcome → Mem → Prop), Wp d 104 135 [l0, l1, l2, l3, l4, some (.ref v)] st M Q = Wp d 104 137 [l0, l1, l2, l3, l4, some (.ref v)] (.ref v :: st) M Q := fun d l0 l1 l2 l3 l4 v st M Q => wA (show ins 104 135 = some (.aload 5, 2) by decide +kernel) rfl
set_option maxRecDepth 100000 in
theorem r_104_135_1 : ∀ (d : Nat) (l0 l1 l2 l3 l4 : Option Value) (st : List Value) (M : Mem) (Q : Outcome → Mem → Prop), Wp d 104 135 [l0, l1, l2, l3, l4, some .null] st M Q = Wp d 104 137 [l0, l1, l2, l3, l4, some .null] (.null :: st) M Q := fun d l0 l1 l2 l3 l4 st M Q => wA (show ins 104 135 = some (.aload 5, 2) by decide +kernel) rfl
set_option maxRecDepth 100000 in
theorem r_104_137 : ∀ (d : Nat) (ls : Lc) (a : Nat) (st : List Value) (M : Mem) (Q : Outcome → Mem → Prop), (smallR st = true) → Wp d 104 137 ls (.ref a :: st) M Q = (kO M a = 6 ∧ Ca d 104 137 ls 145 (.ref a :: []) st M Q) := fun d ls a st M Q h0 => w_virt1 (as := []) (show ins 104 137 = some (.invokevirtual 202, 3) by decide +kernel) (show mRes (mC 104) 202 = some (3, 6, [(6, 145)]) by decide +kernel) (by decide +kernel) rfl (by decide +kernel) (by decide +kernel) h0
set_option maxRecDepth 100000 in
theorem r_104_140 : ∀ (d : Nat) (ls : Lc) (a : Int32) (st : List Value) (M : Mem) (Q : Outcome → Mem → Prop), Wp d 104 140 ls (.int a :: st) M Q = Br (a = I 0) d 104 162 143 ls st M Q := fun d ls a st M Q => w_if (show ins 104 140 = some (.ifCond .eq 22, 3) by decide +kernel) rfl rfl
set_option maxRecDepth 100000 in
theorem r_104_143 : ∀ (d : Nat) (l0 l1 l2 l3 l4 : Option Value) (v : Nat) (st : List Value) (M : Mem) (Q : Outcome → Mem → Prop), Wp d 104 143 [l0, l1, l2, l3, l4, some (.ref v)] st M Q = Wp d 104 145 [l0, l1, l2, l3, l4, some (.ref v)] (.ref v :: st) M Q := fun d l0 l1 l2 l3 l4 v st M Q => wA (show ins 104 143 = some (.aload 5, 2) by decide +kernel) rfl
set_option maxRecDepth 100000 in
theorem r_104_143_1 : ∀ (d : Nat) (l0 l1 l2 l3 l4 : Option Value) (st : List Value) (M : Mem) (Q : Outcome → Mem → Prop), Wp d 104 143 [l0, l1, l2, l3, l4, some .null] st M Q = Wp d 104 145 [l0, l1, l2, l3, l4, some .null] (.null :: st) M Q := fun d l0 l1 l2 l3 l4 st M Q => wA (show ins 104 143 = some (.aload 5, 2) by decide +kernel) rfl
set_option maxRecDepth 100000 in
theorem r_104_145 : ∀ (d : Nat) (ls : Lc) (st : List Value) (M : Mem) (Q : Outcome → Mem → Prop), Wp d 104 145 ls st M Q = Wp d 104 146 ls (.int (I 0) :: st) M Q := fun d ls st M Q => w_iconst (show ins 104 145 = some (.iconst 0, 1) by decide +kernel)
set_option maxRecDepth 100000 in
theorem r_104_146 : ∀ (d : Nat) (l0 l1 l3 l4 l5 : Option Value) (v : Nat) (st : List Value) (M : Mem) (Q : Outcome → Mem → Prop), Wp d 104 146 [l0, l1, some (.ref v), l3, l4, l5] st M Q = Wp d 104 147 [l0, l1, some (.ref v), l3, l4, l5] (.ref v :: st) M Q := fun d l0 l1 l3 l4 l5 v st M Q => wA (show ins 104 146 = some (.aload_n 2, 1) by decide +kernel) rfl
set_option maxRecDepth 100000 in
theorem r_104_146_1 : ∀ (d : Nat) (l0 l1 l3 l4 l5 : Option Value) (st : List Value) (M : Mem) (Q : Outcome → Mem → Prop), Wp d 104 146 [l0, l1, some .null, l3, l4, l5] st M Q = Wp d 104 147 [l0, l1, some .null, l3, l4, l5] (.null :: st) M Q := fun d l0 l1 l3 l4 l5 st M Q => wA (show ins 104 146 = some (.aload_n 2, 1) by decide +kernel) rfl
set_option maxRecDepth 100000 in
theorem r_104_147 : ∀ (d : Nat) (ls : Lc) (st : List Value) (M : Mem) (Q : Outcome → Mem → Prop), Wp d 104 147 ls st M Q = Wp d 104 148 ls (.int (I 0) :: st) M Q := fun d ls st M Q => w_iconst (show ins 104 147 = some (.iconst 0, 1) by decide +kernel)
set_option maxRecDepth 100000 in
theorem r_104_148 : ∀ (d : Nat) (ls : Lc) (v0 : Value) (a : Nat) (st : List Value) (M : Mem) (Q : Outcome → Mem → Prop), (smallR st = true) → Wp d 104 148 ls (v0 :: .ref a :: st) M Q = (kO M a = 6 ∧ Ca d 104 148 ls 144 (.ref a :: [v0]) st M Q) := fun d ls v0 a st M Q h0 => w_virt1 (as := [v0]) (show ins 104 148 = some (.invokevirtual 181, 3) by decide +kernel) (show mRes (mC 104) 181 = some (3, 6, [(6, 144)]) by decide +kernel) (by decide +kernel) rfl (by decide +kernel) (by decide +kernel) h0
set_option maxRecDepth 100000 in
theorem r_104_151 : ∀ (d : Nat) (ls : Lc) (v0 v1 : Value) (a : Nat) (st : List Value) (M : Mem) (Q : Outcome → Mem → Prop), (smallR st = true) → Wp d 104 151 ls (v1 :: v0 :: .ref a :: st) M Q = (kO M a = 6 ∧ Ca d 104 151 ls 142 (.ref a :: [v0, v1]) st M Q) := fun d ls v0 v1 a st M Q h0 => w_virt1 (as := [v0, v1]) (show ins 104 151 = some (.invokevirtual 87, 3) by decide +kernel) (show mRes (mC 104) 87 = some (3, 6, [(6, 142)]) by decide +kernel) (by decide +kernel) rfl (by decide +kernel) (by decide +kernel) h0
set_option maxRecDepth 100000 in
theorem r_104_154 : ∀ (d : Nat) (l1 l2 l3 l4 l5 : Option Value) (v : Nat) (st : List Value) (M : Mem) (Q : Outcome → Mem → Prop), Wp d 104 154 [some (.ref v), l1, l2, l3, l4, l5] st M Q = Wp d 104 155 [some (.ref v), l1, l2, l3, l4, l5] (.ref v :: st) M Q := fun d l1 l2 l3 l4 l5 v st M Q => wA (show ins 104 154 = some (.aload_n 0, 1) by decide +kernel) rfl
set_option maxRecDepth 100000 in
theorem r_104_155 : ∀ (d : Nat) (l0 l1 l3 l4 l5 : Option Value) (v : Nat) (st : List Value) (M : Mem) (Q : Outcome → Mem → Prop), Wp d 104 155 [l0, l1, some (.ref v), l3, l4, l5] st M Q = Wp d 104 156 [l0, l1, some (.ref v), l3, l4, l5] (.ref v :: st) M Q := fun d l0 l1 l3 l4 l5 v st M Q => wA (show ins 104 155 = some (.aload_n 2, 1) by decide +kernel) rfl
set_option maxRecDepth 100000 in
theorem r_104_155_1 : ∀ (d : Nat) (l0 l1 l3 l4 l5 : Option Value) (st : List Value) (M : Mem) (Q : Outcome → Mem → Prop), Wp d 104 155 [l0, l1, some .null, l3, l4, l5] st M Q = Wp d 104 156 [l0, l1, some .null, l3, l4, l5] (.null :: st) M Q := fun d l0 l1 l3 l4 l5 st M Q => wA (show ins 104 155 = some (.aload_n 2, 1) by decide +kernel) rfl
set_option maxRecDepth 100000 in
theorem r_104_156 : ∀ (d : Nat) (ls : Lc) (v0 : Value) (a : Nat) (st : List Value) (M : Mem) (Q : Outcome → Mem → Prop), (smallR st = true) → Wp d 104 156 ls (v0 :: .ref a :: st) M Q = (kO M a = 3 ∧ Ca d 104 156 ls 104 (.ref a :: [v0]) st M Q) := fun d ls v0 a st M Q h0 => w_virt1 (as := [v0]) (show ins 104 156 = some (.invokevirtual 186, 3) by decide +kernel) (show mRes (mC 104) 186 = some (3, 3, [(3, 104)]) by decide +kernel) (by decide +kernel) rfl (by decide +kernel) (by decide +kernel) h0
set_option maxRecDepth 100000 in
theorem r_104_159 : ∀ (d : Nat) (ls : Lc) (st : List Value) (M : Mem) (Q : Outcome → Mem → Prop), Wp d 104 159 ls st M Q = Wp d 104 198 ls st M Q := fun d ls st M Q => w_goto (show ins 104 159 = some (.goto 39, 3) by decide +kernel) rfl
set_option maxRecDepth 100000 in
theorem r_104_162 : ∀ (d : Nat) (l0 l1 l2 l3 l5 : Option Value) (v : Nat) (st : List Value) (M : Mem) (Q : Outcome → Mem → Prop), Wp d 104 162 [l0, l1, l2, l3, some (.ref v), l5] st M Q = Wp d 104 164 [l0, l1, l2, l3, some (.ref v), l5] (.ref v :: st) M Q := fun d l0 l1 l2 l3 l5 v st M Q => wA (show ins 104 162 = some (.aload 4, 2) by decide +kernel) rfl
set_option maxRecDepth 100000 in
theorem r_104_162_1 : ∀ (d : Nat) (l0 l1 l2 l3 l5 : Option Value) (st : List Value) (M : Mem) (Q : Outcome → Mem → Prop), Wp d 104 162 [l0, l1, l2, l3, some .null, l5] st M Q = Wp d 104 164 [l0, l1, l2, l3, some .null, l5] (.null :: st) M Q := fun d l0 l1 l2 l3 l5 st M Q => wA (show ins 104 162 = some (.aload 4, 2) by decide +kernel) rfl
set_option maxRecDepth 100000 in
theorem r_104_164 : ∀ (d : Nat) (ls : Lc) (st : List Value) (M : Mem) (Q : Outcome → Mem → Prop), Wp d 104 164 ls (.null :: st) M Q = Wp d 104 187 ls st M Q := fun d ls st M Q => w_ifnullN (show ins 104 164 = some (.ifnull 23, 3) by decide +kernel) rfl
set_option maxRecDepth 100000 in
theorem r_104_164_1 : ∀ (d : Nat) (ls : Lc) (v : Nat) (st : List Value) (M : Mem) (Q : Outcome → Mem → Prop), Wp d 104 164 ls (.ref v :: st) M Q = Wp d 104 167 ls st M Q := fun d ls v st M Q => w_ifnullR (show ins 104 164 = some (.ifnull 23, 3) by decide +kernel) (t := 187) rfl
set_option maxRecDepth 100000 in
theorem r_104_167 : ∀ (d : Nat) (l0 l1 l3 l4 l5 : Option Value) (v : Nat) (st : List Value) (M : Mem) (Q : Outcome → Mem → Prop), Wp d 104 167 [l0, l1, some (.ref v), l3, l4, l5] st M Q = Wp d 104 168 [l0, l1, some (.ref v), l3, l4, l5] (.ref v :: st) M Q := fun d l0 l1 l3 l4 l5 v st M Q => wA (show ins 104 167 = some (.aload_n 2, 1) by decide +kernel) rfl
set_option maxRecDepth 100000 in
theorem r_104_167_1 : ∀ (d : Nat) (l0 l1 l3 l4 l5 : Option Value) (st : List Value) (M : Mem) (Q : Outcome → Mem → Prop), Wp d 104 167 [l0, l1, some .null, l3, l4, l5] st M Q = Wp d 104 168 [l0, l1, some .null, l3, l4, l5] (.null :: st) M Q := fun d l0 l1 l3 l4 l5 st M Q => wA (show ins 104 167 = some (.aload_n 2, 1) by decide +kernel) rfl
set_option maxRecDepth 100000 in
theorem r_104_168 : ∀ (d : Nat) (ls : Lc) (st : List Value) (M : Mem) (Q : Outcome → Mem → Prop), Wp d 104 168 ls st M Q = Wp d 104 169 ls (.int (I 0) :: st) M Q := fun d ls st M Q => w_iconst (show ins 104 168 = some (.iconst 0, 1) by decide +kernel)
set_option maxRecDepth 100000 in
theorem r_104_169 : ∀ (d : Nat) (l0 l1 l2 l3 l5 : Option Value) (v : Nat) (st : List Value) (M : Mem) (Q : Outcome → Mem → Prop), Wp d 104 169 [l0, l1, l2, l3, some (.ref v), l5] st M Q = Wp d 104 171 [l0, l1, l2, l3, some (.ref v), l5] (.ref v :: st) M Q := fun d l0 l1 l2 l3 l5 v st M Q => wA (show ins 104 169 = some (.aload 4, 2) by decide +kernel) rfl
set_option maxRecDepth 100000 in
theorem r_104_169_1 : ∀ (d : Nat) (l0 l1 l2 l3 l5 : Option Value) (st : List Value) (M : Mem) (Q : Outcome → Mem → Prop), Wp d 104 169 [l0, l1, l2, l3, some .null, l5] st M Q = Wp d 104 171 [l0, l1, l2, l3, some .null, l5] (.null :: st) M Q := fun d l0 l1 l2 l3 l5 st M Q => wA (show ins 104 169 = some (.aload 4, 2) by decide +kernel) rfl
set_option maxRecDepth 100000 in
theorem r_104_171 : ∀ (d : Nat) (l0 l1 l2 l3 l5 : Option Value) (v : Nat) (st : List Value) (M : Mem) (Q : Outcome → Mem → Prop), Wp d 104 171 [l0, l1, l2, l3, some (.ref v), l5] st M Q = Wp d 104 173 [l0, l1, l2, l3, some (.ref v), l5] (.ref v :: st) M Q := fun d l0 l1 l2 l3 l5 v st M Q => wA (show ins 104 171 = some (.aload 4, 2) by decide +kernel) rfl
set_option maxRecDepth 100000 in
theorem r_104_171_1 : ∀ (d : Nat) (l0 l1 l2 l3 l5 : Option Value) (st : List Value) (M : Mem) (Q : Outcome → Mem → Prop), Wp d 104 171 [l0, l1, l2, l3, some .null, l5] st M Q = Wp d 104 173 [l0, l1, l2, l3, some .null, l5] (.null :: st) M Q := fun d l0 l1 l2 l3 l5 st M Q => wA (show ins 104 171 = some (.aload 4, 2) by decide +kernel) rfl
set_option maxRecDepth 100000 in
theorem r_104_173 : ∀ (d : Nat) (ls : Lc) (a : Nat) (st : List Value) (M : Mem) (Q : Outcome → Mem → Prop), Wp d 104 173 ls (.ref a :: st) M Q = (fk 41 (kO M a) = true ∧ Wp d 104 176 ls (.int (mF M 41 a) :: st) M Q) := fun d ls a st M Q => w_getI (show ins 104 173 = some (.getfield 67, 3) by decide +kernel) (show fRes (mC 104) 67 = some (41, 6, true) by decide +kernel) (by decide +kernel)
set_option maxRecDepth 100000 in
theorem r_104_176 : ∀ (d : Nat) (ls : Lc) (st : List Value) (M : Mem) (Q : Outcome → Mem → Prop), Wp d 104 176 ls st M Q = Wp d 104 177 ls (.int (I 1) :: st) M Q := fun d ls st M Q => w_iconst (show ins 104 176 = some (.iconst 1, 1) by decide +kernel)
set_option maxRecDepth 100000 in
theorem r_104_177 : ∀ (d : Nat) (ls : Lc) (a b : Int) (st : List Value) (M : Mem) (Q : Outcome → Mem → Prop), Wp d 104 177 ls (.int (I b) :: .int (I a) :: st) M Q = Wp d 104 178 ls (.int (I (a - b)) :: st) M Q := fun d ls a b st M Q => w_isub (show ins 104 177 = some (.isub, 1) by decide +kernel)
set_option maxRecDepth 100000 in
theorem r_104_178 : ∀ (d : Nat) (ls : Lc) (v0 : Value) (a : Nat) (st : List Value) (M : Mem) (Q : Outcome → Mem → Prop), (smallR st = true) → Wp d 104 178 ls (v0 :: .ref a :: st) M Q = (kO M a = 6 ∧ Ca d 104 178 ls 144 (.ref a :: [v0]) st M Q) := fun d ls v0 a st M Q h0 => w_virt1 (as := [v0]) (show ins 104 178 = some (.invokevirtual 181, 3) by decide +kernel) (show mRes (mC 104) 181 = some (3, 6, [(6, 144)]) by decide +kernel) (by decide +kernel) rfl (by decide +kernel) (by decide +kernel) h0
set_option maxRecDepth 100000 in
theorem r_104_181 : ∀ (d : Nat) (ls : Lc) (v0 v1 : Value) (a : Nat) (st : List Value) (M : Mem) (Q : Outcome → Mem → Prop), (smallR st = true) → Wp d 104 181 ls (v1 :: v0 :: .ref a :: st) M Q = (kO M a = 6 ∧ Ca d 104 181 ls 142 (.ref a :: [v0, v1]) st M Q) := fun d ls v0 v1 a st M Q h0 => w_virt1 (as := [v0, v1]) (show ins 104 181 = some (.invokevirtual 87, 3) by decide +kernel) (show mRes (mC 104) 87 = some (3, 6, [(6, 142)]) by decide +kernel) (by decide +kernel) rfl (by decide +kernel) (by decide +kernel) h0
set_option maxRecDepth 100000 in
theorem r_104_184 : ∀ (d : Nat) (ls : Lc) (st : List Value) (M : Mem) (Q : Outcome → Mem → Prop), Wp d 104 184 ls st M Q = Wp d 104 198 ls st M Q := fun d ls st M Q => w_goto (show ins 104 184 = some (.goto 14, 3) by decide +kernel) rfl
set_option maxRecDepth 100000 in
theorem r_104_187 : ∀ (d : Nat) (l0 l1 l3 l4 l5 : Option Value) (v : Nat) (st : List Value) (M : Mem) (Q : Outcome → Mem → Prop), Wp d 104 187 [l0, l1, some (.ref v), l3, l4, l5] st M Q = Wp d 104 188 [l0, l1, some (.ref v), l3, l4, l5] (.ref v :: st) M Q := fun d l0 l1 l3 l4 l5 v st M Q => wA (show ins 104 187 = some (.aload_n 2, 1) by decide +kernel) rfl
set_option maxRecDepth 100000 in
theorem r_104_187_1 : ∀ (d : Nat) (l0 l1 l3 l4 l5 : Option Value) (st : List Value) (M : Mem) (Q : Outcome → Mem → Prop), Wp d 104 187 [l0, l1, some .null, l3, l4, l5] st M Q = Wp d 104 188 [l0, l1, some .null, l3, l4, l5] (.null :: st) M Q := fun d l0 l1 l3 l4 l5 st M Q => wA (show ins 104 187 = some (.aload_n 2, 1) by decide +kernel) rfl
set_option maxRecDepth 100000 in
theorem r_104_188 : ∀ (d : Nat) (ls : Lc) (st : List Value) (M : Mem) (Q : Outcome → Mem → Prop), Wp d 104 188 ls st M Q = Wp d 104 189 ls (.int (I 1) :: st) M Q := fun d ls st M Q => w_iconst (show ins 104 188 = some (.iconst 1, 1) by decide +kernel)
set_option maxRecDepth 100000 in
theorem r_104_189 : ∀ (d : Nat) (l0 l1 l2 l3 l4 : Option Value) (v : Nat) (st : List Value) (M : Mem) (Q : Outcome → Mem → Prop), Wp d 104 189 [l0, l1, l2, l3, l4, some (.ref v)] st M Q = Wp d 104 191 [l0, l1, l2, l3, l4, some (.ref v)] (.ref v :: st) M Q := fun d l0 l1 l2 l3 l4 v st M Q => wA (show ins 104 189 = some (.aload 5, 2) by decide +kernel) rfl
set_option maxRecDepth 100000 in
theorem r_104_189_1 : ∀ (d : Nat) (l0 l1 l2 l3 l4 : Option Value) (st : List Value) (M : Mem) (Q : Outcome → Mem → Prop), Wp d 104 189 [l0, l1, l2, l3, l4, some .null] st M Q = Wp d 104 191 [l0, l1, l2, l3, l4, some .null] (.null :: st) M Q := fun d l0 l1 l2 l3 l4 st M Q => wA (show ins 104 189 = some (.aload 5, 2) by decide +kernel) rfl
set_option maxRecDepth 100000 in
theorem r_104_191 : ∀ (d : Nat) (ls : Lc) (st : List Value) (M : Mem) (Q : Outcome → Mem → Prop), Wp d 104 191 ls st M Q = Wp d 104 192 ls (.int (I 0) :: st) M Q := fun d ls st M Q => w_iconst (show ins 104 191 = some (.iconst 0, 1) by decide +kernel)
set_option maxRecDepth 100000 in
theorem r_104_192 : ∀ (d : Nat) (ls : Lc) (v0 : Value) (a : Nat) (st : List Value) (M : Mem) (Q : Outcome → Mem → Prop), (smallR st = true) → Wp d 104 192 ls (v0 :: .ref a :: st) M Q = (kO M a = 6 ∧ Ca d 104 192 ls 144 (.ref a :: [v0]) st M Q) := fun d ls v0 a st M Q h0 => w_virt1 (as := [v0]) (show ins 104 192 = some (.invokevirtual 181, 3) by decide +kernel) (show mRes (mC 104) 181 = some (3, 6, [(6, 144)]) by decide +kernel) (by decide +kernel) rfl (by decide +kernel) (by decide +kernel) h0
set_option maxRecDepth 100000 in
theorem r_104_195 : ∀ (d : Nat) (ls : Lc) (v0 v1 : Value) (a : Nat) (st : List Value) (M : Mem) (Q : Outcome → Mem → Prop), (smallR st = true) → Wp d 104 195 ls (v1 :: v0 :: .ref a :: st) M Q = (kO M a = 6 ∧ Ca d 104 195 ls 142 (.ref a :: [v0, v1]) st M Q) := fun d ls v0 v1 a st M Q h0 => w_virt1 (as := [v0, v1]) (show ins 104 195 = some (.invokevirtual 87, 3) by decide +kernel) (show mRes (mC 104) 87 = some (3, 6, [(6, 142)]) by decide +kernel) (by decide +kernel) rfl (by decide +kernel) (by decide +kernel) h0
set_option maxRecDepth 100000 in
theorem r_104_198 : ∀ (d : Nat) (ls : Lc) (M : Mem) (Q : Outcome → Mem → Prop), Wp d 104 198 ls [] M Q = Q (.returned none) M := fun d ls M Q => w_return (show ins 104 198 = some (.return_, 1) by decide +kernel) (by decide +kernel)
set_option maxRecDepth 100000 in
theorem W_104 : (type_of% r_104_0) ∧ (type_of% r_104_0_1) ∧ (type_of% r_104_1) ∧ (type_of% r_104_4) ∧ (type_of% r_104_5) ∧ (type_of% r_104_8) ∧ (type_of% r_104_8_1) ∧ (type_of% r_104_9) ∧ (type_of% r_104_12) ∧ (type_of% r_104_15) ∧ (type_of% r_104_15_1) ∧ (type_of% r_104_16) ∧ (type_of% r_104_19) ∧ (type_of% r_104_19_1) ∧ (type_of% r_104_20) ∧ (type_of% r_104_20_1) ∧ (type_of% r_104_21) ∧ (type_of% r_104_21_1) ∧ (type_of% r_104_22) ∧ (type_of% r_104_22_1) ∧ (type_of% r_104_23) ∧ (type_of% r_104_26) ∧ (type_of% r_104_29) ∧ (type_of% r_104_29_1) ∧ (type_of% r_104_30) ∧ (type_of% r_104_30_1) ∧ (type_of% r_104_31) ∧ (type_of% r_104_34) ∧ (type_of% r_104_35) ∧ (type_of% r_104_38) ∧ (type_of% r_104_39) ∧ (type_of% r_104_39_1) ∧ (type_of% r_104_40) ∧ (type_of% r_104_41) ∧ (type_of% r_104_44) ∧ (type_of% r_104_47) ∧ (type_of% r_104_48) ∧ (type_of% r_104_48_1) ∧ (type_of% r_104_49) ∧ (type_of% r_104_50) ∧ (type_of% r_104_53) ∧ (type_of% r_104_53_1) ∧ (type_of% r_104_56) ∧ (type_of% r_104_57) ∧ (type_of% r_104_60) ∧ (type_of% r_104_61) ∧ (type_of% r_104_61_1) ∧ (type_of% r_104_64) ∧ (type_of% r_104_65) ∧ (type_of% r_104_68) ∧ (type_of% r_104_68_1) ∧ (type_of% r_104_69) ∧ (type_of% r_104_72) ∧ (type_of% r_104_75) ∧ (type_of% r_104_76) ∧ (type_of% r_104_76_1) ∧ (type_of% r_104_77) ∧ (type_of% r_104_80) ∧ (type_of% r_104_80_1) ∧ (type_of% r_104_83) ∧ (type_of% r_104_83_1) ∧ (type_of% r_104_85) ∧ (type_of% r_104_85_1) ∧ (type_of% r_104_86) ∧ (type_of% r_104_89) ∧ (type_of% r_104_89_1) ∧ (type_of% r_104_92) ∧ (type_of% r_104_92_1) ∧ (type_of% r_104_94) ∧ (type_of% r_104_94_1) ∧ (type_of% r_104_96) ∧ (type_of% r_104_96_1) ∧ (type_of% r_104_99) ∧ (type_of% r_104_99_1) ∧ (type_of% r_104_101) ∧ (type_of% r_104_104) ∧ (type_of% r_104_107) ∧ (type_of% r_104_107_1) ∧ (type_of% r_104_109) ∧ (type_of% r_104_109_1) ∧ (type_of% r_104_111) ∧ (type_of% r_104_114) ∧ (type_of% r_104_114_1) ∧ (type_of% r_104_115) ∧ (type_of% r_104_116) ∧ (type_of% r_104_119) ∧ (type_of% r_104_122) ∧ (type_of% r_104_123) ∧ (type_of% r_104_123_1) ∧ (type_of% r_104_124) ∧ (type_of% r_104_127) ∧ (type_of% r_104_130) ∧ (type_of% r_104_130_1) ∧ (type_of% r_104_132) ∧ (type_of% r_104_132_1) ∧ (type_of% r_104_135) ∧ (type_of% r_104_135_1) ∧ (type_of% r_104_137) ∧ (type_of% r_104_140) ∧ (type_of% r_104_143) ∧ (type_of% r_104_143_1) ∧ (type_of% r_104_145) ∧ (type_of% r_104_146) ∧ (type_of% r_104_146_1) ∧ (type_of% r_104_147) ∧ (type_of% r_104_148) ∧ (type_of% r_104_151) ∧ (type_of% r_104_154) ∧ (type_of% r_104_155) ∧ (type_of% r_104_155_1) ∧ (type_of% r_104_156) ∧ (type_of% r_104_159) ∧ (type_of% r_104_162) ∧ (type_of% r_104_162_1) ∧ (type_of% r_104_164) ∧ (type_of% r_104_164_1) ∧ (type_of% r_104_167) ∧ (type_of% r_104_167_1) ∧ (type_of% r_104_168) ∧ (type_of% r_104_169) ∧ (type_of% r_104_169_1) ∧ (type_of% r_104_171) ∧ (type_of% r_104_171_1) ∧ (type_of% r_104_173) ∧ (type_of% r_104_176) ∧ (type_of% r_104_177) ∧ (type_of% r_104_178) ∧ (type_of% r_104_181) ∧ (type_of% r_104_184) ∧ (type_of% r_104_187) ∧ (type_of% r_104_187_1) ∧ (type_of% r_104_188) ∧ (type_of% r_104_189) ∧ (type_of% r_104_189_1) ∧ (type_of% r_104_191) ∧ (type_of% r_104_192) ∧ (type_of% r_104_195) ∧ (type_of% r_104_198) := ⟨r_104_0, r_104_0_1, r_104_1, r_104_4, r_104_5, r_104_8, r_104_8_1, r_104_9, r_104_12, r_104_15, r_104_15_1, r_104_16, r_104_19, r_104_19_1, r_104_20, r_104_20_1, r_104_21, r_104_21_1, r_104_22, r_104_22_1, r_104_23, r_104_26, r_104_29, r_104_29_1, r_104_30, r_104_30_1, r_104_31, r_104_34, r_104_35, r_104_38, r_104_39, r_104_39_1, r_104_40, r_104_41, r_104_44, r_104_47, r_104_48, r_104_48_1, r_104_49, r_104_50, r_104_53, r_104_53_1, r_104_56, r_104_57, r_104_60, r_104_61, r_104_61_1, r_104_64, r_104_65, r_104_68, r_104_68_1, r_104_69, r_104_72, r_104_75, r_104_76, r_104_76_1, r_104_77, r_104_80, r_104_80_1, r_104_83, r_104_83_1, r_104_85, r_104_85_1, r_104_86, r_104_89, r_104_89_1, r_104_92, r_104_92_1, r_104_94, r_104_94_1, r_104_96, r_104_96_1, r_104_99, r_104_99_1, r_104_101, r_104_104, r_104_107, r_104_107_1, r_104_109, r_104_109_1, r_104_111, r_104_114, r_104_114_1, r_104_115, r_104_116, r_104_119, r_104_122, r_104_123, r_104_123_1, r_104_124, r_104_127, r_104_130, r_104_130_1, r_104_132, r_104_132_1, r_104_135, r_104_135_1, r_104_137, r_104_140, r_104_143, r_104_143_1, r_104_145, r_104_146, r_104_146_1, r_104_147, r_104_148, r_104_151, r_104_154, r_104_155, r_104_155_1, r_104_156, r_104_159, r_104_162, r_104_162_1, r_104_164, r_104_164_1, r_104_167, r_104_167_1, r_104_168, r_104_169, r_104_169_1, r_104_171, r_104_171_1, r_104_173, r_104_176, r_104_177, r_104_178, r_104_181, r_104_184, r_104_187, r_104_187_1, r_104_188, r_104_189, r_104_189_1, r_104_191, r_104_192, r_104_195, r_104_198⟩
set_option maxRecDepth 100000 in
theorem ca_104 {d y pc : Nat} {ls : Lc} {a : Nat} {o0 : Option Nat} {r : List Value} {M : Mem} {Q : Outcome → Mem → Prop} (hd : 0 < d) (hw : Wp (d - 1) 104 0 [some (.ref a), some (va_rf o0), none, none, none, none] [] M (Cq d y pc ls r Q)) : Ca d y pc ls 104 [.ref a, va_rf o0] r M Q := ca_of (mq_get (by decide)) (by cases o0 <;> rfl) hd hw
/-! 105 PackedTree$Tree.belong(LPackedTree$Leaf;LPackedTree$Leaf;)Z; loop heads [] -/
set_option maxRecDepth 100000 in
theorem r_105_0 : ∀ (d : Nat) (l1 : Option Value) (v : Nat) (st : List Value) (M : Mem) (Q : Outcome → Mem → Prop), Wp d 105 0 [some (.ref v), l1] st M Q = Wp d 105 1 [some (.ref v), l1] (.ref v :: st) M Q := fun d l1 v st M Q => wA (show ins 105 0 = some (.aload_n 0, 1) by decide +kernel) rfl
set_option maxRecDepth 100000 in
theorem r_105_0_1 : ∀ (d : Nat) (l1 : Option Value) (st : List Value) (M : Mem) (Q : Outcome → Mem → Prop), Wp d 105 0 [some .null, l1] st M Q = Wp d 105 1 [some .null, l1] (.null :: st) M Q := fun d l1 st M Q => wA (show ins 105 0 = some (.aload_n 0, 1) by decide +kernel) rfl
set_option maxRecDepth 100000 in
theorem r_105_1 : ∀ (d : Nat) (ls : Lc) (st : List Value) (M : Mem) (Q : Outcome → Mem → Prop), Wp d 105 1 ls (.null :: st) M Q = Wp d 105 26 ls st M Q := fun d ls st M Q => w_ifnullN (show ins 105 1 = some (.ifnull 25, 3) by decide +kernel) rfl
set_option maxRecDepth 100000 in
theorem r_105_1_1 : ∀ (d : Nat) (ls : Lc) (v : Nat) (st : List Value) (M : Mem) (Q : Outcome → Mem → Prop), Wp d 105 1 ls (.ref v :: st) M Q = Wp d 105 4 ls st M Q := fun d ls v st M Q => w_ifnullR (show ins 105 1 = some (.ifnull 25, 3) by decide +kernel) (t := 26) rfl
set_option maxRecDepth 100000 in
theorem r_105_4 : ∀ (d : Nat) (l0 : Option Value) (v : Nat) (st : List Value) (M : Mem) (Q : Outcome → Mem → Prop), Wp d 105 4 [l0, some (.ref v)] st M Q = Wp d 105 5 [l0, some (.ref v)] (.ref v :: st) M Q := fun d l0 v st M Q => wA (show ins 105 4 = some (.aload_n 1, 1) by decide +kernel) rfl
set_option maxRecDepth 100000 in
theorem r_105_4_1 : ∀ (d : Nat) (l0 : Option Value) (st : List Value) (M : Mem) (Q : Outcome → Mem → Prop), Wp d 105 4 [l0, some .null] st M Q = Wp d 105 5 [l0, some .null] (.null :: st) M Q := fun d l0 st M Q => wA (show ins 105 4 = some (.aload_n 1, 1) by decide +kernel) rfl
set_option maxRecDepth 100000 in
theorem r_105_5 : ∀ (d : Nat) (ls : Lc) (st : List Value) (M : Mem) (Q : Outcome → Mem → Prop), Wp d 105 5 ls (.null :: st) M Q = Wp d 105 26 ls st M Q := fun d ls st M Q => w_ifnullN (show ins 105 5 = some (.ifnull 21, 3) by decide +kernel) rfl
set_option maxRecDepth 100000 in
theorem r_105_5_1 : ∀ (d : Nat) (ls : Lc) (v : Nat) (st : List Value) (M : Mem) (Q : Outcome → Mem → Prop), Wp d 105 5 ls (.ref v :: st) M Q = Wp d 105 8 ls st M Q := fun d ls v st M Q => w_ifnullR (show ins 105 5 = some (.ifnull 21, 3) by decide +kernel) (t := 26) rfl
set_option maxRecDepth 100000 in
theorem r_105_8 : ∀ (d : Nat) (l1 : Option Value) (v : Nat) (st : List Value) (M : Mem) (Q : Outcome → Mem → Prop), Wp d 105 8 [some (.ref v), l1] st M Q = Wp d 105 9 [some (.ref v), l1] (.ref v :: st) M Q := fun d l1 v st M Q => wA (show ins 105 8 = some (.aload_n 0, 1) by decide +kernel) rfl
set_option maxRecDepth 100000 in
theorem r_105_8_1 : ∀ (d : Nat) (l1 : Option Value) (st : List Value) (M : Mem) (Q : Outcome → Mem → Prop), Wp d 105 8 [some .null, l1] st M Q = Wp d 105 9 [some .null, l1] (.null :: st) M Q := fun d l1 st M Q => wA (show ins 105 8 = some (.aload_n 0, 1) by decide +kernel) rfl
set_option maxRecDepth 100000 in
theorem r_105_9 : ∀ (d : Nat) (ls : Lc) (a : Nat) (st : List Value) (M : Mem) (Q : Outcome → Mem → Prop), (smallR st = true) → Wp d 105 9 ls (.ref a :: st) M Q = (kO M a = 5 ∧ Ca d 105 9 ls 129 (.ref a :: []) st M Q) := fun d ls a st M Q h0 => w_virt1 (as := []) (show ins 105 9 = some (.invokevirtual 183, 3) by decide +kernel) (show mRes (mC 105) 183 = some (3, 5, [(5, 129)]) by decide +kernel) (by decide +kernel) rfl (by decide +kernel) (by decide +kernel) h0
set_option maxRecDepth 100000 in
theorem r_105_12 : ∀ (d : Nat) (l0 : Option Value) (v : Nat) (st : List Value) (M : Mem) (Q : Outcome → Mem → Prop), Wp d 105 12 [l0, some (.ref v)] st M Q = Wp d 105 13 [l0, some (.ref v)] (.ref v :: st) M Q := fun d l0 v st M Q => wA (show ins 105 12 = some (.aload_n 1, 1) by decide +kernel) rfl
set_option maxRecDepth 100000 in
theorem r_105_12_1 : ∀ (d : Nat) (l0 : Option Value) (st : List Value) (M : Mem) (Q : Outcome → Mem → Prop), Wp d 105 12 [l0, some .null] st M Q = Wp d 105 13 [l0, some .null] (.null :: st) M Q := fun d l0 st M Q => wA (show ins 105 12 = some (.aload_n 1, 1) by decide +kernel) rfl
set_option maxRecDepth 100000 in
theorem r_105_13 : ∀ (d : Nat) (ls : Lc) (a : Nat) (st : List Value) (M : Mem) (Q : Outcome → Mem → Prop), (smallR st = true) → Wp d 105 13 ls (.ref a :: st) M Q = (kO M a = 5 ∧ Ca d 105 13 ls 129 (.ref a :: []) st M Q) := fun d ls a st M Q h0 => w_virt1 (as := []) (show ins 105 13 = some (.invokevirtual 183, 3) by decide +kernel) (show mRes (mC 105) 183 = some (3, 5, [(5, 129)]) by decide +kernel) (by decide +kernel) rfl (by decide +kernel) (by decide +kernel) h0
set_option maxRecDepth 100000 in
theorem r_105_16 : ∀ (d : Nat) (ls : Lc) (a b : Int) (st : List Value) (M : Mem) (Q : Outcome → Mem → Prop), Wp d 105 16 ls (.int (I b) :: .int (I a) :: st) M Q = Wp d 105 17 ls (.int (I (a + b)) :: st) M Q := fun d ls a b st M Q => w_iadd (show ins 105 16 = some (.iadd, 1) by decide +kernel)
set_option maxRecDepth 100000 in
theorem r_105_17 : ∀ (d : Nat) (ls : Lc) (st : List Value) (M : Mem) (Q : Outcome → Mem → Prop), Wp d 105 17 ls st M Q = Wp d 105 19 ls (.int (I 72) :: st) M Q := fun d ls st M Q => w_bipush (show ins 105 17 = some (.bipush 72, 2) by decide +kernel) (by decide)
set_option maxRecDepth 100000 in
theorem r_105_19 : ∀ (d : Nat) (ls : Lc) (a b : Int32) (st : List Value) (M : Mem) (Q : Outcome → Mem → Prop), Wp d 105 19 ls (.int b :: .int a :: st) M Q = Br (b < a) d 105 26 22 ls st M Q := fun d ls a b st M Q => w_icmp (show ins 105 19 = some (.if_icmp .gt 7, 3) by decide +kernel) rfl rfl
set_option maxRecDepth 100000 in
theorem r_105_22 : ∀ (d : Nat) (ls : Lc) (st : List Value) (M : Mem) (Q : Outcome → Mem → Prop), Wp d 105 22 ls st M Q = Wp d 105 23 ls (.int (I 1) :: st) M Q := fun d ls st M Q => w_iconst (show ins 105 22 = some (.iconst 1, 1) by decide +kernel)
set_option maxRecDepth 100000 in
theorem r_105_23 : ∀ (d : Nat) (ls : Lc) (st : List Value) (M : Mem) (Q : Outcome → Mem → Prop), Wp d 105 23 ls st M Q = Wp d 105 27 ls st M Q := fun d ls st M Q => w_goto (show ins 105 23 = some (.goto 4, 3) by decide +kernel) rfl
set_option maxRecDepth 100000 in
theorem r_105_26 : ∀ (d : Nat) (ls : Lc) (st : List Value) (M : Mem) (Q : Outcome → Mem → Prop), Wp d 105 26 ls st M Q = Wp d 105 27 ls (.int (I 0) :: st) M Q := fun d ls st M Q => w_iconst (show ins 105 26 = some (.iconst 0, 1) by decide +kernel)
set_option maxRecDepth 100000 in
theorem r_105_27 : ∀ (d : Nat) (ls : Lc) (z : Int) (M : Mem) (Q : Outcome → Mem → Prop), (z = 0 ∨ z = 1) → Wp d 105 27 ls [.int (I z)] M Q = Q (.returned (some (.int (I z)))) M := fun d ls z M Q h0 => w_zretI (show ins 105 27 = some (.ireturn, 1) by decide +kernel) (by decide +kernel) h0
set_option maxRecDepth 100000 in
theorem r_105_27_1 : ∀ (d : Nat) (ls : Lc) (b : Bool) (M : Mem) (Q : Outcome → Mem → Prop), Wp d 105 27 ls [.int (I (bI b))] M Q = Q (.returned (some (.int (I (bI b))))) M := fun d ls b M Q => w_zretB (show ins 105 27 = some (.ireturn, 1) by decide +kernel) (by decide +kernel)
set_option maxRecDepth 100000 in
theorem W_105 : (type_of% r_105_0) ∧ (type_of% r_105_0_1) ∧ (type_of% r_105_1) ∧ (type_of% r_105_1_1) ∧ (type_of% r_105_4) ∧ (type_of% r_105_4_1) ∧ (type_of% r_105_5) ∧ (type_of% r_105_5_1) ∧ (type_of% r_105_8) ∧ (type_of% r_105_8_1) ∧ (type_of% r_105_9) ∧ (type_of% r_105_12) ∧ (type_of% r_105_12_1) ∧ (type_of% r_105_13) ∧ (type_of% r_105_16) ∧ (type_of% r_105_17) ∧ (type_of% r_105_19) ∧ (type_of% r_105_22) ∧ (type_of% r_105_23) ∧ (type_of% r_105_26) ∧ (type_of% r_105_27) ∧ (type_of% r_105_27_1) := ⟨r_105_0, r_105_0_1, r_105_1, r_105_1_1, r_105_4, r_105_4_1, r_105_5, r_105_5_1, r_105_8, r_105_8_1, r_105_9, r_105_12, r_105_12_1, r_105_13, r_105_16, r_105_17, r_105_19, r_105_22, r_105_23, r_105_26, r_105_27, r_105_27_1⟩
set_option maxRecDepth 100000 in
theorem ca_105 {d y pc : Nat} {ls : Lc} {o0 : Option Nat} {o1 : Option Nat} {r : List Value} {M : Mem} {Q : Outcome → Mem → Prop} (hd : 0 < d) (hw : Wp (d - 1) 105 0 [some (va_rf o0), some (va_rf o1)] [] M (Cq d y pc ls r Q)) : Ca d y pc ls 105 [va_rf o0, va_rf o1] r M Q := ca_of (mq_get (by decide)) (by cases o0 <;> cases o1 <;> rfl) hd hw
/-! 106 PackedTree$Tree.lay([[B)V; loop heads [] -/
set_option maxRecDepth 100000 in
theorem r_106_0 : ∀ (d : Nat) (l1 : Option Value) (v : Nat) (st : List Value) (M : Mem) (Q : Outcome → Mem → Prop), Wp d 106 0 [some (.ref v), l1] st M Q = Wp d 106 1 [some (.ref v), l1] (.ref v :: st) M Q := fun d l1 v st M Q => wA (show ins 106 0 = some (.aload_n 0, 1) by decide +kernel) rfl
set_option maxRecDepth 100000 in
theorem r_106_1 : ∀ (d : Nat) (l1 : Option Value) (v : Nat) (st : List Value) (M : Mem) (Q : Outcome → Mem → Prop), Wp d 106 1 [some (.ref v), l1] st M Q = Wp d 106 2 [some (.ref v), l1] (.ref v :: st) M Q := fun d l1 v st M Q => wA (show ins 106 1 = some (.aload_n 0, 1) by decide +kernel) rfl
set_option maxRecDepth 100000 in
theorem r_106_2 : ∀ (d : Nat) (ls : Lc) (a : Nat) (st : List Value) (M : Mem) (Q : Outcome → Mem → Prop), Wp d 106 2 ls (.ref a :: st) M Q = (fk 18 (kO M a) = true ∧ Wp d 106 5 ls (va_rf (mR M 18 a) :: st) M Q) := fun d ls a st M Q => w_getR (show ins 106 2 = some (.getfield 52, 3) by decide +kernel) (show fRes (mC 106) 52 = some (18, 3, false) by decide +kernel) (by decide +kernel)
set_option maxRecDepth 100000 in
theorem r_106_5 : ∀ (d : Nat) (l0 : Option Value) (v : Nat) (st : List Value) (M : Mem) (Q : Outcome → Mem → Prop), Wp d 106 5 [l0, some (.ref v)] st M Q = Wp d 106 6 [l0, some (.ref v)] (.ref v :: st) M Q := fun d l0 v st M Q => wA (show ins 106 5 = some (.aload_n 1, 1) by decide +kernel) rfl
set_option maxRecDepth 100000 in
theorem r_106_5_1 : ∀ (d : Nat) (l0 : Option Value) (st : List Value) (M : Mem) (Q : Outcome → Mem → Prop), Wp d 106 5 [l0, some .null] st M Q = Wp d 106 6 [l0, some .null] (.null :: st) M Q := fun d l0 st M Q => wA (show ins 106 5 = some (.aload_n 1, 1) by decide +kernel) rfl
set_option maxRecDepth 100000 in
theorem r_106_6 : ∀ (d : Nat) (ls : Lc) (v0 v1 : Value) (a : Nat) (st : List Value) (M : Mem) (Q : Outcome → Mem → Prop), (smallR st = true) → Wp d 106 6 ls (v1 :: v0 :: .ref a :: st) M Q = (kO M a = 3 ∧ Ca d 106 6 ls 107 (.ref a :: [v0, v1]) st M Q) := fun d ls v0 v1 a st M Q h0 => w_virt1 (as := [v0, v1]) (show ins 106 6 = some (.invokevirtual 56, 3) by decide +kernel) (show mRes (mC 106) 56 = some (3, 3, [(3, 107)]) by decide +kernel) (by decide +kernel) rfl (by decide +kernel) (by decide +kernel) h0
set_option maxRecDepth 100000 in
theorem r_106_9 : ∀ (d : Nat) (ls : Lc) (M : Mem) (Q : Outcome → Mem → Prop), Wp d 106 9 ls [] M Q = Q (.returned none) M := fun d ls M Q => w_return (show ins 106 9 = some (.return_, 1) by decide +kernel) (by decide +kernel)
set_option maxRecDepth 100000 in
theorem W_106 : (type_of% r_106_0) ∧ (type_of% r_106_1) ∧ (type_of% r_106_2) ∧ (type_of% r_106_5) ∧ (type_of% r_106_5_1) ∧ (type_of% r_106_6) ∧ (type_of% r_106_9) := ⟨r_106_0, r_106_1, r_106_2, r_106_5, r_106_5_1, r_106_6, r_106_9⟩
set_option maxRecDepth 100000 in
theorem ca_106 {d y pc : Nat} {ls : Lc} {a : Nat} {o0 : Option Nat} {r : List Value} {M : Mem} {Q : Outcome → Mem → Prop} (hd : 0 < d) (hw : Wp (d - 1) 106 0 [some (.ref a), some (va_rf o0)] [] M (Cq d y pc ls r Q)) : Ca d y pc ls 106 [.ref a, va_rf o0] r M Q := ca_of (mq_get (by decide)) (by cases o0 <;> rfl) hd hw
/-! 107 PackedTree$Tree.lay(LPackedTree$Node;[[B)V; loop heads [25] -/
set_option maxRecDepth 100000 in
theorem r_107_0 : ∀ (d : Nat) (l0 l2 l3 l4 : Option Value) (v : Nat) (st : List Value) (M : Mem) (Q : Outcome → Mem → Prop), Wp d 107 0 [l0, some (.ref v), l2, l3, l4] st M Q = Wp d 107 1 [l0, some (.ref v), l2, l3, l4] (.ref v :: st) M Q := fun d l0 l2 l3 l4 v st M Q => wA (show ins 107 0 = some (.aload_n 1, 1) by decide +kernel) rfl
set_option maxRecDepth 100000 in
theorem r_107_0_1 : ∀ (d : Nat) (l0 l2 l3 l4 : Option Value) (st : List Value) (M : Mem) (Q : Outcome → Mem → Prop), Wp d 107 0 [l0, some .null, l2, l3, l4] st M Q = Wp d 107 1 [l0, some .null, l2, l3, l4] (.null :: st) M Q := fun d l0 l2 l3 l4 st M Q => wA (show ins 107 0 = some (.aload_n 1, 1) by decide +kernel) rfl
set_option maxRecDepth 100000 in
theorem r_107_1 : ∀ (d : Nat) (l0 l1 l3 l4 : Option Value) (v : Nat) (st : List Value) (M : Mem) (Q : Outcome → Mem → Prop), Wp d 107 1 [l0, l1, some (.ref v), l3, l4] st M Q = Wp d 107 2 [l0, l1, some (.ref v), l3, l4] (.ref v :: st) M Q := fun d l0 l1 l3 l4 v st M Q => wA (show ins 107 1 = some (.aload_n 2, 1) by decide +kernel) rfl
set_option maxRecDepth 100000 in
theorem r_107_1_1 : ∀ (d : Nat) (l0 l1 l3 l4 : Option Value) (st : List Value) (M : Mem) (Q : Outcome → Mem → Prop), Wp d 107 1 [l0, l1, some .null, l3, l4] st M Q = Wp d 107 2 [l0, l1, some .null, l3, l4] (.null :: st) M Q := fun d l0 l1 l3 l4 st M Q => wA (show ins 107 1 = some (.aload_n 2, 1) by decide +kernel) rfl
set_option maxRecDepth 100000 in
theorem r_107_2 : ∀ (d : Nat) (l0 l2 l3 l4 : Option Value) (v : Nat) (st : List Value) (M : Mem) (Q : Outcome → Mem → Prop), Wp d 107 2 [l0, some (.ref v), l2, l3, l4] st M Q = Wp d 107 3 [l0, some (.ref v), l2, l3, l4] (.ref v :: st) M Q := fun d l0 l2 l3 l4 v st M Q => wA (show ins 107 2 = some (.aload_n 1, 1) by decide +kernel) rfl
set_option maxRecDepth 100000 in
theorem r_107_2_1 : ∀ (d : Nat) (l0 l2 l3 l4 : Option Value) (st : List Value) (M : Mem) (Q : Outcome → Mem → Prop), Wp d 107 2 [l0, some .null, l2, l3, l4] st M Q = Wp d 107 3 [l0, some .null, l2, l3, l4] (.null :: st) M Q := fun d l0 l2 l3 l4 st M Q => wA (show ins 107 2 = some (.aload_n 1, 1) by decide +kernel) rfl
set_option maxRecDepth 100000 in
theorem r_107_3 : ∀ (d : Nat) (ls : Lc) (a : Nat) (st : List Value) (M : Mem) (Q : Outcome → Mem → Prop), Wp d 107 3 ls (.ref a :: st) M Q = (fk 32 (kO M a) = true ∧ Wp d 107 6 ls (.int (mF M 32 a) :: st) M Q) := fun d ls a st M Q => w_getI (show ins 107 3 = some (.getfield 60, 3) by decide +kernel) (show fRes (mC 107) 60 = some (32, 7, false) by decide +kernel) (by decide +kernel)
set_option maxRecDepth 100000 in
theorem r_107_6 : ∀ (d : Nat) (ls : Lc) (a : Nat) (j : Int32) (st : List Value) (M : Mem) (Q : Outcome → Mem → Prop), Wp d 107 6 ls (.int j :: .ref a :: st) M Q = ((((kX M a).1 = 4 ∨ (kX M a).1 = 5 ∨ (kX M a).1 = 6 ∨ (kX M a).1 = 7) ∧ inB j (kX M a).2 = true) ∧ Wp d 107 7 ls (va_rf (mQ M a j.toNatClampNeg) :: st) M Q) := fun d ls a j st M Q => w_aaload (show ins 107 6 = some (.aaload, 1) by decide +kernel)
set_option maxRecDepth 100000 in
theorem r_107_7 : ∀ (d : Nat) (ls : Lc) (v0 : Value) (a : Nat) (st : List Value) (M : Mem) (Q : Outcome → Mem → Prop), (smallR st = true) → Wp d 107 7 ls (v0 :: .ref a :: st) M Q = ((kO M a = 5 ∧ Ca d 107 7 ls 134 (.ref a :: [v0]) st M Q) ∨ (kO M a = 6 ∧ Ca d 107 7 ls 146 (.ref a :: [v0]) st M Q)) := fun d ls v0 a st M Q h0 => w_virt2 (as := [v0]) (show ins 107 7 = some (.invokevirtual 64, 3) by decide +kernel) (show mRes (mC 107) 64 = some (4, 7, [(5, 134), (6, 146)]) by decide +kernel) (by decide +kernel) rfl (by decide +kernel) (by decide +kernel) (by decide +kernel) (by decide +kernel) (by decide +kernel) h0
set_option maxRecDepth 100000 in
theorem r_107_10 : ∀ (d : Nat) (l0 l2 l3 l4 : Option Value) (v : Nat) (st : List Value) (M : Mem) (Q : Outcome → Mem → Prop), Wp d 107 10 [l0, some (.ref v), l2, l3, l4] st M Q = Wp d 107 11 [l0, some (.ref v), l2, l3, l4] (.ref v :: st) M Q := fun d l0 l2 l3 l4 v st M Q => wA (show ins 107 10 = some (.aload_n 1, 1) by decide +kernel) rfl
set_option maxRecDepth 100000 in
theorem r_107_10_1 : ∀ (d : Nat) (l0 l2 l3 l4 : Option Value) (st : List Value) (M : Mem) (Q : Outcome → Mem → Prop), Wp d 107 10 [l0, some .null, l2, l3, l4] st M Q = Wp d 107 11 [l0, some .null, l2, l3, l4] (.null :: st) M Q := fun d l0 l2 l3 l4 st M Q => wA (show ins 107 10 = some (.aload_n 1, 1) by decide +kernel) rfl
set_option maxRecDepth 100000 in
theorem r_107_11 : ∀ (d : Nat) (ls : Lc) (a : Nat) (st : List Value) (M : Mem) (Q : Outcome → Mem → Prop), Wp d 107 11 ls (.ref a :: st) M Q = ((kO M a = 5 ∨ kO M a = 6) ∧ Wp d 107 14 ls (.int (I (if kO M a = 6 then 1 else 0)) :: st) M Q) := fun d ls a st M Q => w_inst (show ins 107 11 = some (.instanceof 17, 3) by decide +kernel) (show cRes (mC 107) 17 = some 6 by decide +kernel)
set_option maxRecDepth 100000 in
theorem r_107_14 : ∀ (d : Nat) (ls : Lc) (a : Int32) (st : List Value) (M : Mem) (Q : Outcome → Mem → Prop), Wp d 107 14 ls (.int a :: st) M Q = Br (a = I 0) d 107 52 17 ls st M Q := fun d ls a st M Q => w_if (show ins 107 14 = some (.ifCond .eq 38, 3) by decide +kernel) rfl rfl
set_option maxRecDepth 100000 in
theorem r_107_17 : ∀ (d : Nat) (l0 l2 l3 l4 : Option Value) (v : Nat) (st : List Value) (M : Mem) (Q : Outcome → Mem → Prop), Wp d 107 17 [l0, some (.ref v), l2, l3, l4] st M Q = Wp d 107 18 [l0, some (.ref v), l2, l3, l4] (.ref v :: st) M Q := fun d l0 l2 l3 l4 v st M Q => wA (show ins 107 17 = some (.aload_n 1, 1) by decide +kernel) rfl
set_option maxRecDepth 100000 in
theorem r_107_17_1 : ∀ (d : Nat) (l0 l2 l3 l4 : Option Value) (st : List Value) (M : Mem) (Q : Outcome → Mem → Prop), Wp d 107 17 [l0, some .null, l2, l3, l4] st M Q = Wp d 107 18 [l0, some .null, l2, l3, l4] (.null :: st) M Q := fun d l0 l2 l3 l4 st M Q => wA (show ins 107 17 = some (.aload_n 1, 1) by decide +kernel) rfl
set_option maxRecDepth 100000 in
theorem r_107_18 : ∀ (d : Nat) (ls : Lc) (st : List Value) (M : Mem) (Q : Outcome → Mem → Prop), Wp d 107 18 ls (.null :: st) M Q = Wp d 107 21 ls (.null :: st) M Q := fun d ls st M Q => w_castN (show ins 107 18 = some (.checkcast 17, 3) by decide +kernel)
set_option maxRecDepth 100000 in
theorem r_107_18_1 : ∀ (d : Nat) (ls : Lc) (a : Nat) (st : List Value) (M : Mem) (Q : Outcome → Mem → Prop), Wp d 107 18 ls (.ref a :: st) M Q = (kO M a = 6 ∧ Wp d 107 21 ls (.ref a :: st) M Q) := fun d ls a st M Q => w_cast (show ins 107 18 = some (.checkcast 17, 3) by decide +kernel) (show cRes (mC 107) 17 = some 6 by decide +kernel) (by decide +kernel)
set_option maxRecDepth 100000 in
theorem r_107_21 : ∀ (d : Nat) (l0 l1 l2 l3 l4 : Option Value) (v : Nat) (st : List Value) (M : Mem) (Q : Outcome → Mem → Prop), (lo l2 = false) → Wp d 107 21 [l0, l1, l2, l3, l4] (.ref v :: st) M Q = Wp d 107 22 [l0, l1, l2, some (.ref v), l4] st M Q := fun d l0 l1 l2 l3 l4 v st M Q hl => w_astore_n (show ins 107 21 = some (.astore_n 3, 1) by decide +kernel) (st1_S rfl rfl hl)
set_option maxRecDepth 100000 in
theorem r_107_21_1 : ∀ (d : Nat) (l0 l1 l2 l3 l4 : Option Value) (st : List Value) (M : Mem) (Q : Outcome → Mem → Prop), (lo l2 = false) → Wp d 107 21 [l0, l1, l2, l3, l4] (.null :: st) M Q = Wp d 107 22 [l0, l1, l2, some (.null), l4] st M Q := fun d l0 l1 l2 l3 l4 st M Q hl => w_astoreN_n (show ins 107 21 = some (.astore_n 3, 1) by decide +kernel) (st1_S rfl rfl hl)
set_option maxRecDepth 100000 in
theorem r_107_22 : ∀ (d : Nat) (ls : Lc) (st : List Value) (M : Mem) (Q : Outcome → Mem → Prop), Wp d 107 22 ls st M Q = Wp d 107 23 ls (.int (I 0) :: st) M Q := fun d ls st M Q => w_iconst (show ins 107 22 = some (.iconst 0, 1) by decide +kernel)
set_option maxRecDepth 100000 in
theorem r_107_23 : ∀ (d : Nat) (l0 l1 l2 l3 l4 : Option Value) (v : Int32) (st : List Value) (M : Mem) (Q : Outcome → Mem → Prop), (lo l3 = false) → Wp d 107 23 [l0, l1, l2, l3, l4] (.int v :: st) M Q = Wp d 107 25 [l0, l1, l2, l3, some (.int v)] st M Q := fun d l0 l1 l2 l3 l4 v st M Q hl => w_istore (show ins 107 23 = some (.istore 4, 2) by decide +kernel) (st1_S rfl rfl hl)
set_option maxRecDepth 100000 in
theorem r_107_25 : ∀ (d : Nat) (l0 l1 l2 l3 : Option Value) (v : Int32) (st : List Value) (M : Mem) (Q : Outcome → Mem → Prop), Wp d 107 25 [l0, l1, l2, l3, some (.int v)] st M Q = Wp d 107 27 [l0, l1, l2, l3, some (.int v)] (.int v :: st) M Q := fun d l0 l1 l2 l3 v st M Q => wA (show ins 107 25 = some (.iload 4, 2) by decide +kernel) rfl
set_option maxRecDepth 100000 in
theorem r_107_27 : ∀ (d : Nat) (l0 l1 l2 l4 : Option Value) (v : Nat) (st : List Value) (M : Mem) (Q : Outcome → Mem → Prop), Wp d 107 27 [l0, l1, l2, some (.ref v), l4] st M Q = Wp d 107 28 [l0, l1, l2, some (.ref v), l4] (.ref v :: st) M Q := fun d l0 l1 l2 l4 v st M Q => wA (show ins 107 27 = some (.aload_n 3, 1) by decide +kernel) rfl
set_option maxRecDepth 100000 in
theorem r_107_27_1 : ∀ (d : Nat) (l0 l1 l2 l4 : Option Value) (st : List Value) (M : Mem) (Q : Outcome → Mem → Prop), Wp d 107 27 [l0, l1, l2, some .null, l4] st M Q = Wp d 107 28 [l0, l1, l2, some .null, l4] (.null :: st) M Q := fun d l0 l1 l2 l4 st M Q => wA (show ins 107 27 = some (.aload_n 3, 1) by decide +kernel) rfl
set_option maxRecDepth 100000 in
theorem r_107_28 : ∀ (d : Nat) (ls : Lc) (a : Nat) (st : List Value) (M : Mem) (Q : Outcome → Mem → Prop), Wp d 107 28 ls (.ref a :: st) M Q = (fk 41 (kO M a) = true ∧ Wp d 107 31 ls (.int (mF M 41 a) :: st) M Q) := fun d ls a st M Q => w_getI (show ins 107 28 = some (.getfield 67, 3) by decide +kernel) (show fRes (mC 107) 67 = some (41, 6, true) by decide +kernel) (by decide +kernel)
set_option maxRecDepth 100000 in
theorem r_107_31 : ∀ (d : Nat) (ls : Lc) (a b : Int32) (st : List Value) (M : Mem) (Q : Outcome → Mem → Prop), Wp d 107 31 ls (.int b :: .int a :: st) M Q = Br (b ≤ a) d 107 52 34 ls st M Q := fun d ls a b st M Q => w_icmp (show ins 107 31 = some (.if_icmp .ge 21, 3) by decide +kernel) rfl rfl
set_option maxRecDepth 100000 in
theorem r_107_34 : ∀ (d : Nat) (l1 l2 l3 l4 : Option Value) (v : Nat) (st : List Value) (M : Mem) (Q : Outcome → Mem → Prop), Wp d 107 34 [some (.ref v), l1, l2, l3, l4] st M Q = Wp d 107 35 [some (.ref v), l1, l2, l3, l4] (.ref v :: st) M Q := fun d l1 l2 l3 l4 v st M Q => wA (show ins 107 34 = some (.aload_n 0, 1) by decide +kernel) rfl
set_option maxRecDepth 100000 in
theorem r_107_35 : ∀ (d : Nat) (l0 l1 l2 l4 : Option Value) (v : Nat) (st : List Value) (M : Mem) (Q : Outcome → Mem → Prop), Wp d 107 35 [l0, l1, l2, some (.ref v), l4] st M Q = Wp d 107 36 [l0, l1, l2, some (.ref v), l4] (.ref v :: st) M Q := fun d l0 l1 l2 l4 v st M Q => wA (show ins 107 35 = some (.aload_n 3, 1) by decide +kernel) rfl
set_option maxRecDepth 100000 in
theorem r_107_35_1 : ∀ (d : Nat) (l0 l1 l2 l4 : Option Value) (st : List Value) (M : Mem) (Q : Outcome → Mem → Prop), Wp d 107 35 [l0, l1, l2, some .null, l4] st M Q = Wp d 107 36 [l0, l1, l2, some .null, l4] (.null :: st) M Q := fun d l0 l1 l2 l4 st M Q => wA (show ins 107 35 = some (.aload_n 3, 1) by decide +kernel) rfl
set_option maxRecDepth 100000 in
theorem r_107_36 : ∀ (d : Nat) (ls : Lc) (a : Nat) (st : List Value) (M : Mem) (Q : Outcome → Mem → Prop), Wp d 107 36 ls (.ref a :: st) M Q = (fk 39 (kO M a) = true ∧ Wp d 107 39 ls (va_rf (mR M 39 a) :: st) M Q) := fun d ls a st M Q => w_getR (show ins 107 36 = some (.getfield 70, 3) by decide +kernel) (show fRes (mC 107) 70 = some (39, 6, true) by decide +kernel) (by decide +kernel)
set_option maxRecDepth 100000 in
theorem r_107_39 : ∀ (d : Nat) (l0 l1 l2 l3 : Option Value) (v : Int32) (st : List Value) (M : Mem) (Q : Outcome → Mem → Prop), Wp d 107 39 [l0, l1, l2, l3, some (.int v)] st M Q = Wp d 107 41 [l0, l1, l2, l3, some (.int v)] (.int v :: st) M Q := fun d l0 l1 l2 l3 v st M Q => wA (show ins 107 39 = some (.iload 4, 2) by decide +kernel) rfl
set_option maxRecDepth 100000 in
theorem r_107_41 : ∀ (d : Nat) (ls : Lc) (a : Nat) (j : Int32) (st : List Value) (M : Mem) (Q : Outcome → Mem → Prop), Wp d 107 41 ls (.int j :: .ref a :: st) M Q = ((((kX M a).1 = 4 ∨ (kX M a).1 = 5 ∨ (kX M a).1 = 6 ∨ (kX M a).1 = 7) ∧ inB j (kX M a).2 = true) ∧ Wp d 107 42 ls (va_rf (mQ M a j.toNatClampNeg) :: st) M Q) := fun d ls a j st M Q => w_aaload (show ins 107 41 = some (.aaload, 1) by decide +kernel)
set_option maxRecDepth 100000 in
theorem r_107_42 : ∀ (d : Nat) (l0 l1 l3 l4 : Option Value) (v : Nat) (st : List Value) (M : Mem) (Q : Outcome → Mem → Prop), Wp d 107 42 [l0, l1, some (.ref v), l3, l4] st M Q = Wp d 107 43 [l0, l1, some (.ref v), l3, l4] (.ref v :: st) M Q := fun d l0 l1 l3 l4 v st M Q => wA (show ins 107 42 = some (.aload_n 2, 1) by decide +kernel) rfl
set_option maxRecDepth 100000 in
theorem r_107_42_1 : ∀ (d : Nat) (l0 l1 l3 l4 : Option Value) (st : List Value) (M : Mem) (Q : Outcome → Mem → Prop), Wp d 107 42 [l0, l1, some .null, l3, l4] st M Q = Wp d 107 43 [l0, l1, some .null, l3, l4] (.null :: st) M Q := fun d l0 l1 l3 l4 st M Q => wA (show ins 107 42 = some (.aload_n 2, 1) by decide +kernel) rfl
set_option maxRecDepth 100000 in
theorem r_107_43 : ∀ (d : Nat) (ls : Lc) (v0 v1 : Value) (a : Nat) (st : List Value) (M : Mem) (Q : Outcome → Mem → Prop), (smallR st = true) → Wp d 107 43 ls (v1 :: v0 :: .ref a :: st) M Q = (kO M a = 3 ∧ Ca d 107 43 ls 107 (.ref a :: [v0, v1]) st M Q) := fun d ls v0 v1 a st M Q h0 => w_virt1 (as := [v0, v1]) (show ins 107 43 = some (.invokevirtual 56, 3) by decide +kernel) (show mRes (mC 107) 56 = some (3, 3, [(3, 107)]) by decide +kernel) (by decide +kernel) rfl (by decide +kernel) (by decide +kernel) h0
set_option maxRecDepth 100000 in
theorem r_107_46 : ∀ (d : Nat) (l0 l1 l2 l3 : Option Value) (z : Int) (st : List Value) (M : Mem) (Q : Outcome → Mem → Prop), (lo l3 = false) → Wp d 107 46 [l0, l1, l2, l3, some (.int (I z))] st M Q = Wp d 107 49 [l0, l1, l2, l3, some (.int (I (z + 1)))] st M Q := fun d l0 l1 l2 l3 z st M Q hl => w_iinc (show ins 107 46 = some (.iinc 4 1, 3) by decide +kernel) rfl (st1_S rfl rfl hl)
set_option maxRecDepth 100000 in
theorem r_107_49 : ∀ (d : Nat) (ls : Lc) (st : List Value) (M : Mem) (Q : Outcome → Mem → Prop), Wp d 107 49 ls st M Q = Wp d 107 25 ls st M Q := fun d ls st M Q => w_goto (show ins 107 49 = some (.goto (-24), 3) by decide +kernel) rfl
set_option maxRecDepth 100000 in
theorem r_107_52 : ∀ (d : Nat) (ls : Lc) (M : Mem) (Q : Outcome → Mem → Prop), Wp d 107 52 ls [] M Q = Q (.returned none) M := fun d ls M Q => w_return (show ins 107 52 = some (.return_, 1) by decide +kernel) (by decide +kernel)
set_option maxRecDepth 100000 in
theorem w_107_25 : (type_of% r_107_25) := r_107_25
set_option maxRecDepth 100000 in
theorem W_107 : (type_of% r_107_0) ∧ (type_of% r_107_0_1) ∧ (type_of% r_107_1) ∧ (type_of% r_107_1_1) ∧ (type_of% r_107_2) ∧ (type_of% r_107_2_1) ∧ (type_of% r_107_3) ∧ (type_of% r_107_6) ∧ (type_of% r_107_7) ∧ (type_of% r_107_10) ∧ (type_of% r_107_10_1) ∧ (type_of% r_107_11) ∧ (type_of% r_107_14) ∧ (type_of% r_107_17) ∧ (type_of% r_107_17_1) ∧ (type_of% r_107_18) ∧ (type_of% r_107_18_1) ∧ (type_of% r_107_21) ∧ (type_of% r_107_21_1) ∧ (type_of% r_107_22) ∧ (type_of% r_107_23) ∧ (type_of% r_107_27) ∧ (type_of% r_107_27_1) ∧ (type_of% r_107_28) ∧ (type_of% r_107_31) ∧ (type_of% r_107_34) ∧ (type_of% r_107_35) ∧ (type_of% r_107_35_1) ∧ (type_of% r_107_36) ∧ (type_of% r_107_39) ∧ (type_of% r_107_41) ∧ (type_of% r_107_42) ∧ (type_of% r_107_42_1) ∧ (type_of% r_107_43) ∧ (type_of% r_107_46) ∧ (type_of% r_107_49) ∧ (type_of% r_107_52) := ⟨r_107_0, r_107_0_1, r_107_1, r_107_1_1, r_107_2, r_107_2_1, r_107_3, r_107_6, r_107_7, r_107_10, r_107_10_1, r_107_11, r_107_14, r_107_17, r_107_17_1, r_107_18, r_107_18_1, r_107_21, r_107_21_1, r_107_22, r_107_23, r_107_27, r_107_27_1, r_107_28, r_107_31, r_107_34, r_107_35, r_107_35_1, r_107_36, r_107_39, r_107_41, r_107_42, r_107_42_1, r_107_43, r_107_46, r_107_49, r_107_52⟩
set_option maxRecDepth 100000 in
theorem ca_107 {d y pc : Nat} {ls : Lc} {a : Nat} {o0 : Option Nat} {o1 : Option Nat} {r : List Value} {M : Mem} {Q : Outcome → Mem → Prop} (hd : 0 < d) (hw : Wp (d - 1) 107 0 [some (.ref a), some (va_rf o0), some (va_rf o1), none, none] [] M (Cq d y pc ls r Q)) : Ca d y pc ls 107 [.ref a, va_rf o0, va_rf o1] r M Q := ca_of (mq_get (by decide)) (by cases o0 <;> cases o1 <;> rfl) hd hw
/-! 108 PackedTree$Tree.take([[BI)V; loop heads [2] -/
set_option maxRecDepth 100000 in
theorem r_108_0 : ∀ (d : Nat) (ls : Lc) (st : List Value) (M : Mem) (Q : Outcome → Mem → Prop), Wp d 108 0 ls st M Q = Wp d 108 1 ls (.int (I 0) :: st) M Q := fun d ls st M Q => w_iconst (show ins 108 0 = some (.iconst 0, 1) by decide +kernel)
set_option maxRecDepth 100000 in
theorem r_108_1 : ∀ (d : Nat) (l0 l1 l2 l3 : Option Value) (v : Int32) (st : List Value) (M : Mem) (Q : Outcome → Mem → Prop), (lo l2 = false) → Wp d 108 1 [l0, l1, l2, l3] (.int v :: st) M Q = Wp d 108 2 [l0, l1, l2, some (.int v)] st M Q := fun d l0 l1 l2 l3 v st M Q hl => w_istore_n (show ins 108 1 = some (.istore_n 3, 1) by decide +kernel) (st1_S rfl rfl hl)
set_option maxRecDepth 100000 in
theorem r_108_2 : ∀ (d : Nat) (l0 l1 l2 : Option Value) (v : Int32) (st : List Value) (M : Mem) (Q : Outcome → Mem → Prop), Wp d 108 2 [l0, l1, l2, some (.int v)] st M Q = Wp d 108 3 [l0, l1, l2, some (.int v)] (.int v :: st) M Q := fun d l0 l1 l2 v st M Q => wA (show ins 108 2 = some (.iload_n 3, 1) by decide +kernel) rfl
set_option maxRecDepth 100000 in
theorem r_108_3 : ∀ (d : Nat) (l1 l2 l3 : Option Value) (v : Nat) (st : List Value) (M : Mem) (Q : Outcome → Mem → Prop), Wp d 108 3 [some (.ref v), l1, l2, l3] st M Q = Wp d 108 4 [some (.ref v), l1, l2, l3] (.ref v :: st) M Q := fun d l1 l2 l3 v st M Q => wA (show ins 108 3 = some (.aload_n 0, 1) by decide +kernel) rfl
set_option maxRecDepth 100000 in
theorem r_108_4 : ∀ (d : Nat) (ls : Lc) (a : Nat) (st : List Value) (M : Mem) (Q : Outcome → Mem → Prop), Wp d 108 4 ls (.ref a :: st) M Q = (fk 13 (kO M a) = true ∧ Wp d 108 7 ls (va_rf (mR M 13 a) :: st) M Q) := fun d ls a st M Q => w_getR (show ins 108 4 = some (.getfield 25, 3) by decide +kernel) (show fRes (mC 108) 25 = some (13, 3, false) by decide +kernel) (by decide +kernel)
set_option maxRecDepth 100000 in
theorem r_108_7 : ∀ (d : Nat) (ls : Lc) (a t n : Nat) (st : List Value) (M : Mem) (Q : Outcome → Mem → Prop), (kX M a = (t, n)) → (t ≠ 9) → Wp d 108 7 ls (.ref a :: st) M Q = Wp d 108 8 ls (.int (I (n : Nat)) :: st) M Q := fun d ls a t n st M Q h0 h1 => w_arrlen (show ins 108 7 = some (.arraylength, 1) by decide +kernel) h0 h1
set_option maxRecDepth 100000 in
theorem r_108_8 : ∀ (d : Nat) (ls : Lc) (a b : Int32) (st : List Value) (M : Mem) (Q : Outcome → Mem → Prop), Wp d 108 8 ls (.int b :: .int a :: st) M Q = Br (b ≤ a) d 108 24 11 ls st M Q := fun d ls a b st M Q => w_icmp (show ins 108 8 = some (.if_icmp .ge 16, 3) by decide +kernel) rfl rfl
set_option maxRecDepth 100000 in
theorem r_108_11 : ∀ (d : Nat) (l1 l2 l3 : Option Value) (v : Nat) (st : List Value) (M : Mem) (Q : Outcome → Mem → Prop), Wp d 108 11 [some (.ref v), l1, l2, l3] st M Q = Wp d 108 12 [some (.ref v), l1, l2, l3] (.ref v :: st) M Q := fun d l1 l2 l3 v st M Q => wA (show ins 108 11 = some (.aload_n 0, 1) by decide +kernel) rfl
set_option maxRecDepth 100000 in
theorem r_108_12 : ∀ (d : Nat) (ls : Lc) (a : Nat) (st : List Value) (M : Mem) (Q : Outcome → Mem → Prop), Wp d 108 12 ls (.ref a :: st) M Q = (fk 13 (kO M a) = true ∧ Wp d 108 15 ls (va_rf (mR M 13 a) :: st) M Q) := fun d ls a st M Q => w_getR (show ins 108 12 = some (.getfield 25, 3) by decide +kernel) (show fRes (mC 108) 25 = some (13, 3, false) by decide +kernel) (by decide +kernel)
set_option maxRecDepth 100000 in
theorem r_108_15 : ∀ (d : Nat) (l0 l1 l2 : Option Value) (v : Int32) (st : List Value) (M : Mem) (Q : Outcome → Mem → Prop), Wp d 108 15 [l0, l1, l2, some (.int v)] st M Q = Wp d 108 16 [l0, l1, l2, some (.int v)] (.int v :: st) M Q := fun d l0 l1 l2 v st M Q => wA (show ins 108 15 = some (.iload_n 3, 1) by decide +kernel) rfl
set_option maxRecDepth 100000 in
theorem r_108_16 : ∀ (d : Nat) (ls : Lc) (st : List Value) (M : Mem) (Q : Outcome → Mem → Prop), Wp d 108 16 ls st M Q = Wp d 108 17 ls (.null :: st) M Q := fun d ls st M Q => wA (show ins 108 16 = some (.aconst_null, 1) by decide +kernel) rfl
set_option maxRecDepth 100000 in
theorem r_108_17 : ∀ (d : Nat) (ls : Lc) (a : Nat) (j : Int32) (st : List Value) (M : Mem) (Q : Outcome → Mem → Prop), Wp d 108 17 ls (.null :: .int j :: .ref a :: st) M Q = ((((kX M a).1 = 5 ∨ (kX M a).1 = 6 ∨ (kX M a).1 = 7) ∧ inB j (kX M a).2 = true) ∧ Wp d 108 18 ls st (sQ M a j.toNatClampNeg none) Q) := fun d ls a j st M Q => w_aastoreN (show ins 108 17 = some (.aastore, 1) by decide +kernel)
set_option maxRecDepth 100000 in
theorem r_108_17_1 : ∀ (d : Nat) (ls : Lc) (a v : Nat) (j : Int32) (st : List Value) (M : Mem) (Q : Outcome → Mem → Prop), Wp d 108 17 ls (.ref v :: .int j :: .ref a :: st) M Q = ((fitQ (kX M a).1 (kO M v) = true ∧ inB j (kX M a).2 = true) ∧ Wp d 108 18 ls st (sQ M a j.toNatClampNeg (some v)) Q) := fun d ls a v j st M Q => w_aastore (show ins 108 17 = some (.aastore, 1) by decide +kernel)
set_option maxRecDepth 100000 in
theorem r_108_18 : ∀ (d : Nat) (l0 l1 l2 : Option Value) (z : Int) (st : List Value) (M : Mem) (Q : Outcome → Mem → Prop), (lo l2 = false) → Wp d 108 18 [l0, l1, l2, some (.int (I z))] st M Q = Wp d 108 21 [l0, l1, l2, some (.int (I (z + 1)))] st M Q := fun d l0 l1 l2 z st M Q hl => w_iinc (show ins 108 18 = some (.iinc 3 1, 3) by decide +kernel) rfl (st1_S rfl rfl hl)
set_option maxRecDepth 100000 in
theorem r_108_21 : ∀ (d : Nat) (ls : Lc) (st : List Value) (M : Mem) (Q : Outcome → Mem → Prop), Wp d 108 21 ls st M Q = Wp d 108 2 ls st M Q := fun d ls st M Q => w_goto (show ins 108 21 = some (.goto (-19), 3) by decide +kernel) rfl
set_option maxRecDepth 100000 in
theorem r_108_24 : ∀ (d : Nat) (l1 l2 l3 : Option Value) (v : Nat) (st : List Value) (M : Mem) (Q : Outcome → Mem → Prop), Wp d 108 24 [some (.ref v), l1, l2, l3] st M Q = Wp d 108 25 [some (.ref v), l1, l2, l3] (.ref v :: st) M Q := fun d l1 l2 l3 v st M Q => wA (show ins 108 24 = some (.aload_n 0, 1) by decide +kernel) rfl
set_option maxRecDepth 100000 in
theorem r_108_25 : ∀ (d : Nat) (l1 l2 l3 : Option Value) (v : Nat) (st : List Value) (M : Mem) (Q : Outcome → Mem → Prop), Wp d 108 25 [some (.ref v), l1, l2, l3] st M Q = Wp d 108 26 [some (.ref v), l1, l2, l3] (.ref v :: st) M Q := fun d l1 l2 l3 v st M Q => wA (show ins 108 25 = some (.aload_n 0, 1) by decide +kernel) rfl
set_option maxRecDepth 100000 in
theorem r_108_26 : ∀ (d : Nat) (l0 l2 l3 : Option Value) (v : Nat) (st : List Value) (M : Mem) (Q : Outcome → Mem → Prop), Wp d 108 26 [l0, some (.ref v), l2, l3] st M Q = Wp d 108 27 [l0, some (.ref v), l2, l3] (.ref v :: st) M Q := fun d l0 l2 l3 v st M Q => wA (show ins 108 26 = some (.aload_n 1, 1) by decide +kernel) rfl
set_option maxRecDepth 100000 in
theorem r_108_26_1 : ∀ (d : Nat) (l0 l2 l3 : Option Value) (st : List Value) (M : Mem) (Q : Outcome → Mem → Prop), Wp d 108 26 [l0, some .null, l2, l3] st M Q = Wp d 108 27 [l0, some .null, l2, l3] (.null :: st) M Q := fun d l0 l2 l3 st M Q => wA (show ins 108 26 = some (.aload_n 1, 1) by decide +kernel) rfl
set_option maxRecDepth 100000 in
theorem r_108_27 : ∀ (d : Nat) (l0 l1 l3 : Option Value) (v : Int32) (st : List Value) (M : Mem) (Q : Outcome → Mem → Prop), Wp d 108 27 [l0, l1, some (.int v), l3] st M Q = Wp d 108 28 [l0, l1, some (.int v), l3] (.int v :: st) M Q := fun d l0 l1 l3 v st M Q => wA (show ins 108 27 = some (.iload_n 2, 1) by decide +kernel) rfl
set_option maxRecDepth 100000 in
theorem r_108_28 : ∀ (d : Nat) (ls : Lc) (v0 v1 : Value) (a : Nat) (st : List Value) (M : Mem) (Q : Outcome → Mem → Prop), (smallR st = true) → Wp d 108 28 ls (v1 :: v0 :: .ref a :: st) M Q = (kO M a = 3 ∧ Ca d 108 28 ls 109 (.ref a :: [v0, v1]) st M Q) := fun d ls v0 v1 a st M Q h0 => w_virt1 (as := [v0, v1]) (show ins 108 28 = some (.invokevirtual 73, 3) by decide +kernel) (show mRes (mC 108) 73 = some (3, 3, [(3, 109)]) by decide +kernel) (by decide +kernel) rfl (by decide +kernel) (by decide +kernel) h0
set_option maxRecDepth 100000 in
theorem r_108_31 : ∀ (d : Nat) (ls : Lc) (a b : Nat) (st : List Value) (M : Mem) (Q : Outcome → Mem → Prop), Wp d 108 31 ls (.ref b :: .ref a :: st) M Q = (fk 18 (kO M a) = true ∧ Wp d 108 34 ls st (sR M 18 a (some b)) Q) := fun d ls a b st M Q => w_putR (v := some b) (show ins 108 31 = some (.putfield 52, 3) by decide +kernel) (show fRes (mC 108) 52 = some (18, 3, false) by decide +kernel) (by decide +kernel) (by decide +kernel)
set_option maxRecDepth 100000 in
theorem r_108_31_1 : ∀ (d : Nat) (ls : Lc) (a : Nat) (st : List Value) (M : Mem) (Q : Outcome → Mem → Prop), Wp d 108 31 ls (.null :: .ref a :: st) M Q = (fk 18 (kO M a) = true ∧ Wp d 108 34 ls st (sR M 18 a none) Q) := fun d ls a st M Q => w_putR (v := none) (show ins 108 31 = some (.putfield 52, 3) by decide +kernel) (show fRes (mC 108) 52 = some (18, 3, false) by decide +kernel) (by decide +kernel) (by decide +kernel)
set_option maxRecDepth 100000 in
theorem r_108_34 : ∀ (d : Nat) (ls : Lc) (M : Mem) (Q : Outcome → Mem → Prop), Wp d 108 34 ls [] M Q = Q (.returned none) M := fun d ls M Q => w_return (show ins 108 34 = some (.return_, 1) by decide +kernel) (by decide +kernel)
set_option maxRecDepth 100000 in
theorem w_108_2 : (type_of% r_108_2) := r_108_2
set_option maxRecDepth 100000 in
theorem W_108 : (type_of% r_108_0) ∧ (type_of% r_108_1) ∧ (type_of% r_108_3) ∧ (type_of% r_108_4) ∧ (type_of% r_108_7) ∧ (type_of% r_108_8) ∧ (type_of% r_108_11) ∧ (type_of% r_108_12) ∧ (type_of% r_108_15) ∧ (type_of% r_108_16) ∧ (type_of% r_108_17) ∧ (type_of% r_108_17_1) ∧ (type_of% r_108_18) ∧ (type_of% r_108_21) ∧ (type_of% r_108_24) ∧ (type_of% r_108_25) ∧ (type_of% r_108_26) ∧ (type_of% r_108_26_1) ∧ (type_of% r_108_27) ∧ (type_of% r_108_28) ∧ (type_of% r_108_31) ∧ (type_of% r_108_31_1) ∧ (type_of% r_108_34) := ⟨r_108_0, r_108_1, r_108_3, r_108_4, r_108_7, r_108_8, r_108_11, r_108_12, r_108_15, r_108_16, r_108_17, r_108_17_1, r_108_18, r_108_21, r_108_24, r_108_25, r_108_26, r_108_26_1, r_108_27, r_108_28, r_108_31, r_108_31_1, r_108_34⟩
set_option maxRecDepth 100000 in
theorem ca_108 {d y pc : Nat} {ls : Lc} {a : Nat} {o0 : Option Nat} {z1 : Int32} {r : List Value} {M : Mem} {Q : Outcome → Mem → Prop} (hd : 0 < d) (hw : Wp (d - 1) 108 0 [some (.ref a), some (va_rf o0), some (.int z1), none] [] M (Cq d y pc ls r Q)) : Ca d y pc ls 108 [.ref a, va_rf o0, .int z1] r M Q := ca_of (mq_get (by decide)) (by cases o0 <;> rfl) hd hw
/-! 109 PackedTree$Tree.read([[BI)LPackedTree$Node;; loop heads [55] -/
set_option maxRecDepth 100000 in
theorem r_109_0 : ∀ (d : Nat) (l0 l2 l3 l4 l5 l6 l7 l8 : Option Value) (v : Nat) (st : List Value) (M : Mem) (Q : Outcome → Mem → Prop), Wp d 109 0 [l0, some (.ref v), l2, l3, l4, l5, l6, l7, l8] st M Q = Wp d 109 1 [l0, some (.ref v), l2, l3, l4, l5, l6, l7, l8] (.ref v :: st) M Q := fun d l0 l2 l3 l4 l5 l6 l7 l8 v st M Q => wA (show ins 109 0 = some (.aload_n 1, 1) by decide +kernel) rfl
set_option maxRecDepth 100000 in
theorem r_109_0_1 : ∀ (d : Nat) (l0 l2 l3 l4 l5 l6 l7 l8 : Option Value) (st : List Value) (M : Mem) (Q : Outcome → Mem → Prop), Wp d 109 0 [l0, some .null, l2, l3, l4, l5, l6, l7, l8] st M Q = Wp d 109 1 [l0, some .null, l2, l3, l4, l5, l6, l7, l8] (.null :: st) M Q := fun d l0 l2 l3 l4 l5 l6 l7 l8 st M Q => wA (show ins 109 0 = some (.aload_n 1, 1) by decide +kernel) rfl
set_option maxRecDepth 100000 in
theorem r_109_1 : ∀ (d : Nat) (l0 l1 l3 l4 l5 l6 l7 l8 : Option Value) (v : Int32) (st : List Value) (M : Mem) (Q : Outcome → Mem → Prop), Wp d 109 1 [l0, l1, some (.int v), l3, l4, l5, l6, l7, l8] st M Q = Wp d 109 2 [l0, l1, some (.int v), l3, l4, l5, l6, l7, l8] (.int v :: st) M Q := fun d l0 l1 l3 l4 l5 l6 l7 l8 v st M Q => wA (show ins 109 1 = some (.iload_n 2, 1) by decide +kernel) rfl
set_option maxRecDepth 100000 in
theorem r_109_2 : ∀ (d : Nat) (ls : Lc) (a : Nat) (j : Int32) (st : List Value) (M : Mem) (Q : Outcome → Mem → Prop), Wp d 109 2 ls (.int j :: .ref a :: st) M Q = ((((kX M a).1 = 4 ∨ (kX M a).1 = 5 ∨ (kX M a).1 = 6 ∨ (kX M a).1 = 7) ∧ inB j (kX M a).2 = true) ∧ Wp d 109 3 ls (va_rf (mQ M a j.toNatClampNeg) :: st) M Q) := fun d ls a j st M Q => w_aaload (show ins 109 2 = some (.aaload, 1) by decide +kernel)
set_option maxRecDepth 100000 in
theorem r_109_3 : ∀ (d : Nat) (l0 l1 l2 l3 l4 l5 l6 l7 l8 : Option Value) (v : Nat) (st : List Value) (M : Mem) (Q : Outcome → Mem → Prop), (lo l2 = false) → Wp d 109 3 [l0, l1, l2, l3, l4, l5, l6, l7, l8] (.ref v :: st) M Q = Wp d 109 4 [l0, l1, l2, some (.ref v), l4, l5, l6, l7, l8] st M Q := fun d l0 l1 l2 l3 l4 l5 l6 l7 l8 v st M Q hl => w_astore_n (show ins 109 3 = some (.astore_n 3, 1) by decide +kernel) (st1_S rfl rfl hl)
set_option maxRecDepth 100000 in
theorem r_109_3_1 : ∀ (d : Nat) (l0 l1 l2 l3 l4 l5 l6 l7 l8 : Option Value) (st : List Value) (M : Mem) (Q : Outcome → Mem → Prop), (lo l2 = false) → Wp d 109 3 [l0, l1, l2, l3, l4, l5, l6, l7, l8] (.null :: st) M Q = Wp d 109 4 [l0, l1, l2, some (.null), l4, l5, l6, l7, l8] st M Q := fun d l0 l1 l2 l3 l4 l5 l6 l7 l8 st M Q hl => w_astoreN_n (show ins 109 3 = some (.astore_n 3, 1) by decide +kernel) (st1_S rfl rfl hl)
set_option maxRecDepth 100000 in
theorem r_109_4 : ∀ (d : Nat) (l0 l1 l2 l4 l5 l6 l7 l8 : Option Value) (v : Nat) (st : List Value) (M : Mem) (Q : Outcome → Mem → Prop), Wp d 109 4 [l0, l1, l2, some (.ref v), l4, l5, l6, l7, l8] st M Q = Wp d 109 5 [l0, l1, l2, some (.ref v), l4, l5, l6, l7, l8] (.ref v :: st) M Q := fun d l0 l1 l2 l4 l5 l6 l7 l8 v st M Q => wA (show ins 109 4 = some (.aload_n 3, 1) by decide +kernel) rfl
set_option maxRecDepth 100000 in
theorem r_109_4_1 : ∀ (d : Nat) (l0 l1 l2 l4 l5 l6 l7 l8 : Option Value) (st : List Value) (M : Mem) (Q : Outcome → Mem → Prop), Wp d 109 4 [l0, l1, l2, some .null, l4, l5, l6, l7, l8] st M Q = Wp d 109 5 [l0, l1, l2, some .null, l4, l5, l6, l7, l8] (.null :: st) M Q := fun d l0 l1 l2 l4 l5 l6 l7 l8 st M Q => wA (show ins 109 4 = some (.aload_n 3, 1) by decide +kernel) rfl
set_option maxRecDepth 100000 in
theorem r_109_5 : ∀ (d : Nat) (ls : Lc) (st : List Value) (M : Mem) (Q : Outcome → Mem → Prop), Wp d 109 5 ls st M Q = Wp d 109 6 ls (.int (I 0) :: st) M Q := fun d ls st M Q => w_iconst (show ins 109 5 = some (.iconst 0, 1) by decide +kernel)
set_option maxRecDepth 100000 in
theorem r_109_6 : ∀ (d : Nat) (ls : Lc) (v0 v1 : Value)  (st : List Value) (M : Mem) (Q : Outcome → Mem → Prop), (smallR st = true) → Wp d 109 6 ls (v1 :: v0 :: st) M Q = Ca d 109 6 ls 36 [v0, v1] st M Q := fun d ls v0 v1 st M Q h0 => w_stat (as := [v0, v1]) (show ins 109 6 = some (.invokestatic 77, 3) by decide +kernel) (show mRes (mC 109) 77 = some (1, 1, [(0, 36)]) by decide +kernel) (by decide +kernel) (by decide +kernel) rfl h0
set_option maxRecDepth 100000 in
theorem r_109_9 : ∀ (d : Nat) (l0 l1 l2 l3 l4 l5 l6 l7 l8 : Option Value) (v : Int32) (st : List Value) (M : Mem) (Q : Outcome → Mem → Prop), (lo l3 = false) → Wp d 109 9 [l0, l1, l2, l3, l4, l5, l6, l7, l8] (.int v :: st) M Q = Wp d 109 11 [l0, l1, l2, l3, some (.int v), l5, l6, l7, l8] st M Q := fun d l0 l1 l2 l3 l4 l5 l6 l7 l8 v st M Q hl => w_istore (show ins 109 9 = some (.istore 4, 2) by decide +kernel) (st1_S rfl rfl hl)
set_option maxRecDepth 100000 in
theorem r_109_11 : ∀ (d : Nat) (l0 l1 l2 l3 l5 l6 l7 l8 : Option Value) (v : Int32) (st : List Value) (M : Mem) (Q : Outcome → Mem → Prop), Wp d 109 11 [l0, l1, l2, l3, some (.int v), l5, l6, l7, l8] st M Q = Wp d 109 13 [l0, l1, l2, l3, some (.int v), l5, l6, l7, l8] (.int v :: st) M Q := fun d l0 l1 l2 l3 l5 l6 l7 l8 v st M Q => wA (show ins 109 11 = some (.iload 4, 2) by decide +kernel) rfl
set_option maxRecDepth 100000 in
theorem r_109_13 : ∀ (d : Nat) (ls : Lc) (a : Int32) (st : List Value) (M : Mem) (Q : Outcome → Mem → Prop), Wp d 109 13 ls (.int a :: st) M Q = Br (¬ a = I 0) d 109 36 16 ls st M Q := fun d ls a st M Q => w_if (show ins 109 13 = some (.ifCond .ne 23, 3) by decide +kernel) rfl rfl
set_option maxRecDepth 100000 in
theorem r_109_16 : ∀ (d : Nat) (l1 l2 l3 l4 l5 l6 l7 l8 : Option Value) (v : Nat) (st : List Value) (M : Mem) (Q : Outcome → Mem → Prop), Wp d 109 16 [some (.ref v), l1, l2, l3, l4, l5, l6, l7, l8] st M Q = Wp d 109 17 [some (.ref v), l1, l2, l3, l4, l5, l6, l7, l8] (.ref v :: st) M Q := fun d l1 l2 l3 l4 l5 l6 l7 l8 v st M Q => wA (show ins 109 16 = some (.aload_n 0, 1) by decide +kernel) rfl
set_option maxRecDepth 100000 in
theorem r_109_17 : ∀ (d : Nat) (l0 l1 l3 l4 l5 l6 l7 l8 : Option Value) (v : Int32) (st : List Value) (M : Mem) (Q : Outcome → Mem → Prop), Wp d 109 17 [l0, l1, some (.int v), l3, l4, l5, l6, l7, l8] st M Q = Wp d 109 18 [l0, l1, some (.int v), l3, l4, l5, l6, l7, l8] (.int v :: st) M Q := fun d l0 l1 l3 l4 l5 l6 l7 l8 v st M Q => wA (show ins 109 17 = some (.iload_n 2, 1) by decide +kernel) rfl
set_option maxRecDepth 100000 in
theorem r_109_18 : ∀ (d : Nat) (ls : Lc) (v0 : Value) (a : Nat) (st : List Value) (M : Mem) (Q : Outcome → Mem → Prop), (smallR st = true) → Wp d 109 18 ls (v0 :: .ref a :: st) M Q = (kO M a = 3 ∧ Ca d 109 18 ls 96 (.ref a :: [v0]) st M Q) := fun d ls v0 a st M Q h0 => w_virt1 (as := [v0]) (show ins 109 18 = some (.invokevirtual 48, 3) by decide +kernel) (show mRes (mC 109) 48 = some (3, 3, [(3, 96)]) by decide +kernel) (by decide +kernel) rfl (by decide +kernel) (by decide +kernel) h0
set_option maxRecDepth 100000 in
theorem r_109_21 : ∀ (d : Nat) (l0 l1 l2 l3 l4 l5 l6 l7 l8 : Option Value) (v : Nat) (st : List Value) (M : Mem) (Q : Outcome → Mem → Prop), (lo l5 = false) → Wp d 109 21 [l0, l1, l2, l3, l4, l5, l6, l7, l8] (.ref v :: st) M Q = Wp d 109 23 [l0, l1, l2, l3, l4, l5, some (.ref v), l7, l8] st M Q := fun d l0 l1 l2 l3 l4 l5 l6 l7 l8 v st M Q hl => w_astore (show ins 109 21 = some (.astore 6, 2) by decide +kernel) (st1_S rfl rfl hl)
set_option maxRecDepth 100000 in
theorem r_109_21_1 : ∀ (d : Nat) (l0 l1 l2 l3 l4 l5 l6 l7 l8 : Option Value) (st : List Value) (M : Mem) (Q : Outcome → Mem → Prop), (lo l5 = false) → Wp d 109 21 [l0, l1, l2, l3, l4, l5, l6, l7, l8] (.null :: st) M Q = Wp d 109 23 [l0, l1, l2, l3, l4, l5, some (.null), l7, l8] st M Q := fun d l0 l1 l2 l3 l4 l5 l6 l7 l8 st M Q hl => w_astoreN (show ins 109 21 = some (.astore 6, 2) by decide +kernel) (st1_S rfl rfl hl)
set_option maxRecDepth 100000 in
theorem r_109_23 : ∀ (d : Nat) (l0 l1 l2 l3 l4 l5 l7 l8 : Option Value) (v : Nat) (st : List Value) (M : Mem) (Q : Outcome → Mem → Prop), Wp d 109 23 [l0, l1, l2, l3, l4, l5, some (.ref v), l7, l8] st M Q = Wp d 109 25 [l0, l1, l2, l3, l4, l5, some (.ref v), l7, l8] (.ref v :: st) M Q := fun d l0 l1 l2 l3 l4 l5 l7 l8 v st M Q => wA (show ins 109 23 = some (.aload 6, 2) by decide +kernel) rfl
set_option maxRecDepth 100000 in
theorem r_109_23_1 : ∀ (d : Nat) (l0 l1 l2 l3 l4 l5 l7 l8 : Option Value) (st : List Value) (M : Mem) (Q : Outcome → Mem → Prop), Wp d 109 23 [l0, l1, l2, l3, l4, l5, some .null, l7, l8] st M Q = Wp d 109 25 [l0, l1, l2, l3, l4, l5, some .null, l7, l8] (.null :: st) M Q := fun d l0 l1 l2 l3 l4 l5 l7 l8 st M Q => wA (show ins 109 23 = some (.aload 6, 2) by decide +kernel) rfl
set_option maxRecDepth 100000 in
theorem r_109_25 : ∀ (d : Nat) (l0 l1 l2 l4 l5 l6 l7 l8 : Option Value) (v : Nat) (st : List Value) (M : Mem) (Q : Outcome → Mem → Prop), Wp d 109 25 [l0, l1, l2, some (.ref v), l4, l5, l6, l7, l8] st M Q = Wp d 109 26 [l0, l1, l2, some (.ref v), l4, l5, l6, l7, l8] (.ref v :: st) M Q := fun d l0 l1 l2 l4 l5 l6 l7 l8 v st M Q => wA (show ins 109 25 = some (.aload_n 3, 1) by decide +kernel) rfl
set_option maxRecDepth 100000 in
theorem r_109_25_1 : ∀ (d : Nat) (l0 l1 l2 l4 l5 l6 l7 l8 : Option Value) (st : List Value) (M : Mem) (Q : Outcome → Mem → Prop), Wp d 109 25 [l0, l1, l2, some .null, l4, l5, l6, l7, l8] st M Q = Wp d 109 26 [l0, l1, l2, some .null, l4, l5, l6, l7, l8] (.null :: st) M Q := fun d l0 l1 l2 l4 l5 l6 l7 l8 st M Q => wA (show ins 109 25 = some (.aload_n 3, 1) by decide +kernel) rfl
set_option maxRecDepth 100000 in
theorem r_109_26 : ∀ (d : Nat) (ls : Lc) (v0 : Value) (a : Nat) (st : List Value) (M : Mem) (Q : Outcome → Mem → Prop), (smallR st = true) → Wp d 109 26 ls (v0 :: .ref a :: st) M Q = (kO M a = 5 ∧ Ca d 109 26 ls 135 (.ref a :: [v0]) st M Q) := fun d ls v0 a st M Q h0 => w_virt1 (as := [v0]) (show ins 109 26 = some (.invokevirtual 81, 3) by decide +kernel) (show mRes (mC 109) 81 = some (3, 5, [(5, 135)]) by decide +kernel) (by decide +kernel) rfl (by decide +kernel) (by decide +kernel) h0
set_option maxRecDepth 100000 in
theorem r_109_29 : ∀ (d : Nat) (l0 l1 l2 l3 l4 l5 l7 l8 : Option Value) (v : Nat) (st : List Value) (M : Mem) (Q : Outcome → Mem → Prop), Wp d 109 29 [l0, l1, l2, l3, l4, l5, some (.ref v), l7, l8] st M Q = Wp d 109 31 [l0, l1, l2, l3, l4, l5, some (.ref v), l7, l8] (.ref v :: st) M Q := fun d l0 l1 l2 l3 l4 l5 l7 l8 v st M Q => wA (show ins 109 29 = some (.aload 6, 2) by decide +kernel) rfl
set_option maxRecDepth 100000 in
theorem r_109_29_1 : ∀ (d : Nat) (l0 l1 l2 l3 l4 l5 l7 l8 : Option Value) (st : List Value) (M : Mem) (Q : Outcome → Mem → Prop), Wp d 109 29 [l0, l1, l2, l3, l4, l5, some .null, l7, l8] st M Q = Wp d 109 31 [l0, l1, l2, l3, l4, l5, some .null, l7, l8] (.null :: st) M Q := fun d l0 l1 l2 l3 l4 l5 l7 l8 st M Q => wA (show ins 109 29 = some (.aload 6, 2) by decide +kernel) rfl
set_option maxRecDepth 100000 in
theorem r_109_31 : ∀ (d : Nat) (l0 l1 l2 l3 l4 l5 l6 l7 l8 : Option Value) (v : Nat) (st : List Value) (M : Mem) (Q : Outcome → Mem → Prop), (lo l4 = false) → Wp d 109 31 [l0, l1, l2, l3, l4, l5, l6, l7, l8] (.ref v :: st) M Q = Wp d 109 33 [l0, l1, l2, l3, l4, some (.ref v), l6, l7, l8] st M Q := fun d l0 l1 l2 l3 l4 l5 l6 l7 l8 v st M Q hl => w_astore (show ins 109 31 = some (.astore 5, 2) by decide +kernel) (st1_S rfl rfl hl)
set_option maxRecDepth 100000 in
theorem r_109_31_1 : ∀ (d : Nat) (l0 l1 l2 l3 l4 l5 l6 l7 l8 : Option Value) (st : List Value) (M : Mem) (Q : Outcome → Mem → Prop), (lo l4 = false) → Wp d 109 31 [l0, l1, l2, l3, l4, l5, l6, l7, l8] (.null :: st) M Q = Wp d 109 33 [l0, l1, l2, l3, l4, some (.null), l6, l7, l8] st M Q := fun d l0 l1 l2 l3 l4 l5 l6 l7 l8 st M Q hl => w_astoreN (show ins 109 31 = some (.astore 5, 2) by decide +kernel) (st1_S rfl rfl hl)
set_option maxRecDepth 100000 in
theorem r_109_33 : ∀ (d : Nat) (ls : Lc) (st : List Value) (M : Mem) (Q : Outcome → Mem → Prop), Wp d 109 33 ls st M Q = Wp d 109 94 ls st M Q := fun d ls st M Q => w_goto (show ins 109 33 = some (.goto 61, 3) by decide +kernel) rfl
set_option maxRecDepth 100000 in
theorem r_109_36 : ∀ (d : Nat) (l1 l2 l3 l4 l5 l6 l7 l8 : Option Value) (v : Nat) (st : List Value) (M : Mem) (Q : Outcome → Mem → Prop), Wp d 109 36 [some (.ref v), l1, l2, l3, l4, l5, l6, l7, l8] st M Q = Wp d 109 37 [some (.ref v), l1, l2, l3, l4, l5, l6, l7, l8] (.ref v :: st) M Q := fun d l1 l2 l3 l4 l5 l6 l7 l8 v st M Q => wA (show ins 109 36 = some (.aload_n 0, 1) by decide +kernel) rfl
set_option maxRecDepth 100000 in
theorem r_109_37 : ∀ (d : Nat) (l0 l1 l3 l4 l5 l6 l7 l8 : Option Value) (v : Int32) (st : List Value) (M : Mem) (Q : Outcome → Mem → Prop), Wp d 109 37 [l0, l1, some (.int v), l3, l4, l5, l6, l7, l8] st M Q = Wp d 109 38 [l0, l1, some (.int v), l3, l4, l5, l6, l7, l8] (.int v :: st) M Q := fun d l0 l1 l3 l4 l5 l6 l7 l8 v st M Q => wA (show ins 109 37 = some (.iload_n 2, 1) by decide +kernel) rfl
set_option maxRecDepth 100000 in
theorem r_109_38 : ∀ (d : Nat) (l0 l1 l2 l3 l5 l6 l7 l8 : Option Value) (v : Int32) (st : List Value) (M : Mem) (Q : Outcome → Mem → Prop), Wp d 109 38 [l0, l1, l2, l3, some (.int v), l5, l6, l7, l8] st M Q = Wp d 109 40 [l0, l1, l2, l3, some (.int v), l5, l6, l7, l8] (.int v :: st) M Q := fun d l0 l1 l2 l3 l5 l6 l7 l8 v st M Q => wA (show ins 109 38 = some (.iload 4, 2) by decide +kernel) rfl
set_option maxRecDepth 100000 in
theorem r_109_40 : ∀ (d : Nat) (ls : Lc) (v0 v1 : Value) (a : Nat) (st : List Value) (M : Mem) (Q : Outcome → Mem → Prop), (smallR st = true) → Wp d 109 40 ls (v1 :: v0 :: .ref a :: st) M Q = (kO M a = 3 ∧ Ca d 109 40 ls 102 (.ref a :: [v0, v1]) st M Q) := fun d ls v0 v1 a st M Q h0 => w_virt1 (as := [v0, v1]) (show ins 109 40 = some (.invokevirtual 83, 3) by decide +kernel) (show mRes (mC 109) 83 = some (3, 3, [(3, 102)]) by decide +kernel) (by decide +kernel) rfl (by decide +kernel) (by decide +kernel) h0
set_option maxRecDepth 100000 in
theorem r_109_43 : ∀ (d : Nat) (l0 l1 l2 l3 l4 l5 l6 l7 l8 : Option Value) (v : Nat) (st : List Value) (M : Mem) (Q : Outcome → Mem → Prop), (lo l5 = false) → Wp d 109 43 [l0, l1, l2, l3, l4, l5, l6, l7, l8] (.ref v :: st) M Q = Wp d 109 45 [l0, l1, l2, l3, l4, l5, some (.ref v), l7, l8] st M Q := fun d l0 l1 l2 l3 l4 l5 l6 l7 l8 v st M Q hl => w_astore (show ins 109 43 = some (.astore 6, 2) by decide +kernel) (st1_S rfl rfl hl)
set_option maxRecDepth 100000 in
theorem r_109_43_1 : ∀ (d : Nat) (l0 l1 l2 l3 l4 l5 l6 l7 l8 : Option Value) (st : List Value) (M : Mem) (Q : Outcome → Mem → Prop), (lo l5 = false) → Wp d 109 43 [l0, l1, l2, l3, l4, l5, l6, l7, l8] (.null :: st) M Q = Wp d 109 45 [l0, l1, l2, l3, l4, l5, some (.null), l7, l8] st M Q := fun d l0 l1 l2 l3 l4 l5 l6 l7 l8 st M Q hl => w_astoreN (show ins 109 43 = some (.astore 6, 2) by decide +kernel) (st1_S rfl rfl hl)
set_option maxRecDepth 100000 in
theorem r_109_45 : ∀ (d : Nat) (l0 l1 l2 l4 l5 l6 l7 l8 : Option Value) (v : Nat) (st : List Value) (M : Mem) (Q : Outcome → Mem → Prop), Wp d 109 45 [l0, l1, l2, some (.ref v), l4, l5, l6, l7, l8] st M Q = Wp d 109 46 [l0, l1, l2, some (.ref v), l4, l5, l6, l7, l8] (.ref v :: st) M Q := fun d l0 l1 l2 l4 l5 l6 l7 l8 v st M Q => wA (show ins 109 45 = some (.aload_n 3, 1) by decide +kernel) rfl
set_option maxRecDepth 100000 in
theorem r_109_45_1 : ∀ (d : Nat) (l0 l1 l2 l4 l5 l6 l7 l8 : Option Value) (st : List Value) (M : Mem) (Q : Outcome → Mem → Prop), Wp d 109 45 [l0, l1, l2, some .null, l4, l5, l6, l7, l8] st M Q = Wp d 109 46 [l0, l1, l2, some .null, l4, l5, l6, l7, l8] (.null :: st) M Q := fun d l0 l1 l2 l4 l5 l6 l7 l8 st M Q => wA (show ins 109 45 = some (.aload_n 3, 1) by decide +kernel) rfl
set_option maxRecDepth 100000 in
theorem r_109_46 : ∀ (d : Nat) (ls : Lc) (st : List Value) (M : Mem) (Q : Outcome → Mem → Prop), Wp d 109 46 ls st M Q = Wp d 109 47 ls (.int (I 1) :: st) M Q := fun d ls st M Q => w_iconst (show ins 109 46 = some (.iconst 1, 1) by decide +kernel)
set_option maxRecDepth 100000 in
theorem r_109_47 : ∀ (d : Nat) (ls : Lc) (v0 v1 : Value)  (st : List Value) (M : Mem) (Q : Outcome → Mem → Prop), (smallR st = true) → Wp d 109 47 ls (v1 :: v0 :: st) M Q = Ca d 109 47 ls 36 [v0, v1] st M Q := fun d ls v0 v1 st M Q h0 => w_stat (as := [v0, v1]) (show ins 109 47 = some (.invokestatic 77, 3) by decide +kernel) (show mRes (mC 109) 77 = some (1, 1, [(0, 36)]) by decide +kernel) (by decide +kernel) (by decide +kernel) rfl h0
set_option maxRecDepth 100000 in
theorem r_109_50 : ∀ (d : Nat) (l0 l1 l2 l3 l4 l5 l6 l7 l8 : Option Value) (v : Int32) (st : List Value) (M : Mem) (Q : Outcome → Mem → Prop), (lo l6 = false) → Wp d 109 50 [l0, l1, l2, l3, l4, l5, l6, l7, l8] (.int v :: st) M Q = Wp d 109 52 [l0, l1, l2, l3, l4, l5, l6, some (.int v), l8] st M Q := fun d l0 l1 l2 l3 l4 l5 l6 l7 l8 v st M Q hl => w_istore (show ins 109 50 = some (.istore 7, 2) by decide +kernel) (st1_S rfl rfl hl)
set_option maxRecDepth 100000 in
theorem r_109_52 : ∀ (d : Nat) (ls : Lc) (st : List Value) (M : Mem) (Q : Outcome → Mem → Prop), Wp d 109 52 ls st M Q = Wp d 109 53 ls (.int (I 0) :: st) M Q := fun d ls st M Q => w_iconst (show ins 109 52 = some (.iconst 0, 1) by decide +kernel)
set_option maxRecDepth 100000 in
theorem r_109_53 : ∀ (d : Nat) (l0 l1 l2 l3 l4 l5 l6 l7 l8 : Option Value) (v : Int32) (st : List Value) (M : Mem) (Q : Outcome → Mem → Prop), (lo l7 = false) → Wp d 109 53 [l0, l1, l2, l3, l4, l5, l6, l7, l8] (.int v :: st) M Q = Wp d 109 55 [l0, l1, l2, l3, l4, l5, l6, l7, some (.int v)] st M Q := fun d l0 l1 l2 l3 l4 l5 l6 l7 l8 v st M Q hl => w_istore (show ins 109 53 = some (.istore 8, 2) by decide +kernel) (st1_S rfl rfl hl)
set_option maxRecDepth 100000 in
theorem r_109_55 : ∀ (d : Nat) (l0 l1 l2 l3 l4 l5 l6 l7 : Option Value) (v : Int32) (st : List Value) (M : Mem) (Q : Outcome → Mem → Prop), Wp d 109 55 [l0, l1, l2, l3, l4, l5, l6, l7, some (.int v)] st M Q = Wp d 109 57 [l0, l1, l2, l3, l4, l5, l6, l7, some (.int v)] (.int v :: st) M Q := fun d l0 l1 l2 l3 l4 l5 l6 l7 v st M Q => wA (show ins 109 55 = some (.iload 8, 2) by decide +kernel) rfl
set_option maxRecDepth 100000 in
theorem r_109_57 : ∀ (d : Nat) (l0 l1 l2 l3 l4 l5 l6 l8 : Option Value) (v : Int32) (st : List Value) (M : Mem) (Q : Outcome → Mem → Prop), Wp d 109 57 [l0, l1, l2, l3, l4, l5, l6, some (.int v), l8] st M Q = Wp d 109 59 [l0, l1, l2, l3, l4, l5, l6, some (.int v), l8] (.int v :: st) M Q := fun d l0 l1 l2 l3 l4 l5 l6 l8 v st M Q => wA (show ins 109 57 = some (.iload 7, 2) by decide +kernel) rfl
set_option maxRecDepth 100000 in
theorem r_109_59 : ∀ (d : Nat) (ls : Lc) (a b : Int32) (st : List Value) (M : Mem) (Q : Outcome → Mem → Prop), Wp d 109 59 ls (.int b :: .int a :: st) M Q = Br (b ≤ a) d 109 90 62 ls st M Q := fun d ls a b st M Q => w_icmp (show ins 109 59 = some (.if_icmp .ge 31, 3) by decide +kernel) rfl rfl
set_option maxRecDepth 100000 in
theorem r_109_62 : ∀ (d : Nat) (l0 l1 l2 l3 l4 l5 l7 l8 : Option Value) (v : Nat) (st : List Value) (M : Mem) (Q : Outcome → Mem → Prop), Wp d 109 62 [l0, l1, l2, l3, l4, l5, some (.ref v), l7, l8] st M Q = Wp d 109 64 [l0, l1, l2, l3, l4, l5, some (.ref v), l7, l8] (.ref v :: st) M Q := fun d l0 l1 l2 l3 l4 l5 l7 l8 v st M Q => wA (show ins 109 62 = some (.aload 6, 2) by decide +kernel) rfl
set_option maxRecDepth 100000 in
theorem r_109_62_1 : ∀ (d : Nat) (l0 l1 l2 l3 l4 l5 l7 l8 : Option Value) (st : List Value) (M : Mem) (Q : Outcome → Mem → Prop), Wp d 109 62 [l0, l1, l2, l3, l4, l5, some .null, l7, l8] st M Q = Wp d 109 64 [l0, l1, l2, l3, l4, l5, some .null, l7, l8] (.null :: st) M Q := fun d l0 l1 l2 l3 l4 l5 l7 l8 st M Q => wA (show ins 109 62 = some (.aload 6, 2) by decide +kernel) rfl
set_option maxRecDepth 100000 in
theorem r_109_64 : ∀ (d : Nat) (l0 l1 l2 l3 l4 l5 l6 l7 : Option Value) (v : Int32) (st : List Value) (M : Mem) (Q : Outcome → Mem → Prop), Wp d 109 64 [l0, l1, l2, l3, l4, l5, l6, l7, some (.int v)] st M Q = Wp d 109 66 [l0, l1, l2, l3, l4, l5, l6, l7, some (.int v)] (.int v :: st) M Q := fun d l0 l1 l2 l3 l4 l5 l6 l7 v st M Q => wA (show ins 109 64 = some (.iload 8, 2) by decide +kernel) rfl
set_option maxRecDepth 100000 in
theorem r_109_66 : ∀ (d : Nat) (l1 l2 l3 l4 l5 l6 l7 l8 : Option Value) (v : Nat) (st : List Value) (M : Mem) (Q : Outcome → Mem → Prop), Wp d 109 66 [some (.ref v), l1, l2, l3, l4, l5, l6, l7, l8] st M Q = Wp d 109 67 [some (.ref v), l1, l2, l3, l4, l5, l6, l7, l8] (.ref v :: st) M Q := fun d l1 l2 l3 l4 l5 l6 l7 l8 v st M Q => wA (show ins 109 66 = some (.aload_n 0, 1) by decide +kernel) rfl
set_option maxRecDepth 100000 in
theorem r_109_67 : ∀ (d : Nat) (l0 l2 l3 l4 l5 l6 l7 l8 : Option Value) (v : Nat) (st : List Value) (M : Mem) (Q : Outcome → Mem → Prop), Wp d 109 67 [l0, some (.ref v), l2, l3, l4, l5, l6, l7, l8] st M Q = Wp d 109 68 [l0, some (.ref v), l2, l3, l4, l5, l6, l7, l8] (.ref v :: st) M Q := fun d l0 l2 l3 l4 l5 l6 l7 l8 v st M Q => wA (show ins 109 67 = some (.aload_n 1, 1) by decide +kernel) rfl
set_option maxRecDepth 100000 in
theorem r_109_67_1 : ∀ (d : Nat) (l0 l2 l3 l4 l5 l6 l7 l8 : Option Value) (st : List Value) (M : Mem) (Q : Outcome → Mem → Prop), Wp d 109 67 [l0, some .null, l2, l3, l4, l5, l6, l7, l8] st M Q = Wp d 109 68 [l0, some .null, l2, l3, l4, l5, l6, l7, l8] (.null :: st) M Q := fun d l0 l2 l3 l4 l5 l6 l7 l8 st M Q => wA (show ins 109 67 = some (.aload_n 1, 1) by decide +kernel) rfl
set_option maxRecDepth 100000 in
theorem r_109_68 : ∀ (d : Nat) (l0 l1 l2 l4 l5 l6 l7 l8 : Option Value) (v : Nat) (st : List Value) (M : Mem) (Q : Outcome → Mem → Prop), Wp d 109 68 [l0, l1, l2, some (.ref v), l4, l5, l6, l7, l8] st M Q = Wp d 109 69 [l0, l1, l2, some (.ref v), l4, l5, l6, l7, l8] (.ref v :: st) M Q := fun d l0 l1 l2 l4 l5 l6 l7 l8 v st M Q => wA (show ins 109 68 = some (.aload_n 3, 1) by decide +kernel) rfl
set_option maxRecDepth 100000 in
theorem r_109_68_1 : ∀ (d : Nat) (l0 l1 l2 l4 l5 l6 l7 l8 : Option Value) (st : List Value) (M : Mem) (Q : Outcome → Mem → Prop), Wp d 109 68 [l0, l1, l2, some .null, l4, l5, l6, l7, l8] st M Q = Wp d 109 69 [l0, l1, l2, some .null, l4, l5, l6, l7, l8] (.null :: st) M Q := fun d l0 l1 l2 l4 l5 l6 l7 l8 st M Q => wA (show ins 109 68 = some (.aload_n 3, 1) by decide +kernel) rfl
set_option maxRecDepth 100000 in
theorem r_109_69 : ∀ (d : Nat) (ls : Lc) (st : List Value) (M : Mem) (Q : Outcome → Mem → Prop), Wp d 109 69 ls st M Q = Wp d 109 70 ls (.int (I 2) :: st) M Q := fun d ls st M Q => w_iconst (show ins 109 69 = some (.iconst 2, 1) by decide +kernel)
set_option maxRecDepth 100000 in
theorem r_109_70 : ∀ (d : Nat) (ls : Lc) (st : List Value) (M : Mem) (Q : Outcome → Mem → Prop), Wp d 109 70 ls st M Q = Wp d 109 71 ls (.int (I 4) :: st) M Q := fun d ls st M Q => w_iconst (show ins 109 70 = some (.iconst 4, 1) by decide +kernel)
set_option maxRecDepth 100000 in
theorem r_109_71 : ∀ (d : Nat) (l0 l1 l2 l3 l4 l5 l6 l7 : Option Value) (v : Int32) (st : List Value) (M : Mem) (Q : Outcome → Mem → Prop), Wp d 109 71 [l0, l1, l2, l3, l4, l5, l6, l7, some (.int v)] st M Q = Wp d 109 73 [l0, l1, l2, l3, l4, l5, l6, l7, some (.int v)] (.int v :: st) M Q := fun d l0 l1 l2 l3 l4 l5 l6 l7 v st M Q => wA (show ins 109 71 = some (.iload 8, 2) by decide +kernel) rfl
set_option maxRecDepth 100000 in
theorem r_109_73 : ∀ (d : Nat) (ls : Lc) (a b : Int) (st : List Value) (M : Mem) (Q : Outcome → Mem → Prop), Wp d 109 73 ls (.int (I b) :: .int (I a) :: st) M Q = Wp d 109 74 ls (.int (I (a * b)) :: st) M Q := fun d ls a b st M Q => w_imul (show ins 109 73 = some (.imul, 1) by decide +kernel)
set_option maxRecDepth 100000 in
theorem r_109_74 : ∀ (d : Nat) (ls : Lc) (a b : Int) (st : List Value) (M : Mem) (Q : Outcome → Mem → Prop), Wp d 109 74 ls (.int (I b) :: .int (I a) :: st) M Q = Wp d 109 75 ls (.int (I (a + b)) :: st) M Q := fun d ls a b st M Q => w_iadd (show ins 109 74 = some (.iadd, 1) by decide +kernel)
set_option maxRecDepth 100000 in
theorem r_109_75 : ∀ (d : Nat) (ls : Lc) (v0 v1 : Value)  (st : List Value) (M : Mem) (Q : Outcome → Mem → Prop), (smallR st = true) → Wp d 109 75 ls (v1 :: v0 :: st) M Q = Ca d 109 75 ls 36 [v0, v1] st M Q := fun d ls v0 v1 st M Q h0 => w_stat (as := [v0, v1]) (show ins 109 75 = some (.invokestatic 77, 3) by decide +kernel) (show mRes (mC 109) 77 = some (1, 1, [(0, 36)]) by decide +kernel) (by decide +kernel) (by decide +kernel) rfl h0
set_option maxRecDepth 100000 in
theorem r_109_78 : ∀ (d : Nat) (ls : Lc) (v0 v1 : Value) (a : Nat) (st : List Value) (M : Mem) (Q : Outcome → Mem → Prop), (smallR st = true) → Wp d 109 78 ls (v1 :: v0 :: .ref a :: st) M Q = (kO M a = 3 ∧ Ca d 109 78 ls 109 (.ref a :: [v0, v1]) st M Q) := fun d ls v0 v1 a st M Q h0 => w_virt1 (as := [v0, v1]) (show ins 109 78 = some (.invokevirtual 73, 3) by decide +kernel) (show mRes (mC 109) 73 = some (3, 3, [(3, 109)]) by decide +kernel) (by decide +kernel) rfl (by decide +kernel) (by decide +kernel) h0
set_option maxRecDepth 100000 in
theorem r_109_81 : ∀ (d : Nat) (ls : Lc) (v0 v1 : Value) (a : Nat) (st : List Value) (M : Mem) (Q : Outcome → Mem → Prop), (smallR st = true) → Wp d 109 81 ls (v1 :: v0 :: .ref a :: st) M Q = (kO M a = 6 ∧ Ca d 109 81 ls 142 (.ref a :: [v0, v1]) st M Q) := fun d ls v0 v1 a st M Q h0 => w_virt1 (as := [v0, v1]) (show ins 109 81 = some (.invokevirtual 87, 3) by decide +kernel) (show mRes (mC 109) 87 = some (3, 6, [(6, 142)]) by decide +kernel) (by decide +kernel) rfl (by decide +kernel) (by decide +kernel) h0
set_option maxRecDepth 100000 in
theorem r_109_84 : ∀ (d : Nat) (l0 l1 l2 l3 l4 l5 l6 l7 : Option Value) (z : Int) (st : List Value) (M : Mem) (Q : Outcome → Mem → Prop), (lo l7 = false) → Wp d 109 84 [l0, l1, l2, l3, l4, l5, l6, l7, some (.int (I z))] st M Q = Wp d 109 87 [l0, l1, l2, l3, l4, l5, l6, l7, some (.int (I (z + 1)))] st M Q := fun d l0 l1 l2 l3 l4 l5 l6 l7 z st M Q hl => w_iinc (show ins 109 84 = some (.iinc 8 1, 3) by decide +kernel) rfl (st1_S rfl rfl hl)
set_option maxRecDepth 100000 in
theorem r_109_87 : ∀ (d : Nat) (ls : Lc) (st : List Value) (M : Mem) (Q : Outcome → Mem → Prop), Wp d 109 87 ls st M Q = Wp d 109 55 ls st M Q := fun d ls st M Q => w_goto (show ins 109 87 = some (.goto (-32), 3) by decide +kernel) rfl
set_option maxRecDepth 100000 in
theorem r_109_90 : ∀ (d : Nat) (l0 l1 l2 l3 l4 l5 l7 l8 : Option Value) (v : Nat) (st : List Value) (M : Mem) (Q : Outcome → Mem → Prop), Wp d 109 90 [l0, l1, l2, l3, l4, l5, some (.ref v), l7, l8] st M Q = Wp d 109 92 [l0, l1, l2, l3, l4, l5, some (.ref v), l7, l8] (.ref v :: st) M Q := fun d l0 l1 l2 l3 l4 l5 l7 l8 v st M Q => wA (show ins 109 90 = some (.aload 6, 2) by decide +kernel) rfl
set_option maxRecDepth 100000 in
theorem r_109_90_1 : ∀ (d : Nat) (l0 l1 l2 l3 l4 l5 l7 l8 : Option Value) (st : List Value) (M : Mem) (Q : Outcome → Mem → Prop), Wp d 109 90 [l0, l1, l2, l3, l4, l5, some .null, l7, l8] st M Q = Wp d 109 92 [l0, l1, l2, l3, l4, l5, some .null, l7, l8] (.null :: st) M Q := fun d l0 l1 l2 l3 l4 l5 l7 l8 st M Q => wA (show ins 109 90 = some (.aload 6, 2) by decide +kernel) rfl
set_option maxRecDepth 100000 in
theorem r_109_92 : ∀ (d : Nat) (l0 l1 l2 l3 l4 l5 l6 l7 l8 : Option Value) (v : Nat) (st : List Value) (M : Mem) (Q : Outcome → Mem → Prop), (lo l4 = false) → Wp d 109 92 [l0, l1, l2, l3, l4, l5, l6, l7, l8] (.ref v :: st) M Q = Wp d 109 94 [l0, l1, l2, l3, l4, some (.ref v), l6, l7, l8] st M Q := fun d l0 l1 l2 l3 l4 l5 l6 l7 l8 v st M Q hl => w_astore (show ins 109 92 = some (.astore 5, 2) by decide +kernel) (st1_S rfl rfl hl)
set_option maxRecDepth 100000 in
theorem r_109_92_1 : ∀ (d : Nat) (l0 l1 l2 l3 l4 l5 l6 l7 l8 : Option Value) (st : List Value) (M : Mem) (Q : Outcome → Mem → Prop), (lo l4 = false) → Wp d 109 92 [l0, l1, l2, l3, l4, l5, l6, l7, l8] (.null :: st) M Q = Wp d 109 94 [l0, l1, l2, l3, l4, some (.null), l6, l7, l8] st M Q := fun d l0 l1 l2 l3 l4 l5 l6 l7 l8 st M Q hl => w_astoreN (show ins 109 92 = some (.astore 5, 2) by decide +kernel) (st1_S rfl rfl hl)
set_option maxRecDepth 100000 in
theorem r_109_94 : ∀ (d : Nat) (l0 l1 l2 l3 l4 l6 l7 l8 : Option Value) (v : Nat) (st : List Value) (M : Mem) (Q : Outcome → Mem → Prop), Wp d 109 94 [l0, l1, l2, l3, l4, some (.ref v), l6, l7, l8] st M Q = Wp d 109 96 [l0, l1, l2, l3, l4, some (.ref v), l6, l7, l8] (.ref v :: st) M Q := fun d l0 l1 l2 l3 l4 l6 l7 l8 v st M Q => wA (show ins 109 94 = some (.aload 5, 2) by decide +kernel) rfl
set_option maxRecDepth 100000 in
theorem r_109_94_1 : ∀ (d : Nat) (l0 l1 l2 l3 l4 l6 l7 l8 : Option Value) (st : List Value) (M : Mem) (Q : Outcome → Mem → Prop), Wp d 109 94 [l0, l1, l2, l3, l4, some .null, l6, l7, l8] st M Q = Wp d 109 96 [l0, l1, l2, l3, l4, some .null, l6, l7, l8] (.null :: st) M Q := fun d l0 l1 l2 l3 l4 l6 l7 l8 st M Q => wA (show ins 109 94 = some (.aload 5, 2) by decide +kernel) rfl
set_option maxRecDepth 100000 in
theorem r_109_96 : ∀ (d : Nat) (l1 l2 l3 l4 l5 l6 l7 l8 : Option Value) (v : Nat) (st : List Value) (M : Mem) (Q : Outcome → Mem → Prop), Wp d 109 96 [some (.ref v), l1, l2, l3, l4, l5, l6, l7, l8] st M Q = Wp d 109 97 [some (.ref v), l1, l2, l3, l4, l5, l6, l7, l8] (.ref v :: st) M Q := fun d l1 l2 l3 l4 l5 l6 l7 l8 v st M Q => wA (show ins 109 96 = some (.aload_n 0, 1) by decide +kernel) rfl
set_option maxRecDepth 100000 in
theorem r_109_97 : ∀ (d : Nat) (ls : Lc) (a : Nat) (st : List Value) (M : Mem) (Q : Outcome → Mem → Prop), Wp d 109 97 ls (.ref a :: st) M Q = (fk 13 (kO M a) = true ∧ Wp d 109 100 ls (va_rf (mR M 13 a) :: st) M Q) := fun d ls a st M Q => w_getR (show ins 109 97 = some (.getfield 25, 3) by decide +kernel) (show fRes (mC 109) 25 = some (13, 3, false) by decide +kernel) (by decide +kernel)
set_option maxRecDepth 100000 in
theorem r_109_100 : ∀ (d : Nat) (l0 l1 l2 l3 l5 l6 l7 l8 : Option Value) (v : Int32) (st : List Value) (M : Mem) (Q : Outcome → Mem → Prop), Wp d 109 100 [l0, l1, l2, l3, some (.int v), l5, l6, l7, l8] st M Q = Wp d 109 102 [l0, l1, l2, l3, some (.int v), l5, l6, l7, l8] (.int v :: st) M Q := fun d l0 l1 l2 l3 l5 l6 l7 l8 v st M Q => wA (show ins 109 100 = some (.iload 4, 2) by decide +kernel) rfl
set_option maxRecDepth 100000 in
theorem r_109_102 : ∀ (d : Nat) (ls : Lc) (a : Nat) (j : Int32) (st : List Value) (M : Mem) (Q : Outcome → Mem → Prop), Wp d 109 102 ls (.int j :: .ref a :: st) M Q = ((((kX M a).1 = 4 ∨ (kX M a).1 = 5 ∨ (kX M a).1 = 6 ∨ (kX M a).1 = 7) ∧ inB j (kX M a).2 = true) ∧ Wp d 109 103 ls (va_rf (mQ M a j.toNatClampNeg) :: st) M Q) := fun d ls a j st M Q => w_aaload (show ins 109 102 = some (.aaload, 1) by decide +kernel)
set_option maxRecDepth 100000 in
theorem r_109_103 : ∀ (d : Nat) (ls : Lc) (a b : Nat) (st : List Value) (M : Mem) (Q : Outcome → Mem → Prop), Wp d 109 103 ls (.ref b :: .ref a :: st) M Q = (fk 30 (kO M a) = true ∧ Wp d 109 106 ls st (sR M 30 a (some b)) Q) := fun d ls a b st M Q => w_putR (v := some b) (show ins 109 103 = some (.putfield 91, 3) by decide +kernel) (show fRes (mC 109) 91 = some (30, 7, false) by decide +kernel) (by decide +kernel) (by decide +kernel)
set_option maxRecDepth 100000 in
theorem r_109_103_1 : ∀ (d : Nat) (ls : Lc) (a : Nat) (st : List Value) (M : Mem) (Q : Outcome → Mem → Prop), Wp d 109 103 ls (.null :: .ref a :: st) M Q = (fk 30 (kO M a) = true ∧ Wp d 109 106 ls st (sR M 30 a none) Q) := fun d ls a st M Q => w_putR (v := none) (show ins 109 103 = some (.putfield 91, 3) by decide +kernel) (show fRes (mC 109) 91 = some (30, 7, false) by decide +kernel) (by decide +kernel) (by decide +kernel)
set_option maxRecDepth 100000 in
theorem r_109_106 : ∀ (d : Nat) (l1 l2 l3 l4 l5 l6 l7 l8 : Option Value) (v : Nat) (st : List Value) (M : Mem) (Q : Outcome → Mem → Prop), Wp d 109 106 [some (.ref v), l1, l2, l3, l4, l5, l6, l7, l8] st M Q = Wp d 109 107 [some (.ref v), l1, l2, l3, l4, l5, l6, l7, l8] (.ref v :: st) M Q := fun d l1 l2 l3 l4 l5 l6 l7 l8 v st M Q => wA (show ins 109 106 = some (.aload_n 0, 1) by decide +kernel) rfl
set_option maxRecDepth 100000 in
theorem r_109_107 : ∀ (d : Nat) (ls : Lc) (a : Nat) (st : List Value) (M : Mem) (Q : Outcome → Mem → Prop), Wp d 109 107 ls (.ref a :: st) M Q = (fk 13 (kO M a) = true ∧ Wp d 109 110 ls (va_rf (mR M 13 a) :: st) M Q) := fun d ls a st M Q => w_getR (show ins 109 107 = some (.getfield 25, 3) by decide +kernel) (show fRes (mC 109) 25 = some (13, 3, false) by decide +kernel) (by decide +kernel)
set_option maxRecDepth 100000 in
theorem r_109_110 : ∀ (d : Nat) (l0 l1 l2 l3 l5 l6 l7 l8 : Option Value) (v : Int32) (st : List Value) (M : Mem) (Q : Outcome → Mem → Prop), Wp d 109 110 [l0, l1, l2, l3, some (.int v), l5, l6, l7, l8] st M Q = Wp d 109 112 [l0, l1, l2, l3, some (.int v), l5, l6, l7, l8] (.int v :: st) M Q := fun d l0 l1 l2 l3 l5 l6 l7 l8 v st M Q => wA (show ins 109 110 = some (.iload 4, 2) by decide +kernel) rfl
set_option maxRecDepth 100000 in
theorem r_109_112 : ∀ (d : Nat) (ls : Lc) (a : Nat) (j : Int32) (st : List Value) (M : Mem) (Q : Outcome → Mem → Prop), Wp d 109 112 ls (.int j :: .ref a :: st) M Q = ((((kX M a).1 = 4 ∨ (kX M a).1 = 5 ∨ (kX M a).1 = 6 ∨ (kX M a).1 = 7) ∧ inB j (kX M a).2 = true) ∧ Wp d 109 113 ls (va_rf (mQ M a j.toNatClampNeg) :: st) M Q) := fun d ls a j st M Q => w_aaload (show ins 109 112 = some (.aaload, 1) by decide +kernel)
set_option maxRecDepth 100000 in
theorem r_109_113 : ∀ (d : Nat) (ls : Lc) (st : List Value) (M : Mem) (Q : Outcome → Mem → Prop), Wp d 109 113 ls (.null :: st) M Q = Wp d 109 128 ls st M Q := fun d ls st M Q => w_ifnullN (show ins 109 113 = some (.ifnull 15, 3) by decide +kernel) rfl
set_option maxRecDepth 100000 in
theorem r_109_113_1 : ∀ (d : Nat) (ls : Lc) (v : Nat) (st : List Value) (M : Mem) (Q : Outcome → Mem → Prop), Wp d 109 113 ls (.ref v :: st) M Q = Wp d 109 116 ls st M Q := fun d ls v st M Q => w_ifnullR (show ins 109 113 = some (.ifnull 15, 3) by decide +kernel) (t := 128) rfl
set_option maxRecDepth 100000 in
theorem r_109_116 : ∀ (d : Nat) (l1 l2 l3 l4 l5 l6 l7 l8 : Option Value) (v : Nat) (st : List Value) (M : Mem) (Q : Outcome → Mem → Prop), Wp d 109 116 [some (.ref v), l1, l2, l3, l4, l5, l6, l7, l8] st M Q = Wp d 109 117 [some (.ref v), l1, l2, l3, l4, l5, l6, l7, l8] (.ref v :: st) M Q := fun d l1 l2 l3 l4 l5 l6 l7 l8 v st M Q => wA (show ins 109 116 = some (.aload_n 0, 1) by decide +kernel) rfl
set_option maxRecDepth 100000 in
theorem r_109_117 : ∀ (d : Nat) (ls : Lc) (a : Nat) (st : List Value) (M : Mem) (Q : Outcome → Mem → Prop), Wp d 109 117 ls (.ref a :: st) M Q = (fk 13 (kO M a) = true ∧ Wp d 109 120 ls (va_rf (mR M 13 a) :: st) M Q) := fun d ls a st M Q => w_getR (show ins 109 117 = some (.getfield 25, 3) by decide +kernel) (show fRes (mC 109) 25 = some (13, 3, false) by decide +kernel) (by decide +kernel)
set_option maxRecDepth 100000 in
theorem r_109_120 : ∀ (d : Nat) (l0 l1 l2 l3 l5 l6 l7 l8 : Option Value) (v : Int32) (st : List Value) (M : Mem) (Q : Outcome → Mem → Prop), Wp d 109 120 [l0, l1, l2, l3, some (.int v), l5, l6, l7, l8] st M Q = Wp d 109 122 [l0, l1, l2, l3, some (.int v), l5, l6, l7, l8] (.int v :: st) M Q := fun d l0 l1 l2 l3 l5 l6 l7 l8 v st M Q => wA (show ins 109 120 = some (.iload 4, 2) by decide +kernel) rfl
set_option maxRecDepth 100000 in
theorem r_109_122 : ∀ (d : Nat) (ls : Lc) (a : Nat) (j : Int32) (st : List Value) (M : Mem) (Q : Outcome → Mem → Prop), Wp d 109 122 ls (.int j :: .ref a :: st) M Q = ((((kX M a).1 = 4 ∨ (kX M a).1 = 5 ∨ (kX M a).1 = 6 ∨ (kX M a).1 = 7) ∧ inB j (kX M a).2 = true) ∧ Wp d 109 123 ls (va_rf (mQ M a j.toNatClampNeg) :: st) M Q) := fun d ls a j st M Q => w_aaload (show ins 109 122 = some (.aaload, 1) by decide +kernel)
set_option maxRecDepth 100000 in
theorem r_109_123 : ∀ (d : Nat) (l0 l1 l2 l3 l4 l6 l7 l8 : Option Value) (v : Nat) (st : List Value) (M : Mem) (Q : Outcome → Mem → Prop), Wp d 109 123 [l0, l1, l2, l3, l4, some (.ref v), l6, l7, l8] st M Q = Wp d 109 125 [l0, l1, l2, l3, l4, some (.ref v), l6, l7, l8] (.ref v :: st) M Q := fun d l0 l1 l2 l3 l4 l6 l7 l8 v st M Q => wA (show ins 109 123 = some (.aload 5, 2) by decide +kernel) rfl
set_option maxRecDepth 100000 in
theorem r_109_123_1 : ∀ (d : Nat) (l0 l1 l2 l3 l4 l6 l7 l8 : Option Value) (st : List Value) (M : Mem) (Q : Outcome → Mem → Prop), Wp d 109 123 [l0, l1, l2, l3, l4, some .null, l6, l7, l8] st M Q = Wp d 109 125 [l0, l1, l2, l3, l4, some .null, l6, l7, l8] (.null :: st) M Q := fun d l0 l1 l2 l3 l4 l6 l7 l8 st M Q => wA (show ins 109 123 = some (.aload 5, 2) by decide +kernel) rfl
set_option maxRecDepth 100000 in
theorem r_109_125 : ∀ (d : Nat) (ls : Lc) (a b : Nat) (st : List Value) (M : Mem) (Q : Outcome → Mem → Prop), Wp d 109 125 ls (.ref b :: .ref a :: st) M Q = (fk 31 (kO M a) = true ∧ Wp d 109 128 ls st (sR M 31 a (some b)) Q) := fun d ls a b st M Q => w_putR (v := some b) (show ins 109 125 = some (.putfield 94, 3) by decide +kernel) (show fRes (mC 109) 94 = some (31, 7, false) by decide +kernel) (by decide +kernel) (by decide +kernel)
set_option maxRecDepth 100000 in
theorem r_109_125_1 : ∀ (d : Nat) (ls : Lc) (a : Nat) (st : List Value) (M : Mem) (Q : Outcome → Mem → Prop), Wp d 109 125 ls (.null :: .ref a :: st) M Q = (fk 31 (kO M a) = true ∧ Wp d 109 128 ls st (sR M 31 a none) Q) := fun d ls a st M Q => w_putR (v := none) (show ins 109 125 = some (.putfield 94, 3) by decide +kernel) (show fRes (mC 109) 94 = some (31, 7, false) by decide +kernel) (by decide +kernel) (by decide +kernel)
set_option maxRecDepth 100000 in
theorem r_109_128 : ∀ (d : Nat) (l1 l2 l3 l4 l5 l6 l7 l8 : Option Value) (v : Nat) (st : List Value) (M : Mem) (Q : Outcome → Mem → Prop), Wp d 109 128 [some (.ref v), l1, l2, l3, l4, l5, l6, l7, l8] st M Q = Wp d 109 129 [some (.ref v), l1, l2, l3, l4, l5, l6, l7, l8] (.ref v :: st) M Q := fun d l1 l2 l3 l4 l5 l6 l7 l8 v st M Q => wA (show ins 109 128 = some (.aload_n 0, 1) by decide +kernel) rfl
set_option maxRecDepth 100000 in
theorem r_109_129 : ∀ (d : Nat) (ls : Lc) (a : Nat) (st : List Value) (M : Mem) (Q : Outcome → Mem → Prop), Wp d 109 129 ls (.ref a :: st) M Q = (fk 13 (kO M a) = true ∧ Wp d 109 132 ls (va_rf (mR M 13 a) :: st) M Q) := fun d ls a st M Q => w_getR (show ins 109 129 = some (.getfield 25, 3) by decide +kernel) (show fRes (mC 109) 25 = some (13, 3, false) by decide +kernel) (by decide +kernel)
set_option maxRecDepth 100000 in
theorem r_109_132 : ∀ (d : Nat) (l0 l1 l2 l3 l5 l6 l7 l8 : Option Value) (v : Int32) (st : List Value) (M : Mem) (Q : Outcome → Mem → Prop), Wp d 109 132 [l0, l1, l2, l3, some (.int v), l5, l6, l7, l8] st M Q = Wp d 109 134 [l0, l1, l2, l3, some (.int v), l5, l6, l7, l8] (.int v :: st) M Q := fun d l0 l1 l2 l3 l5 l6 l7 l8 v st M Q => wA (show ins 109 132 = some (.iload 4, 2) by decide +kernel) rfl
set_option maxRecDepth 100000 in
theorem r_109_134 : ∀ (d : Nat) (l0 l1 l2 l3 l4 l6 l7 l8 : Option Value) (v : Nat) (st : List Value) (M : Mem) (Q : Outcome → Mem → Prop), Wp d 109 134 [l0, l1, l2, l3, l4, some (.ref v), l6, l7, l8] st M Q = Wp d 109 136 [l0, l1, l2, l3, l4, some (.ref v), l6, l7, l8] (.ref v :: st) M Q := fun d l0 l1 l2 l3 l4 l6 l7 l8 v st M Q => wA (show ins 109 134 = some (.aload 5, 2) by decide +kernel) rfl
set_option maxRecDepth 100000 in
theorem r_109_134_1 : ∀ (d : Nat) (l0 l1 l2 l3 l4 l6 l7 l8 : Option Value) (st : List Value) (M : Mem) (Q : Outcome → Mem → Prop), Wp d 109 134 [l0, l1, l2, l3, l4, some .null, l6, l7, l8] st M Q = Wp d 109 136 [l0, l1, l2, l3, l4, some .null, l6, l7, l8] (.null :: st) M Q := fun d l0 l1 l2 l3 l4 l6 l7 l8 st M Q => wA (show ins 109 134 = some (.aload 5, 2) by decide +kernel) rfl
set_option maxRecDepth 100000 in
theorem r_109_136 : ∀ (d : Nat) (ls : Lc) (a : Nat) (j : Int32) (st : List Value) (M : Mem) (Q : Outcome → Mem → Prop), Wp d 109 136 ls (.null :: .int j :: .ref a :: st) M Q = ((((kX M a).1 = 5 ∨ (kX M a).1 = 6 ∨ (kX M a).1 = 7) ∧ inB j (kX M a).2 = true) ∧ Wp d 109 137 ls st (sQ M a j.toNatClampNeg none) Q) := fun d ls a j st M Q => w_aastoreN (show ins 109 136 = some (.aastore, 1) by decide +kernel)
set_option maxRecDepth 100000 in
theorem r_109_136_1 : ∀ (d : Nat) (ls : Lc) (a v : Nat) (j : Int32) (st : List Value) (M : Mem) (Q : Outcome → Mem → Prop), Wp d 109 136 ls (.ref v :: .int j :: .ref a :: st) M Q = ((fitQ (kX M a).1 (kO M v) = true ∧ inB j (kX M a).2 = true) ∧ Wp d 109 137 ls st (sQ M a j.toNatClampNeg (some v)) Q) := fun d ls a v j st M Q => w_aastore (show ins 109 136 = some (.aastore, 1) by decide +kernel)
set_option maxRecDepth 100000 in
theorem r_109_137 : ∀ (d : Nat) (l0 l1 l2 l3 l4 l6 l7 l8 : Option Value) (v : Nat) (st : List Value) (M : Mem) (Q : Outcome → Mem → Prop), Wp d 109 137 [l0, l1, l2, l3, l4, some (.ref v), l6, l7, l8] st M Q = Wp d 109 139 [l0, l1, l2, l3, l4, some (.ref v), l6, l7, l8] (.ref v :: st) M Q := fun d l0 l1 l2 l3 l4 l6 l7 l8 v st M Q => wA (show ins 109 137 = some (.aload 5, 2) by decide +kernel) rfl
set_option maxRecDepth 100000 in
theorem r_109_137_1 : ∀ (d : Nat) (l0 l1 l2 l3 l4 l6 l7 l8 : Option Value) (st : List Value) (M : Mem) (Q : Outcome → Mem → Prop), Wp d 109 137 [l0, l1, l2, l3, l4, some .null, l6, l7, l8] st M Q = Wp d 109 139 [l0, l1, l2, l3, l4, some .null, l6, l7, l8] (.null :: st) M Q := fun d l0 l1 l2 l3 l4 l6 l7 l8 st M Q => wA (show ins 109 137 = some (.aload 5, 2) by decide +kernel) rfl
set_option maxRecDepth 100000 in
theorem r_109_139 : ∀ (d : Nat) (ls : Lc) (a : Nat) (M : Mem) (Q : Outcome → Mem → Prop), Wp d 109 139 ls [.ref a] M Q = Q (.returned (some (.ref a))) M := fun d ls a M Q => w_areturn (show ins 109 139 = some (.areturn, 1) by decide +kernel) (by decide +kernel)
set_option maxRecDepth 100000 in
theorem r_109_139_1 : ∀ (d : Nat) (ls : Lc) (M : Mem) (Q : Outcome → Mem → Prop), Wp d 109 139 ls [.null] M Q = Q (.returned (some .null)) M := fun d ls M Q => w_areturnN (show ins 109 139 = some (.areturn, 1) by decide +kernel) (by decide +kernel)
set_option maxRecDepth 100000 in
theorem w_109_55 : (type_of% r_109_55) := r_109_55
set_option maxRecDepth 100000 in
theorem W_109 : (type_of% r_109_0) ∧ (type_of% r_109_0_1) ∧ (type_of% r_109_1) ∧ (type_of% r_109_2) ∧ (type_of% r_109_3) ∧ (type_of% r_109_3_1) ∧ (type_of% r_109_4) ∧ (type_of% r_109_4_1) ∧ (type_of% r_109_5) ∧ (type_of% r_109_6) ∧ (type_of% r_109_9) ∧ (type_of% r_109_11) ∧ (type_of% r_109_13) ∧ (type_of% r_109_16) ∧ (type_of% r_109_17) ∧ (type_of% r_109_18) ∧ (type_of% r_109_21) ∧ (type_of% r_109_21_1) ∧ (type_of% r_109_23) ∧ (type_of% r_109_23_1) ∧ (type_of% r_109_25) ∧ (type_of% r_109_25_1) ∧ (type_of% r_109_26) ∧ (type_of% r_109_29) ∧ (type_of% r_109_29_1) ∧ (type_of% r_109_31) ∧ (type_of% r_109_31_1) ∧ (type_of% r_109_33) ∧ (type_of% r_109_36) ∧ (type_of% r_109_37) ∧ (type_of% r_109_38) ∧ (type_of% r_109_40) ∧ (type_of% r_109_43) ∧ (type_of% r_109_43_1) ∧ (type_of% r_109_45) ∧ (type_of% r_109_45_1) ∧ (type_of% r_109_46) ∧ (type_of% r_109_47) ∧ (type_of% r_109_50) ∧ (type_of% r_109_52) ∧ (type_of% r_109_53) ∧ (type_of% r_109_57) ∧ (type_of% r_109_59) ∧ (type_of% r_109_62) ∧ (type_of% r_109_62_1) ∧ (type_of% r_109_64) ∧ (type_of% r_109_66) ∧ (type_of% r_109_67) ∧ (type_of% r_109_67_1) ∧ (type_of% r_109_68) ∧ (type_of% r_109_68_1) ∧ (type_of% r_109_69) ∧ (type_of% r_109_70) ∧ (type_of% r_109_71) ∧ (type_of% r_109_73) ∧ (type_of% r_109_74) ∧ (type_of% r_109_75) ∧ (type_of% r_109_78) ∧ (type_of% r_109_81) ∧ (type_of% r_109_84) ∧ (type_of% r_109_87) ∧ (type_of% r_109_90) ∧ (type_of% r_109_90_1) ∧ (type_of% r_109_92) ∧ (type_of% r_109_92_1) ∧ (type_of% r_109_94) ∧ (type_of% r_109_94_1) ∧ (type_of% r_109_96) ∧ (type_of% r_109_97) ∧ (type_of% r_109_100) ∧ (type_of% r_109_102) ∧ (type_of% r_109_103) ∧ (type_of% r_109_103_1) ∧ (type_of% r_109_106) ∧ (type_of% r_109_107) ∧ (type_of% r_109_110) ∧ (type_of% r_109_112) ∧ (type_of% r_109_113) ∧ (type_of% r_109_113_1) ∧ (type_of% r_109_116) ∧ (type_of% r_109_117) ∧ (type_of% r_109_120) ∧ (type_of% r_109_122) ∧ (type_of% r_109_123) ∧ (type_of% r_109_123_1) ∧ (type_of% r_109_125) ∧ (type_of% r_109_125_1) ∧ (type_of% r_109_128) ∧ (type_of% r_109_129) ∧ (type_of% r_109_132) ∧ (type_of% r_109_134) ∧ (type_of% r_109_134_1) ∧ (type_of% r_109_136) ∧ (type_of% r_109_136_1) ∧ (type_of% r_109_137) ∧ (type_of% r_109_137_1) ∧ (type_of% r_109_139) ∧ (type_of% r_109_139_1) := ⟨r_109_0, r_109_0_1, r_109_1, r_109_2, r_109_3, r_109_3_1, r_109_4, r_109_4_1, r_109_5, r_109_6, r_109_9, r_109_11, r_109_13, r_109_16, r_109_17, r_109_18, r_109_21, r_109_21_1, r_109_23, r_109_23_1, r_109_25, r_109_25_1, r_109_26, r_109_29, r_109_29_1, r_109_31, r_109_31_1, r_109_33, r_109_36, r_109_37, r_109_38, r_109_40, r_109_43, r_109_43_1, r_109_45, r_109_45_1, r_109_46, r_109_47, r_109_50, r_109_52, r_109_53, r_109_57, r_109_59, r_109_62, r_109_62_1, r_109_64, r_109_66, r_109_67, r_109_67_1, r_109_68, r_109_68_1, r_109_69, r_109_70, r_109_71, r_109_73, r_109_74, r_109_75, r_109_78, r_109_81, r_109_84, r_109_87, r_109_90, r_109_90_1, r_109_92, r_109_92_1, r_109_94, r_109_94_1, r_109_96, r_109_97, r_109_100, r_109_102, r_109_103, r_109_103_1, r_109_106, r_109_107, r_109_110, r_109_112, r_109_113, r_109_113_1, r_109_116, r_109_117, r_109_120, r_109_122, r_109_123, r_109_123_1, r_109_125, r_109_125_1, r_109_128, r_109_129, r_109_132, r_109_134, r_109_134_1, r_109_136, r_109_136_1, r_109_137, r_109_137_1, r_109_139, r_109_139_1⟩
set_option maxRecDepth 100000 in
theorem ca_109 {d y pc : Nat} {ls : Lc} {a : Nat} {o0 : Option Nat} {z1 : Int32} {r : List Value} {M : Mem} {Q : Outcome → Mem → Prop} (hd : 0 < d) (hw : Wp (d - 1) 109 0 [some (.ref a), some (va_rf o0), some (.int z1), none, none, none, none, none, none] [] M (Cq d y pc ls r Q)) : Ca d y pc ls 109 [.ref a, va_rf o0, .int z1] r M Q := ca_of (mq_get (by decide)) (by cases o0 <;> rfl) hd hw
/-! 110 PackedTree$Tree.firstLeaf()LPackedTree$Leaf;; loop heads [] -/
set_option maxRecDepth 100000 in
theorem r_110_0 : ∀ (d : Nat) (v : Nat) (st : List Value) (M : Mem) (Q : Outcome → Mem → Prop), Wp d 110 0 [some (.ref v)] st M Q = Wp d 110 1 [some (.ref v)] (.ref v :: st) M Q := fun d v st M Q => wA (show ins 110 0 = some (.aload_n 0, 1) by decide +kernel) rfl
set_option maxRecDepth 100000 in
theorem r_110_1 : ∀ (d : Nat) (ls : Lc) (st : List Value) (M : Mem) (Q : Outcome → Mem → Prop), Wp d 110 1 ls st M Q = Wp d 110 2 ls (.int (I 0) :: st) M Q := fun d ls st M Q => w_iconst (show ins 110 1 = some (.iconst 0, 1) by decide +kernel)
set_option maxRecDepth 100000 in
theorem r_110_2 : ∀ (d : Nat) (ls : Lc) (v0 : Value) (a : Nat) (st : List Value) (M : Mem) (Q : Outcome → Mem → Prop), (smallR st = true) → Wp d 110 2 ls (v0 :: .ref a :: st) M Q = (kO M a = 3 ∧ Ca d 110 2 ls 111 (.ref a :: [v0]) st M Q) := fun d ls v0 a st M Q h0 => w_virt1 (as := [v0]) (show ins 110 2 = some (.invokevirtual 121, 3) by decide +kernel) (show mRes (mC 110) 121 = some (3, 3, [(3, 111)]) by decide +kernel) (by decide +kernel) rfl (by decide +kernel) (by decide +kernel) h0
set_option maxRecDepth 100000 in
theorem r_110_5 : ∀ (d : Nat) (ls : Lc) (st : List Value) (M : Mem) (Q : Outcome → Mem → Prop), Wp d 110 5 ls (.null :: st) M Q = Wp d 110 8 ls (.null :: st) M Q := fun d ls st M Q => w_castN (show ins 110 5 = some (.checkcast 9, 3) by decide +kernel)
set_option maxRecDepth 100000 in
theorem r_110_5_1 : ∀ (d : Nat) (ls : Lc) (a : Nat) (st : List Value) (M : Mem) (Q : Outcome → Mem → Prop), Wp d 110 5 ls (.ref a :: st) M Q = (kO M a = 5 ∧ Wp d 110 8 ls (.ref a :: st) M Q) := fun d ls a st M Q => w_cast (show ins 110 5 = some (.checkcast 9, 3) by decide +kernel) (show cRes (mC 110) 9 = some 5 by decide +kernel) (by decide +kernel)
set_option maxRecDepth 100000 in
theorem r_110_8 : ∀ (d : Nat) (ls : Lc) (a : Nat) (M : Mem) (Q : Outcome → Mem → Prop), Wp d 110 8 ls [.ref a] M Q = Q (.returned (some (.ref a))) M := fun d ls a M Q => w_areturn (show ins 110 8 = some (.areturn, 1) by decide +kernel) (by decide +kernel)
set_option maxRecDepth 100000 in
theorem r_110_8_1 : ∀ (d : Nat) (ls : Lc) (M : Mem) (Q : Outcome → Mem → Prop), Wp d 110 8 ls [.null] M Q = Q (.returned (some .null)) M := fun d ls M Q => w_areturnN (show ins 110 8 = some (.areturn, 1) by decide +kernel) (by decide +kernel)
set_option maxRecDepth 100000 in
theorem W_110 : (type_of% r_110_0) ∧ (type_of% r_110_1) ∧ (type_of% r_110_2) ∧ (type_of% r_110_5) ∧ (type_of% r_110_5_1) ∧ (type_of% r_110_8) ∧ (type_of% r_110_8_1) := ⟨r_110_0, r_110_1, r_110_2, r_110_5, r_110_5_1, r_110_8, r_110_8_1⟩
set_option maxRecDepth 100000 in
theorem ca_110 {d y pc : Nat} {ls : Lc} {a : Nat} {r : List Value} {M : Mem} {Q : Outcome → Mem → Prop} (hd : 0 < d) (hw : Wp (d - 1) 110 0 [some (.ref a)] [] M (Cq d y pc ls r Q)) : Ca d y pc ls 110 [.ref a] r M Q := ca_of (mq_get (by decide)) (by rfl) hd hw
/-! 111 PackedTree$Tree.firstOf(I)LPackedTree$Node;; loop heads [5] -/
set_option maxRecDepth 100000 in
theorem r_111_0 : ∀ (d : Nat) (l1 l2 : Option Value) (v : Nat) (st : List Value) (M : Mem) (Q : Outcome → Mem → Prop), Wp d 111 0 [some (.ref v), l1, l2] st M Q = Wp d 111 1 [some (.ref v), l1, l2] (.ref v :: st) M Q := fun d l1 l2 v st M Q => wA (show ins 111 0 = some (.aload_n 0, 1) by decide +kernel) rfl
set_option maxRecDepth 100000 in
theorem r_111_1 : ∀ (d : Nat) (ls : Lc) (a : Nat) (st : List Value) (M : Mem) (Q : Outcome → Mem → Prop), Wp d 111 1 ls (.ref a :: st) M Q = (fk 18 (kO M a) = true ∧ Wp d 111 4 ls (va_rf (mR M 18 a) :: st) M Q) := fun d ls a st M Q => w_getR (show ins 111 1 = some (.getfield 52, 3) by decide +kernel) (show fRes (mC 111) 52 = some (18, 3, false) by decide +kernel) (by decide +kernel)
set_option maxRecDepth 100000 in
theorem r_111_4 : ∀ (d : Nat) (l0 l1 l2 : Option Value) (v : Nat) (st : List Value) (M : Mem) (Q : Outcome → Mem → Prop), (lo l1 = false) → Wp d 111 4 [l0, l1, l2] (.ref v :: st) M Q = Wp d 111 5 [l0, l1, some (.ref v)] st M Q := fun d l0 l1 l2 v st M Q hl => w_astore_n (show ins 111 4 = some (.astore_n 2, 1) by decide +kernel) (st1_S rfl rfl hl)
set_option maxRecDepth 100000 in
theorem r_111_4_1 : ∀ (d : Nat) (l0 l1 l2 : Option Value) (st : List Value) (M : Mem) (Q : Outcome → Mem → Prop), (lo l1 = false) → Wp d 111 4 [l0, l1, l2] (.null :: st) M Q = Wp d 111 5 [l0, l1, some (.null)] st M Q := fun d l0 l1 l2 st M Q hl => w_astoreN_n (show ins 111 4 = some (.astore_n 2, 1) by decide +kernel) (st1_S rfl rfl hl)
set_option maxRecDepth 100000 in
theorem r_111_5 : ∀ (d : Nat) (l0 l1 : Option Value) (v : Nat) (st : List Value) (M : Mem) (Q : Outcome → Mem → Prop), Wp d 111 5 [l0, l1, some (.ref v)] st M Q = Wp d 111 6 [l0, l1, some (.ref v)] (.ref v :: st) M Q := fun d l0 l1 v st M Q => wA (show ins 111 5 = some (.aload_n 2, 1) by decide +kernel) rfl
set_option maxRecDepth 100000 in
theorem r_111_5_1 : ∀ (d : Nat) (l0 l1 : Option Value) (st : List Value) (M : Mem) (Q : Outcome → Mem → Prop), Wp d 111 5 [l0, l1, some .null] st M Q = Wp d 111 6 [l0, l1, some .null] (.null :: st) M Q := fun d l0 l1 st M Q => wA (show ins 111 5 = some (.aload_n 2, 1) by decide +kernel) rfl
set_option maxRecDepth 100000 in
theorem r_111_6 : ∀ (d : Nat) (ls : Lc) (a : Nat) (st : List Value) (M : Mem) (Q : Outcome → Mem → Prop), (smallR st = true) → Wp d 111 6 ls (.ref a :: st) M Q = ((kO M a = 5 ∧ Ca d 111 6 ls 133 (.ref a :: []) st M Q) ∨ (kO M a = 6 ∧ Ca d 111 6 ls 139 (.ref a :: []) st M Q)) := fun d ls a st M Q h0 => w_virt2 (as := []) (show ins 111 6 = some (.invokevirtual 118, 3) by decide +kernel) (show mRes (mC 111) 118 = some (4, 7, [(5, 133), (6, 139)]) by decide +kernel) (by decide +kernel) rfl (by decide +kernel) (by decide +kernel) (by decide +kernel) (by decide +kernel) (by decide +kernel) h0
set_option maxRecDepth 100000 in
theorem r_111_9 : ∀ (d : Nat) (l0 l2 : Option Value) (v : Int32) (st : List Value) (M : Mem) (Q : Outcome → Mem → Prop), Wp d 111 9 [l0, some (.int v), l2] st M Q = Wp d 111 10 [l0, some (.int v), l2] (.int v :: st) M Q := fun d l0 l2 v st M Q => wA (show ins 111 9 = some (.iload_n 1, 1) by decide +kernel) rfl
set_option maxRecDepth 100000 in
theorem r_111_10 : ∀ (d : Nat) (ls : Lc) (a b : Int32) (st : List Value) (M : Mem) (Q : Outcome → Mem → Prop), Wp d 111 10 ls (.int b :: .int a :: st) M Q = Br (a ≤ b) d 111 33 13 ls st M Q := fun d ls a b st M Q => w_icmp (show ins 111 10 = some (.if_icmp .le 23, 3) by decide +kernel) rfl rfl
set_option maxRecDepth 100000 in
theorem r_111_13 : ∀ (d : Nat) (l0 l1 : Option Value) (v : Nat) (st : List Value) (M : Mem) (Q : Outcome → Mem → Prop), Wp d 111 13 [l0, l1, some (.ref v)] st M Q = Wp d 111 14 [l0, l1, some (.ref v)] (.ref v :: st) M Q := fun d l0 l1 v st M Q => wA (show ins 111 13 = some (.aload_n 2, 1) by decide +kernel) rfl
set_option maxRecDepth 100000 in
theorem r_111_13_1 : ∀ (d : Nat) (l0 l1 : Option Value) (st : List Value) (M : Mem) (Q : Outcome → Mem → Prop), Wp d 111 13 [l0, l1, some .null] st M Q = Wp d 111 14 [l0, l1, some .null] (.null :: st) M Q := fun d l0 l1 st M Q => wA (show ins 111 13 = some (.aload_n 2, 1) by decide +kernel) rfl
set_option maxRecDepth 100000 in
theorem r_111_14 : ∀ (d : Nat) (ls : Lc) (a : Nat) (st : List Value) (M : Mem) (Q : Outcome → Mem → Prop), Wp d 111 14 ls (.ref a :: st) M Q = ((kO M a = 5 ∨ kO M a = 6) ∧ Wp d 111 17 ls (.int (I (if kO M a = 6 then 1 else 0)) :: st) M Q) := fun d ls a st M Q => w_inst (show ins 111 14 = some (.instanceof 17, 3) by decide +kernel) (show cRes (mC 111) 17 = some 6 by decide +kernel)
set_option maxRecDepth 100000 in
theorem r_111_17 : ∀ (d : Nat) (ls : Lc) (a : Int32) (st : List Value) (M : Mem) (Q : Outcome → Mem → Prop), Wp d 111 17 ls (.int a :: st) M Q = Br (a = I 0) d 111 33 20 ls st M Q := fun d ls a st M Q => w_if (show ins 111 17 = some (.ifCond .eq 16, 3) by decide +kernel) rfl rfl
set_option maxRecDepth 100000 in
theorem r_111_20 : ∀ (d : Nat) (l0 l1 : Option Value) (v : Nat) (st : List Value) (M : Mem) (Q : Outcome → Mem → Prop), Wp d 111 20 [l0, l1, some (.ref v)] st M Q = Wp d 111 21 [l0, l1, some (.ref v)] (.ref v :: st) M Q := fun d l0 l1 v st M Q => wA (show ins 111 20 = some (.aload_n 2, 1) by decide +kernel) rfl
set_option maxRecDepth 100000 in
theorem r_111_20_1 : ∀ (d : Nat) (l0 l1 : Option Value) (st : List Value) (M : Mem) (Q : Outcome → Mem → Prop), Wp d 111 20 [l0, l1, some .null] st M Q = Wp d 111 21 [l0, l1, some .null] (.null :: st) M Q := fun d l0 l1 st M Q => wA (show ins 111 20 = some (.aload_n 2, 1) by decide +kernel) rfl
set_option maxRecDepth 100000 in
theorem r_111_21 : ∀ (d : Nat) (ls : Lc) (st : List Value) (M : Mem) (Q : Outcome → Mem → Prop), Wp d 111 21 ls (.null :: st) M Q = Wp d 111 24 ls (.null :: st) M Q := fun d ls st M Q => w_castN (show ins 111 21 = some (.checkcast 17, 3) by decide +kernel)
set_option maxRecDepth 100000 in
theorem r_111_21_1 : ∀ (d : Nat) (ls : Lc) (a : Nat) (st : List Value) (M : Mem) (Q : Outcome → Mem → Prop), Wp d 111 21 ls (.ref a :: st) M Q = (kO M a = 6 ∧ Wp d 111 24 ls (.ref a :: st) M Q) := fun d ls a st M Q => w_cast (show ins 111 21 = some (.checkcast 17, 3) by decide +kernel) (show cRes (mC 111) 17 = some 6 by decide +kernel) (by decide +kernel)
set_option maxRecDepth 100000 in
theorem r_111_24 : ∀ (d : Nat) (ls : Lc) (a : Nat) (st : List Value) (M : Mem) (Q : Outcome → Mem → Prop), Wp d 111 24 ls (.ref a :: st) M Q = (fk 39 (kO M a) = true ∧ Wp d 111 27 ls (va_rf (mR M 39 a) :: st) M Q) := fun d ls a st M Q => w_getR (show ins 111 24 = some (.getfield 70, 3) by decide +kernel) (show fRes (mC 111) 70 = some (39, 6, true) by decide +kernel) (by decide +kernel)
set_option maxRecDepth 100000 in
theorem r_111_27 : ∀ (d : Nat) (ls : Lc) (st : List Value) (M : Mem) (Q : Outcome → Mem → Prop), Wp d 111 27 ls st M Q = Wp d 111 28 ls (.int (I 0) :: st) M Q := fun d ls st M Q => w_iconst (show ins 111 27 = some (.iconst 0, 1) by decide +kernel)
set_option maxRecDepth 100000 in
theorem r_111_28 : ∀ (d : Nat) (ls : Lc) (a : Nat) (j : Int32) (st : List Value) (M : Mem) (Q : Outcome → Mem → Prop), Wp d 111 28 ls (.int j :: .ref a :: st) M Q = ((((kX M a).1 = 4 ∨ (kX M a).1 = 5 ∨ (kX M a).1 = 6 ∨ (kX M a).1 = 7) ∧ inB j (kX M a).2 = true) ∧ Wp d 111 29 ls (va_rf (mQ M a j.toNatClampNeg) :: st) M Q) := fun d ls a j st M Q => w_aaload (show ins 111 28 = some (.aaload, 1) by decide +kernel)
set_option maxRecDepth 100000 in
theorem r_111_29 : ∀ (d : Nat) (l0 l1 l2 : Option Value) (v : Nat) (st : List Value) (M : Mem) (Q : Outcome → Mem → Prop), (lo l1 = false) → Wp d 111 29 [l0, l1, l2] (.ref v :: st) M Q = Wp d 111 30 [l0, l1, some (.ref v)] st M Q := fun d l0 l1 l2 v st M Q hl => w_astore_n (show ins 111 29 = some (.astore_n 2, 1) by decide +kernel) (st1_S rfl rfl hl)
set_option maxRecDepth 100000 in
theorem r_111_29_1 : ∀ (d : Nat) (l0 l1 l2 : Option Value) (st : List Value) (M : Mem) (Q : Outcome → Mem → Prop), (lo l1 = false) → Wp d 111 29 [l0, l1, l2] (.null :: st) M Q = Wp d 111 30 [l0, l1, some (.null)] st M Q := fun d l0 l1 l2 st M Q hl => w_astoreN_n (show ins 111 29 = some (.astore_n 2, 1) by decide +kernel) (st1_S rfl rfl hl)
set_option maxRecDepth 100000 in
theorem r_111_30 : ∀ (d : Nat) (ls : Lc) (st : List Value) (M : Mem) (Q : Outcome → Mem → Prop), Wp d 111 30 ls st M Q = Wp d 111 5 ls st M Q := fun d ls st M Q => w_goto (show ins 111 30 = some (.goto (-25), 3) by decide +kernel) rfl
set_option maxRecDepth 100000 in
theorem r_111_33 : ∀ (d : Nat) (l0 l1 : Option Value) (v : Nat) (st : List Value) (M : Mem) (Q : Outcome → Mem → Prop), Wp d 111 33 [l0, l1, some (.ref v)] st M Q = Wp d 111 34 [l0, l1, some (.ref v)] (.ref v :: st) M Q := fun d l0 l1 v st M Q => wA (show ins 111 33 = some (.aload_n 2, 1) by decide +kernel) rfl
set_option maxRecDepth 100000 in
theorem r_111_33_1 : ∀ (d : Nat) (l0 l1 : Option Value) (st : List Value) (M : Mem) (Q : Outcome → Mem → Prop), Wp d 111 33 [l0, l1, some .null] st M Q = Wp d 111 34 [l0, l1, some .null] (.null :: st) M Q := fun d l0 l1 st M Q => wA (show ins 111 33 = some (.aload_n 2, 1) by decide +kernel) rfl
set_option maxRecDepth 100000 in
theorem r_111_34 : ∀ (d : Nat) (ls : Lc) (a : Nat) (st : List Value) (M : Mem) (Q : Outcome → Mem → Prop), (smallR st = true) → Wp d 111 34 ls (.ref a :: st) M Q = ((kO M a = 5 ∧ Ca d 111 34 ls 133 (.ref a :: []) st M Q) ∨ (kO M a = 6 ∧ Ca d 111 34 ls 139 (.ref a :: []) st M Q)) := fun d ls a st M Q h0 => w_virt2 (as := []) (show ins 111 34 = some (.invokevirtual 118, 3) by decide +kernel) (show mRes (mC 111) 118 = some (4, 7, [(5, 133), (6, 139)]) by decide +kernel) (by decide +kernel) rfl (by decide +kernel) (by decide +kernel) (by decide +kernel) (by decide +kernel) (by decide +kernel) h0
set_option maxRecDepth 100000 in
theorem r_111_37 : ∀ (d : Nat) (l0 l2 : Option Value) (v : Int32) (st : List Value) (M : Mem) (Q : Outcome → Mem → Prop), Wp d 111 37 [l0, some (.int v), l2] st M Q = Wp d 111 38 [l0, some (.int v), l2] (.int v :: st) M Q := fun d l0 l2 v st M Q => wA (show ins 111 37 = some (.iload_n 1, 1) by decide +kernel) rfl
set_option maxRecDepth 100000 in
theorem r_111_38 : ∀ (d : Nat) (ls : Lc) (a b : Int32) (st : List Value) (M : Mem) (Q : Outcome → Mem → Prop), Wp d 111 38 ls (.int b :: .int a :: st) M Q = Br (¬ a = b) d 111 45 41 ls st M Q := fun d ls a b st M Q => w_icmp (show ins 111 38 = some (.if_icmp .ne 7, 3) by decide +kernel) rfl rfl
set_option maxRecDepth 100000 in
theorem r_111_41 : ∀ (d : Nat) (l0 l1 : Option Value) (v : Nat) (st : List Value) (M : Mem) (Q : Outcome → Mem → Prop), Wp d 111 41 [l0, l1, some (.ref v)] st M Q = Wp d 111 42 [l0, l1, some (.ref v)] (.ref v :: st) M Q := fun d l0 l1 v st M Q => wA (show ins 111 41 = some (.aload_n 2, 1) by decide +kernel) rfl
set_option maxRecDepth 100000 in
theorem r_111_41_1 : ∀ (d : Nat) (l0 l1 : Option Value) (st : List Value) (M : Mem) (Q : Outcome → Mem → Prop), Wp d 111 41 [l0, l1, some .null] st M Q = Wp d 111 42 [l0, l1, some .null] (.null :: st) M Q := fun d l0 l1 st M Q => wA (show ins 111 41 = some (.aload_n 2, 1) by decide +kernel) rfl
set_option maxRecDepth 100000 in
theorem r_111_42 : ∀ (d : Nat) (ls : Lc) (st : List Value) (M : Mem) (Q : Outcome → Mem → Prop), Wp d 111 42 ls st M Q = Wp d 111 46 ls st M Q := fun d ls st M Q => w_goto (show ins 111 42 = some (.goto 4, 3) by decide +kernel) rfl
set_option maxRecDepth 100000 in
theorem r_111_45 : ∀ (d : Nat) (ls : Lc) (st : List Value) (M : Mem) (Q : Outcome → Mem → Prop), Wp d 111 45 ls st M Q = Wp d 111 46 ls (.null :: st) M Q := fun d ls st M Q => wA (show ins 111 45 = some (.aconst_null, 1) by decide +kernel) rfl
set_option maxRecDepth 100000 in
theorem r_111_46 : ∀ (d : Nat) (ls : Lc) (a : Nat) (M : Mem) (Q : Outcome → Mem → Prop), Wp d 111 46 ls [.ref a] M Q = Q (.returned (some (.ref a))) M := fun d ls a M Q => w_areturn (show ins 111 46 = some (.areturn, 1) by decide +kernel) (by decide +kernel)
set_option maxRecDepth 100000 in
theorem r_111_46_1 : ∀ (d : Nat) (ls : Lc) (M : Mem) (Q : Outcome → Mem → Prop), Wp d 111 46 ls [.null] M Q = Q (.returned (some .null)) M := fun d ls M Q => w_areturnN (show ins 111 46 = some (.areturn, 1) by decide +kernel) (by decide +kernel)
set_option maxRecDepth 100000 in
theorem w_111_5 : (type_of% r_111_5) ∧ (type_of% r_111_5_1) := ⟨r_111_5, r_111_5_1⟩
set_option maxRecDepth 100000 in
theorem W_111 : (type_of% r_111_0) ∧ (type_of% r_111_1) ∧ (type_of% r_111_4) ∧ (type_of% r_111_4_1) ∧ (type_of% r_111_6) ∧ (type_of% r_111_9) ∧ (type_of% r_111_10) ∧ (type_of% r_111_13) ∧ (type_of% r_111_13_1) ∧ (type_of% r_111_14) ∧ (type_of% r_111_17) ∧ (type_of% r_111_20) ∧ (type_of% r_111_20_1) ∧ (type_of% r_111_21) ∧ (type_of% r_111_21_1) ∧ (type_of% r_111_24) ∧ (type_of% r_111_27) ∧ (type_of% r_111_28) ∧ (type_of% r_111_29) ∧ (type_of% r_111_29_1) ∧ (type_of% r_111_30) ∧ (type_of% r_111_33) ∧ (type_of% r_111_33_1) ∧ (type_of% r_111_34) ∧ (type_of% r_111_37) ∧ (type_of% r_111_38) ∧ (type_of% r_111_41) ∧ (type_of% r_111_41_1) ∧ (type_of% r_111_42) ∧ (type_of% r_111_45) ∧ (type_of% r_111_46) ∧ (type_of% r_111_46_1) := ⟨r_111_0, r_111_1, r_111_4, r_111_4_1, r_111_6, r_111_9, r_111_10, r_111_13, r_111_13_1, r_111_14, r_111_17, r_111_20, r_111_20_1, r_111_21, r_111_21_1, r_111_24, r_111_27, r_111_28, r_111_29, r_111_29_1, r_111_30, r_111_33, r_111_33_1, r_111_34, r_111_37, r_111_38, r_111_41, r_111_41_1, r_111_42, r_111_45, r_111_46, r_111_46_1⟩
set_option maxRecDepth 100000 in
theorem ca_111 {d y pc : Nat} {ls : Lc} {a : Nat} {z0 : Int32} {r : List Value} {M : Mem} {Q : Outcome → Mem → Prop} (hd : 0 < d) (hw : Wp (d - 1) 111 0 [some (.ref a), some (.int z0), none] [] M (Cq d y pc ls r Q)) : Ca d y pc ls 111 [.ref a, .int z0] r M Q := ca_of (mq_get (by decide)) (by rfl) hd hw
