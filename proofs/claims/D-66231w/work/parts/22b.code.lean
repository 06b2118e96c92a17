/-! 30 PackedTree.on()V; loop heads [] -/
set_option maxRecDepth 100000 in
theorem r_30_0 : ∀ (d : Nat) (v : Nat) (st : List Value) (M : Mem) (Q : Outcome → Mem → Prop), Wp d 30 0 [some (.ref v)] st M Q = Wp d 30 1 [some (.ref v)] (.ref v :: st) M Q := fun d v st M Q => wA (show ins 30 0 = some (.aload_n 0, 1) by decide +kernel) rfl
set_option maxRecDepth 100000 in
theorem r_30_1 : ∀ (d : Nat) (ls : Lc) (a : Nat) (st : List Value) (M : Mem) (Q : Outcome → Mem → Prop), Wp d 30 1 ls (.ref a :: st) M Q = (fk 2 (kO M a) = true ∧ Wp d 30 4 ls (va_rf (mR M 2 a) :: st) M Q) := fun d ls a st M Q => w_getR (show ins 30 1 = some (.getfield 67, 3) by decide +kernel) (show fRes (mC 30) 67 = some (2, 1, false) by decide +kernel) (by decide +kernel)
set_option maxRecDepth 100000 in
theorem r_30_4 : ∀ (d : Nat) (ls : Lc) (a : Nat) (st : List Value) (M : Mem) (Q : Outcome → Mem → Prop), Wp d 30 4 ls (.ref a :: st) M Q = (fk 25 (kO M a) = true ∧ Wp d 30 7 ls (.int (mF M 25 a) :: st) M Q) := fun d ls a st M Q => w_getI (show ins 30 4 = some (.getfield 111, 3) by decide +kernel) (show fRes (mC 30) 111 = some (25, 4, true) by decide +kernel) (by decide +kernel)
set_option maxRecDepth 100000 in
theorem r_30_7 : ∀ (d : Nat) (ls : Lc) (a : Int32) (st : List Value) (M : Mem) (Q : Outcome → Mem → Prop), Wp d 30 7 ls (.int a :: st) M Q = Br (a = I 0) d 30 18 10 ls st M Q := fun d ls a st M Q => w_if (show ins 30 7 = some (.ifCond .eq 11, 3) by decide +kernel) rfl rfl
set_option maxRecDepth 100000 in
theorem r_30_10 : ∀ (d : Nat) (ls : Lc) (M : Mem) (Q : Outcome → Mem → Prop), Wp d 30 10 ls [] M Q = Q (.threw (mN M)) (nw M (.inl 11) 6) := fun d ls M Q => w_throw (show ins 30 10 = some (.new 115, 3) by decide +kernel) (by decide +kernel) (show ins 30 14 = some (.invokespecial 117, 3) by decide +kernel) (by decide +kernel) (show cRes (mC 30) 115 = some 11 by decide +kernel) (by decide +kernel) (by decide +kernel) (by decide +kernel)
set_option maxRecDepth 100000 in
theorem r_30_18 : ∀ (d : Nat) (ls : Lc) (M : Mem) (Q : Outcome → Mem → Prop), Wp d 30 18 ls [] M Q = Q (.returned none) M := fun d ls M Q => w_return (show ins 30 18 = some (.return_, 1) by decide +kernel) (by decide +kernel)
set_option maxRecDepth 100000 in
theorem W_30 : (type_of% r_30_0) ∧ (type_of% r_30_1) ∧ (type_of% r_30_4) ∧ (type_of% r_30_7) ∧ (type_of% r_30_10) ∧ (type_of% r_30_18) := ⟨r_30_0, r_30_1, r_30_4, r_30_7, r_30_10, r_30_18⟩
set_option maxRecDepth 100000 in
theorem ca_30 {d y pc : Nat} {ls : Lc} {a : Nat} {r : List Value} {M : Mem} {Q : Outcome → Mem → Prop} (hd : 0 < d) (hw : Wp (d - 1) 30 0 [some (.ref a)] [] M (Cq d y pc ls r Q)) : Ca d y pc ls 30 [.ref a] r M Q := ca_of (mq_get (by decide)) (by rfl) hd hw
/-! 31 PackedTree.isDirectory(I)Z; loop heads [] -/
set_option maxRecDepth 100000 in
theorem r_31_0 : ∀ (d : Nat) (l1 : Option Value) (v : Nat) (st : List Value) (M : Mem) (Q : Outcome → Mem → Prop), Wp d 31 0 [some (.ref v), l1] st M Q = Wp d 31 1 [some (.ref v), l1] (.ref v :: st) M Q := fun d l1 v st M Q => wA (show ins 31 0 = some (.aload_n 0, 1) by decide +kernel) rfl
set_option maxRecDepth 100000 in
theorem r_31_1 : ∀ (d : Nat) (l0 : Option Value) (v : Int32) (st : List Value) (M : Mem) (Q : Outcome → Mem → Prop), Wp d 31 1 [l0, some (.int v)] st M Q = Wp d 31 2 [l0, some (.int v)] (.int v :: st) M Q := fun d l0 v st M Q => wA (show ins 31 1 = some (.iload_n 1, 1) by decide +kernel) rfl
set_option maxRecDepth 100000 in
theorem r_31_2 : ∀ (d : Nat) (ls : Lc) (st : List Value) (M : Mem) (Q : Outcome → Mem → Prop), Wp d 31 2 ls st M Q = Wp d 31 3 ls (.int (I 0) :: st) M Q := fun d ls st M Q => w_iconst (show ins 31 2 = some (.iconst 0, 1) by decide +kernel)
set_option maxRecDepth 100000 in
theorem r_31_3 : ∀ (d : Nat) (ls : Lc) (v0 v1 : Value) (a : Nat) (st : List Value) (M : Mem) (Q : Outcome → Mem → Prop), (smallR st = true) → Wp d 31 3 ls (v1 :: v0 :: .ref a :: st) M Q = (kO M a = 1 ∧ Ca d 31 3 ls 32 (.ref a :: [v0, v1]) st M Q) := fun d ls v0 v1 a st M Q h0 => w_virt1 (as := [v0, v1]) (show ins 31 3 = some (.invokevirtual 181, 3) by decide +kernel) (show mRes (mC 31) 181 = some (3, 1, [(1, 32)]) by decide +kernel) (by decide +kernel) rfl (by decide +kernel) (by decide +kernel) h0
set_option maxRecDepth 100000 in
theorem r_31_6 : ∀ (d : Nat) (ls : Lc) (z : Int) (M : Mem) (Q : Outcome → Mem → Prop), (z = 0 ∨ z = 1) → Wp d 31 6 ls [.int (I z)] M Q = Q (.returned (some (.int (I z)))) M := fun d ls z M Q h0 => w_zretI (show ins 31 6 = some (.ireturn, 1) by decide +kernel) (by decide +kernel) h0
set_option maxRecDepth 100000 in
theorem r_31_6_1 : ∀ (d : Nat) (ls : Lc) (b : Bool) (M : Mem) (Q : Outcome → Mem → Prop), Wp d 31 6 ls [.int (I (bI b))] M Q = Q (.returned (some (.int (I (bI b))))) M := fun d ls b M Q => w_zretB (show ins 31 6 = some (.ireturn, 1) by decide +kernel) (by decide +kernel)
set_option maxRecDepth 100000 in
theorem W_31 : (type_of% r_31_0) ∧ (type_of% r_31_1) ∧ (type_of% r_31_2) ∧ (type_of% r_31_3) ∧ (type_of% r_31_6) ∧ (type_of% r_31_6_1) := ⟨r_31_0, r_31_1, r_31_2, r_31_3, r_31_6, r_31_6_1⟩
set_option maxRecDepth 100000 in
theorem ca_31 {d y pc : Nat} {ls : Lc} {a : Nat} {z0 : Int32} {r : List Value} {M : Mem} {Q : Outcome → Mem → Prop} (hd : 0 < d) (hw : Wp (d - 1) 31 0 [some (.ref a), some (.int z0)] [] M (Cq d y pc ls r Q)) : Ca d y pc ls 31 [.ref a, .int z0] r M Q := ca_of (mq_get (by decide)) (by rfl) hd hw
/-! 32 PackedTree.isKind(II)Z; loop heads [] -/
set_option maxRecDepth 100000 in
theorem r_32_0 : ∀ (d : Nat) (l1 l2 : Option Value) (v : Nat) (st : List Value) (M : Mem) (Q : Outcome → Mem → Prop), Wp d 32 0 [some (.ref v), l1, l2] st M Q = Wp d 32 1 [some (.ref v), l1, l2] (.ref v :: st) M Q := fun d l1 l2 v st M Q => wA (show ins 32 0 = some (.aload_n 0, 1) by decide +kernel) rfl
set_option maxRecDepth 100000 in
theorem r_32_1 : ∀ (d : Nat) (l0 l2 : Option Value) (v : Int32) (st : List Value) (M : Mem) (Q : Outcome → Mem → Prop), Wp d 32 1 [l0, some (.int v), l2] st M Q = Wp d 32 2 [l0, some (.int v), l2] (.int v :: st) M Q := fun d l0 l2 v st M Q => wA (show ins 32 1 = some (.iload_n 1, 1) by decide +kernel) rfl
set_option maxRecDepth 100000 in
theorem r_32_2 : ∀ (d : Nat) (ls : Lc) (v0 : Value) (a : Nat) (st : List Value) (M : Mem) (Q : Outcome → Mem → Prop), (smallR st = true) → Wp d 32 2 ls (v0 :: .ref a :: st) M Q = (kO M a = 1 ∧ Ca d 32 2 ls 33 (.ref a :: [v0]) st M Q) := fun d ls v0 a st M Q h0 => w_virt1 (as := [v0]) (show ins 32 2 = some (.invokevirtual 175, 3) by decide +kernel) (show mRes (mC 32) 175 = some (3, 1, [(1, 33)]) by decide +kernel) (by decide +kernel) rfl (by decide +kernel) (by decide +kernel) h0
set_option maxRecDepth 100000 in
theorem r_32_5 : ∀ (d : Nat) (ls : Lc) (a : Int32) (st : List Value) (M : Mem) (Q : Outcome → Mem → Prop), Wp d 32 5 ls (.int a :: st) M Q = Br (a = I 0) d 32 23 8 ls st M Q := fun d ls a st M Q => w_if (show ins 32 5 = some (.ifCond .eq 18, 3) by decide +kernel) rfl rfl
set_option maxRecDepth 100000 in
theorem r_32_8 : ∀ (d : Nat) (l1 l2 : Option Value) (v : Nat) (st : List Value) (M : Mem) (Q : Outcome → Mem → Prop), Wp d 32 8 [some (.ref v), l1, l2] st M Q = Wp d 32 9 [some (.ref v), l1, l2] (.ref v :: st) M Q := fun d l1 l2 v st M Q => wA (show ins 32 8 = some (.aload_n 0, 1) by decide +kernel) rfl
set_option maxRecDepth 100000 in
theorem r_32_9 : ∀ (d : Nat) (l0 l2 : Option Value) (v : Int32) (st : List Value) (M : Mem) (Q : Outcome → Mem → Prop), Wp d 32 9 [l0, some (.int v), l2] st M Q = Wp d 32 10 [l0, some (.int v), l2] (.int v :: st) M Q := fun d l0 l2 v st M Q => wA (show ins 32 9 = some (.iload_n 1, 1) by decide +kernel) rfl
set_option maxRecDepth 100000 in
theorem r_32_10 : ∀ (d : Nat) (ls : Lc) (st : List Value) (M : Mem) (Q : Outcome → Mem → Prop), Wp d 32 10 ls st M Q = Wp d 32 11 ls (.int (I 0) :: st) M Q := fun d ls st M Q => w_iconst (show ins 32 10 = some (.iconst 0, 1) by decide +kernel)
set_option maxRecDepth 100000 in
theorem r_32_11 : ∀ (d : Nat) (ls : Lc) (st : List Value) (M : Mem) (Q : Outcome → Mem → Prop), Wp d 32 11 ls st M Q = Wp d 32 12 ls (.int (I 1) :: st) M Q := fun d ls st M Q => w_iconst (show ins 32 11 = some (.iconst 1, 1) by decide +kernel)
set_option maxRecDepth 100000 in
theorem r_32_12 : ∀ (d : Nat) (ls : Lc) (v0 v1 v2 : Value) (a : Nat) (st : List Value) (M : Mem) (Q : Outcome → Mem → Prop), (smallR st = true) → Wp d 32 12 ls (v2 :: v1 :: v0 :: .ref a :: st) M Q = (kO M a = 1 ∧ Ca d 32 12 ls 34 (.ref a :: [v0, v1, v2]) st M Q) := fun d ls v0 v1 v2 a st M Q h0 => w_virt1 (as := [v0, v1, v2]) (show ins 32 12 = some (.invokevirtual 178, 3) by decide +kernel) (show mRes (mC 32) 178 = some (3, 1, [(1, 34)]) by decide +kernel) (by decide +kernel) rfl (by decide +kernel) (by decide +kernel) h0
set_option maxRecDepth 100000 in
theorem r_32_15 : ∀ (d : Nat) (l0 l1 : Option Value) (v : Int32) (st : List Value) (M : Mem) (Q : Outcome → Mem → Prop), Wp d 32 15 [l0, l1, some (.int v)] st M Q = Wp d 32 16 [l0, l1, some (.int v)] (.int v :: st) M Q := fun d l0 l1 v st M Q => wA (show ins 32 15 = some (.iload_n 2, 1) by decide +kernel) rfl
set_option maxRecDepth 100000 in
theorem r_32_16 : ∀ (d : Nat) (ls : Lc) (a b : Int32) (st : List Value) (M : Mem) (Q : Outcome → Mem → Prop), Wp d 32 16 ls (.int b :: .int a :: st) M Q = Br (¬ a = b) d 32 23 19 ls st M Q := fun d ls a b st M Q => w_icmp (show ins 32 16 = some (.if_icmp .ne 7, 3) by decide +kernel) rfl rfl
set_option maxRecDepth 100000 in
theorem r_32_19 : ∀ (d : Nat) (ls : Lc) (st : List Value) (M : Mem) (Q : Outcome → Mem → Prop), Wp d 32 19 ls st M Q = Wp d 32 20 ls (.int (I 1) :: st) M Q := fun d ls st M Q => w_iconst (show ins 32 19 = some (.iconst 1, 1) by decide +kernel)
set_option maxRecDepth 100000 in
theorem r_32_20 : ∀ (d : Nat) (ls : Lc) (st : List Value) (M : Mem) (Q : Outcome → Mem → Prop), Wp d 32 20 ls st M Q = Wp d 32 24 ls st M Q := fun d ls st M Q => w_goto (show ins 32 20 = some (.goto 4, 3) by decide +kernel) rfl
set_option maxRecDepth 100000 in
theorem r_32_23 : ∀ (d : Nat) (ls : Lc) (st : List Value) (M : Mem) (Q : Outcome → Mem → Prop), Wp d 32 23 ls st M Q = Wp d 32 24 ls (.int (I 0) :: st) M Q := fun d ls st M Q => w_iconst (show ins 32 23 = some (.iconst 0, 1) by decide +kernel)
set_option maxRecDepth 100000 in
theorem r_32_24 : ∀ (d : Nat) (ls : Lc) (z : Int) (M : Mem) (Q : Outcome → Mem → Prop), (z = 0 ∨ z = 1) → Wp d 32 24 ls [.int (I z)] M Q = Q (.returned (some (.int (I z)))) M := fun d ls z M Q h0 => w_zretI (show ins 32 24 = some (.ireturn, 1) by decide +kernel) (by decide +kernel) h0
set_option maxRecDepth 100000 in
theorem r_32_24_1 : ∀ (d : Nat) (ls : Lc) (b : Bool) (M : Mem) (Q : Outcome → Mem → Prop), Wp d 32 24 ls [.int (I (bI b))] M Q = Q (.returned (some (.int (I (bI b))))) M := fun d ls b M Q => w_zretB (show ins 32 24 = some (.ireturn, 1) by decide +kernel) (by decide +kernel)
set_option maxRecDepth 100000 in
theorem W_32 : (type_of% r_32_0) ∧ (type_of% r_32_1) ∧ (type_of% r_32_2) ∧ (type_of% r_32_5) ∧ (type_of% r_32_8) ∧ (type_of% r_32_9) ∧ (type_of% r_32_10) ∧ (type_of% r_32_11) ∧ (type_of% r_32_12) ∧ (type_of% r_32_15) ∧ (type_of% r_32_16) ∧ (type_of% r_32_19) ∧ (type_of% r_32_20) ∧ (type_of% r_32_23) ∧ (type_of% r_32_24) ∧ (type_of% r_32_24_1) := ⟨r_32_0, r_32_1, r_32_2, r_32_5, r_32_8, r_32_9, r_32_10, r_32_11, r_32_12, r_32_15, r_32_16, r_32_19, r_32_20, r_32_23, r_32_24, r_32_24_1⟩
set_option maxRecDepth 100000 in
theorem ca_32 {d y pc : Nat} {ls : Lc} {a : Nat} {z0 : Int32} {z1 : Int32} {r : List Value} {M : Mem} {Q : Outcome → Mem → Prop} (hd : 0 < d) (hw : Wp (d - 1) 32 0 [some (.ref a), some (.int z0), some (.int z1)] [] M (Cq d y pc ls r Q)) : Ca d y pc ls 32 [.ref a, .int z0, .int z1] r M Q := ca_of (mq_get (by decide)) (by rfl) hd hw
/-! 33 PackedTree.isObject(I)Z; loop heads [] -/
set_option maxRecDepth 100000 in
theorem r_33_0 : ∀ (d : Nat) (l0 : Option Value) (v : Int32) (st : List Value) (M : Mem) (Q : Outcome → Mem → Prop), Wp d 33 0 [l0, some (.int v)] st M Q = Wp d 33 1 [l0, some (.int v)] (.int v :: st) M Q := fun d l0 v st M Q => wA (show ins 33 0 = some (.iload_n 1, 1) by decide +kernel) rfl
set_option maxRecDepth 100000 in
theorem r_33_1 : ∀ (d : Nat) (ls : Lc) (st : List Value) (M : Mem) (Q : Outcome → Mem → Prop), Wp d 33 1 ls st M Q = Wp d 33 2 ls (.int (I 1) :: st) M Q := fun d ls st M Q => w_iconst (show ins 33 1 = some (.iconst 1, 1) by decide +kernel)
set_option maxRecDepth 100000 in
theorem r_33_2 : ∀ (d : Nat) (ls : Lc) (a b : Int32) (st : List Value) (M : Mem) (Q : Outcome → Mem → Prop), Wp d 33 2 ls (.int b :: .int a :: st) M Q = Br (a < b) d 33 31 5 ls st M Q := fun d ls a b st M Q => w_icmp (show ins 33 2 = some (.if_icmp .lt 29, 3) by decide +kernel) rfl rfl
set_option maxRecDepth 100000 in
theorem r_33_5 : ∀ (d : Nat) (l0 : Option Value) (v : Int32) (st : List Value) (M : Mem) (Q : Outcome → Mem → Prop), Wp d 33 5 [l0, some (.int v)] st M Q = Wp d 33 6 [l0, some (.int v)] (.int v :: st) M Q := fun d l0 v st M Q => wA (show ins 33 5 = some (.iload_n 1, 1) by decide +kernel) rfl
set_option maxRecDepth 100000 in
theorem r_33_6 : ∀ (d : Nat) (ls : Lc) (st : List Value) (M : Mem) (Q : Outcome → Mem → Prop), Wp d 33 6 ls st M Q = Wp d 33 8 ls (.int (I 60) :: st) M Q := fun d ls st M Q => w_bipush (show ins 33 6 = some (.bipush 60, 2) by decide +kernel) (by decide)
set_option maxRecDepth 100000 in
theorem r_33_8 : ∀ (d : Nat) (ls : Lc) (a b : Int32) (st : List Value) (M : Mem) (Q : Outcome → Mem → Prop), Wp d 33 8 ls (.int b :: .int a :: st) M Q = Br (b < a) d 33 31 11 ls st M Q := fun d ls a b st M Q => w_icmp (show ins 33 8 = some (.if_icmp .gt 23, 3) by decide +kernel) rfl rfl
set_option maxRecDepth 100000 in
theorem r_33_11 : ∀ (d : Nat) (l1 : Option Value) (v : Nat) (st : List Value) (M : Mem) (Q : Outcome → Mem → Prop), Wp d 33 11 [some (.ref v), l1] st M Q = Wp d 33 12 [some (.ref v), l1] (.ref v :: st) M Q := fun d l1 v st M Q => wA (show ins 33 11 = some (.aload_n 0, 1) by decide +kernel) rfl
set_option maxRecDepth 100000 in
theorem r_33_12 : ∀ (d : Nat) (ls : Lc) (a : Nat) (st : List Value) (M : Mem) (Q : Outcome → Mem → Prop), Wp d 33 12 ls (.ref a :: st) M Q = (fk 9 (kO M a) = true ∧ Wp d 33 15 ls (va_rf (mR M 9 a) :: st) M Q) := fun d ls a st M Q => w_getR (show ins 33 12 = some (.getfield 58, 3) by decide +kernel) (show fRes (mC 33) 58 = some (9, 1, false) by decide +kernel) (by decide +kernel)
set_option maxRecDepth 100000 in
theorem r_33_15 : ∀ (d : Nat) (l0 : Option Value) (v : Int32) (st : List Value) (M : Mem) (Q : Outcome → Mem → Prop), Wp d 33 15 [l0, some (.int v)] st M Q = Wp d 33 16 [l0, some (.int v)] (.int v :: st) M Q := fun d l0 v st M Q => wA (show ins 33 15 = some (.iload_n 1, 1) by decide +kernel) rfl
set_option maxRecDepth 100000 in
theorem r_33_16 : ∀ (d : Nat) (ls : Lc) (st : List Value) (M : Mem) (Q : Outcome → Mem → Prop), Wp d 33 16 ls st M Q = Wp d 33 17 ls (.int (I 0) :: st) M Q := fun d ls st M Q => w_iconst (show ins 33 16 = some (.iconst 0, 1) by decide +kernel)
set_option maxRecDepth 100000 in
theorem r_33_17 : ∀ (d : Nat) (ls : Lc) (st : List Value) (M : Mem) (Q : Outcome → Mem → Prop), Wp d 33 17 ls st M Q = Wp d 33 18 ls (.int (I 0) :: st) M Q := fun d ls st M Q => w_iconst (show ins 33 17 = some (.iconst 0, 1) by decide +kernel)
set_option maxRecDepth 100000 in
theorem r_33_18 : ∀ (d : Nat) (ls : Lc) (v0 v1 v2 : Value)  (st : List Value) (M : Mem) (Q : Outcome → Mem → Prop), (smallR st = true) → Wp d 33 18 ls (v2 :: v1 :: v0 :: st) M Q = Ca d 33 18 ls 24 [v0, v1, v2] st M Q := fun d ls v0 v1 v2 st M Q h0 => w_stat (as := [v0, v1, v2]) (show ins 33 18 = some (.invokestatic 82, 3) by decide +kernel) (show mRes (mC 33) 82 = some (0, 1, [(0, 24)]) by decide +kernel) (by decide +kernel) (by decide +kernel) rfl h0
set_option maxRecDepth 100000 in
theorem r_33_21 : ∀ (d : Nat) (ls : Lc) (v0 : Value) (a : Nat) (st : List Value) (M : Mem) (Q : Outcome → Mem → Prop), (smallR st = true) → Wp d 33 21 ls (v0 :: .ref a :: st) M Q = (kO M a = 3 ∧ Ca d 33 21 ls 98 (.ref a :: [v0]) st M Q) := fun d ls v0 a st M Q h0 => w_virt1 (as := [v0]) (show ins 33 21 = some (.invokevirtual 151, 3) by decide +kernel) (show mRes (mC 33) 151 = some (3, 3, [(3, 98)]) by decide +kernel) (by decide +kernel) rfl (by decide +kernel) (by decide +kernel) h0
set_option maxRecDepth 100000 in
theorem r_33_24 : ∀ (d : Nat) (ls : Lc) (a : Int32) (st : List Value) (M : Mem) (Q : Outcome → Mem → Prop), Wp d 33 24 ls (.int a :: st) M Q = Br (a = I 0) d 33 31 27 ls st M Q := fun d ls a st M Q => w_if (show ins 33 24 = some (.ifCond .eq 7, 3) by decide +kernel) rfl rfl
set_option maxRecDepth 100000 in
theorem r_33_27 : ∀ (d : Nat) (ls : Lc) (st : List Value) (M : Mem) (Q : Outcome → Mem → Prop), Wp d 33 27 ls st M Q = Wp d 33 28 ls (.int (I 1) :: st) M Q := fun d ls st M Q => w_iconst (show ins 33 27 = some (.iconst 1, 1) by decide +kernel)
set_option maxRecDepth 100000 in
theorem r_33_28 : ∀ (d : Nat) (ls : Lc) (st : List Value) (M : Mem) (Q : Outcome → Mem → Prop), Wp d 33 28 ls st M Q = Wp d 33 32 ls st M Q := fun d ls st M Q => w_goto (show ins 33 28 = some (.goto 4, 3) by decide +kernel) rfl
set_option maxRecDepth 100000 in
theorem r_33_31 : ∀ (d : Nat) (ls : Lc) (st : List Value) (M : Mem) (Q : Outcome → Mem → Prop), Wp d 33 31 ls st M Q = Wp d 33 32 ls (.int (I 0) :: st) M Q := fun d ls st M Q => w_iconst (show ins 33 31 = some (.iconst 0, 1) by decide +kernel)
set_option maxRecDepth 100000 in
theorem r_33_32 : ∀ (d : Nat) (ls : Lc) (z : Int) (M : Mem) (Q : Outcome → Mem → Prop), (z = 0 ∨ z = 1) → Wp d 33 32 ls [.int (I z)] M Q = Q (.returned (some (.int (I z)))) M := fun d ls z M Q h0 => w_zretI (show ins 33 32 = some (.ireturn, 1) by decide +kernel) (by decide +kernel) h0
set_option maxRecDepth 100000 in
theorem r_33_32_1 : ∀ (d : Nat) (ls : Lc) (b : Bool) (M : Mem) (Q : Outcome → Mem → Prop), Wp d 33 32 ls [.int (I (bI b))] M Q = Q (.returned (some (.int (I (bI b))))) M := fun d ls b M Q => w_zretB (show ins 33 32 = some (.ireturn, 1) by decide +kernel) (by decide +kernel)
set_option maxRecDepth 100000 in
theorem W_33 : (type_of% r_33_0) ∧ (type_of% r_33_1) ∧ (type_of% r_33_2) ∧ (type_of% r_33_5) ∧ (type_of% r_33_6) ∧ (type_of% r_33_8) ∧ (type_of% r_33_11) ∧ (type_of% r_33_12) ∧ (type_of% r_33_15) ∧ (type_of% r_33_16) ∧ (type_of% r_33_17) ∧ (type_of% r_33_18) ∧ (type_of% r_33_21) ∧ (type_of% r_33_24) ∧ (type_of% r_33_27) ∧ (type_of% r_33_28) ∧ (type_of% r_33_31) ∧ (type_of% r_33_32) ∧ (type_of% r_33_32_1) := ⟨r_33_0, r_33_1, r_33_2, r_33_5, r_33_6, r_33_8, r_33_11, r_33_12, r_33_15, r_33_16, r_33_17, r_33_18, r_33_21, r_33_24, r_33_27, r_33_28, r_33_31, r_33_32, r_33_32_1⟩
set_option maxRecDepth 100000 in
theorem ca_33 {d y pc : Nat} {ls : Lc} {a : Nat} {z0 : Int32} {r : List Value} {M : Mem} {Q : Outcome → Mem → Prop} (hd : 0 < d) (hw : Wp (d - 1) 33 0 [some (.ref a), some (.int z0)] [] M (Cq d y pc ls r Q)) : Ca d y pc ls 33 [.ref a, .int z0] r M Q := ca_of (mq_get (by decide)) (by rfl) hd hw
/-! 34 PackedTree.stat(III)I; loop heads [] -/
set_option maxRecDepth 100000 in
theorem r_34_0 : ∀ (d : Nat) (l1 l2 l3 l4 : Option Value) (v : Nat) (st : List Value) (M : Mem) (Q : Outcome → Mem → Prop), Wp d 34 0 [some (.ref v), l1, l2, l3, l4] st M Q = Wp d 34 1 [some (.ref v), l1, l2, l3, l4] (.ref v :: st) M Q := fun d l1 l2 l3 l4 v st M Q => wA (show ins 34 0 = some (.aload_n 0, 1) by decide +kernel) rfl
set_option maxRecDepth 100000 in
theorem r_34_1 : ∀ (d : Nat) (ls : Lc) (a : Nat) (st : List Value) (M : Mem) (Q : Outcome → Mem → Prop), Wp d 34 1 ls (.ref a :: st) M Q = (fk 9 (kO M a) = true ∧ Wp d 34 4 ls (va_rf (mR M 9 a) :: st) M Q) := fun d ls a st M Q => w_getR (show ins 34 1 = some (.getfield 58, 3) by decide +kernel) (show fRes (mC 34) 58 = some (9, 1, false) by decide +kernel) (by decide +kernel)
set_option maxRecDepth 100000 in
theorem r_34_4 : ∀ (d : Nat) (l0 l2 l3 l4 : Option Value) (v : Int32) (st : List Value) (M : Mem) (Q : Outcome → Mem → Prop), Wp d 34 4 [l0, some (.int v), l2, l3, l4] st M Q = Wp d 34 5 [l0, some (.int v), l2, l3, l4] (.int v :: st) M Q := fun d l0 l2 l3 l4 v st M Q => wA (show ins 34 4 = some (.iload_n 1, 1) by decide +kernel) rfl
set_option maxRecDepth 100000 in
theorem r_34_5 : ∀ (d : Nat) (ls : Lc) (st : List Value) (M : Mem) (Q : Outcome → Mem → Prop), Wp d 34 5 ls st M Q = Wp d 34 6 ls (.int (I 0) :: st) M Q := fun d ls st M Q => w_iconst (show ins 34 5 = some (.iconst 0, 1) by decide +kernel)
set_option maxRecDepth 100000 in
theorem r_34_6 : ∀ (d : Nat) (ls : Lc) (st : List Value) (M : Mem) (Q : Outcome → Mem → Prop), Wp d 34 6 ls st M Q = Wp d 34 7 ls (.int (I 0) :: st) M Q := fun d ls st M Q => w_iconst (show ins 34 6 = some (.iconst 0, 1) by decide +kernel)
set_option maxRecDepth 100000 in
theorem r_34_7 : ∀ (d : Nat) (ls : Lc) (v0 v1 v2 : Value)  (st : List Value) (M : Mem) (Q : Outcome → Mem → Prop), (smallR st = true) → Wp d 34 7 ls (v2 :: v1 :: v0 :: st) M Q = Ca d 34 7 ls 24 [v0, v1, v2] st M Q := fun d ls v0 v1 v2 st M Q h0 => w_stat (as := [v0, v1, v2]) (show ins 34 7 = some (.invokestatic 82, 3) by decide +kernel) (show mRes (mC 34) 82 = some (0, 1, [(0, 24)]) by decide +kernel) (by decide +kernel) (by decide +kernel) rfl h0
set_option maxRecDepth 100000 in
theorem r_34_10 : ∀ (d : Nat) (ls : Lc) (v0 : Value) (a : Nat) (st : List Value) (M : Mem) (Q : Outcome → Mem → Prop), (smallR st = true) → Wp d 34 10 ls (v0 :: .ref a :: st) M Q = (kO M a = 3 ∧ Ca d 34 10 ls 98 (.ref a :: [v0]) st M Q) := fun d ls v0 a st M Q h0 => w_virt1 (as := [v0]) (show ins 34 10 = some (.invokevirtual 151, 3) by decide +kernel) (show mRes (mC 34) 151 = some (3, 3, [(3, 98)]) by decide +kernel) (by decide +kernel) rfl (by decide +kernel) (by decide +kernel) h0
set_option maxRecDepth 100000 in
theorem r_34_13 : ∀ (d : Nat) (l0 l1 l2 l3 l4 : Option Value) (v : Int32) (st : List Value) (M : Mem) (Q : Outcome → Mem → Prop), (lo l3 = false) → Wp d 34 13 [l0, l1, l2, l3, l4] (.int v :: st) M Q = Wp d 34 15 [l0, l1, l2, l3, some (.int v)] st M Q := fun d l0 l1 l2 l3 l4 v st M Q hl => w_istore (show ins 34 13 = some (.istore 4, 2) by decide +kernel) (st1_S rfl rfl hl)
set_option maxRecDepth 100000 in
theorem r_34_15 : ∀ (d : Nat) (l1 l2 l3 l4 : Option Value) (v : Nat) (st : List Value) (M : Mem) (Q : Outcome → Mem → Prop), Wp d 34 15 [some (.ref v), l1, l2, l3, l4] st M Q = Wp d 34 16 [some (.ref v), l1, l2, l3, l4] (.ref v :: st) M Q := fun d l1 l2 l3 l4 v st M Q => wA (show ins 34 15 = some (.aload_n 0, 1) by decide +kernel) rfl
set_option maxRecDepth 100000 in
theorem r_34_16 : ∀ (d : Nat) (ls : Lc) (a : Nat) (st : List Value) (M : Mem) (Q : Outcome → Mem → Prop), Wp d 34 16 ls (.ref a :: st) M Q = (fk 9 (kO M a) = true ∧ Wp d 34 19 ls (va_rf (mR M 9 a) :: st) M Q) := fun d ls a st M Q => w_getR (show ins 34 16 = some (.getfield 58, 3) by decide +kernel) (show fRes (mC 34) 58 = some (9, 1, false) by decide +kernel) (by decide +kernel)
set_option maxRecDepth 100000 in
theorem r_34_19 : ∀ (d : Nat) (ls : Lc) (a : Nat) (st : List Value) (M : Mem) (Q : Outcome → Mem → Prop), Wp d 34 19 ls (.ref a :: st) M Q = (fk 14 (kO M a) = true ∧ Wp d 34 22 ls (va_rf (mR M 14 a) :: st) M Q) := fun d ls a st M Q => w_getR (show ins 34 19 = some (.getfield 155, 3) by decide +kernel) (show fRes (mC 34) 155 = some (14, 3, true) by decide +kernel) (by decide +kernel)
set_option maxRecDepth 100000 in
theorem r_34_22 : ∀ (d : Nat) (ls : Lc) (a : Nat) (st : List Value) (M : Mem) (Q : Outcome → Mem → Prop), Wp d 34 22 ls (.ref a :: st) M Q = (fk 35 (kO M a) = true ∧ Wp d 34 25 ls (va_rf (mR M 35 a) :: st) M Q) := fun d ls a st M Q => w_getR (show ins 34 22 = some (.getfield 159, 3) by decide +kernel) (show fRes (mC 34) 159 = some (35, 5, true) by decide +kernel) (by decide +kernel)
set_option maxRecDepth 100000 in
theorem r_34_25 : ∀ (d : Nat) (l1 l2 l3 l4 : Option Value) (v : Nat) (st : List Value) (M : Mem) (Q : Outcome → Mem → Prop), Wp d 34 25 [some (.ref v), l1, l2, l3, l4] st M Q = Wp d 34 26 [some (.ref v), l1, l2, l3, l4] (.ref v :: st) M Q := fun d l1 l2 l3 l4 v st M Q => wA (show ins 34 25 = some (.aload_n 0, 1) by decide +kernel) rfl
set_option maxRecDepth 100000 in
theorem r_34_26 : ∀ (d : Nat) (ls : Lc) (a : Nat) (st : List Value) (M : Mem) (Q : Outcome → Mem → Prop), Wp d 34 26 ls (.ref a :: st) M Q = (fk 9 (kO M a) = true ∧ Wp d 34 29 ls (va_rf (mR M 9 a) :: st) M Q) := fun d ls a st M Q => w_getR (show ins 34 26 = some (.getfield 58, 3) by decide +kernel) (show fRes (mC 34) 58 = some (9, 1, false) by decide +kernel) (by decide +kernel)
set_option maxRecDepth 100000 in
theorem r_34_29 : ∀ (d : Nat) (ls : Lc) (a : Nat) (st : List Value) (M : Mem) (Q : Outcome → Mem → Prop), Wp d 34 29 ls (.ref a :: st) M Q = (fk 14 (kO M a) = true ∧ Wp d 34 32 ls (va_rf (mR M 14 a) :: st) M Q) := fun d ls a st M Q => w_getR (show ins 34 29 = some (.getfield 155, 3) by decide +kernel) (show fRes (mC 34) 155 = some (14, 3, true) by decide +kernel) (by decide +kernel)
set_option maxRecDepth 100000 in
theorem r_34_32 : ∀ (d : Nat) (l1 l2 l3 l4 : Option Value) (v : Nat) (st : List Value) (M : Mem) (Q : Outcome → Mem → Prop), Wp d 34 32 [some (.ref v), l1, l2, l3, l4] st M Q = Wp d 34 33 [some (.ref v), l1, l2, l3, l4] (.ref v :: st) M Q := fun d l1 l2 l3 l4 v st M Q => wA (show ins 34 32 = some (.aload_n 0, 1) by decide +kernel) rfl
set_option maxRecDepth 100000 in
theorem r_34_33 : ∀ (d : Nat) (ls : Lc) (a : Nat) (st : List Value) (M : Mem) (Q : Outcome → Mem → Prop), Wp d 34 33 ls (.ref a :: st) M Q = (fk 9 (kO M a) = true ∧ Wp d 34 36 ls (va_rf (mR M 9 a) :: st) M Q) := fun d ls a st M Q => w_getR (show ins 34 33 = some (.getfield 58, 3) by decide +kernel) (show fRes (mC 34) 58 = some (9, 1, false) by decide +kernel) (by decide +kernel)
set_option maxRecDepth 100000 in
theorem r_34_36 : ∀ (d : Nat) (ls : Lc) (a : Nat) (st : List Value) (M : Mem) (Q : Outcome → Mem → Prop), Wp d 34 36 ls (.ref a :: st) M Q = (fk 16 (kO M a) = true ∧ Wp d 34 39 ls (.int (mF M 16 a) :: st) M Q) := fun d ls a st M Q => w_getI (show ins 34 36 = some (.getfield 164, 3) by decide +kernel) (show fRes (mC 34) 164 = some (16, 3, true) by decide +kernel) (by decide +kernel)
set_option maxRecDepth 100000 in
theorem r_34_39 : ∀ (d : Nat) (ls : Lc) (v0 : Value) (a : Nat) (st : List Value) (M : Mem) (Q : Outcome → Mem → Prop), (smallR st = true) → Wp d 34 39 ls (v0 :: .ref a :: st) M Q = (kO M a = 5 ∧ Ca d 34 39 ls 126 (.ref a :: [v0]) st M Q) := fun d ls v0 a st M Q h0 => w_virt1 (as := [v0]) (show ins 34 39 = some (.invokevirtual 167, 3) by decide +kernel) (show mRes (mC 34) 167 = some (3, 5, [(5, 126)]) by decide +kernel) (by decide +kernel) rfl (by decide +kernel) (by decide +kernel) h0
set_option maxRecDepth 100000 in
theorem r_34_42 : ∀ (d : Nat) (l0 l1 l3 l4 : Option Value) (v : Int32) (st : List Value) (M : Mem) (Q : Outcome → Mem → Prop), Wp d 34 42 [l0, l1, some (.int v), l3, l4] st M Q = Wp d 34 43 [l0, l1, some (.int v), l3, l4] (.int v :: st) M Q := fun d l0 l1 l3 l4 v st M Q => wA (show ins 34 42 = some (.iload_n 2, 1) by decide +kernel) rfl
set_option maxRecDepth 100000 in
theorem r_34_43 : ∀ (d : Nat) (ls : Lc) (a b : Int) (st : List Value) (M : Mem) (Q : Outcome → Mem → Prop), Wp d 34 43 ls (.int (I b) :: .int (I a) :: st) M Q = Wp d 34 44 ls (.int (I (a + b)) :: st) M Q := fun d ls a b st M Q => w_iadd (show ins 34 43 = some (.iadd, 1) by decide +kernel)
set_option maxRecDepth 100000 in
theorem r_34_44 : ∀ (d : Nat) (l0 l1 l2 l4 : Option Value) (v : Int32) (st : List Value) (M : Mem) (Q : Outcome → Mem → Prop), Wp d 34 44 [l0, l1, l2, some (.int v), l4] st M Q = Wp d 34 45 [l0, l1, l2, some (.int v), l4] (.int v :: st) M Q := fun d l0 l1 l2 l4 v st M Q => wA (show ins 34 44 = some (.iload_n 3, 1) by decide +kernel) rfl
set_option maxRecDepth 100000 in
theorem r_34_45 : ∀ (d : Nat) (ls : Lc) (v0 v1 v2 : Value)  (st : List Value) (M : Mem) (Q : Outcome → Mem → Prop), (smallR st = true) → Wp d 34 45 ls (v2 :: v1 :: v0 :: st) M Q = Ca d 34 45 ls 35 [v0, v1, v2] st M Q := fun d ls v0 v1 v2 st M Q h0 => w_stat (as := [v0, v1, v2]) (show ins 34 45 = some (.invokestatic 171, 3) by decide +kernel) (show mRes (mC 34) 171 = some (0, 1, [(0, 35)]) by decide +kernel) (by decide +kernel) (by decide +kernel) rfl h0
set_option maxRecDepth 100000 in
theorem r_34_48 : ∀ (d : Nat) (ls : Lc) (v : Int32) (M : Mem) (Q : Outcome → Mem → Prop), Wp d 34 48 ls [.int v] M Q = Q (.returned (some (.int v))) M := fun d ls v M Q => w_ireturn (show ins 34 48 = some (.ireturn, 1) by decide +kernel) (by decide +kernel)
set_option maxRecDepth 100000 in
theorem W_34 : (type_of% r_34_0) ∧ (type_of% r_34_1) ∧ (type_of% r_34_4) ∧ (type_of% r_34_5) ∧ (type_of% r_34_6) ∧ (type_of% r_34_7) ∧ (type_of% r_34_10) ∧ (type_of% r_34_13) ∧ (type_of% r_34_15) ∧ (type_of% r_34_16) ∧ (type_of% r_34_19) ∧ (type_of% r_34_22) ∧ (type_of% r_34_25) ∧ (type_of% r_34_26) ∧ (type_of% r_34_29) ∧ (type_of% r_34_32) ∧ (type_of% r_34_33) ∧ (type_of% r_34_36) ∧ (type_of% r_34_39) ∧ (type_of% r_34_42) ∧ (type_of% r_34_43) ∧ (type_of% r_34_44) ∧ (type_of% r_34_45) ∧ (type_of% r_34_48) := ⟨r_34_0, r_34_1, r_34_4, r_34_5, r_34_6, r_34_7, r_34_10, r_34_13, r_34_15, r_34_16, r_34_19, r_34_22, r_34_25, r_34_26, r_34_29, r_34_32, r_34_33, r_34_36, r_34_39, r_34_42, r_34_43, r_34_44, r_34_45, r_34_48⟩
set_option maxRecDepth 100000 in
theorem ca_34 {d y pc : Nat} {ls : Lc} {a : Nat} {z0 : Int32} {z1 : Int32} {z2 : Int32} {r : List Value} {M : Mem} {Q : Outcome → Mem → Prop} (hd : 0 < d) (hw : Wp (d - 1) 34 0 [some (.ref a), some (.int z0), some (.int z1), some (.int z2), none] [] M (Cq d y pc ls r Q)) : Ca d y pc ls 34 [.ref a, .int z0, .int z1, .int z2] r M Q := ca_of (mq_get (by decide)) (by rfl) hd hw
/-! 35 PackedTree.numberOf([BII)I; loop heads [5] -/
set_option maxRecDepth 100000 in
theorem r_35_0 : ∀ (d : Nat) (ls : Lc) (st : List Value) (M : Mem) (Q : Outcome → Mem → Prop), Wp d 35 0 ls st M Q = Wp d 35 1 ls (.int (I 0) :: st) M Q := fun d ls st M Q => w_iconst (show ins 35 0 = some (.iconst 0, 1) by decide +kernel)
set_option maxRecDepth 100000 in
theorem r_35_1 : ∀ (d : Nat) (l0 l1 l2 l3 l4 : Option Value) (v : Int32) (st : List Value) (M : Mem) (Q : Outcome → Mem → Prop), (lo l2 = false) → Wp d 35 1 [l0, l1, l2, l3, l4] (.int v :: st) M Q = Wp d 35 2 [l0, l1, l2, some (.int v), l4] st M Q := fun d l0 l1 l2 l3 l4 v st M Q hl => w_istore_n (show ins 35 1 = some (.istore_n 3, 1) by decide +kernel) (st1_S rfl rfl hl)
set_option maxRecDepth 100000 in
theorem r_35_2 : ∀ (d : Nat) (ls : Lc) (st : List Value) (M : Mem) (Q : Outcome → Mem → Prop), Wp d 35 2 ls st M Q = Wp d 35 3 ls (.int (I 0) :: st) M Q := fun d ls st M Q => w_iconst (show ins 35 2 = some (.iconst 0, 1) by decide +kernel)
set_option maxRecDepth 100000 in
theorem r_35_3 : ∀ (d : Nat) (l0 l1 l2 l3 l4 : Option Value) (v : Int32) (st : List Value) (M : Mem) (Q : Outcome → Mem → Prop), (lo l3 = false) → Wp d 35 3 [l0, l1, l2, l3, l4] (.int v :: st) M Q = Wp d 35 5 [l0, l1, l2, l3, some (.int v)] st M Q := fun d l0 l1 l2 l3 l4 v st M Q hl => w_istore (show ins 35 3 = some (.istore 4, 2) by decide +kernel) (st1_S rfl rfl hl)
set_option maxRecDepth 100000 in
theorem r_35_5 : ∀ (d : Nat) (l0 l1 l2 l3 : Option Value) (v : Int32) (st : List Value) (M : Mem) (Q : Outcome → Mem → Prop), Wp d 35 5 [l0, l1, l2, l3, some (.int v)] st M Q = Wp d 35 7 [l0, l1, l2, l3, some (.int v)] (.int v :: st) M Q := fun d l0 l1 l2 l3 v st M Q => wA (show ins 35 5 = some (.iload 4, 2) by decide +kernel) rfl
set_option maxRecDepth 100000 in
theorem r_35_7 : ∀ (d : Nat) (l0 l1 l3 l4 : Option Value) (v : Int32) (st : List Value) (M : Mem) (Q : Outcome → Mem → Prop), Wp d 35 7 [l0, l1, some (.int v), l3, l4] st M Q = Wp d 35 8 [l0, l1, some (.int v), l3, l4] (.int v :: st) M Q := fun d l0 l1 l3 l4 v st M Q => wA (show ins 35 7 = some (.iload_n 2, 1) by decide +kernel) rfl
set_option maxRecDepth 100000 in
theorem r_35_8 : ∀ (d : Nat) (ls : Lc) (a b : Int32) (st : List Value) (M : Mem) (Q : Outcome → Mem → Prop), Wp d 35 8 ls (.int b :: .int a :: st) M Q = Br (b ≤ a) d 35 31 11 ls st M Q := fun d ls a b st M Q => w_icmp (show ins 35 8 = some (.if_icmp .ge 23, 3) by decide +kernel) rfl rfl
set_option maxRecDepth 100000 in
theorem r_35_11 : ∀ (d : Nat) (l0 l1 l2 l4 : Option Value) (v : Int32) (st : List Value) (M : Mem) (Q : Outcome → Mem → Prop), Wp d 35 11 [l0, l1, l2, some (.int v), l4] st M Q = Wp d 35 12 [l0, l1, l2, some (.int v), l4] (.int v :: st) M Q := fun d l0 l1 l2 l4 v st M Q => wA (show ins 35 11 = some (.iload_n 3, 1) by decide +kernel) rfl
set_option maxRecDepth 100000 in
theorem r_35_12 : ∀ (d : Nat) (ls : Lc) (st : List Value) (M : Mem) (Q : Outcome → Mem → Prop), Wp d 35 12 ls st M Q = Wp d 35 14 ls (.int (I 8) :: st) M Q := fun d ls st M Q => w_bipush (show ins 35 12 = some (.bipush 8, 2) by decide +kernel) (by decide)
set_option maxRecDepth 100000 in
theorem r_35_14 : ∀ (d : Nat) (ls : Lc) (a b : Int32) (st : List Value) (M : Mem) (Q : Outcome → Mem → Prop), Wp d 35 14 ls (.int b :: .int a :: st) M Q = Wp d 35 15 ls (.int (a <<< (b &&& 31)) :: st) M Q := fun d ls a b st M Q => wA (show ins 35 14 = some (.ishl, 1) by decide +kernel) rfl
set_option maxRecDepth 100000 in
theorem r_35_15 : ∀ (d : Nat) (l1 l2 l3 l4 : Option Value) (v : Nat) (st : List Value) (M : Mem) (Q : Outcome → Mem → Prop), Wp d 35 15 [some (.ref v), l1, l2, l3, l4] st M Q = Wp d 35 16 [some (.ref v), l1, l2, l3, l4] (.ref v :: st) M Q := fun d l1 l2 l3 l4 v st M Q => wA (show ins 35 15 = some (.aload_n 0, 1) by decide +kernel) rfl
set_option maxRecDepth 100000 in
theorem r_35_15_1 : ∀ (d : Nat) (l1 l2 l3 l4 : Option Value) (st : List Value) (M : Mem) (Q : Outcome → Mem → Prop), Wp d 35 15 [some .null, l1, l2, l3, l4] st M Q = Wp d 35 16 [some .null, l1, l2, l3, l4] (.null :: st) M Q := fun d l1 l2 l3 l4 st M Q => wA (show ins 35 15 = some (.aload_n 0, 1) by decide +kernel) rfl
set_option maxRecDepth 100000 in
theorem r_35_16 : ∀ (d : Nat) (l0 l2 l3 l4 : Option Value) (v : Int32) (st : List Value) (M : Mem) (Q : Outcome → Mem → Prop), Wp d 35 16 [l0, some (.int v), l2, l3, l4] st M Q = Wp d 35 17 [l0, some (.int v), l2, l3, l4] (.int v :: st) M Q := fun d l0 l2 l3 l4 v st M Q => wA (show ins 35 16 = some (.iload_n 1, 1) by decide +kernel) rfl
set_option maxRecDepth 100000 in
theorem r_35_17 : ∀ (d : Nat) (l0 l1 l2 l3 : Option Value) (v : Int32) (st : List Value) (M : Mem) (Q : Outcome → Mem → Prop), Wp d 35 17 [l0, l1, l2, l3, some (.int v)] st M Q = Wp d 35 19 [l0, l1, l2, l3, some (.int v)] (.int v :: st) M Q := fun d l0 l1 l2 l3 v st M Q => wA (show ins 35 17 = some (.iload 4, 2) by decide +kernel) rfl
set_option maxRecDepth 100000 in
theorem r_35_19 : ∀ (d : Nat) (ls : Lc) (a b : Int) (st : List Value) (M : Mem) (Q : Outcome → Mem → Prop), Wp d 35 19 ls (.int (I b) :: .int (I a) :: st) M Q = Wp d 35 20 ls (.int (I (a + b)) :: st) M Q := fun d ls a b st M Q => w_iadd (show ins 35 19 = some (.iadd, 1) by decide +kernel)
set_option maxRecDepth 100000 in
theorem r_35_20 : ∀ (d : Nat) (ls : Lc) (v0 v1 : Value)  (st : List Value) (M : Mem) (Q : Outcome → Mem → Prop), (smallR st = true) → Wp d 35 20 ls (v1 :: v0 :: st) M Q = Ca d 35 20 ls 36 [v0, v1] st M Q := fun d ls v0 v1 st M Q h0 => w_stat (as := [v0, v1]) (show ins 35 20 = some (.invokestatic 3, 3) by decide +kernel) (show mRes (mC 35) 3 = some (0, 1, [(0, 36)]) by decide +kernel) (by decide +kernel) (by decide +kernel) rfl h0
set_option maxRecDepth 100000 in
theorem r_35_23 : ∀ (d : Nat) (ls : Lc) (a b : Int32) (st : List Value) (M : Mem) (Q : Outcome → Mem → Prop), Wp d 35 23 ls (.int b :: .int a :: st) M Q = Wp d 35 24 ls (.int (a ||| b) :: st) M Q := fun d ls a b st M Q => wA (show ins 35 23 = some (.ior, 1) by decide +kernel) rfl
set_option maxRecDepth 100000 in
theorem r_35_24 : ∀ (d : Nat) (l0 l1 l2 l3 l4 : Option Value) (v : Int32) (st : List Value) (M : Mem) (Q : Outcome → Mem → Prop), (lo l2 = false) → Wp d 35 24 [l0, l1, l2, l3, l4] (.int v :: st) M Q = Wp d 35 25 [l0, l1, l2, some (.int v), l4] st M Q := fun d l0 l1 l2 l3 l4 v st M Q hl => w_istore_n (show ins 35 24 = some (.istore_n 3, 1) by decide +kernel) (st1_S rfl rfl hl)
set_option maxRecDepth 100000 in
theorem r_35_25 : ∀ (d : Nat) (l0 l1 l2 l3 : Option Value) (z : Int) (st : List Value) (M : Mem) (Q : Outcome → Mem → Prop), (lo l3 = false) → Wp d 35 25 [l0, l1, l2, l3, some (.int (I z))] st M Q = Wp d 35 28 [l0, l1, l2, l3, some (.int (I (z + 1)))] st M Q := fun d l0 l1 l2 l3 z st M Q hl => w_iinc (show ins 35 25 = some (.iinc 4 1, 3) by decide +kernel) rfl (st1_S rfl rfl hl)
set_option maxRecDepth 100000 in
theorem r_35_28 : ∀ (d : Nat) (ls : Lc) (st : List Value) (M : Mem) (Q : Outcome → Mem → Prop), Wp d 35 28 ls st M Q = Wp d 35 5 ls st M Q := fun d ls st M Q => w_goto (show ins 35 28 = some (.goto (-23), 3) by decide +kernel) rfl
set_option maxRecDepth 100000 in
theorem r_35_31 : ∀ (d : Nat) (l0 l1 l2 l4 : Option Value) (v : Int32) (st : List Value) (M : Mem) (Q : Outcome → Mem → Prop), Wp d 35 31 [l0, l1, l2, some (.int v), l4] st M Q = Wp d 35 32 [l0, l1, l2, some (.int v), l4] (.int v :: st) M Q := fun d l0 l1 l2 l4 v st M Q => wA (show ins 35 31 = some (.iload_n 3, 1) by decide +kernel) rfl
set_option maxRecDepth 100000 in
theorem r_35_32 : ∀ (d : Nat) (ls : Lc) (v : Int32) (M : Mem) (Q : Outcome → Mem → Prop), Wp d 35 32 ls [.int v] M Q = Q (.returned (some (.int v))) M := fun d ls v M Q => w_ireturn (show ins 35 32 = some (.ireturn, 1) by decide +kernel) (by decide +kernel)
set_option maxRecDepth 100000 in
theorem w_35_5 : (type_of% r_35_5) := r_35_5
set_option maxRecDepth 100000 in
theorem W_35 : (type_of% r_35_0) ∧ (type_of% r_35_1) ∧ (type_of% r_35_2) ∧ (type_of% r_35_3) ∧ (type_of% r_35_7) ∧ (type_of% r_35_8) ∧ (type_of% r_35_11) ∧ (type_of% r_35_12) ∧ (type_of% r_35_14) ∧ (type_of% r_35_15) ∧ (type_of% r_35_15_1) ∧ (type_of% r_35_16) ∧ (type_of% r_35_17) ∧ (type_of% r_35_19) ∧ (type_of% r_35_20) ∧ (type_of% r_35_23) ∧ (type_of% r_35_24) ∧ (type_of% r_35_25) ∧ (type_of% r_35_28) ∧ (type_of% r_35_31) ∧ (type_of% r_35_32) := ⟨r_35_0, r_35_1, r_35_2, r_35_3, r_35_7, r_35_8, r_35_11, r_35_12, r_35_14, r_35_15, r_35_15_1, r_35_16, r_35_17, r_35_19, r_35_20, r_35_23, r_35_24, r_35_25, r_35_28, r_35_31, r_35_32⟩
set_option maxRecDepth 100000 in
theorem ca_35 {d y pc : Nat} {ls : Lc} {o0 : Option Nat} {z1 : Int32} {z2 : Int32} {r : List Value} {M : Mem} {Q : Outcome → Mem → Prop} (hd : 0 < d) (hw : Wp (d - 1) 35 0 [some (va_rf o0), some (.int z1), some (.int z2), none, none] [] M (Cq d y pc ls r Q)) : Ca d y pc ls 35 [va_rf o0, .int z1, .int z2] r M Q := ca_of (mq_get (by decide)) (by cases o0 <;> rfl) hd hw
/-! 36 PackedTree.byteOf([BI)I; loop heads [] -/
set_option maxRecDepth 100000 in
theorem r_36_0 : ∀ (d : Nat) (l1 : Option Value) (v : Nat) (st : List Value) (M : Mem) (Q : Outcome → Mem → Prop), Wp d 36 0 [some (.ref v), l1] st M Q = Wp d 36 1 [some (.ref v), l1] (.ref v :: st) M Q := fun d l1 v st M Q => wA (show ins 36 0 = some (.aload_n 0, 1) by decide +kernel) rfl
set_option maxRecDepth 100000 in
theorem r_36_0_1 : ∀ (d : Nat) (l1 : Option Value) (st : List Value) (M : Mem) (Q : Outcome → Mem → Prop), Wp d 36 0 [some .null, l1] st M Q = Wp d 36 1 [some .null, l1] (.null :: st) M Q := fun d l1 st M Q => wA (show ins 36 0 = some (.aload_n 0, 1) by decide +kernel) rfl
set_option maxRecDepth 100000 in
theorem r_36_1 : ∀ (d : Nat) (l0 : Option Value) (v : Int32) (st : List Value) (M : Mem) (Q : Outcome → Mem → Prop), Wp d 36 1 [l0, some (.int v)] st M Q = Wp d 36 2 [l0, some (.int v)] (.int v :: st) M Q := fun d l0 v st M Q => wA (show ins 36 1 = some (.iload_n 1, 1) by decide +kernel) rfl
set_option maxRecDepth 100000 in
theorem r_36_2 : ∀ (d : Nat) (ls : Lc) (a : Nat) (j : Int32) (st : List Value) (M : Mem) (Q : Outcome → Mem → Prop), Wp d 36 2 ls (.int j :: .ref a :: st) M Q = ((((kX M a).1 = 1 ∨ (kX M a).1 = 2) ∧ inB j (kX M a).2 = true) ∧ Wp d 36 3 ls (.int (mA M a j.toNatClampNeg) :: st) M Q) := fun d ls a j st M Q => w_baload (show ins 36 2 = some (.baload, 1) by decide +kernel)
set_option maxRecDepth 100000 in
theorem r_36_3 : ∀ (d : Nat) (ls : Lc) (st : List Value) (M : Mem) (Q : Outcome → Mem → Prop), Wp d 36 3 ls st M Q = Wp d 36 6 ls (.int (I 255) :: st) M Q := fun d ls st M Q => w_sipush (show ins 36 3 = some (.sipush 255, 3) by decide +kernel) (by decide)
set_option maxRecDepth 100000 in
theorem r_36_6 : ∀ (d : Nat) (ls : Lc) (a b : Int32) (st : List Value) (M : Mem) (Q : Outcome → Mem → Prop), Wp d 36 6 ls (.int b :: .int a :: st) M Q = Wp d 36 7 ls (.int (a &&& b) :: st) M Q := fun d ls a b st M Q => wA (show ins 36 6 = some (.iand, 1) by decide +kernel) rfl
set_option maxRecDepth 100000 in
theorem r_36_7 : ∀ (d : Nat) (ls : Lc) (v : Int32) (M : Mem) (Q : Outcome → Mem → Prop), Wp d 36 7 ls [.int v] M Q = Q (.returned (some (.int v))) M := fun d ls v M Q => w_ireturn (show ins 36 7 = some (.ireturn, 1) by decide +kernel) (by decide +kernel)
set_option maxRecDepth 100000 in
theorem W_36 : (type_of% r_36_0) ∧ (type_of% r_36_0_1) ∧ (type_of% r_36_1) ∧ (type_of% r_36_2) ∧ (type_of% r_36_3) ∧ (type_of% r_36_6) ∧ (type_of% r_36_7) := ⟨r_36_0, r_36_0_1, r_36_1, r_36_2, r_36_3, r_36_6, r_36_7⟩
set_option maxRecDepth 100000 in
theorem ca_36 {d y pc : Nat} {ls : Lc} {o0 : Option Nat} {z1 : Int32} {r : List Value} {M : Mem} {Q : Outcome → Mem → Prop} (hd : 0 < d) (hw : Wp (d - 1) 36 0 [some (va_rf o0), some (.int z1)] [] M (Cq d y pc ls r Q)) : Ca d y pc ls 36 [va_rf o0, .int z1] r M Q := ca_of (mq_get (by decide)) (by cases o0 <;> rfl) hd hw
/-! 37 PackedTree.there(Z)V; loop heads [] -/
set_option maxRecDepth 100000 in
theorem r_37_0 : ∀ (d : Nat) (v : Int32) (st : List Value) (M : Mem) (Q : Outcome → Mem → Prop), Wp d 37 0 [some (.int v)] st M Q = Wp d 37 1 [some (.int v)] (.int v :: st) M Q := fun d v st M Q => wA (show ins 37 0 = some (.iload_n 0, 1) by decide +kernel) rfl
set_option maxRecDepth 100000 in
theorem r_37_1 : ∀ (d : Nat) (ls : Lc) (a : Int32) (st : List Value) (M : Mem) (Q : Outcome → Mem → Prop), Wp d 37 1 ls (.int a :: st) M Q = Br (¬ a = I 0) d 37 12 4 ls st M Q := fun d ls a st M Q => w_if (show ins 37 1 = some (.ifCond .ne 11, 3) by decide +kernel) rfl rfl
set_option maxRecDepth 100000 in
theorem r_37_4 : ∀ (d : Nat) (ls : Lc) (M : Mem) (Q : Outcome → Mem → Prop), Wp d 37 4 ls [] M Q = Q (.threw (mN M)) (nw M (.inl 12) 6) := fun d ls M Q => w_throw (show ins 37 4 = some (.new 102, 3) by decide +kernel) (by decide +kernel) (show ins 37 8 = some (.invokespecial 104, 3) by decide +kernel) (by decide +kernel) (show cRes (mC 37) 102 = some 12 by decide +kernel) (by decide +kernel) (by decide +kernel) (by decide +kernel)
set_option maxRecDepth 100000 in
theorem r_37_12 : ∀ (d : Nat) (ls : Lc) (M : Mem) (Q : Outcome → Mem → Prop), Wp d 37 12 ls [] M Q = Q (.returned none) M := fun d ls M Q => w_return (show ins 37 12 = some (.return_, 1) by decide +kernel) (by decide +kernel)
set_option maxRecDepth 100000 in
theorem W_37 : (type_of% r_37_0) ∧ (type_of% r_37_1) ∧ (type_of% r_37_4) ∧ (type_of% r_37_12) := ⟨r_37_0, r_37_1, r_37_4, r_37_12⟩
set_option maxRecDepth 100000 in
theorem ca_37 {d y pc : Nat} {ls : Lc} {z0 : Int32} {r : List Value} {M : Mem} {Q : Outcome → Mem → Prop} (hd : 0 < d) (hw : Wp (d - 1) 37 0 [some (.int z0)] [] M (Cq d y pc ls r Q)) : Ca d y pc ls 37 [.int z0] r M Q := ca_of (mq_get (by decide)) (by rfl) hd hw
/-! 38 PackedTree.isName(I)Z; loop heads [] -/
set_option maxRecDepth 100000 in
theorem r_38_0 : ∀ (d : Nat) (v : Int32) (st : List Value) (M : Mem) (Q : Outcome → Mem → Prop), Wp d 38 0 [some (.int v)] st M Q = Wp d 38 1 [some (.int v)] (.int v :: st) M Q := fun d v st M Q => wA (show ins 38 0 = some (.iload_n 0, 1) by decide +kernel) rfl
set_option maxRecDepth 100000 in
theorem r_38_1 : ∀ (d : Nat) (ls : Lc) (a : Int32) (st : List Value) (M : Mem) (Q : Outcome → Mem → Prop), Wp d 38 1 ls (.int a :: st) M Q = Br (a < I 0) d 38 15 4 ls st M Q := fun d ls a st M Q => w_if (show ins 38 1 = some (.ifCond .lt 14, 3) by decide +kernel) rfl rfl
set_option maxRecDepth 100000 in
theorem r_38_4 : ∀ (d : Nat) (v : Int32) (st : List Value) (M : Mem) (Q : Outcome → Mem → Prop), Wp d 38 4 [some (.int v)] st M Q = Wp d 38 5 [some (.int v)] (.int v :: st) M Q := fun d v st M Q => wA (show ins 38 4 = some (.iload_n 0, 1) by decide +kernel) rfl
set_option maxRecDepth 100000 in
theorem r_38_5 : ∀ (d : Nat) (ls : Lc) (st : List Value) (M : Mem) (Q : Outcome → Mem → Prop), Wp d 38 5 ls st M Q = Wp d 38 8 ls (.int (I 1000) :: st) M Q := fun d ls st M Q => w_sipush (show ins 38 5 = some (.sipush 1000, 3) by decide +kernel) (by decide)
set_option maxRecDepth 100000 in
theorem r_38_8 : ∀ (d : Nat) (ls : Lc) (a b : Int32) (st : List Value) (M : Mem) (Q : Outcome → Mem → Prop), Wp d 38 8 ls (.int b :: .int a :: st) M Q = Br (b ≤ a) d 38 15 11 ls st M Q := fun d ls a b st M Q => w_icmp (show ins 38 8 = some (.if_icmp .ge 7, 3) by decide +kernel) rfl rfl
set_option maxRecDepth 100000 in
theorem r_38_11 : ∀ (d : Nat) (ls : Lc) (st : List Value) (M : Mem) (Q : Outcome → Mem → Prop), Wp d 38 11 ls st M Q = Wp d 38 12 ls (.int (I 1) :: st) M Q := fun d ls st M Q => w_iconst (show ins 38 11 = some (.iconst 1, 1) by decide +kernel)
set_option maxRecDepth 100000 in
theorem r_38_12 : ∀ (d : Nat) (ls : Lc) (st : List Value) (M : Mem) (Q : Outcome → Mem → Prop), Wp d 38 12 ls st M Q = Wp d 38 16 ls st M Q := fun d ls st M Q => w_goto (show ins 38 12 = some (.goto 4, 3) by decide +kernel) rfl
set_option maxRecDepth 100000 in
theorem r_38_15 : ∀ (d : Nat) (ls : Lc) (st : List Value) (M : Mem) (Q : Outcome → Mem → Prop), Wp d 38 15 ls st M Q = Wp d 38 16 ls (.int (I 0) :: st) M Q := fun d ls st M Q => w_iconst (show ins 38 15 = some (.iconst 0, 1) by decide +kernel)
set_option maxRecDepth 100000 in
theorem r_38_16 : ∀ (d : Nat) (ls : Lc) (z : Int) (M : Mem) (Q : Outcome → Mem → Prop), (z = 0 ∨ z = 1) → Wp d 38 16 ls [.int (I z)] M Q = Q (.returned (some (.int (I z)))) M := fun d ls z M Q h0 => w_zretI (show ins 38 16 = some (.ireturn, 1) by decide +kernel) (by decide +kernel) h0
set_option maxRecDepth 100000 in
theorem r_38_16_1 : ∀ (d : Nat) (ls : Lc) (b : Bool) (M : Mem) (Q : Outcome → Mem → Prop), Wp d 38 16 ls [.int (I (bI b))] M Q = Q (.returned (some (.int (I (bI b))))) M := fun d ls b M Q => w_zretB (show ins 38 16 = some (.ireturn, 1) by decide +kernel) (by decide +kernel)
set_option maxRecDepth 100000 in
theorem W_38 : (type_of% r_38_0) ∧ (type_of% r_38_1) ∧ (type_of% r_38_4) ∧ (type_of% r_38_5) ∧ (type_of% r_38_8) ∧ (type_of% r_38_11) ∧ (type_of% r_38_12) ∧ (type_of% r_38_15) ∧ (type_of% r_38_16) ∧ (type_of% r_38_16_1) := ⟨r_38_0, r_38_1, r_38_4, r_38_5, r_38_8, r_38_11, r_38_12, r_38_15, r_38_16, r_38_16_1⟩
set_option maxRecDepth 100000 in
theorem ca_38 {d y pc : Nat} {ls : Lc} {z0 : Int32} {r : List Value} {M : Mem} {Q : Outcome → Mem → Prop} (hd : 0 < d) (hw : Wp (d - 1) 38 0 [some (.int z0)] [] M (Cq d y pc ls r Q)) : Ca d y pc ls 38 [.int z0] r M Q := ca_of (mq_get (by decide)) (by rfl) hd hw
/-! 39 PackedTree.proper(Z)V; loop heads [] -/
set_option maxRecDepth 100000 in
theorem r_39_0 : ∀ (d : Nat) (v : Int32) (st : List Value) (M : Mem) (Q : Outcome → Mem → Prop), Wp d 39 0 [some (.int v)] st M Q = Wp d 39 1 [some (.int v)] (.int v :: st) M Q := fun d v st M Q => wA (show ins 39 0 = some (.iload_n 0, 1) by decide +kernel) rfl
set_option maxRecDepth 100000 in
theorem r_39_1 : ∀ (d : Nat) (ls : Lc) (a : Int32) (st : List Value) (M : Mem) (Q : Outcome → Mem → Prop), Wp d 39 1 ls (.int a :: st) M Q = Br (¬ a = I 0) d 39 12 4 ls st M Q := fun d ls a st M Q => w_if (show ins 39 1 = some (.ifCond .ne 11, 3) by decide +kernel) rfl rfl
set_option maxRecDepth 100000 in
theorem r_39_4 : ∀ (d : Nat) (ls : Lc) (M : Mem) (Q : Outcome → Mem → Prop), Wp d 39 4 ls [] M Q = Q (.threw (mN M)) (nw M (.inl 13) 6) := fun d ls M Q => w_throw (show ins 39 4 = some (.new 105, 3) by decide +kernel) (by decide +kernel) (show ins 39 8 = some (.invokespecial 107, 3) by decide +kernel) (by decide +kernel) (show cRes (mC 39) 105 = some 13 by decide +kernel) (by decide +kernel) (by decide +kernel) (by decide +kernel)
set_option maxRecDepth 100000 in
theorem r_39_12 : ∀ (d : Nat) (ls : Lc) (M : Mem) (Q : Outcome → Mem → Prop), Wp d 39 12 ls [] M Q = Q (.returned none) M := fun d ls M Q => w_return (show ins 39 12 = some (.return_, 1) by decide +kernel) (by decide +kernel)
set_option maxRecDepth 100000 in
theorem W_39 : (type_of% r_39_0) ∧ (type_of% r_39_1) ∧ (type_of% r_39_4) ∧ (type_of% r_39_12) := ⟨r_39_0, r_39_1, r_39_4, r_39_12⟩
set_option maxRecDepth 100000 in
theorem ca_39 {d y pc : Nat} {ls : Lc} {z0 : Int32} {r : List Value} {M : Mem} {Q : Outcome → Mem → Prop} (hd : 0 < d) (hw : Wp (d - 1) 39 0 [some (.int z0)] [] M (Cq d y pc ls r Q)) : Ca d y pc ls 39 [.int z0] r M Q := ca_of (mq_get (by decide)) (by rfl) hd hw
/-! 40 PackedTree.freeObject()I; loop heads [2] -/
set_option maxRecDepth 100000 in
theorem r_40_0 : ∀ (d : Nat) (ls : Lc) (st : List Value) (M : Mem) (Q : Outcome → Mem → Prop), Wp d 40 0 ls st M Q = Wp d 40 1 ls (.int (I 1) :: st) M Q := fun d ls st M Q => w_iconst (show ins 40 0 = some (.iconst 1, 1) by decide +kernel)
set_option maxRecDepth 100000 in
theorem r_40_1 : ∀ (d : Nat) (l0 l1 : Option Value) (v : Int32) (st : List Value) (M : Mem) (Q : Outcome → Mem → Prop), (lo l0 = false) → Wp d 40 1 [l0, l1] (.int v :: st) M Q = Wp d 40 2 [l0, some (.int v)] st M Q := fun d l0 l1 v st M Q hl => w_istore_n (show ins 40 1 = some (.istore_n 1, 1) by decide +kernel) (st1_S rfl rfl hl)
set_option maxRecDepth 100000 in
theorem r_40_2 : ∀ (d : Nat) (l0 : Option Value) (v : Int32) (st : List Value) (M : Mem) (Q : Outcome → Mem → Prop), Wp d 40 2 [l0, some (.int v)] st M Q = Wp d 40 3 [l0, some (.int v)] (.int v :: st) M Q := fun d l0 v st M Q => wA (show ins 40 2 = some (.iload_n 1, 1) by decide +kernel) rfl
set_option maxRecDepth 100000 in
theorem r_40_3 : ∀ (d : Nat) (ls : Lc) (st : List Value) (M : Mem) (Q : Outcome → Mem → Prop), Wp d 40 3 ls st M Q = Wp d 40 5 ls (.int (I 60) :: st) M Q := fun d ls st M Q => w_bipush (show ins 40 3 = some (.bipush 60, 2) by decide +kernel) (by decide)
set_option maxRecDepth 100000 in
theorem r_40_5 : ∀ (d : Nat) (ls : Lc) (a b : Int32) (st : List Value) (M : Mem) (Q : Outcome → Mem → Prop), Wp d 40 5 ls (.int b :: .int a :: st) M Q = Br (b < a) d 40 22 8 ls st M Q := fun d ls a b st M Q => w_icmp (show ins 40 5 = some (.if_icmp .gt 17, 3) by decide +kernel) rfl rfl
set_option maxRecDepth 100000 in
theorem r_40_8 : ∀ (d : Nat) (l1 : Option Value) (v : Nat) (st : List Value) (M : Mem) (Q : Outcome → Mem → Prop), Wp d 40 8 [some (.ref v), l1] st M Q = Wp d 40 9 [some (.ref v), l1] (.ref v :: st) M Q := fun d l1 v st M Q => wA (show ins 40 8 = some (.aload_n 0, 1) by decide +kernel) rfl
set_option maxRecDepth 100000 in
theorem r_40_9 : ∀ (d : Nat) (l0 : Option Value) (v : Int32) (st : List Value) (M : Mem) (Q : Outcome → Mem → Prop), Wp d 40 9 [l0, some (.int v)] st M Q = Wp d 40 10 [l0, some (.int v)] (.int v :: st) M Q := fun d l0 v st M Q => wA (show ins 40 9 = some (.iload_n 1, 1) by decide +kernel) rfl
set_option maxRecDepth 100000 in
theorem r_40_10 : ∀ (d : Nat) (ls : Lc) (v0 : Value) (a : Nat) (st : List Value) (M : Mem) (Q : Outcome → Mem → Prop), (smallR st = true) → Wp d 40 10 ls (v0 :: .ref a :: st) M Q = (kO M a = 1 ∧ Ca d 40 10 ls 33 (.ref a :: [v0]) st M Q) := fun d ls v0 a st M Q h0 => w_virt1 (as := [v0]) (show ins 40 10 = some (.invokevirtual 175, 3) by decide +kernel) (show mRes (mC 40) 175 = some (3, 1, [(1, 33)]) by decide +kernel) (by decide +kernel) rfl (by decide +kernel) (by decide +kernel) h0
set_option maxRecDepth 100000 in
theorem r_40_13 : ∀ (d : Nat) (ls : Lc) (a : Int32) (st : List Value) (M : Mem) (Q : Outcome → Mem → Prop), Wp d 40 13 ls (.int a :: st) M Q = Br (a = I 0) d 40 22 16 ls st M Q := fun d ls a st M Q => w_if (show ins 40 13 = some (.ifCond .eq 9, 3) by decide +kernel) rfl rfl
set_option maxRecDepth 100000 in
theorem r_40_16 : ∀ (d : Nat) (l0 : Option Value) (z : Int) (st : List Value) (M : Mem) (Q : Outcome → Mem → Prop), (lo l0 = false) → Wp d 40 16 [l0, some (.int (I z))] st M Q = Wp d 40 19 [l0, some (.int (I (z + 1)))] st M Q := fun d l0 z st M Q hl => w_iinc (show ins 40 16 = some (.iinc 1 1, 3) by decide +kernel) rfl (st1_S rfl rfl hl)
set_option maxRecDepth 100000 in
theorem r_40_19 : ∀ (d : Nat) (ls : Lc) (st : List Value) (M : Mem) (Q : Outcome → Mem → Prop), Wp d 40 19 ls st M Q = Wp d 40 2 ls st M Q := fun d ls st M Q => w_goto (show ins 40 19 = some (.goto (-17), 3) by decide +kernel) rfl
set_option maxRecDepth 100000 in
theorem r_40_22 : ∀ (d : Nat) (l0 : Option Value) (v : Int32) (st : List Value) (M : Mem) (Q : Outcome → Mem → Prop), Wp d 40 22 [l0, some (.int v)] st M Q = Wp d 40 23 [l0, some (.int v)] (.int v :: st) M Q := fun d l0 v st M Q => wA (show ins 40 22 = some (.iload_n 1, 1) by decide +kernel) rfl
set_option maxRecDepth 100000 in
theorem r_40_23 : ∀ (d : Nat) (ls : Lc) (v : Int32) (M : Mem) (Q : Outcome → Mem → Prop), Wp d 40 23 ls [.int v] M Q = Q (.returned (some (.int v))) M := fun d ls v M Q => w_ireturn (show ins 40 23 = some (.ireturn, 1) by decide +kernel) (by decide +kernel)
set_option maxRecDepth 100000 in
theorem w_40_2 : (type_of% r_40_2) := r_40_2
set_option maxRecDepth 100000 in
theorem W_40 : (type_of% r_40_0) ∧ (type_of% r_40_1) ∧ (type_of% r_40_3) ∧ (type_of% r_40_5) ∧ (type_of% r_40_8) ∧ (type_of% r_40_9) ∧ (type_of% r_40_10) ∧ (type_of% r_40_13) ∧ (type_of% r_40_16) ∧ (type_of% r_40_19) ∧ (type_of% r_40_22) ∧ (type_of% r_40_23) := ⟨r_40_0, r_40_1, r_40_3, r_40_5, r_40_8, r_40_9, r_40_10, r_40_13, r_40_16, r_40_19, r_40_22, r_40_23⟩
set_option maxRecDepth 100000 in
theorem ca_40 {d y pc : Nat} {ls : Lc} {a : Nat} {r : List Value} {M : Mem} {Q : Outcome → Mem → Prop} (hd : 0 < d) (hw : Wp (d - 1) 40 0 [some (.ref a), none] [] M (Cq d y pc ls r Q)) : Ca d y pc ls 40 [.ref a] r M Q := ca_of (mq_get (by decide)) (by rfl) hd hw
/-! 41 PackedTree.told(II)I; loop heads [] -/
set_option maxRecDepth 100000 in
theorem r_41_0 : ∀ (d : Nat) (l0 l1 : Option Value) (v : Int32) (st : List Value) (M : Mem) (Q : Outcome → Mem → Prop), Wp d 41 0 [l0, l1, some (.int v)] st M Q = Wp d 41 1 [l0, l1, some (.int v)] (.int v :: st) M Q := fun d l0 l1 v st M Q => wA (show ins 41 0 = some (.iload_n 2, 1) by decide +kernel) rfl
set_option maxRecDepth 100000 in
theorem r_41_1 : ∀ (d : Nat) (ls : Lc) (a : Int32) (st : List Value) (M : Mem) (Q : Outcome → Mem → Prop), Wp d 41 1 ls (.int a :: st) M Q = Br (a < I 0) d 41 27 4 ls st M Q := fun d ls a st M Q => w_if (show ins 41 1 = some (.ifCond .lt 26, 3) by decide +kernel) rfl rfl
set_option maxRecDepth 100000 in
theorem r_41_4 : ∀ (d : Nat) (l0 l1 : Option Value) (v : Int32) (st : List Value) (M : Mem) (Q : Outcome → Mem → Prop), Wp d 41 4 [l0, l1, some (.int v)] st M Q = Wp d 41 5 [l0, l1, some (.int v)] (.int v :: st) M Q := fun d l0 l1 v st M Q => wA (show ins 41 4 = some (.iload_n 2, 1) by decide +kernel) rfl
set_option maxRecDepth 100000 in
theorem r_41_5 : ∀ (d : Nat) (ls : Lc) (st : List Value) (M : Mem) (Q : Outcome → Mem → Prop), Wp d 41 5 ls st M Q = Wp d 41 8 ls (.int (I 1000) :: st) M Q := fun d ls st M Q => w_sipush (show ins 41 5 = some (.sipush 1000, 3) by decide +kernel) (by decide)
set_option maxRecDepth 100000 in
theorem r_41_8 : ∀ (d : Nat) (ls : Lc) (a b : Int32) (st : List Value) (M : Mem) (Q : Outcome → Mem → Prop), Wp d 41 8 ls (.int b :: .int a :: st) M Q = Br (b ≤ a) d 41 27 11 ls st M Q := fun d ls a b st M Q => w_icmp (show ins 41 8 = some (.if_icmp .ge 19, 3) by decide +kernel) rfl rfl
set_option maxRecDepth 100000 in
theorem r_41_11 : ∀ (d : Nat) (l1 l2 : Option Value) (v : Nat) (st : List Value) (M : Mem) (Q : Outcome → Mem → Prop), Wp d 41 11 [some (.ref v), l1, l2] st M Q = Wp d 41 12 [some (.ref v), l1, l2] (.ref v :: st) M Q := fun d l1 l2 v st M Q => wA (show ins 41 11 = some (.aload_n 0, 1) by decide +kernel) rfl
set_option maxRecDepth 100000 in
theorem r_41_12 : ∀ (d : Nat) (ls : Lc) (a : Nat) (st : List Value) (M : Mem) (Q : Outcome → Mem → Prop), Wp d 41 12 ls (.ref a :: st) M Q = (fk 9 (kO M a) = true ∧ Wp d 41 15 ls (va_rf (mR M 9 a) :: st) M Q) := fun d ls a st M Q => w_getR (show ins 41 12 = some (.getfield 58, 3) by decide +kernel) (show fRes (mC 41) 58 = some (9, 1, false) by decide +kernel) (by decide +kernel)
set_option maxRecDepth 100000 in
theorem r_41_15 : ∀ (d : Nat) (l0 l2 : Option Value) (v : Int32) (st : List Value) (M : Mem) (Q : Outcome → Mem → Prop), Wp d 41 15 [l0, some (.int v), l2] st M Q = Wp d 41 16 [l0, some (.int v), l2] (.int v :: st) M Q := fun d l0 l2 v st M Q => wA (show ins 41 15 = some (.iload_n 1, 1) by decide +kernel) rfl
set_option maxRecDepth 100000 in
theorem r_41_16 : ∀ (d : Nat) (ls : Lc) (st : List Value) (M : Mem) (Q : Outcome → Mem → Prop), Wp d 41 16 ls st M Q = Wp d 41 17 ls (.int (I 1) :: st) M Q := fun d ls st M Q => w_iconst (show ins 41 16 = some (.iconst 1, 1) by decide +kernel)
set_option maxRecDepth 100000 in
theorem r_41_17 : ∀ (d : Nat) (l0 l1 : Option Value) (v : Int32) (st : List Value) (M : Mem) (Q : Outcome → Mem → Prop), Wp d 41 17 [l0, l1, some (.int v)] st M Q = Wp d 41 18 [l0, l1, some (.int v)] (.int v :: st) M Q := fun d l0 l1 v st M Q => wA (show ins 41 17 = some (.iload_n 2, 1) by decide +kernel) rfl
set_option maxRecDepth 100000 in
theorem r_41_18 : ∀ (d : Nat) (ls : Lc) (v0 v1 v2 : Value)  (st : List Value) (M : Mem) (Q : Outcome → Mem → Prop), (smallR st = true) → Wp d 41 18 ls (v2 :: v1 :: v0 :: st) M Q = Ca d 41 18 ls 24 [v0, v1, v2] st M Q := fun d ls v0 v1 v2 st M Q h0 => w_stat (as := [v0, v1, v2]) (show ins 41 18 = some (.invokestatic 82, 3) by decide +kernel) (show mRes (mC 41) 82 = some (0, 1, [(0, 24)]) by decide +kernel) (by decide +kernel) (by decide +kernel) rfl h0
set_option maxRecDepth 100000 in
theorem r_41_21 : ∀ (d : Nat) (ls : Lc) (v0 : Value) (a : Nat) (st : List Value) (M : Mem) (Q : Outcome → Mem → Prop), (smallR st = true) → Wp d 41 21 ls (v0 :: .ref a :: st) M Q = (kO M a = 3 ∧ Ca d 41 21 ls 98 (.ref a :: [v0]) st M Q) := fun d ls v0 a st M Q h0 => w_virt1 (as := [v0]) (show ins 41 21 = some (.invokevirtual 151, 3) by decide +kernel) (show mRes (mC 41) 151 = some (3, 3, [(3, 98)]) by decide +kernel) (by decide +kernel) rfl (by decide +kernel) (by decide +kernel) h0
set_option maxRecDepth 100000 in
theorem r_41_24 : ∀ (d : Nat) (ls : Lc) (a : Int32) (st : List Value) (M : Mem) (Q : Outcome → Mem → Prop), Wp d 41 24 ls (.int a :: st) M Q = Br (¬ a = I 0) d 41 29 27 ls st M Q := fun d ls a st M Q => w_if (show ins 41 24 = some (.ifCond .ne 5, 3) by decide +kernel) rfl rfl
set_option maxRecDepth 100000 in
theorem r_41_27 : ∀ (d : Nat) (ls : Lc) (st : List Value) (M : Mem) (Q : Outcome → Mem → Prop), Wp d 41 27 ls st M Q = Wp d 41 28 ls (.int (I (-1)) :: st) M Q := fun d ls st M Q => w_iconst (show ins 41 27 = some (.iconst (-1), 1) by decide +kernel)
set_option maxRecDepth 100000 in
theorem r_41_28 : ∀ (d : Nat) (ls : Lc) (v : Int32) (M : Mem) (Q : Outcome → Mem → Prop), Wp d 41 28 ls [.int v] M Q = Q (.returned (some (.int v))) M := fun d ls v M Q => w_ireturn (show ins 41 28 = some (.ireturn, 1) by decide +kernel) (by decide +kernel)
set_option maxRecDepth 100000 in
theorem r_41_29 : ∀ (d : Nat) (l1 l2 : Option Value) (v : Nat) (st : List Value) (M : Mem) (Q : Outcome → Mem → Prop), Wp d 41 29 [some (.ref v), l1, l2] st M Q = Wp d 41 30 [some (.ref v), l1, l2] (.ref v :: st) M Q := fun d l1 l2 v st M Q => wA (show ins 41 29 = some (.aload_n 0, 1) by decide +kernel) rfl
set_option maxRecDepth 100000 in
theorem r_41_30 : ∀ (d : Nat) (ls : Lc) (a : Nat) (st : List Value) (M : Mem) (Q : Outcome → Mem → Prop), Wp d 41 30 ls (.ref a :: st) M Q = (fk 9 (kO M a) = true ∧ Wp d 41 33 ls (va_rf (mR M 9 a) :: st) M Q) := fun d ls a st M Q => w_getR (show ins 41 30 = some (.getfield 58, 3) by decide +kernel) (show fRes (mC 41) 58 = some (9, 1, false) by decide +kernel) (by decide +kernel)
set_option maxRecDepth 100000 in
theorem r_41_33 : ∀ (d : Nat) (ls : Lc) (a : Nat) (st : List Value) (M : Mem) (Q : Outcome → Mem → Prop), Wp d 41 33 ls (.ref a :: st) M Q = (fk 14 (kO M a) = true ∧ Wp d 41 36 ls (va_rf (mR M 14 a) :: st) M Q) := fun d ls a st M Q => w_getR (show ins 41 33 = some (.getfield 155, 3) by decide +kernel) (show fRes (mC 41) 155 = some (14, 3, true) by decide +kernel) (by decide +kernel)
set_option maxRecDepth 100000 in
theorem r_41_36 : ∀ (d : Nat) (ls : Lc) (a : Nat) (st : List Value) (M : Mem) (Q : Outcome → Mem → Prop), Wp d 41 36 ls (.ref a :: st) M Q = (fk 35 (kO M a) = true ∧ Wp d 41 39 ls (va_rf (mR M 35 a) :: st) M Q) := fun d ls a st M Q => w_getR (show ins 41 36 = some (.getfield 159, 3) by decide +kernel) (show fRes (mC 41) 159 = some (35, 5, true) by decide +kernel) (by decide +kernel)
set_option maxRecDepth 100000 in
theorem r_41_39 : ∀ (d : Nat) (l1 l2 : Option Value) (v : Nat) (st : List Value) (M : Mem) (Q : Outcome → Mem → Prop), Wp d 41 39 [some (.ref v), l1, l2] st M Q = Wp d 41 40 [some (.ref v), l1, l2] (.ref v :: st) M Q := fun d l1 l2 v st M Q => wA (show ins 41 39 = some (.aload_n 0, 1) by decide +kernel) rfl
set_option maxRecDepth 100000 in
theorem r_41_40 : ∀ (d : Nat) (ls : Lc) (a : Nat) (st : List Value) (M : Mem) (Q : Outcome → Mem → Prop), Wp d 41 40 ls (.ref a :: st) M Q = (fk 9 (kO M a) = true ∧ Wp d 41 43 ls (va_rf (mR M 9 a) :: st) M Q) := fun d ls a st M Q => w_getR (show ins 41 40 = some (.getfield 58, 3) by decide +kernel) (show fRes (mC 41) 58 = some (9, 1, false) by decide +kernel) (by decide +kernel)
set_option maxRecDepth 100000 in
theorem r_41_43 : ∀ (d : Nat) (ls : Lc) (a : Nat) (st : List Value) (M : Mem) (Q : Outcome → Mem → Prop), Wp d 41 43 ls (.ref a :: st) M Q = (fk 14 (kO M a) = true ∧ Wp d 41 46 ls (va_rf (mR M 14 a) :: st) M Q) := fun d ls a st M Q => w_getR (show ins 41 43 = some (.getfield 155, 3) by decide +kernel) (show fRes (mC 41) 155 = some (14, 3, true) by decide +kernel) (by decide +kernel)
set_option maxRecDepth 100000 in
theorem r_41_46 : ∀ (d : Nat) (l1 l2 : Option Value) (v : Nat) (st : List Value) (M : Mem) (Q : Outcome → Mem → Prop), Wp d 41 46 [some (.ref v), l1, l2] st M Q = Wp d 41 47 [some (.ref v), l1, l2] (.ref v :: st) M Q := fun d l1 l2 v st M Q => wA (show ins 41 46 = some (.aload_n 0, 1) by decide +kernel) rfl
set_option maxRecDepth 100000 in
theorem r_41_47 : ∀ (d : Nat) (ls : Lc) (a : Nat) (st : List Value) (M : Mem) (Q : Outcome → Mem → Prop), Wp d 41 47 ls (.ref a :: st) M Q = (fk 9 (kO M a) = true ∧ Wp d 41 50 ls (va_rf (mR M 9 a) :: st) M Q) := fun d ls a st M Q => w_getR (show ins 41 47 = some (.getfield 58, 3) by decide +kernel) (show fRes (mC 41) 58 = some (9, 1, false) by decide +kernel) (by decide +kernel)
set_option maxRecDepth 100000 in
theorem r_41_50 : ∀ (d : Nat) (ls : Lc) (a : Nat) (st : List Value) (M : Mem) (Q : Outcome → Mem → Prop), Wp d 41 50 ls (.ref a :: st) M Q = (fk 16 (kO M a) = true ∧ Wp d 41 53 ls (.int (mF M 16 a) :: st) M Q) := fun d ls a st M Q => w_getI (show ins 41 50 = some (.getfield 164, 3) by decide +kernel) (show fRes (mC 41) 164 = some (16, 3, true) by decide +kernel) (by decide +kernel)
set_option maxRecDepth 100000 in
theorem r_41_53 : ∀ (d : Nat) (ls : Lc) (v0 : Value) (a : Nat) (st : List Value) (M : Mem) (Q : Outcome → Mem → Prop), (smallR st = true) → Wp d 41 53 ls (v0 :: .ref a :: st) M Q = (kO M a = 5 ∧ Ca d 41 53 ls 126 (.ref a :: [v0]) st M Q) := fun d ls v0 a st M Q h0 => w_virt1 (as := [v0]) (show ins 41 53 = some (.invokevirtual 167, 3) by decide +kernel) (show mRes (mC 41) 167 = some (3, 5, [(5, 126)]) by decide +kernel) (by decide +kernel) rfl (by decide +kernel) (by decide +kernel) h0
set_option maxRecDepth 100000 in
theorem r_41_56 : ∀ (d : Nat) (ls : Lc) (v0 v1 : Value)  (st : List Value) (M : Mem) (Q : Outcome → Mem → Prop), (smallR st = true) → Wp d 41 56 ls (v1 :: v0 :: st) M Q = Ca d 41 56 ls 36 [v0, v1] st M Q := fun d ls v0 v1 st M Q h0 => w_stat (as := [v0, v1]) (show ins 41 56 = some (.invokestatic 3, 3) by decide +kernel) (show mRes (mC 41) 3 = some (0, 1, [(0, 36)]) by decide +kernel) (by decide +kernel) (by decide +kernel) rfl h0
set_option maxRecDepth 100000 in
theorem r_41_59 : ∀ (d : Nat) (ls : Lc) (v : Int32) (M : Mem) (Q : Outcome → Mem → Prop), Wp d 41 59 ls [.int v] M Q = Q (.returned (some (.int v))) M := fun d ls v M Q => w_ireturn (show ins 41 59 = some (.ireturn, 1) by decide +kernel) (by decide +kernel)
set_option maxRecDepth 100000 in
theorem W_41 : (type_of% r_41_0) ∧ (type_of% r_41_1) ∧ (type_of% r_41_4) ∧ (type_of% r_41_5) ∧ (type_of% r_41_8) ∧ (type_of% r_41_11) ∧ (type_of% r_41_12) ∧ (type_of% r_41_15) ∧ (type_of% r_41_16) ∧ (type_of% r_41_17) ∧ (type_of% r_41_18) ∧ (type_of% r_41_21) ∧ (type_of% r_41_24) ∧ (type_of% r_41_27) ∧ (type_of% r_41_28) ∧ (type_of% r_41_29) ∧ (type_of% r_41_30) ∧ (type_of% r_41_33) ∧ (type_of% r_41_36) ∧ (type_of% r_41_39) ∧ (type_of% r_41_40) ∧ (type_of% r_41_43) ∧ (type_of% r_41_46) ∧ (type_of% r_41_47) ∧ (type_of% r_41_50) ∧ (type_of% r_41_53) ∧ (type_of% r_41_56) ∧ (type_of% r_41_59) := ⟨r_41_0, r_41_1, r_41_4, r_41_5, r_41_8, r_41_11, r_41_12, r_41_15, r_41_16, r_41_17, r_41_18, r_41_21, r_41_24, r_41_27, r_41_28, r_41_29, r_41_30, r_41_33, r_41_36, r_41_39, r_41_40, r_41_43, r_41_46, r_41_47, r_41_50, r_41_53, r_41_56, r_41_59⟩
set_option maxRecDepth 100000 in
theorem ca_41 {d y pc : Nat} {ls : Lc} {a : Nat} {z0 : Int32} {z1 : Int32} {r : List Value} {M : Mem} {Q : Outcome → Mem → Prop} (hd : 0 < d) (hw : Wp (d - 1) 41 0 [some (.ref a), some (.int z0), some (.int z1)] [] M (Cq d y pc ls r Q)) : Ca d y pc ls 41 [.ref a, .int z0, .int z1] r M Q := ca_of (mq_get (by decide)) (by rfl) hd hw
/-! 42 PackedTree.can(Z)V; loop heads [] -/
set_option maxRecDepth 100000 in
theorem r_42_0 : ∀ (d : Nat) (v : Int32) (st : List Value) (M : Mem) (Q : Outcome → Mem → Prop), Wp d 42 0 [some (.int v)] st M Q = Wp d 42 1 [some (.int v)] (.int v :: st) M Q := fun d v st M Q => wA (show ins 42 0 = some (.iload_n 0, 1) by decide +kernel) rfl
set_option maxRecDepth 100000 in
theorem r_42_1 : ∀ (d : Nat) (ls : Lc) (a : Int32) (st : List Value) (M : Mem) (Q : Outcome → Mem → Prop), Wp d 42 1 ls (.int a :: st) M Q = Br (¬ a = I 0) d 42 12 4 ls st M Q := fun d ls a st M Q => w_if (show ins 42 1 = some (.ifCond .ne 11, 3) by decide +kernel) rfl rfl
set_option maxRecDepth 100000 in
theorem r_42_4 : ∀ (d : Nat) (ls : Lc) (M : Mem) (Q : Outcome → Mem → Prop), Wp d 42 4 ls [] M Q = Q (.threw (mN M)) (nw M (.inl 14) 6) := fun d ls M Q => w_throw (show ins 42 4 = some (.new 108, 3) by decide +kernel) (by decide +kernel) (show ins 42 8 = some (.invokespecial 110, 3) by decide +kernel) (by decide +kernel) (show cRes (mC 42) 108 = some 14 by decide +kernel) (by decide +kernel) (by decide +kernel) (by decide +kernel)
set_option maxRecDepth 100000 in
theorem r_42_12 : ∀ (d : Nat) (ls : Lc) (M : Mem) (Q : Outcome → Mem → Prop), Wp d 42 12 ls [] M Q = Q (.returned none) M := fun d ls M Q => w_return (show ins 42 12 = some (.return_, 1) by decide +kernel) (by decide +kernel)
set_option maxRecDepth 100000 in
theorem W_42 : (type_of% r_42_0) ∧ (type_of% r_42_1) ∧ (type_of% r_42_4) ∧ (type_of% r_42_12) := ⟨r_42_0, r_42_1, r_42_4, r_42_12⟩
set_option maxRecDepth 100000 in
theorem ca_42 {d y pc : Nat} {ls : Lc} {z0 : Int32} {r : List Value} {M : Mem} {Q : Outcome → Mem → Prop} (hd : 0 < d) (hw : Wp (d - 1) 42 0 [some (.int z0)] [] M (Cq d y pc ls r Q)) : Ca d y pc ls 42 [.int z0] r M Q := ca_of (mq_get (by decide)) (by rfl) hd hw
/-! 43 PackedTree.keep()V; loop heads [6] -/
set_option maxRecDepth 100000 in
theorem r_43_0 : ∀ (d : Nat) (l1 : Option Value) (v : Nat) (st : List Value) (M : Mem) (Q : Outcome → Mem → Prop), Wp d 43 0 [some (.ref v), l1] st M Q = Wp d 43 1 [some (.ref v), l1] (.ref v :: st) M Q := fun d l1 v st M Q => wA (show ins 43 0 = some (.aload_n 0, 1) by decide +kernel) rfl
set_option maxRecDepth 100000 in
theorem r_43_1 : ∀ (d : Nat) (ls : Lc) (a : Nat) (st : List Value) (M : Mem) (Q : Outcome → Mem → Prop), (smallR st = true) → Wp d 43 1 ls (.ref a :: st) M Q = (kO M a = 1 ∧ Ca d 43 1 ls 25 (.ref a :: []) st M Q) := fun d ls a st M Q h0 => w_virt1 (as := []) (show ins 43 1 = some (.invokevirtual 89, 3) by decide +kernel) (show mRes (mC 43) 89 = some (3, 1, [(1, 25)]) by decide +kernel) (by decide +kernel) rfl (by decide +kernel) (by decide +kernel) h0
set_option maxRecDepth 100000 in
theorem r_43_4 : ∀ (d : Nat) (ls : Lc) (st : List Value) (M : Mem) (Q : Outcome → Mem → Prop), Wp d 43 4 ls st M Q = Wp d 43 5 ls (.int (I 0) :: st) M Q := fun d ls st M Q => w_iconst (show ins 43 4 = some (.iconst 0, 1) by decide +kernel)
set_option maxRecDepth 100000 in
theorem r_43_5 : ∀ (d : Nat) (l0 l1 : Option Value) (v : Int32) (st : List Value) (M : Mem) (Q : Outcome → Mem → Prop), (lo l0 = false) → Wp d 43 5 [l0, l1] (.int v :: st) M Q = Wp d 43 6 [l0, some (.int v)] st M Q := fun d l0 l1 v st M Q hl => w_istore_n (show ins 43 5 = some (.istore_n 1, 1) by decide +kernel) (st1_S rfl rfl hl)
set_option maxRecDepth 100000 in
theorem r_43_6 : ∀ (d : Nat) (l0 : Option Value) (v : Int32) (st : List Value) (M : Mem) (Q : Outcome → Mem → Prop), Wp d 43 6 [l0, some (.int v)] st M Q = Wp d 43 7 [l0, some (.int v)] (.int v :: st) M Q := fun d l0 v st M Q => wA (show ins 43 6 = some (.iload_n 1, 1) by decide +kernel) rfl
set_option maxRecDepth 100000 in
theorem r_43_7 : ∀ (d : Nat) (l1 : Option Value) (v : Nat) (st : List Value) (M : Mem) (Q : Outcome → Mem → Prop), Wp d 43 7 [some (.ref v), l1] st M Q = Wp d 43 8 [some (.ref v), l1] (.ref v :: st) M Q := fun d l1 v st M Q => wA (show ins 43 7 = some (.aload_n 0, 1) by decide +kernel) rfl
set_option maxRecDepth 100000 in
theorem r_43_8 : ∀ (d : Nat) (ls : Lc) (a : Nat) (st : List Value) (M : Mem) (Q : Outcome → Mem → Prop), Wp d 43 8 ls (.ref a :: st) M Q = (fk 7 (kO M a) = true ∧ Wp d 43 11 ls (.int (mF M 7 a) :: st) M Q) := fun d ls a st M Q => w_getI (show ins 43 8 = some (.getfield 40, 3) by decide +kernel) (show fRes (mC 43) 40 = some (7, 1, false) by decide +kernel) (by decide +kernel)
set_option maxRecDepth 100000 in
theorem r_43_11 : ∀ (d : Nat) (ls : Lc) (a b : Int32) (st : List Value) (M : Mem) (Q : Outcome → Mem → Prop), Wp d 43 11 ls (.int b :: .int a :: st) M Q = Br (b ≤ a) d 43 47 14 ls st M Q := fun d ls a b st M Q => w_icmp (show ins 43 11 = some (.if_icmp .ge 36, 3) by decide +kernel) rfl rfl
set_option maxRecDepth 100000 in
theorem r_43_14 : ∀ (d : Nat) (l1 : Option Value) (v : Nat) (st : List Value) (M : Mem) (Q : Outcome → Mem → Prop), Wp d 43 14 [some (.ref v), l1] st M Q = Wp d 43 15 [some (.ref v), l1] (.ref v :: st) M Q := fun d l1 v st M Q => wA (show ins 43 14 = some (.aload_n 0, 1) by decide +kernel) rfl
set_option maxRecDepth 100000 in
theorem r_43_15 : ∀ (d : Nat) (ls : Lc) (a : Nat) (st : List Value) (M : Mem) (Q : Outcome → Mem → Prop), Wp d 43 15 ls (.ref a :: st) M Q = (fk 6 (kO M a) = true ∧ Wp d 43 18 ls (va_rf (mR M 6 a) :: st) M Q) := fun d ls a st M Q => w_getR (show ins 43 15 = some (.getfield 49, 3) by decide +kernel) (show fRes (mC 43) 49 = some (6, 1, false) by decide +kernel) (by decide +kernel)
set_option maxRecDepth 100000 in
theorem r_43_18 : ∀ (d : Nat) (ls : Lc) (a : Nat) (st : List Value) (M : Mem) (Q : Outcome → Mem → Prop), Wp d 43 18 ls (.ref a :: st) M Q = (fk 11 (kO M a) = true ∧ Wp d 43 21 ls (va_rf (mR M 11 a) :: st) M Q) := fun d ls a st M Q => w_getR (show ins 43 18 = some (.getfield 141, 3) by decide +kernel) (show fRes (mC 43) 141 = some (11, 2, true) by decide +kernel) (by decide +kernel)
set_option maxRecDepth 100000 in
theorem r_43_21 : ∀ (d : Nat) (l0 : Option Value) (v : Int32) (st : List Value) (M : Mem) (Q : Outcome → Mem → Prop), Wp d 43 21 [l0, some (.int v)] st M Q = Wp d 43 22 [l0, some (.int v)] (.int v :: st) M Q := fun d l0 v st M Q => wA (show ins 43 21 = some (.iload_n 1, 1) by decide +kernel) rfl
set_option maxRecDepth 100000 in
theorem r_43_22 : ∀ (d : Nat) (ls : Lc) (a : Nat) (j : Int32) (st : List Value) (M : Mem) (Q : Outcome → Mem → Prop), Wp d 43 22 ls (.int j :: .ref a :: st) M Q = ((((kX M a).1 = 1 ∨ (kX M a).1 = 2) ∧ inB j (kX M a).2 = true) ∧ Wp d 43 23 ls (.int (mA M a j.toNatClampNeg) :: st) M Q) := fun d ls a j st M Q => w_baload (show ins 43 22 = some (.baload, 1) by decide +kernel)
set_option maxRecDepth 100000 in
theorem r_43_23 : ∀ (d : Nat) (ls : Lc) (a : Int32) (st : List Value) (M : Mem) (Q : Outcome → Mem → Prop), Wp d 43 23 ls (.int a :: st) M Q = Br (a = I 0) d 43 41 26 ls st M Q := fun d ls a st M Q => w_if (show ins 43 23 = some (.ifCond .eq 18, 3) by decide +kernel) rfl rfl
set_option maxRecDepth 100000 in
theorem r_43_26 : ∀ (d : Nat) (l1 : Option Value) (v : Nat) (st : List Value) (M : Mem) (Q : Outcome → Mem → Prop), Wp d 43 26 [some (.ref v), l1] st M Q = Wp d 43 27 [some (.ref v), l1] (.ref v :: st) M Q := fun d l1 v st M Q => wA (show ins 43 26 = some (.aload_n 0, 1) by decide +kernel) rfl
set_option maxRecDepth 100000 in
theorem r_43_27 : ∀ (d : Nat) (ls : Lc) (a : Nat) (st : List Value) (M : Mem) (Q : Outcome → Mem → Prop), Wp d 43 27 ls (.ref a :: st) M Q = (fk 4 (kO M a) = true ∧ Wp d 43 30 ls (va_rf (mR M 4 a) :: st) M Q) := fun d ls a st M Q => w_getR (show ins 43 27 = some (.getfield 15, 3) by decide +kernel) (show fRes (mC 43) 15 = some (4, 1, false) by decide +kernel) (by decide +kernel)
set_option maxRecDepth 100000 in
theorem r_43_30 : ∀ (d : Nat) (l0 : Option Value) (v : Int32) (st : List Value) (M : Mem) (Q : Outcome → Mem → Prop), Wp d 43 30 [l0, some (.int v)] st M Q = Wp d 43 31 [l0, some (.int v)] (.int v :: st) M Q := fun d l0 v st M Q => wA (show ins 43 30 = some (.iload_n 1, 1) by decide +kernel) rfl
set_option maxRecDepth 100000 in
theorem r_43_31 : ∀ (d : Nat) (ls : Lc) (a : Nat) (j : Int32) (st : List Value) (M : Mem) (Q : Outcome → Mem → Prop), Wp d 43 31 ls (.int j :: .ref a :: st) M Q = ((((kX M a).1 = 4 ∨ (kX M a).1 = 5 ∨ (kX M a).1 = 6 ∨ (kX M a).1 = 7) ∧ inB j (kX M a).2 = true) ∧ Wp d 43 32 ls (va_rf (mQ M a j.toNatClampNeg) :: st) M Q) := fun d ls a j st M Q => w_aaload (show ins 43 31 = some (.aaload, 1) by decide +kernel)
set_option maxRecDepth 100000 in
theorem r_43_32 : ∀ (d : Nat) (l1 : Option Value) (v : Nat) (st : List Value) (M : Mem) (Q : Outcome → Mem → Prop), Wp d 43 32 [some (.ref v), l1] st M Q = Wp d 43 33 [some (.ref v), l1] (.ref v :: st) M Q := fun d l1 v st M Q => wA (show ins 43 32 = some (.aload_n 0, 1) by decide +kernel) rfl
set_option maxRecDepth 100000 in
theorem r_43_33 : ∀ (d : Nat) (ls : Lc) (a : Nat) (st : List Value) (M : Mem) (Q : Outcome → Mem → Prop), Wp d 43 33 ls (.ref a :: st) M Q = (fk 8 (kO M a) = true ∧ Wp d 43 36 ls (va_rf (mR M 8 a) :: st) M Q) := fun d ls a st M Q => w_getR (show ins 43 33 = some (.getfield 18, 3) by decide +kernel) (show fRes (mC 43) 18 = some (8, 1, false) by decide +kernel) (by decide +kernel)
set_option maxRecDepth 100000 in
theorem r_43_36 : ∀ (d : Nat) (l0 : Option Value) (v : Int32) (st : List Value) (M : Mem) (Q : Outcome → Mem → Prop), Wp d 43 36 [l0, some (.int v)] st M Q = Wp d 43 37 [l0, some (.int v)] (.int v :: st) M Q := fun d l0 v st M Q => wA (show ins 43 36 = some (.iload_n 1, 1) by decide +kernel) rfl
set_option maxRecDepth 100000 in
theorem r_43_37 : ∀ (d : Nat) (ls : Lc) (a : Nat) (j : Int32) (st : List Value) (M : Mem) (Q : Outcome → Mem → Prop), Wp d 43 37 ls (.int j :: .ref a :: st) M Q = ((((kX M a).1 = 4 ∨ (kX M a).1 = 5 ∨ (kX M a).1 = 6 ∨ (kX M a).1 = 7) ∧ inB j (kX M a).2 = true) ∧ Wp d 43 38 ls (va_rf (mQ M a j.toNatClampNeg) :: st) M Q) := fun d ls a j st M Q => w_aaload (show ins 43 37 = some (.aaload, 1) by decide +kernel)
set_option maxRecDepth 100000 in
theorem r_43_38 : ∀ (d : Nat) (ls : Lc) (v0 v1 : Value)  (st : List Value) (M : Mem) (Q : Outcome → Mem → Prop), (smallR st = true) → Wp d 43 38 ls (v1 :: v0 :: st) M Q = Ca d 43 38 ls 27 [v0, v1] st M Q := fun d ls v0 v1 st M Q h0 => w_stat (as := [v0, v1]) (show ins 43 38 = some (.invokestatic 95, 3) by decide +kernel) (show mRes (mC 43) 95 = some (0, 1, [(0, 27)]) by decide +kernel) (by decide +kernel) (by decide +kernel) rfl h0
set_option maxRecDepth 100000 in
theorem r_43_41 : ∀ (d : Nat) (l0 : Option Value) (z : Int) (st : List Value) (M : Mem) (Q : Outcome → Mem → Prop), (lo l0 = false) → Wp d 43 41 [l0, some (.int (I z))] st M Q = Wp d 43 44 [l0, some (.int (I (z + 1)))] st M Q := fun d l0 z st M Q hl => w_iinc (show ins 43 41 = some (.iinc 1 1, 3) by decide +kernel) rfl (st1_S rfl rfl hl)
set_option maxRecDepth 100000 in
theorem r_43_44 : ∀ (d : Nat) (ls : Lc) (st : List Value) (M : Mem) (Q : Outcome → Mem → Prop), Wp d 43 44 ls st M Q = Wp d 43 6 ls st M Q := fun d ls st M Q => w_goto (show ins 43 44 = some (.goto (-38), 3) by decide +kernel) rfl
set_option maxRecDepth 100000 in
theorem r_43_47 : ∀ (d : Nat) (ls : Lc) (M : Mem) (Q : Outcome → Mem → Prop), Wp d 43 47 ls [] M Q = Q (.returned none) M := fun d ls M Q => w_return (show ins 43 47 = some (.return_, 1) by decide +kernel) (by decide +kernel)
set_option maxRecDepth 100000 in
theorem w_43_6 : (type_of% r_43_6) := r_43_6
set_option maxRecDepth 100000 in
theorem W_43 : (type_of% r_43_0) ∧ (type_of% r_43_1) ∧ (type_of% r_43_4) ∧ (type_of% r_43_5) ∧ (type_of% r_43_7) ∧ (type_of% r_43_8) ∧ (type_of% r_43_11) ∧ (type_of% r_43_14) ∧ (type_of% r_43_15) ∧ (type_of% r_43_18) ∧ (type_of% r_43_21) ∧ (type_of% r_43_22) ∧ (type_of% r_43_23) ∧ (type_of% r_43_26) ∧ (type_of% r_43_27) ∧ (type_of% r_43_30) ∧ (type_of% r_43_31) ∧ (type_of% r_43_32) ∧ (type_of% r_43_33) ∧ (type_of% r_43_36) ∧ (type_of% r_43_37) ∧ (type_of% r_43_38) ∧ (type_of% r_43_41) ∧ (type_of% r_43_44) ∧ (type_of% r_43_47) := ⟨r_43_0, r_43_1, r_43_4, r_43_5, r_43_7, r_43_8, r_43_11, r_43_14, r_43_15, r_43_18, r_43_21, r_43_22, r_43_23, r_43_26, r_43_27, r_43_30, r_43_31, r_43_32, r_43_33, r_43_36, r_43_37, r_43_38, r_43_41, r_43_44, r_43_47⟩
set_option maxRecDepth 100000 in
theorem ca_43 {d y pc : Nat} {ls : Lc} {a : Nat} {r : List Value} {M : Mem} {Q : Outcome → Mem → Prop} (hd : 0 < d) (hw : Wp (d - 1) 43 0 [some (.ref a), none] [] M (Cq d y pc ls r Q)) : Ca d y pc ls 43 [.ref a] r M Q := ca_of (mq_get (by decide)) (by rfl) hd hw
/-! 44 PackedTree.enter(III)V; loop heads [] -/
set_option maxRecDepth 100000 in
theorem r_44_0 : ∀ (d : Nat) (l1 l2 l3 : Option Value) (v : Nat) (st : List Value) (M : Mem) (Q : Outcome → Mem → Prop), Wp d 44 0 [some (.ref v), l1, l2, l3] st M Q = Wp d 44 1 [some (.ref v), l1, l2, l3] (.ref v :: st) M Q := fun d l1 l2 l3 v st M Q => wA (show ins 44 0 = some (.aload_n 0, 1) by decide +kernel) rfl
set_option maxRecDepth 100000 in
theorem r_44_1 : ∀ (d : Nat) (ls : Lc) (a : Nat) (st : List Value) (M : Mem) (Q : Outcome → Mem → Prop), Wp d 44 1 ls (.ref a :: st) M Q = (fk 0 (kO M a) = true ∧ Wp d 44 4 ls (va_rf (mR M 0 a) :: st) M Q) := fun d ls a st M Q => w_getR (show ins 44 1 = some (.getfield 25, 3) by decide +kernel) (show fRes (mC 44) 25 = some (0, 1, false) by decide +kernel) (by decide +kernel)
set_option maxRecDepth 100000 in
theorem r_44_4 : ∀ (d : Nat) (ls : Lc) (st : List Value) (M : Mem) (Q : Outcome → Mem → Prop), Wp d 44 4 ls st M Q = Wp d 44 5 ls (.int (I 0) :: st) M Q := fun d ls st M Q => w_iconst (show ins 44 4 = some (.iconst 0, 1) by decide +kernel)
set_option maxRecDepth 100000 in
theorem r_44_5 : ∀ (d : Nat) (l0 l1 l2 : Option Value) (v : Int32) (st : List Value) (M : Mem) (Q : Outcome → Mem → Prop), Wp d 44 5 [l0, l1, l2, some (.int v)] st M Q = Wp d 44 6 [l0, l1, l2, some (.int v)] (.int v :: st) M Q := fun d l0 l1 l2 v st M Q => wA (show ins 44 5 = some (.iload_n 3, 1) by decide +kernel) rfl
set_option maxRecDepth 100000 in
theorem r_44_6 : ∀ (d : Nat) (ls : Lc) (a : Int32) (st : List Value) (M : Mem) (Q : Outcome → Mem → Prop), Wp d 44 6 ls (.int a :: st) M Q = Wp d 44 7 ls (.int a.toInt8.toInt32 :: st) M Q := fun d ls a st M Q => wA (show ins 44 6 = some (.i2b, 1) by decide +kernel) rfl
set_option maxRecDepth 100000 in
theorem r_44_7 : ∀ (d : Nat) (ls : Lc) (a : Nat) (j v : Int32) (st : List Value) (M : Mem) (Q : Outcome → Mem → Prop), Wp d 44 7 ls (.int v :: .int j :: .ref a :: st) M Q = ((((kX M a).1 = 1 ∨ (kX M a).1 = 2) ∧ inB j (kX M a).2 = true) ∧ Wp d 44 8 ls st (sA M a j.toNatClampNeg (nrw (kX M a).1 v)) Q) := fun d ls a j v st M Q => w_bastore (show ins 44 7 = some (.bastore, 1) by decide +kernel)
set_option maxRecDepth 100000 in
theorem r_44_8 : ∀ (d : Nat) (l1 l2 l3 : Option Value) (v : Nat) (st : List Value) (M : Mem) (Q : Outcome → Mem → Prop), Wp d 44 8 [some (.ref v), l1, l2, l3] st M Q = Wp d 44 9 [some (.ref v), l1, l2, l3] (.ref v :: st) M Q := fun d l1 l2 l3 v st M Q => wA (show ins 44 8 = some (.aload_n 0, 1) by decide +kernel) rfl
set_option maxRecDepth 100000 in
theorem r_44_9 : ∀ (d : Nat) (ls : Lc) (a : Nat) (st : List Value) (M : Mem) (Q : Outcome → Mem → Prop), Wp d 44 9 ls (.ref a :: st) M Q = (fk 0 (kO M a) = true ∧ Wp d 44 12 ls (va_rf (mR M 0 a) :: st) M Q) := fun d ls a st M Q => w_getR (show ins 44 9 = some (.getfield 25, 3) by decide +kernel) (show fRes (mC 44) 25 = some (0, 1, false) by decide +kernel) (by decide +kernel)
set_option maxRecDepth 100000 in
theorem r_44_12 : ∀ (d : Nat) (ls : Lc) (st : List Value) (M : Mem) (Q : Outcome → Mem → Prop), Wp d 44 12 ls st M Q = Wp d 44 13 ls (.int (I 1) :: st) M Q := fun d ls st M Q => w_iconst (show ins 44 12 = some (.iconst 1, 1) by decide +kernel)
set_option maxRecDepth 100000 in
theorem r_44_13 : ∀ (d : Nat) (ls : Lc) (st : List Value) (M : Mem) (Q : Outcome → Mem → Prop), Wp d 44 13 ls st M Q = Wp d 44 14 ls (.int (I 0) :: st) M Q := fun d ls st M Q => w_iconst (show ins 44 13 = some (.iconst 0, 1) by decide +kernel)
set_option maxRecDepth 100000 in
theorem r_44_14 : ∀ (d : Nat) (ls : Lc) (a : Nat) (j v : Int32) (st : List Value) (M : Mem) (Q : Outcome → Mem → Prop), Wp d 44 14 ls (.int v :: .int j :: .ref a :: st) M Q = ((((kX M a).1 = 1 ∨ (kX M a).1 = 2) ∧ inB j (kX M a).2 = true) ∧ Wp d 44 15 ls st (sA M a j.toNatClampNeg (nrw (kX M a).1 v)) Q) := fun d ls a j v st M Q => w_bastore (show ins 44 14 = some (.bastore, 1) by decide +kernel)
set_option maxRecDepth 100000 in
theorem r_44_15 : ∀ (d : Nat) (l1 l2 l3 : Option Value) (v : Nat) (st : List Value) (M : Mem) (Q : Outcome → Mem → Prop), Wp d 44 15 [some (.ref v), l1, l2, l3] st M Q = Wp d 44 16 [some (.ref v), l1, l2, l3] (.ref v :: st) M Q := fun d l1 l2 l3 v st M Q => wA (show ins 44 15 = some (.aload_n 0, 1) by decide +kernel) rfl
set_option maxRecDepth 100000 in
theorem r_44_16 : ∀ (d : Nat) (ls : Lc) (a : Nat) (st : List Value) (M : Mem) (Q : Outcome → Mem → Prop), Wp d 44 16 ls (.ref a :: st) M Q = (fk 0 (kO M a) = true ∧ Wp d 44 19 ls (va_rf (mR M 0 a) :: st) M Q) := fun d ls a st M Q => w_getR (show ins 44 16 = some (.getfield 25, 3) by decide +kernel) (show fRes (mC 44) 25 = some (0, 1, false) by decide +kernel) (by decide +kernel)
set_option maxRecDepth 100000 in
theorem r_44_19 : ∀ (d : Nat) (ls : Lc) (st : List Value) (M : Mem) (Q : Outcome → Mem → Prop), Wp d 44 19 ls st M Q = Wp d 44 20 ls (.int (I 2) :: st) M Q := fun d ls st M Q => w_iconst (show ins 44 19 = some (.iconst 2, 1) by decide +kernel)
set_option maxRecDepth 100000 in
theorem r_44_20 : ∀ (d : Nat) (ls : Lc) (st : List Value) (M : Mem) (Q : Outcome → Mem → Prop), Wp d 44 20 ls st M Q = Wp d 44 21 ls (.int (I 0) :: st) M Q := fun d ls st M Q => w_iconst (show ins 44 20 = some (.iconst 0, 1) by decide +kernel)
set_option maxRecDepth 100000 in
theorem r_44_21 : ∀ (d : Nat) (ls : Lc) (a : Nat) (j v : Int32) (st : List Value) (M : Mem) (Q : Outcome → Mem → Prop), Wp d 44 21 ls (.int v :: .int j :: .ref a :: st) M Q = ((((kX M a).1 = 1 ∨ (kX M a).1 = 2) ∧ inB j (kX M a).2 = true) ∧ Wp d 44 22 ls st (sA M a j.toNatClampNeg (nrw (kX M a).1 v)) Q) := fun d ls a j v st M Q => w_bastore (show ins 44 21 = some (.bastore, 1) by decide +kernel)
set_option maxRecDepth 100000 in
theorem r_44_22 : ∀ (d : Nat) (l1 l2 l3 : Option Value) (v : Nat) (st : List Value) (M : Mem) (Q : Outcome → Mem → Prop), Wp d 44 22 [some (.ref v), l1, l2, l3] st M Q = Wp d 44 23 [some (.ref v), l1, l2, l3] (.ref v :: st) M Q := fun d l1 l2 l3 v st M Q => wA (show ins 44 22 = some (.aload_n 0, 1) by decide +kernel) rfl
set_option maxRecDepth 100000 in
theorem r_44_23 : ∀ (d : Nat) (ls : Lc) (a : Nat) (st : List Value) (M : Mem) (Q : Outcome → Mem → Prop), Wp d 44 23 ls (.ref a :: st) M Q = (fk 9 (kO M a) = true ∧ Wp d 44 26 ls (va_rf (mR M 9 a) :: st) M Q) := fun d ls a st M Q => w_getR (show ins 44 23 = some (.getfield 58, 3) by decide +kernel) (show fRes (mC 44) 58 = some (9, 1, false) by decide +kernel) (by decide +kernel)
set_option maxRecDepth 100000 in
theorem r_44_26 : ∀ (d : Nat) (l0 l2 l3 : Option Value) (v : Int32) (st : List Value) (M : Mem) (Q : Outcome → Mem → Prop), Wp d 44 26 [l0, some (.int v), l2, l3] st M Q = Wp d 44 27 [l0, some (.int v), l2, l3] (.int v :: st) M Q := fun d l0 l2 l3 v st M Q => wA (show ins 44 26 = some (.iload_n 1, 1) by decide +kernel) rfl
set_option maxRecDepth 100000 in
theorem r_44_27 : ∀ (d : Nat) (ls : Lc) (st : List Value) (M : Mem) (Q : Outcome → Mem → Prop), Wp d 44 27 ls st M Q = Wp d 44 28 ls (.int (I 1) :: st) M Q := fun d ls st M Q => w_iconst (show ins 44 27 = some (.iconst 1, 1) by decide +kernel)
set_option maxRecDepth 100000 in
theorem r_44_28 : ∀ (d : Nat) (l0 l1 l3 : Option Value) (v : Int32) (st : List Value) (M : Mem) (Q : Outcome → Mem → Prop), Wp d 44 28 [l0, l1, some (.int v), l3] st M Q = Wp d 44 29 [l0, l1, some (.int v), l3] (.int v :: st) M Q := fun d l0 l1 l3 v st M Q => wA (show ins 44 28 = some (.iload_n 2, 1) by decide +kernel) rfl
set_option maxRecDepth 100000 in
theorem r_44_29 : ∀ (d : Nat) (ls : Lc) (v0 v1 v2 : Value)  (st : List Value) (M : Mem) (Q : Outcome → Mem → Prop), (smallR st = true) → Wp d 44 29 ls (v2 :: v1 :: v0 :: st) M Q = Ca d 44 29 ls 24 [v0, v1, v2] st M Q := fun d ls v0 v1 v2 st M Q h0 => w_stat (as := [v0, v1, v2]) (show ins 44 29 = some (.invokestatic 82, 3) by decide +kernel) (show mRes (mC 44) 82 = some (0, 1, [(0, 24)]) by decide +kernel) (by decide +kernel) (by decide +kernel) rfl h0
set_option maxRecDepth 100000 in
theorem r_44_32 : ∀ (d : Nat) (l1 l2 l3 : Option Value) (v : Nat) (st : List Value) (M : Mem) (Q : Outcome → Mem → Prop), Wp d 44 32 [some (.ref v), l1, l2, l3] st M Q = Wp d 44 33 [some (.ref v), l1, l2, l3] (.ref v :: st) M Q := fun d l1 l2 l3 v st M Q => wA (show ins 44 32 = some (.aload_n 0, 1) by decide +kernel) rfl
set_option maxRecDepth 100000 in
theorem r_44_33 : ∀ (d : Nat) (ls : Lc) (a : Nat) (st : List Value) (M : Mem) (Q : Outcome → Mem → Prop), Wp d 44 33 ls (.ref a :: st) M Q = (fk 0 (kO M a) = true ∧ Wp d 44 36 ls (va_rf (mR M 0 a) :: st) M Q) := fun d ls a st M Q => w_getR (show ins 44 33 = some (.getfield 25, 3) by decide +kernel) (show fRes (mC 44) 25 = some (0, 1, false) by decide +kernel) (by decide +kernel)
set_option maxRecDepth 100000 in
theorem r_44_36 : ∀ (d : Nat) (ls : Lc) (st : List Value) (M : Mem) (Q : Outcome → Mem → Prop), Wp d 44 36 ls st M Q = Wp d 44 37 ls (.int (I 3) :: st) M Q := fun d ls st M Q => w_iconst (show ins 44 36 = some (.iconst 3, 1) by decide +kernel)
set_option maxRecDepth 100000 in
theorem r_44_37 : ∀ (d : Nat) (ls : Lc) (v0 v1 v2 : Value) (a : Nat) (st : List Value) (M : Mem) (Q : Outcome → Mem → Prop), (smallR st = true) → Wp d 44 37 ls (v2 :: v1 :: v0 :: .ref a :: st) M Q = (kO M a = 3 ∧ Ca d 44 37 ls 97 (.ref a :: [v0, v1, v2]) st M Q) := fun d ls v0 v1 v2 a st M Q h0 => w_virt1 (as := [v0, v1, v2]) (show ins 44 37 = some (.invokevirtual 85, 3) by decide +kernel) (show mRes (mC 44) 85 = some (3, 3, [(3, 97)]) by decide +kernel) (by decide +kernel) rfl (by decide +kernel) (by decide +kernel) h0
set_option maxRecDepth 100000 in
theorem r_44_40 : ∀ (d : Nat) (l1 l2 l3 : Option Value) (v : Nat) (st : List Value) (M : Mem) (Q : Outcome → Mem → Prop), Wp d 44 40 [some (.ref v), l1, l2, l3] st M Q = Wp d 44 41 [some (.ref v), l1, l2, l3] (.ref v :: st) M Q := fun d l1 l2 l3 v st M Q => wA (show ins 44 40 = some (.aload_n 0, 1) by decide +kernel) rfl
set_option maxRecDepth 100000 in
theorem r_44_41 : ∀ (d : Nat) (l0 l2 l3 : Option Value) (v : Int32) (st : List Value) (M : Mem) (Q : Outcome → Mem → Prop), Wp d 44 41 [l0, some (.int v), l2, l3] st M Q = Wp d 44 42 [l0, some (.int v), l2, l3] (.int v :: st) M Q := fun d l0 l2 l3 v st M Q => wA (show ins 44 41 = some (.iload_n 1, 1) by decide +kernel) rfl
set_option maxRecDepth 100000 in
theorem r_44_42 : ∀ (d : Nat) (ls : Lc) (st : List Value) (M : Mem) (Q : Outcome → Mem → Prop), Wp d 44 42 ls st M Q = Wp d 44 43 ls (.int (I 1) :: st) M Q := fun d ls st M Q => w_iconst (show ins 44 42 = some (.iconst 1, 1) by decide +kernel)
set_option maxRecDepth 100000 in
theorem r_44_43 : ∀ (d : Nat) (ls : Lc) (v0 v1 : Value) (a : Nat) (st : List Value) (M : Mem) (Q : Outcome → Mem → Prop), (smallR st = true) → Wp d 44 43 ls (v1 :: v0 :: .ref a :: st) M Q = (kO M a = 1 ∧ Ca d 44 43 ls 45 (.ref a :: [v0, v1]) st M Q) := fun d ls v0 v1 a st M Q h0 => w_virt1 (as := [v0, v1]) (show ins 44 43 = some (.invokevirtual 201, 3) by decide +kernel) (show mRes (mC 44) 201 = some (3, 1, [(1, 45)]) by decide +kernel) (by decide +kernel) rfl (by decide +kernel) (by decide +kernel) h0
set_option maxRecDepth 100000 in
theorem r_44_46 : ∀ (d : Nat) (ls : Lc) (M : Mem) (Q : Outcome → Mem → Prop), Wp d 44 46 ls [] M Q = Q (.returned none) M := fun d ls M Q => w_return (show ins 44 46 = some (.return_, 1) by decide +kernel) (by decide +kernel)
set_option maxRecDepth 100000 in
theorem W_44 : (type_of% r_44_0) ∧ (type_of% r_44_1) ∧ (type_of% r_44_4) ∧ (type_of% r_44_5) ∧ (type_of% r_44_6) ∧ (type_of% r_44_7) ∧ (type_of% r_44_8) ∧ (type_of% r_44_9) ∧ (type_of% r_44_12) ∧ (type_of% r_44_13) ∧ (type_of% r_44_14) ∧ (type_of% r_44_15) ∧ (type_of% r_44_16) ∧ (type_of% r_44_19) ∧ (type_of% r_44_20) ∧ (type_of% r_44_21) ∧ (type_of% r_44_22) ∧ (type_of% r_44_23) ∧ (type_of% r_44_26) ∧ (type_of% r_44_27) ∧ (type_of% r_44_28) ∧ (type_of% r_44_29) ∧ (type_of% r_44_32) ∧ (type_of% r_44_33) ∧ (type_of% r_44_36) ∧ (type_of% r_44_37) ∧ (type_of% r_44_40) ∧ (type_of% r_44_41) ∧ (type_of% r_44_42) ∧ (type_of% r_44_43) ∧ (type_of% r_44_46) := ⟨r_44_0, r_44_1, r_44_4, r_44_5, r_44_6, r_44_7, r_44_8, r_44_9, r_44_12, r_44_13, r_44_14, r_44_15, r_44_16, r_44_19, r_44_20, r_44_21, r_44_22, r_44_23, r_44_26, r_44_27, r_44_28, r_44_29, r_44_32, r_44_33, r_44_36, r_44_37, r_44_40, r_44_41, r_44_42, r_44_43, r_44_46⟩
set_option maxRecDepth 100000 in
theorem ca_44 {d y pc : Nat} {ls : Lc} {a : Nat} {z0 : Int32} {z1 : Int32} {z2 : Int32} {r : List Value} {M : Mem} {Q : Outcome → Mem → Prop} (hd : 0 < d) (hw : Wp (d - 1) 44 0 [some (.ref a), some (.int z0), some (.int z1), some (.int z2)] [] M (Cq d y pc ls r Q)) : Ca d y pc ls 44 [.ref a, .int z0, .int z1, .int z2] r M Q := ca_of (mq_get (by decide)) (by rfl) hd hw
/-! 45 PackedTree.count(II)V; loop heads [] -/
set_option maxRecDepth 100000 in
theorem r_45_0 : ∀ (d : Nat) (l1 l2 : Option Value) (v : Nat) (st : List Value) (M : Mem) (Q : Outcome → Mem → Prop), Wp d 45 0 [some (.ref v), l1, l2] st M Q = Wp d 45 1 [some (.ref v), l1, l2] (.ref v :: st) M Q := fun d l1 l2 v st M Q => wA (show ins 45 0 = some (.aload_n 0, 1) by decide +kernel) rfl
set_option maxRecDepth 100000 in
theorem r_45_1 : ∀ (d : Nat) (l0 l2 : Option Value) (v : Int32) (st : List Value) (M : Mem) (Q : Outcome → Mem → Prop), Wp d 45 1 [l0, some (.int v), l2] st M Q = Wp d 45 2 [l0, some (.int v), l2] (.int v :: st) M Q := fun d l0 l2 v st M Q => wA (show ins 45 1 = some (.iload_n 1, 1) by decide +kernel) rfl
set_option maxRecDepth 100000 in
theorem r_45_2 : ∀ (d : Nat) (l1 l2 : Option Value) (v : Nat) (st : List Value) (M : Mem) (Q : Outcome → Mem → Prop), Wp d 45 2 [some (.ref v), l1, l2] st M Q = Wp d 45 3 [some (.ref v), l1, l2] (.ref v :: st) M Q := fun d l1 l2 v st M Q => wA (show ins 45 2 = some (.aload_n 0, 1) by decide +kernel) rfl
set_option maxRecDepth 100000 in
theorem r_45_3 : ∀ (d : Nat) (l0 l2 : Option Value) (v : Int32) (st : List Value) (M : Mem) (Q : Outcome → Mem → Prop), Wp d 45 3 [l0, some (.int v), l2] st M Q = Wp d 45 4 [l0, some (.int v), l2] (.int v :: st) M Q := fun d l0 l2 v st M Q => wA (show ins 45 3 = some (.iload_n 1, 1) by decide +kernel) rfl
set_option maxRecDepth 100000 in
theorem r_45_4 : ∀ (d : Nat) (ls : Lc) (v0 : Value) (a : Nat) (st : List Value) (M : Mem) (Q : Outcome → Mem → Prop), (smallR st = true) → Wp d 45 4 ls (v0 :: .ref a :: st) M Q = (kO M a = 1 ∧ Ca d 45 4 ls 46 (.ref a :: [v0]) st M Q) := fun d ls v0 a st M Q h0 => w_virt1 (as := [v0]) (show ins 45 4 = some (.invokevirtual 189, 3) by decide +kernel) (show mRes (mC 45) 189 = some (3, 1, [(1, 46)]) by decide +kernel) (by decide +kernel) rfl (by decide +kernel) (by decide +kernel) h0
set_option maxRecDepth 100000 in
theorem r_45_7 : ∀ (d : Nat) (l1 l2 : Option Value) (v : Nat) (st : List Value) (M : Mem) (Q : Outcome → Mem → Prop), Wp d 45 7 [some (.ref v), l1, l2] st M Q = Wp d 45 8 [some (.ref v), l1, l2] (.ref v :: st) M Q := fun d l1 l2 v st M Q => wA (show ins 45 7 = some (.aload_n 0, 1) by decide +kernel) rfl
set_option maxRecDepth 100000 in
theorem r_45_8 : ∀ (d : Nat) (l0 l2 : Option Value) (v : Int32) (st : List Value) (M : Mem) (Q : Outcome → Mem → Prop), Wp d 45 8 [l0, some (.int v), l2] st M Q = Wp d 45 9 [l0, some (.int v), l2] (.int v :: st) M Q := fun d l0 l2 v st M Q => wA (show ins 45 8 = some (.iload_n 1, 1) by decide +kernel) rfl
set_option maxRecDepth 100000 in
theorem r_45_9 : ∀ (d : Nat) (ls : Lc) (v0 : Value) (a : Nat) (st : List Value) (M : Mem) (Q : Outcome → Mem → Prop), (smallR st = true) → Wp d 45 9 ls (v0 :: .ref a :: st) M Q = (kO M a = 1 ∧ Ca d 45 9 ls 47 (.ref a :: [v0]) st M Q) := fun d ls v0 a st M Q h0 => w_virt1 (as := [v0]) (show ins 45 9 = some (.invokevirtual 192, 3) by decide +kernel) (show mRes (mC 45) 192 = some (3, 1, [(1, 47)]) by decide +kernel) (by decide +kernel) rfl (by decide +kernel) (by decide +kernel) h0
set_option maxRecDepth 100000 in
theorem r_45_12 : ∀ (d : Nat) (l0 l1 : Option Value) (v : Int32) (st : List Value) (M : Mem) (Q : Outcome → Mem → Prop), Wp d 45 12 [l0, l1, some (.int v)] st M Q = Wp d 45 13 [l0, l1, some (.int v)] (.int v :: st) M Q := fun d l0 l1 v st M Q => wA (show ins 45 12 = some (.iload_n 2, 1) by decide +kernel) rfl
set_option maxRecDepth 100000 in
theorem r_45_13 : ∀ (d : Nat) (ls : Lc) (a b : Int) (st : List Value) (M : Mem) (Q : Outcome → Mem → Prop), Wp d 45 13 ls (.int (I b) :: .int (I a) :: st) M Q = Wp d 45 14 ls (.int (I (a + b)) :: st) M Q := fun d ls a b st M Q => w_iadd (show ins 45 13 = some (.iadd, 1) by decide +kernel)
set_option maxRecDepth 100000 in
theorem r_45_14 : ∀ (d : Nat) (ls : Lc) (v0 v1 v2 : Value) (a : Nat) (st : List Value) (M : Mem) (Q : Outcome → Mem → Prop), (smallR st = true) → Wp d 45 14 ls (v2 :: v1 :: v0 :: .ref a :: st) M Q = (kO M a = 1 ∧ Ca d 45 14 ls 48 (.ref a :: [v0, v1, v2]) st M Q) := fun d ls v0 v1 v2 a st M Q h0 => w_virt1 (as := [v0, v1, v2]) (show ins 45 14 = some (.invokevirtual 195, 3) by decide +kernel) (show mRes (mC 45) 195 = some (3, 1, [(1, 48)]) by decide +kernel) (by decide +kernel) rfl (by decide +kernel) (by decide +kernel) h0
set_option maxRecDepth 100000 in
theorem r_45_17 : ∀ (d : Nat) (ls : Lc) (M : Mem) (Q : Outcome → Mem → Prop), Wp d 45 17 ls [] M Q = Q (.returned none) M := fun d ls M Q => w_return (show ins 45 17 = some (.return_, 1) by decide +kernel) (by decide +kernel)
set_option maxRecDepth 100000 in
theorem W_45 : (type_of% r_45_0) ∧ (type_of% r_45_1) ∧ (type_of% r_45_2) ∧ (type_of% r_45_3) ∧ (type_of% r_45_4) ∧ (type_of% r_45_7) ∧ (type_of% r_45_8) ∧ (type_of% r_45_9) ∧ (type_of% r_45_12) ∧ (type_of% r_45_13) ∧ (type_of% r_45_14) ∧ (type_of% r_45_17) := ⟨r_45_0, r_45_1, r_45_2, r_45_3, r_45_4, r_45_7, r_45_8, r_45_9, r_45_12, r_45_13, r_45_14, r_45_17⟩
set_option maxRecDepth 100000 in
theorem ca_45 {d y pc : Nat} {ls : Lc} {a : Nat} {z0 : Int32} {z1 : Int32} {r : List Value} {M : Mem} {Q : Outcome → Mem → Prop} (hd : 0 < d) (hw : Wp (d - 1) 45 0 [some (.ref a), some (.int z0), some (.int z1)] [] M (Cq d y pc ls r Q)) : Ca d y pc ls 45 [.ref a, .int z0, .int z1] r M Q := ca_of (mq_get (by decide)) (by rfl) hd hw
/-! 46 PackedTree.linksOf(I)I; loop heads [] -/
set_option maxRecDepth 100000 in
theorem r_46_0 : ∀ (d : Nat) (l1 : Option Value) (v : Nat) (st : List Value) (M : Mem) (Q : Outcome → Mem → Prop), Wp d 46 0 [some (.ref v), l1] st M Q = Wp d 46 1 [some (.ref v), l1] (.ref v :: st) M Q := fun d l1 v st M Q => wA (show ins 46 0 = some (.aload_n 0, 1) by decide +kernel) rfl
set_option maxRecDepth 100000 in
theorem r_46_1 : ∀ (d : Nat) (l0 : Option Value) (v : Int32) (st : List Value) (M : Mem) (Q : Outcome → Mem → Prop), Wp d 46 1 [l0, some (.int v)] st M Q = Wp d 46 2 [l0, some (.int v)] (.int v :: st) M Q := fun d l0 v st M Q => wA (show ins 46 1 = some (.iload_n 1, 1) by decide +kernel) rfl
set_option maxRecDepth 100000 in
theorem r_46_2 : ∀ (d : Nat) (ls : Lc) (st : List Value) (M : Mem) (Q : Outcome → Mem → Prop), Wp d 46 2 ls st M Q = Wp d 46 3 ls (.int (I 1) :: st) M Q := fun d ls st M Q => w_iconst (show ins 46 2 = some (.iconst 1, 1) by decide +kernel)
set_option maxRecDepth 100000 in
theorem r_46_3 : ∀ (d : Nat) (ls : Lc) (st : List Value) (M : Mem) (Q : Outcome → Mem → Prop), Wp d 46 3 ls st M Q = Wp d 46 4 ls (.int (I 2) :: st) M Q := fun d ls st M Q => w_iconst (show ins 46 3 = some (.iconst 2, 1) by decide +kernel)
set_option maxRecDepth 100000 in
theorem r_46_4 : ∀ (d : Nat) (ls : Lc) (v0 v1 v2 : Value) (a : Nat) (st : List Value) (M : Mem) (Q : Outcome → Mem → Prop), (smallR st = true) → Wp d 46 4 ls (v2 :: v1 :: v0 :: .ref a :: st) M Q = (kO M a = 1 ∧ Ca d 46 4 ls 34 (.ref a :: [v0, v1, v2]) st M Q) := fun d ls v0 v1 v2 a st M Q h0 => w_virt1 (as := [v0, v1, v2]) (show ins 46 4 = some (.invokevirtual 178, 3) by decide +kernel) (show mRes (mC 46) 178 = some (3, 1, [(1, 34)]) by decide +kernel) (by decide +kernel) rfl (by decide +kernel) (by decide +kernel) h0
set_option maxRecDepth 100000 in
theorem r_46_7 : ∀ (d : Nat) (ls : Lc) (v : Int32) (M : Mem) (Q : Outcome → Mem → Prop), Wp d 46 7 ls [.int v] M Q = Q (.returned (some (.int v))) M := fun d ls v M Q => w_ireturn (show ins 46 7 = some (.ireturn, 1) by decide +kernel) (by decide +kernel)
set_option maxRecDepth 100000 in
theorem W_46 : (type_of% r_46_0) ∧ (type_of% r_46_1) ∧ (type_of% r_46_2) ∧ (type_of% r_46_3) ∧ (type_of% r_46_4) ∧ (type_of% r_46_7) := ⟨r_46_0, r_46_1, r_46_2, r_46_3, r_46_4, r_46_7⟩
set_option maxRecDepth 100000 in
theorem ca_46 {d y pc : Nat} {ls : Lc} {a : Nat} {z0 : Int32} {r : List Value} {M : Mem} {Q : Outcome → Mem → Prop} (hd : 0 < d) (hw : Wp (d - 1) 46 0 [some (.ref a), some (.int z0)] [] M (Cq d y pc ls r Q)) : Ca d y pc ls 46 [.ref a, .int z0] r M Q := ca_of (mq_get (by decide)) (by rfl) hd hw
/-! 47 PackedTree.sizeOf(I)I; loop heads [] -/
set_option maxRecDepth 100000 in
theorem r_47_0 : ∀ (d : Nat) (l1 : Option Value) (v : Nat) (st : List Value) (M : Mem) (Q : Outcome → Mem → Prop), Wp d 47 0 [some (.ref v), l1] st M Q = Wp d 47 1 [some (.ref v), l1] (.ref v :: st) M Q := fun d l1 v st M Q => wA (show ins 47 0 = some (.aload_n 0, 1) by decide +kernel) rfl
set_option maxRecDepth 100000 in
theorem r_47_1 : ∀ (d : Nat) (l0 : Option Value) (v : Int32) (st : List Value) (M : Mem) (Q : Outcome → Mem → Prop), Wp d 47 1 [l0, some (.int v)] st M Q = Wp d 47 2 [l0, some (.int v)] (.int v :: st) M Q := fun d l0 v st M Q => wA (show ins 47 1 = some (.iload_n 1, 1) by decide +kernel) rfl
set_option maxRecDepth 100000 in
theorem r_47_2 : ∀ (d : Nat) (ls : Lc) (st : List Value) (M : Mem) (Q : Outcome → Mem → Prop), Wp d 47 2 ls st M Q = Wp d 47 3 ls (.int (I 3) :: st) M Q := fun d ls st M Q => w_iconst (show ins 47 2 = some (.iconst 3, 1) by decide +kernel)
set_option maxRecDepth 100000 in
theorem r_47_3 : ∀ (d : Nat) (ls : Lc) (st : List Value) (M : Mem) (Q : Outcome → Mem → Prop), Wp d 47 3 ls st M Q = Wp d 47 4 ls (.int (I 2) :: st) M Q := fun d ls st M Q => w_iconst (show ins 47 3 = some (.iconst 2, 1) by decide +kernel)
set_option maxRecDepth 100000 in
theorem r_47_4 : ∀ (d : Nat) (ls : Lc) (v0 v1 v2 : Value) (a : Nat) (st : List Value) (M : Mem) (Q : Outcome → Mem → Prop), (smallR st = true) → Wp d 47 4 ls (v2 :: v1 :: v0 :: .ref a :: st) M Q = (kO M a = 1 ∧ Ca d 47 4 ls 34 (.ref a :: [v0, v1, v2]) st M Q) := fun d ls v0 v1 v2 a st M Q h0 => w_virt1 (as := [v0, v1, v2]) (show ins 47 4 = some (.invokevirtual 178, 3) by decide +kernel) (show mRes (mC 47) 178 = some (3, 1, [(1, 34)]) by decide +kernel) (by decide +kernel) rfl (by decide +kernel) (by decide +kernel) h0
set_option maxRecDepth 100000 in
theorem r_47_7 : ∀ (d : Nat) (ls : Lc) (v : Int32) (M : Mem) (Q : Outcome → Mem → Prop), Wp d 47 7 ls [.int v] M Q = Q (.returned (some (.int v))) M := fun d ls v M Q => w_ireturn (show ins 47 7 = some (.ireturn, 1) by decide +kernel) (by decide +kernel)
set_option maxRecDepth 100000 in
theorem W_47 : (type_of% r_47_0) ∧ (type_of% r_47_1) ∧ (type_of% r_47_2) ∧ (type_of% r_47_3) ∧ (type_of% r_47_4) ∧ (type_of% r_47_7) := ⟨r_47_0, r_47_1, r_47_2, r_47_3, r_47_4, r_47_7⟩
set_option maxRecDepth 100000 in
theorem ca_47 {d y pc : Nat} {ls : Lc} {a : Nat} {z0 : Int32} {r : List Value} {M : Mem} {Q : Outcome → Mem → Prop} (hd : 0 < d) (hw : Wp (d - 1) 47 0 [some (.ref a), some (.int z0)] [] M (Cq d y pc ls r Q)) : Ca d y pc ls 47 [.ref a, .int z0] r M Q := ca_of (mq_get (by decide)) (by rfl) hd hw
/-! 48 PackedTree.change(III)V; loop heads [] -/
set_option maxRecDepth 100000 in
theorem r_48_0 : ∀ (d : Nat) (l1 l2 l3 : Option Value) (v : Nat) (st : List Value) (M : Mem) (Q : Outcome → Mem → Prop), Wp d 48 0 [some (.ref v), l1, l2, l3] st M Q = Wp d 48 1 [some (.ref v), l1, l2, l3] (.ref v :: st) M Q := fun d l1 l2 l3 v st M Q => wA (show ins 48 0 = some (.aload_n 0, 1) by decide +kernel) rfl
set_option maxRecDepth 100000 in
theorem r_48_1 : ∀ (d : Nat) (l1 l2 l3 : Option Value) (v : Nat) (st : List Value) (M : Mem) (Q : Outcome → Mem → Prop), Wp d 48 1 [some (.ref v), l1, l2, l3] st M Q = Wp d 48 2 [some (.ref v), l1, l2, l3] (.ref v :: st) M Q := fun d l1 l2 l3 v st M Q => wA (show ins 48 1 = some (.aload_n 0, 1) by decide +kernel) rfl
set_option maxRecDepth 100000 in
theorem r_48_2 : ∀ (d : Nat) (l0 l2 l3 : Option Value) (v : Int32) (st : List Value) (M : Mem) (Q : Outcome → Mem → Prop), Wp d 48 2 [l0, some (.int v), l2, l3] st M Q = Wp d 48 3 [l0, some (.int v), l2, l3] (.int v :: st) M Q := fun d l0 l2 l3 v st M Q => wA (show ins 48 2 = some (.iload_n 1, 1) by decide +kernel) rfl
set_option maxRecDepth 100000 in
theorem r_48_3 : ∀ (d : Nat) (ls : Lc) (st : List Value) (M : Mem) (Q : Outcome → Mem → Prop), Wp d 48 3 ls st M Q = Wp d 48 4 ls (.int (I 0) :: st) M Q := fun d ls st M Q => w_iconst (show ins 48 3 = some (.iconst 0, 1) by decide +kernel)
set_option maxRecDepth 100000 in
theorem r_48_4 : ∀ (d : Nat) (ls : Lc) (st : List Value) (M : Mem) (Q : Outcome → Mem → Prop), Wp d 48 4 ls st M Q = Wp d 48 5 ls (.int (I 1) :: st) M Q := fun d ls st M Q => w_iconst (show ins 48 4 = some (.iconst 1, 1) by decide +kernel)
set_option maxRecDepth 100000 in
theorem r_48_5 : ∀ (d : Nat) (ls : Lc) (v0 v1 v2 : Value) (a : Nat) (st : List Value) (M : Mem) (Q : Outcome → Mem → Prop), (smallR st = true) → Wp d 48 5 ls (v2 :: v1 :: v0 :: .ref a :: st) M Q = (kO M a = 1 ∧ Ca d 48 5 ls 34 (.ref a :: [v0, v1, v2]) st M Q) := fun d ls v0 v1 v2 a st M Q h0 => w_virt1 (as := [v0, v1, v2]) (show ins 48 5 = some (.invokevirtual 178, 3) by decide +kernel) (show mRes (mC 48) 178 = some (3, 1, [(1, 34)]) by decide +kernel) (by decide +kernel) rfl (by decide +kernel) (by decide +kernel) h0
set_option maxRecDepth 100000 in
theorem r_48_8 : ∀ (d : Nat) (l0 l1 l3 : Option Value) (v : Int32) (st : List Value) (M : Mem) (Q : Outcome → Mem → Prop), Wp d 48 8 [l0, l1, some (.int v), l3] st M Q = Wp d 48 9 [l0, l1, some (.int v), l3] (.int v :: st) M Q := fun d l0 l1 l3 v st M Q => wA (show ins 48 8 = some (.iload_n 2, 1) by decide +kernel) rfl
set_option maxRecDepth 100000 in
theorem r_48_9 : ∀ (d : Nat) (l0 l1 l2 : Option Value) (v : Int32) (st : List Value) (M : Mem) (Q : Outcome → Mem → Prop), Wp d 48 9 [l0, l1, l2, some (.int v)] st M Q = Wp d 48 10 [l0, l1, l2, some (.int v)] (.int v :: st) M Q := fun d l0 l1 l2 v st M Q => wA (show ins 48 9 = some (.iload_n 3, 1) by decide +kernel) rfl
set_option maxRecDepth 100000 in
theorem r_48_10 : ∀ (d : Nat) (ls : Lc) (v0 v1 v2 : Value) (a : Nat) (st : List Value) (M : Mem) (Q : Outcome → Mem → Prop), (smallR st = true) → Wp d 48 10 ls (v2 :: v1 :: v0 :: .ref a :: st) M Q = (kO M a = 1 ∧ Ca d 48 10 ls 22 (.ref a :: [v0, v1, v2]) st M Q) := fun d ls v0 v1 v2 a st M Q h0 => w_virt1 (as := [v0, v1, v2]) (show ins 48 10 = some (.invokevirtual 78, 3) by decide +kernel) (show mRes (mC 48) 78 = some (3, 1, [(1, 22)]) by decide +kernel) (by decide +kernel) rfl (by decide +kernel) (by decide +kernel) h0
set_option maxRecDepth 100000 in
theorem r_48_13 : ∀ (d : Nat) (l1 l2 l3 : Option Value) (v : Nat) (st : List Value) (M : Mem) (Q : Outcome → Mem → Prop), Wp d 48 13 [some (.ref v), l1, l2, l3] st M Q = Wp d 48 14 [some (.ref v), l1, l2, l3] (.ref v :: st) M Q := fun d l1 l2 l3 v st M Q => wA (show ins 48 13 = some (.aload_n 0, 1) by decide +kernel) rfl
set_option maxRecDepth 100000 in
theorem r_48_14 : ∀ (d : Nat) (ls : Lc) (a : Nat) (st : List Value) (M : Mem) (Q : Outcome → Mem → Prop), Wp d 48 14 ls (.ref a :: st) M Q = (fk 9 (kO M a) = true ∧ Wp d 48 17 ls (va_rf (mR M 9 a) :: st) M Q) := fun d ls a st M Q => w_getR (show ins 48 14 = some (.getfield 58, 3) by decide +kernel) (show fRes (mC 48) 58 = some (9, 1, false) by decide +kernel) (by decide +kernel)
set_option maxRecDepth 100000 in
theorem r_48_17 : ∀ (d : Nat) (l0 l2 l3 : Option Value) (v : Int32) (st : List Value) (M : Mem) (Q : Outcome → Mem → Prop), Wp d 48 17 [l0, some (.int v), l2, l3] st M Q = Wp d 48 18 [l0, some (.int v), l2, l3] (.int v :: st) M Q := fun d l0 l2 l3 v st M Q => wA (show ins 48 17 = some (.iload_n 1, 1) by decide +kernel) rfl
set_option maxRecDepth 100000 in
theorem r_48_18 : ∀ (d : Nat) (ls : Lc) (st : List Value) (M : Mem) (Q : Outcome → Mem → Prop), Wp d 48 18 ls st M Q = Wp d 48 19 ls (.int (I 0) :: st) M Q := fun d ls st M Q => w_iconst (show ins 48 18 = some (.iconst 0, 1) by decide +kernel)
set_option maxRecDepth 100000 in
theorem r_48_19 : ∀ (d : Nat) (ls : Lc) (st : List Value) (M : Mem) (Q : Outcome → Mem → Prop), Wp d 48 19 ls st M Q = Wp d 48 20 ls (.int (I 0) :: st) M Q := fun d ls st M Q => w_iconst (show ins 48 19 = some (.iconst 0, 1) by decide +kernel)
set_option maxRecDepth 100000 in
theorem r_48_20 : ∀ (d : Nat) (ls : Lc) (v0 v1 v2 : Value)  (st : List Value) (M : Mem) (Q : Outcome → Mem → Prop), (smallR st = true) → Wp d 48 20 ls (v2 :: v1 :: v0 :: st) M Q = Ca d 48 20 ls 24 [v0, v1, v2] st M Q := fun d ls v0 v1 v2 st M Q h0 => w_stat (as := [v0, v1, v2]) (show ins 48 20 = some (.invokestatic 82, 3) by decide +kernel) (show mRes (mC 48) 82 = some (0, 1, [(0, 24)]) by decide +kernel) (by decide +kernel) (by decide +kernel) rfl h0
set_option maxRecDepth 100000 in
theorem r_48_23 : ∀ (d : Nat) (l1 l2 l3 : Option Value) (v : Nat) (st : List Value) (M : Mem) (Q : Outcome → Mem → Prop), Wp d 48 23 [some (.ref v), l1, l2, l3] st M Q = Wp d 48 24 [some (.ref v), l1, l2, l3] (.ref v :: st) M Q := fun d l1 l2 l3 v st M Q => wA (show ins 48 23 = some (.aload_n 0, 1) by decide +kernel) rfl
set_option maxRecDepth 100000 in
theorem r_48_24 : ∀ (d : Nat) (ls : Lc) (a : Nat) (st : List Value) (M : Mem) (Q : Outcome → Mem → Prop), Wp d 48 24 ls (.ref a :: st) M Q = (fk 0 (kO M a) = true ∧ Wp d 48 27 ls (va_rf (mR M 0 a) :: st) M Q) := fun d ls a st M Q => w_getR (show ins 48 24 = some (.getfield 25, 3) by decide +kernel) (show fRes (mC 48) 25 = some (0, 1, false) by decide +kernel) (by decide +kernel)
set_option maxRecDepth 100000 in
theorem r_48_27 : ∀ (d : Nat) (ls : Lc) (st : List Value) (M : Mem) (Q : Outcome → Mem → Prop), Wp d 48 27 ls st M Q = Wp d 48 29 ls (.int (I 6) :: st) M Q := fun d ls st M Q => w_bipush (show ins 48 27 = some (.bipush 6, 2) by decide +kernel) (by decide)
set_option maxRecDepth 100000 in
theorem r_48_29 : ∀ (d : Nat) (ls : Lc) (v0 v1 v2 : Value) (a : Nat) (st : List Value) (M : Mem) (Q : Outcome → Mem → Prop), (smallR st = true) → Wp d 48 29 ls (v2 :: v1 :: v0 :: .ref a :: st) M Q = (kO M a = 3 ∧ Ca d 48 29 ls 97 (.ref a :: [v0, v1, v2]) st M Q) := fun d ls v0 v1 v2 a st M Q h0 => w_virt1 (as := [v0, v1, v2]) (show ins 48 29 = some (.invokevirtual 85, 3) by decide +kernel) (show mRes (mC 48) 85 = some (3, 3, [(3, 97)]) by decide +kernel) (by decide +kernel) rfl (by decide +kernel) (by decide +kernel) h0
set_option maxRecDepth 100000 in
theorem r_48_32 : ∀ (d : Nat) (ls : Lc) (M : Mem) (Q : Outcome → Mem → Prop), Wp d 48 32 ls [] M Q = Q (.returned none) M := fun d ls M Q => w_return (show ins 48 32 = some (.return_, 1) by decide +kernel) (by decide +kernel)
set_option maxRecDepth 100000 in
theorem W_48 : (type_of% r_48_0) ∧ (type_of% r_48_1) ∧ (type_of% r_48_2) ∧ (type_of% r_48_3) ∧ (type_of% r_48_4) ∧ (type_of% r_48_5) ∧ (type_of% r_48_8) ∧ (type_of% r_48_9) ∧ (type_of% r_48_10) ∧ (type_of% r_48_13) ∧ (type_of% r_48_14) ∧ (type_of% r_48_17) ∧ (type_of% r_48_18) ∧ (type_of% r_48_19) ∧ (type_of% r_48_20) ∧ (type_of% r_48_23) ∧ (type_of% r_48_24) ∧ (type_of% r_48_27) ∧ (type_of% r_48_29) ∧ (type_of% r_48_32) := ⟨r_48_0, r_48_1, r_48_2, r_48_3, r_48_4, r_48_5, r_48_8, r_48_9, r_48_10, r_48_13, r_48_14, r_48_17, r_48_18, r_48_19, r_48_20, r_48_23, r_48_24, r_48_27, r_48_29, r_48_32⟩
set_option maxRecDepth 100000 in
theorem ca_48 {d y pc : Nat} {ls : Lc} {a : Nat} {z0 : Int32} {z1 : Int32} {z2 : Int32} {r : List Value} {M : Mem} {Q : Outcome → Mem → Prop} (hd : 0 < d) (hw : Wp (d - 1) 48 0 [some (.ref a), some (.int z0), some (.int z1), some (.int z2)] [] M (Cq d y pc ls r Q)) : Ca d y pc ls 48 [.ref a, .int z0, .int z1, .int z2] r M Q := ca_of (mq_get (by decide)) (by rfl) hd hw
/-! 49 PackedTree.putBack()V; loop heads [2] -/
set_option maxRecDepth 100000 in
theorem r_49_0 : ∀ (d : Nat) (ls : Lc) (st : List Value) (M : Mem) (Q : Outcome → Mem → Prop), Wp d 49 0 ls st M Q = Wp d 49 1 ls (.int (I 0) :: st) M Q := fun d ls st M Q => w_iconst (show ins 49 0 = some (.iconst 0, 1) by decide +kernel)
set_option maxRecDepth 100000 in
theorem r_49_1 : ∀ (d : Nat) (l0 l1 : Option Value) (v : Int32) (st : List Value) (M : Mem) (Q : Outcome → Mem → Prop), (lo l0 = false) → Wp d 49 1 [l0, l1] (.int v :: st) M Q = Wp d 49 2 [l0, some (.int v)] st M Q := fun d l0 l1 v st M Q hl => w_istore_n (show ins 49 1 = some (.istore_n 1, 1) by decide +kernel) (st1_S rfl rfl hl)
set_option maxRecDepth 100000 in
theorem r_49_2 : ∀ (d : Nat) (l0 : Option Value) (v : Int32) (st : List Value) (M : Mem) (Q : Outcome → Mem → Prop), Wp d 49 2 [l0, some (.int v)] st M Q = Wp d 49 3 [l0, some (.int v)] (.int v :: st) M Q := fun d l0 v st M Q => wA (show ins 49 2 = some (.iload_n 1, 1) by decide +kernel) rfl
set_option maxRecDepth 100000 in
theorem r_49_3 : ∀ (d : Nat) (l1 : Option Value) (v : Nat) (st : List Value) (M : Mem) (Q : Outcome → Mem → Prop), Wp d 49 3 [some (.ref v), l1] st M Q = Wp d 49 4 [some (.ref v), l1] (.ref v :: st) M Q := fun d l1 v st M Q => wA (show ins 49 3 = some (.aload_n 0, 1) by decide +kernel) rfl
set_option maxRecDepth 100000 in
theorem r_49_4 : ∀ (d : Nat) (ls : Lc) (a : Nat) (st : List Value) (M : Mem) (Q : Outcome → Mem → Prop), Wp d 49 4 ls (.ref a :: st) M Q = (fk 7 (kO M a) = true ∧ Wp d 49 7 ls (.int (mF M 7 a) :: st) M Q) := fun d ls a st M Q => w_getI (show ins 49 4 = some (.getfield 40, 3) by decide +kernel) (show fRes (mC 49) 40 = some (7, 1, false) by decide +kernel) (by decide +kernel)
set_option maxRecDepth 100000 in
theorem r_49_7 : ∀ (d : Nat) (ls : Lc) (a b : Int32) (st : List Value) (M : Mem) (Q : Outcome → Mem → Prop), Wp d 49 7 ls (.int b :: .int a :: st) M Q = Br (b ≤ a) d 49 44 10 ls st M Q := fun d ls a b st M Q => w_icmp (show ins 49 7 = some (.if_icmp .ge 37, 3) by decide +kernel) rfl rfl
set_option maxRecDepth 100000 in
theorem r_49_10 : ∀ (d : Nat) (l1 : Option Value) (v : Nat) (st : List Value) (M : Mem) (Q : Outcome → Mem → Prop), Wp d 49 10 [some (.ref v), l1] st M Q = Wp d 49 11 [some (.ref v), l1] (.ref v :: st) M Q := fun d l1 v st M Q => wA (show ins 49 10 = some (.aload_n 0, 1) by decide +kernel) rfl
set_option maxRecDepth 100000 in
theorem r_49_11 : ∀ (d : Nat) (ls : Lc) (a : Nat) (st : List Value) (M : Mem) (Q : Outcome → Mem → Prop), Wp d 49 11 ls (.ref a :: st) M Q = (fk 8 (kO M a) = true ∧ Wp d 49 14 ls (va_rf (mR M 8 a) :: st) M Q) := fun d ls a st M Q => w_getR (show ins 49 11 = some (.getfield 18, 3) by decide +kernel) (show fRes (mC 49) 18 = some (8, 1, false) by decide +kernel) (by decide +kernel)
set_option maxRecDepth 100000 in
theorem r_49_14 : ∀ (d : Nat) (ls : Lc) (st : List Value) (M : Mem) (Q : Outcome → Mem → Prop), Wp d 49 14 ls st M Q = Wp d 49 15 ls (.int (I 0) :: st) M Q := fun d ls st M Q => w_iconst (show ins 49 14 = some (.iconst 0, 1) by decide +kernel)
set_option maxRecDepth 100000 in
theorem r_49_15 : ∀ (d : Nat) (ls : Lc) (a : Nat) (j : Int32) (st : List Value) (M : Mem) (Q : Outcome → Mem → Prop), Wp d 49 15 ls (.int j :: .ref a :: st) M Q = ((((kX M a).1 = 4 ∨ (kX M a).1 = 5 ∨ (kX M a).1 = 6 ∨ (kX M a).1 = 7) ∧ inB j (kX M a).2 = true) ∧ Wp d 49 16 ls (va_rf (mQ M a j.toNatClampNeg) :: st) M Q) := fun d ls a j st M Q => w_aaload (show ins 49 15 = some (.aaload, 1) by decide +kernel)
set_option maxRecDepth 100000 in
theorem r_49_16 : ∀ (d : Nat) (l0 : Option Value) (v : Int32) (st : List Value) (M : Mem) (Q : Outcome → Mem → Prop), Wp d 49 16 [l0, some (.int v)] st M Q = Wp d 49 17 [l0, some (.int v)] (.int v :: st) M Q := fun d l0 v st M Q => wA (show ins 49 16 = some (.iload_n 1, 1) by decide +kernel) rfl
set_option maxRecDepth 100000 in
theorem r_49_17 : ∀ (d : Nat) (ls : Lc) (v0 v1 : Value)  (st : List Value) (M : Mem) (Q : Outcome → Mem → Prop), (smallR st = true) → Wp d 49 17 ls (v1 :: v0 :: st) M Q = Ca d 49 17 ls 91 [v0, v1] st M Q := fun d ls v0 v1 st M Q h0 => w_stat (as := [v0, v1]) (show ins 49 17 = some (.invokestatic 144, 3) by decide +kernel) (show mRes (mC 49) 144 = some (0, 2, [(0, 91)]) by decide +kernel) (by decide +kernel) (by decide +kernel) rfl h0
set_option maxRecDepth 100000 in
theorem r_49_20 : ∀ (d : Nat) (ls : Lc) (a : Int32) (st : List Value) (M : Mem) (Q : Outcome → Mem → Prop), Wp d 49 20 ls (.int a :: st) M Q = Br (a = I 0) d 49 38 23 ls st M Q := fun d ls a st M Q => w_if (show ins 49 20 = some (.ifCond .eq 18, 3) by decide +kernel) rfl rfl
set_option maxRecDepth 100000 in
theorem r_49_23 : ∀ (d : Nat) (l1 : Option Value) (v : Nat) (st : List Value) (M : Mem) (Q : Outcome → Mem → Prop), Wp d 49 23 [some (.ref v), l1] st M Q = Wp d 49 24 [some (.ref v), l1] (.ref v :: st) M Q := fun d l1 v st M Q => wA (show ins 49 23 = some (.aload_n 0, 1) by decide +kernel) rfl
set_option maxRecDepth 100000 in
theorem r_49_24 : ∀ (d : Nat) (ls : Lc) (a : Nat) (st : List Value) (M : Mem) (Q : Outcome → Mem → Prop), Wp d 49 24 ls (.ref a :: st) M Q = (fk 8 (kO M a) = true ∧ Wp d 49 27 ls (va_rf (mR M 8 a) :: st) M Q) := fun d ls a st M Q => w_getR (show ins 49 24 = some (.getfield 18, 3) by decide +kernel) (show fRes (mC 49) 18 = some (8, 1, false) by decide +kernel) (by decide +kernel)
set_option maxRecDepth 100000 in
theorem r_49_27 : ∀ (d : Nat) (l0 : Option Value) (v : Int32) (st : List Value) (M : Mem) (Q : Outcome → Mem → Prop), Wp d 49 27 [l0, some (.int v)] st M Q = Wp d 49 28 [l0, some (.int v)] (.int v :: st) M Q := fun d l0 v st M Q => wA (show ins 49 27 = some (.iload_n 1, 1) by decide +kernel) rfl
set_option maxRecDepth 100000 in
theorem r_49_28 : ∀ (d : Nat) (ls : Lc) (a : Nat) (j : Int32) (st : List Value) (M : Mem) (Q : Outcome → Mem → Prop), Wp d 49 28 ls (.int j :: .ref a :: st) M Q = ((((kX M a).1 = 4 ∨ (kX M a).1 = 5 ∨ (kX M a).1 = 6 ∨ (kX M a).1 = 7) ∧ inB j (kX M a).2 = true) ∧ Wp d 49 29 ls (va_rf (mQ M a j.toNatClampNeg) :: st) M Q) := fun d ls a j st M Q => w_aaload (show ins 49 28 = some (.aaload, 1) by decide +kernel)
set_option maxRecDepth 100000 in
theorem r_49_29 : ∀ (d : Nat) (l1 : Option Value) (v : Nat) (st : List Value) (M : Mem) (Q : Outcome → Mem → Prop), Wp d 49 29 [some (.ref v), l1] st M Q = Wp d 49 30 [some (.ref v), l1] (.ref v :: st) M Q := fun d l1 v st M Q => wA (show ins 49 29 = some (.aload_n 0, 1) by decide +kernel) rfl
set_option maxRecDepth 100000 in
theorem r_49_30 : ∀ (d : Nat) (ls : Lc) (a : Nat) (st : List Value) (M : Mem) (Q : Outcome → Mem → Prop), Wp d 49 30 ls (.ref a :: st) M Q = (fk 4 (kO M a) = true ∧ Wp d 49 33 ls (va_rf (mR M 4 a) :: st) M Q) := fun d ls a st M Q => w_getR (show ins 49 30 = some (.getfield 15, 3) by decide +kernel) (show fRes (mC 49) 15 = some (4, 1, false) by decide +kernel) (by decide +kernel)
set_option maxRecDepth 100000 in
theorem r_49_33 : ∀ (d : Nat) (l0 : Option Value) (v : Int32) (st : List Value) (M : Mem) (Q : Outcome → Mem → Prop), Wp d 49 33 [l0, some (.int v)] st M Q = Wp d 49 34 [l0, some (.int v)] (.int v :: st) M Q := fun d l0 v st M Q => wA (show ins 49 33 = some (.iload_n 1, 1) by decide +kernel) rfl
set_option maxRecDepth 100000 in
theorem r_49_34 : ∀ (d : Nat) (ls : Lc) (a : Nat) (j : Int32) (st : List Value) (M : Mem) (Q : Outcome → Mem → Prop), Wp d 49 34 ls (.int j :: .ref a :: st) M Q = ((((kX M a).1 = 4 ∨ (kX M a).1 = 5 ∨ (kX M a).1 = 6 ∨ (kX M a).1 = 7) ∧ inB j (kX M a).2 = true) ∧ Wp d 49 35 ls (va_rf (mQ M a j.toNatClampNeg) :: st) M Q) := fun d ls a j st M Q => w_aaload (show ins 49 34 = some (.aaload, 1) by decide +kernel)
set_option maxRecDepth 100000 in
theorem r_49_35 : ∀ (d : Nat) (ls : Lc) (v0 v1 : Value)  (st : List Value) (M : Mem) (Q : Outcome → Mem → Prop), (smallR st = true) → Wp d 49 35 ls (v1 :: v0 :: st) M Q = Ca d 49 35 ls 27 [v0, v1] st M Q := fun d ls v0 v1 st M Q h0 => w_stat (as := [v0, v1]) (show ins 49 35 = some (.invokestatic 95, 3) by decide +kernel) (show mRes (mC 49) 95 = some (0, 1, [(0, 27)]) by decide +kernel) (by decide +kernel) (by decide +kernel) rfl h0
set_option maxRecDepth 100000 in
theorem r_49_38 : ∀ (d : Nat) (l0 : Option Value) (z : Int) (st : List Value) (M : Mem) (Q : Outcome → Mem → Prop), (lo l0 = false) → Wp d 49 38 [l0, some (.int (I z))] st M Q = Wp d 49 41 [l0, some (.int (I (z + 1)))] st M Q := fun d l0 z st M Q hl => w_iinc (show ins 49 38 = some (.iinc 1 1, 3) by decide +kernel) rfl (st1_S rfl rfl hl)
set_option maxRecDepth 100000 in
theorem r_49_41 : ∀ (d : Nat) (ls : Lc) (st : List Value) (M : Mem) (Q : Outcome → Mem → Prop), Wp d 49 41 ls st M Q = Wp d 49 2 ls st M Q := fun d ls st M Q => w_goto (show ins 49 41 = some (.goto (-39), 3) by decide +kernel) rfl
set_option maxRecDepth 100000 in
theorem r_49_44 : ∀ (d : Nat) (l1 : Option Value) (v : Nat) (st : List Value) (M : Mem) (Q : Outcome → Mem → Prop), Wp d 49 44 [some (.ref v), l1] st M Q = Wp d 49 45 [some (.ref v), l1] (.ref v :: st) M Q := fun d l1 v st M Q => wA (show ins 49 44 = some (.aload_n 0, 1) by decide +kernel) rfl
set_option maxRecDepth 100000 in
theorem r_49_45 : ∀ (d : Nat) (ls : Lc) (a : Nat) (st : List Value) (M : Mem) (Q : Outcome → Mem → Prop), (smallR st = true) → Wp d 49 45 ls (.ref a :: st) M Q = (kO M a = 1 ∧ Ca d 49 45 ls 50 (.ref a :: []) st M Q) := fun d ls a st M Q h0 => w_virt1 (as := []) (show ins 49 45 = some (.invokevirtual 148, 3) by decide +kernel) (show mRes (mC 49) 148 = some (3, 1, [(1, 50)]) by decide +kernel) (by decide +kernel) rfl (by decide +kernel) (by decide +kernel) h0
set_option maxRecDepth 100000 in
theorem r_49_48 : ∀ (d : Nat) (ls : Lc) (M : Mem) (Q : Outcome → Mem → Prop), Wp d 49 48 ls [] M Q = Q (.returned none) M := fun d ls M Q => w_return (show ins 49 48 = some (.return_, 1) by decide +kernel) (by decide +kernel)
set_option maxRecDepth 100000 in
theorem w_49_2 : (type_of% r_49_2) := r_49_2
set_option maxRecDepth 100000 in
theorem W_49 : (type_of% r_49_0) ∧ (type_of% r_49_1) ∧ (type_of% r_49_3) ∧ (type_of% r_49_4) ∧ (type_of% r_49_7) ∧ (type_of% r_49_10) ∧ (type_of% r_49_11) ∧ (type_of% r_49_14) ∧ (type_of% r_49_15) ∧ (type_of% r_49_16) ∧ (type_of% r_49_17) ∧ (type_of% r_49_20) ∧ (type_of% r_49_23) ∧ (type_of% r_49_24) ∧ (type_of% r_49_27) ∧ (type_of% r_49_28) ∧ (type_of% r_49_29) ∧ (type_of% r_49_30) ∧ (type_of% r_49_33) ∧ (type_of% r_49_34) ∧ (type_of% r_49_35) ∧ (type_of% r_49_38) ∧ (type_of% r_49_41) ∧ (type_of% r_49_44) ∧ (type_of% r_49_45) ∧ (type_of% r_49_48) := ⟨r_49_0, r_49_1, r_49_3, r_49_4, r_49_7, r_49_10, r_49_11, r_49_14, r_49_15, r_49_16, r_49_17, r_49_20, r_49_23, r_49_24, r_49_27, r_49_28, r_49_29, r_49_30, r_49_33, r_49_34, r_49_35, r_49_38, r_49_41, r_49_44, r_49_45, r_49_48⟩
set_option maxRecDepth 100000 in
theorem ca_49 {d y pc : Nat} {ls : Lc} {a : Nat} {r : List Value} {M : Mem} {Q : Outcome → Mem → Prop} (hd : 0 < d) (hw : Wp (d - 1) 49 0 [some (.ref a), none] [] M (Cq d y pc ls r Q)) : Ca d y pc ls 49 [.ref a] r M Q := ca_of (mq_get (by decide)) (by rfl) hd hw
/-! 50 PackedTree.takeAll()V; loop heads [] -/
set_option maxRecDepth 100000 in
theorem r_50_0 : ∀ (d : Nat) (v : Nat) (st : List Value) (M : Mem) (Q : Outcome → Mem → Prop), Wp d 50 0 [some (.ref v)] st M Q = Wp d 50 1 [some (.ref v)] (.ref v :: st) M Q := fun d v st M Q => wA (show ins 50 0 = some (.aload_n 0, 1) by decide +kernel) rfl
set_option maxRecDepth 100000 in
theorem r_50_1 : ∀ (d : Nat) (ls : Lc) (a : Nat) (st : List Value) (M : Mem) (Q : Outcome → Mem → Prop), Wp d 50 1 ls (.ref a :: st) M Q = (fk 6 (kO M a) = true ∧ Wp d 50 4 ls (va_rf (mR M 6 a) :: st) M Q) := fun d ls a st M Q => w_getR (show ins 50 1 = some (.getfield 49, 3) by decide +kernel) (show fRes (mC 50) 49 = some (6, 1, false) by decide +kernel) (by decide +kernel)
set_option maxRecDepth 100000 in
theorem r_50_4 : ∀ (d : Nat) (v : Nat) (st : List Value) (M : Mem) (Q : Outcome → Mem → Prop), Wp d 50 4 [some (.ref v)] st M Q = Wp d 50 5 [some (.ref v)] (.ref v :: st) M Q := fun d v st M Q => wA (show ins 50 4 = some (.aload_n 0, 1) by decide +kernel) rfl
set_option maxRecDepth 100000 in
theorem r_50_5 : ∀ (d : Nat) (ls : Lc) (a : Nat) (st : List Value) (M : Mem) (Q : Outcome → Mem → Prop), Wp d 50 5 ls (.ref a :: st) M Q = (fk 4 (kO M a) = true ∧ Wp d 50 8 ls (va_rf (mR M 4 a) :: st) M Q) := fun d ls a st M Q => w_getR (show ins 50 5 = some (.getfield 15, 3) by decide +kernel) (show fRes (mC 50) 15 = some (4, 1, false) by decide +kernel) (by decide +kernel)
set_option maxRecDepth 100000 in
theorem r_50_8 : ∀ (d : Nat) (ls : Lc) (st : List Value) (M : Mem) (Q : Outcome → Mem → Prop), Wp d 50 8 ls st M Q = Wp d 50 9 ls (.int (I 0) :: st) M Q := fun d ls st M Q => w_iconst (show ins 50 8 = some (.iconst 0, 1) by decide +kernel)
set_option maxRecDepth 100000 in
theorem r_50_9 : ∀ (d : Nat) (ls : Lc) (a : Nat) (j : Int32) (st : List Value) (M : Mem) (Q : Outcome → Mem → Prop), Wp d 50 9 ls (.int j :: .ref a :: st) M Q = ((((kX M a).1 = 4 ∨ (kX M a).1 = 5 ∨ (kX M a).1 = 6 ∨ (kX M a).1 = 7) ∧ inB j (kX M a).2 = true) ∧ Wp d 50 10 ls (va_rf (mQ M a j.toNatClampNeg) :: st) M Q) := fun d ls a j st M Q => w_aaload (show ins 50 9 = some (.aaload, 1) by decide +kernel)
set_option maxRecDepth 100000 in
theorem r_50_10 : ∀ (d : Nat) (ls : Lc) (v0 : Value) (a : Nat) (st : List Value) (M : Mem) (Q : Outcome → Mem → Prop), (smallR st = true) → Wp d 50 10 ls (v0 :: .ref a :: st) M Q = (kO M a = 2 ∧ Ca d 50 10 ls 92 (.ref a :: [v0]) st M Q) := fun d ls v0 a st M Q h0 => w_virt1 (as := [v0]) (show ins 50 10 = some (.invokevirtual 134, 3) by decide +kernel) (show mRes (mC 50) 134 = some (3, 2, [(2, 92)]) by decide +kernel) (by decide +kernel) rfl (by decide +kernel) (by decide +kernel) h0
set_option maxRecDepth 100000 in
theorem r_50_13 : ∀ (d : Nat) (v : Nat) (st : List Value) (M : Mem) (Q : Outcome → Mem → Prop), Wp d 50 13 [some (.ref v)] st M Q = Wp d 50 14 [some (.ref v)] (.ref v :: st) M Q := fun d v st M Q => wA (show ins 50 13 = some (.aload_n 0, 1) by decide +kernel) rfl
set_option maxRecDepth 100000 in
theorem r_50_14 : ∀ (d : Nat) (ls : Lc) (a : Nat) (st : List Value) (M : Mem) (Q : Outcome → Mem → Prop), Wp d 50 14 ls (.ref a :: st) M Q = (fk 9 (kO M a) = true ∧ Wp d 50 17 ls (va_rf (mR M 9 a) :: st) M Q) := fun d ls a st M Q => w_getR (show ins 50 14 = some (.getfield 58, 3) by decide +kernel) (show fRes (mC 50) 58 = some (9, 1, false) by decide +kernel) (by decide +kernel)
set_option maxRecDepth 100000 in
theorem r_50_17 : ∀ (d : Nat) (v : Nat) (st : List Value) (M : Mem) (Q : Outcome → Mem → Prop), Wp d 50 17 [some (.ref v)] st M Q = Wp d 50 18 [some (.ref v)] (.ref v :: st) M Q := fun d v st M Q => wA (show ins 50 17 = some (.aload_n 0, 1) by decide +kernel) rfl
set_option maxRecDepth 100000 in
theorem r_50_18 : ∀ (d : Nat) (ls : Lc) (a : Nat) (st : List Value) (M : Mem) (Q : Outcome → Mem → Prop), Wp d 50 18 ls (.ref a :: st) M Q = (fk 4 (kO M a) = true ∧ Wp d 50 21 ls (va_rf (mR M 4 a) :: st) M Q) := fun d ls a st M Q => w_getR (show ins 50 18 = some (.getfield 15, 3) by decide +kernel) (show fRes (mC 50) 15 = some (4, 1, false) by decide +kernel) (by decide +kernel)
set_option maxRecDepth 100000 in
theorem r_50_21 : ∀ (d : Nat) (v : Nat) (st : List Value) (M : Mem) (Q : Outcome → Mem → Prop), Wp d 50 21 [some (.ref v)] st M Q = Wp d 50 22 [some (.ref v)] (.ref v :: st) M Q := fun d v st M Q => wA (show ins 50 21 = some (.aload_n 0, 1) by decide +kernel) rfl
set_option maxRecDepth 100000 in
theorem r_50_22 : ∀ (d : Nat) (ls : Lc) (a : Nat) (st : List Value) (M : Mem) (Q : Outcome → Mem → Prop), Wp d 50 22 ls (.ref a :: st) M Q = (fk 4 (kO M a) = true ∧ Wp d 50 25 ls (va_rf (mR M 4 a) :: st) M Q) := fun d ls a st M Q => w_getR (show ins 50 22 = some (.getfield 15, 3) by decide +kernel) (show fRes (mC 50) 15 = some (4, 1, false) by decide +kernel) (by decide +kernel)
set_option maxRecDepth 100000 in
theorem r_50_25 : ∀ (d : Nat) (ls : Lc) (st : List Value) (M : Mem) (Q : Outcome → Mem → Prop), Wp d 50 25 ls st M Q = Wp d 50 26 ls (.int (I 0) :: st) M Q := fun d ls st M Q => w_iconst (show ins 50 25 = some (.iconst 0, 1) by decide +kernel)
set_option maxRecDepth 100000 in
theorem r_50_26 : ∀ (d : Nat) (ls : Lc) (a : Nat) (j : Int32) (st : List Value) (M : Mem) (Q : Outcome → Mem → Prop), Wp d 50 26 ls (.int j :: .ref a :: st) M Q = ((((kX M a).1 = 4 ∨ (kX M a).1 = 5 ∨ (kX M a).1 = 6 ∨ (kX M a).1 = 7) ∧ inB j (kX M a).2 = true) ∧ Wp d 50 27 ls (va_rf (mQ M a j.toNatClampNeg) :: st) M Q) := fun d ls a j st M Q => w_aaload (show ins 50 26 = some (.aaload, 1) by decide +kernel)
set_option maxRecDepth 100000 in
theorem r_50_27 : ∀ (d : Nat) (ls : Lc) (st : List Value) (M : Mem) (Q : Outcome → Mem → Prop), Wp d 50 27 ls st M Q = Wp d 50 28 ls (.int (I 0) :: st) M Q := fun d ls st M Q => w_iconst (show ins 50 27 = some (.iconst 0, 1) by decide +kernel)
set_option maxRecDepth 100000 in
theorem r_50_28 : ∀ (d : Nat) (ls : Lc) (v0 v1 : Value)  (st : List Value) (M : Mem) (Q : Outcome → Mem → Prop), (smallR st = true) → Wp d 50 28 ls (v1 :: v0 :: st) M Q = Ca d 50 28 ls 36 [v0, v1] st M Q := fun d ls v0 v1 st M Q h0 => w_stat (as := [v0, v1]) (show ins 50 28 = some (.invokestatic 3, 3) by decide +kernel) (show mRes (mC 50) 3 = some (0, 1, [(0, 36)]) by decide +kernel) (by decide +kernel) (by decide +kernel) rfl h0
set_option maxRecDepth 100000 in
theorem r_50_31 : ∀ (d : Nat) (ls : Lc) (v0 v1 : Value) (a : Nat) (st : List Value) (M : Mem) (Q : Outcome → Mem → Prop), (smallR st = true) → Wp d 50 31 ls (v1 :: v0 :: .ref a :: st) M Q = (kO M a = 3 ∧ Ca d 50 31 ls 108 (.ref a :: [v0, v1]) st M Q) := fun d ls v0 v1 a st M Q h0 => w_virt1 (as := [v0, v1]) (show ins 50 31 = some (.invokevirtual 138, 3) by decide +kernel) (show mRes (mC 50) 138 = some (3, 3, [(3, 108)]) by decide +kernel) (by decide +kernel) rfl (by decide +kernel) (by decide +kernel) h0
set_option maxRecDepth 100000 in
theorem r_50_34 : ∀ (d : Nat) (ls : Lc) (M : Mem) (Q : Outcome → Mem → Prop), Wp d 50 34 ls [] M Q = Q (.returned none) M := fun d ls M Q => w_return (show ins 50 34 = some (.return_, 1) by decide +kernel) (by decide +kernel)
set_option maxRecDepth 100000 in
theorem W_50 : (type_of% r_50_0) ∧ (type_of% r_50_1) ∧ (type_of% r_50_4) ∧ (type_of% r_50_5) ∧ (type_of% r_50_8) ∧ (type_of% r_50_9) ∧ (type_of% r_50_10) ∧ (type_of% r_50_13) ∧ (type_of% r_50_14) ∧ (type_of% r_50_17) ∧ (type_of% r_50_18) ∧ (type_of% r_50_21) ∧ (type_of% r_50_22) ∧ (type_of% r_50_25) ∧ (type_of% r_50_26) ∧ (type_of% r_50_27) ∧ (type_of% r_50_28) ∧ (type_of% r_50_31) ∧ (type_of% r_50_34) := ⟨r_50_0, r_50_1, r_50_4, r_50_5, r_50_8, r_50_9, r_50_10, r_50_13, r_50_14, r_50_17, r_50_18, r_50_21, r_50_22, r_50_25, r_50_26, r_50_27, r_50_28, r_50_31, r_50_34⟩
set_option maxRecDepth 100000 in
theorem ca_50 {d y pc : Nat} {ls : Lc} {a : Nat} {r : List Value} {M : Mem} {Q : Outcome → Mem → Prop} (hd : 0 < d) (hw : Wp (d - 1) 50 0 [some (.ref a)] [] M (Cq d y pc ls r Q)) : Ca d y pc ls 50 [.ref a] r M Q := ca_of (mq_get (by decide)) (by rfl) hd hw
/-! 51 PackedTree.link(III)I; loop heads [] -/
set_option maxRecDepth 100000 in
theorem r_51_0 : ∀ (d : Nat) (l1 l2 l3 l4 : Option Value) (v : Nat) (st : List Value) (M : Mem) (Q : Outcome → Mem → Prop), Wp d 51 0 [some (.ref v), l1, l2, l3, l4] st M Q = Wp d 51 1 [some (.ref v), l1, l2, l3, l4] (.ref v :: st) M Q := fun d l1 l2 l3 l4 v st M Q => wA (show ins 51 0 = some (.aload_n 0, 1) by decide +kernel) rfl
set_option maxRecDepth 100000 in
theorem r_51_1 : ∀ (d : Nat) (ls : Lc) (a : Nat) (st : List Value) (M : Mem) (Q : Outcome → Mem → Prop), (smallR st = true) → Wp d 51 1 ls (.ref a :: st) M Q = (kO M a = 1 ∧ Ca d 51 1 ls 30 (.ref a :: []) st M Q) := fun d ls a st M Q h0 => w_virt1 (as := []) (show ins 51 1 = some (.invokevirtual 204, 3) by decide +kernel) (show mRes (mC 51) 204 = some (3, 1, [(1, 30)]) by decide +kernel) (by decide +kernel) rfl (by decide +kernel) (by decide +kernel) h0
set_option maxRecDepth 100000 in
theorem r_51_4 : ∀ (d : Nat) (l1 l2 l3 l4 : Option Value) (v : Nat) (st : List Value) (M : Mem) (Q : Outcome → Mem → Prop), Wp d 51 4 [some (.ref v), l1, l2, l3, l4] st M Q = Wp d 51 5 [some (.ref v), l1, l2, l3, l4] (.ref v :: st) M Q := fun d l1 l2 l3 l4 v st M Q => wA (show ins 51 4 = some (.aload_n 0, 1) by decide +kernel) rfl
set_option maxRecDepth 100000 in
theorem r_51_5 : ∀ (d : Nat) (l0 l2 l3 l4 : Option Value) (v : Int32) (st : List Value) (M : Mem) (Q : Outcome → Mem → Prop), Wp d 51 5 [l0, some (.int v), l2, l3, l4] st M Q = Wp d 51 6 [l0, some (.int v), l2, l3, l4] (.int v :: st) M Q := fun d l0 l2 l3 l4 v st M Q => wA (show ins 51 5 = some (.iload_n 1, 1) by decide +kernel) rfl
set_option maxRecDepth 100000 in
theorem r_51_6 : ∀ (d : Nat) (ls : Lc) (v0 : Value) (a : Nat) (st : List Value) (M : Mem) (Q : Outcome → Mem → Prop), (smallR st = true) → Wp d 51 6 ls (v0 :: .ref a :: st) M Q = (kO M a = 1 ∧ Ca d 51 6 ls 31 (.ref a :: [v0]) st M Q) := fun d ls v0 a st M Q h0 => w_virt1 (as := [v0]) (show ins 51 6 = some (.invokevirtual 207, 3) by decide +kernel) (show mRes (mC 51) 207 = some (3, 1, [(1, 31)]) by decide +kernel) (by decide +kernel) rfl (by decide +kernel) (by decide +kernel) h0
set_option maxRecDepth 100000 in
theorem r_51_9 : ∀ (d : Nat) (ls : Lc) (a : Int32) (st : List Value) (M : Mem) (Q : Outcome → Mem → Prop), Wp d 51 9 ls (.int a :: st) M Q = Br (a = I 0) d 51 24 12 ls st M Q := fun d ls a st M Q => w_if (show ins 51 9 = some (.ifCond .eq 15, 3) by decide +kernel) rfl rfl
set_option maxRecDepth 100000 in
theorem r_51_12 : ∀ (d : Nat) (l1 l2 l3 l4 : Option Value) (v : Nat) (st : List Value) (M : Mem) (Q : Outcome → Mem → Prop), Wp d 51 12 [some (.ref v), l1, l2, l3, l4] st M Q = Wp d 51 13 [some (.ref v), l1, l2, l3, l4] (.ref v :: st) M Q := fun d l1 l2 l3 l4 v st M Q => wA (show ins 51 12 = some (.aload_n 0, 1) by decide +kernel) rfl
set_option maxRecDepth 100000 in
theorem r_51_13 : ∀ (d : Nat) (l0 l1 l2 l4 : Option Value) (v : Int32) (st : List Value) (M : Mem) (Q : Outcome → Mem → Prop), Wp d 51 13 [l0, l1, l2, some (.int v), l4] st M Q = Wp d 51 14 [l0, l1, l2, some (.int v), l4] (.int v :: st) M Q := fun d l0 l1 l2 l4 v st M Q => wA (show ins 51 13 = some (.iload_n 3, 1) by decide +kernel) rfl
set_option maxRecDepth 100000 in
theorem r_51_14 : ∀ (d : Nat) (ls : Lc) (v0 : Value) (a : Nat) (st : List Value) (M : Mem) (Q : Outcome → Mem → Prop), (smallR st = true) → Wp d 51 14 ls (v0 :: .ref a :: st) M Q = (kO M a = 1 ∧ Ca d 51 14 ls 52 (.ref a :: [v0]) st M Q) := fun d ls v0 a st M Q h0 => w_virt1 (as := [v0]) (show ins 51 14 = some (.invokevirtual 239, 3) by decide +kernel) (show mRes (mC 51) 239 = some (3, 1, [(1, 52)]) by decide +kernel) (by decide +kernel) rfl (by decide +kernel) (by decide +kernel) h0
set_option maxRecDepth 100000 in
theorem r_51_17 : ∀ (d : Nat) (ls : Lc) (a : Int32) (st : List Value) (M : Mem) (Q : Outcome → Mem → Prop), Wp d 51 17 ls (.int a :: st) M Q = Br (a = I 0) d 51 24 20 ls st M Q := fun d ls a st M Q => w_if (show ins 51 17 = some (.ifCond .eq 7, 3) by decide +kernel) rfl rfl
set_option maxRecDepth 100000 in
theorem r_51_20 : ∀ (d : Nat) (ls : Lc) (st : List Value) (M : Mem) (Q : Outcome → Mem → Prop), Wp d 51 20 ls st M Q = Wp d 51 21 ls (.int (I 1) :: st) M Q := fun d ls st M Q => w_iconst (show ins 51 20 = some (.iconst 1, 1) by decide +kernel)
set_option maxRecDepth 100000 in
theorem r_51_21 : ∀ (d : Nat) (ls : Lc) (st : List Value) (M : Mem) (Q : Outcome → Mem → Prop), Wp d 51 21 ls st M Q = Wp d 51 25 ls st M Q := fun d ls st M Q => w_goto (show ins 51 21 = some (.goto 4, 3) by decide +kernel) rfl
set_option maxRecDepth 100000 in
theorem r_51_24 : ∀ (d : Nat) (ls : Lc) (st : List Value) (M : Mem) (Q : Outcome → Mem → Prop), Wp d 51 24 ls st M Q = Wp d 51 25 ls (.int (I 0) :: st) M Q := fun d ls st M Q => w_iconst (show ins 51 24 = some (.iconst 0, 1) by decide +kernel)
set_option maxRecDepth 100000 in
theorem r_51_25 : ∀ (d : Nat) (ls : Lc) (v0 : Value)  (st : List Value) (M : Mem) (Q : Outcome → Mem → Prop), (smallR st = true) → Wp d 51 25 ls (v0 :: st) M Q = Ca d 51 25 ls 37 [v0] st M Q := fun d ls v0 st M Q h0 => w_stat (as := [v0]) (show ins 51 25 = some (.invokestatic 210, 3) by decide +kernel) (show mRes (mC 51) 210 = some (0, 1, [(0, 37)]) by decide +kernel) (by decide +kernel) (by decide +kernel) rfl h0
set_option maxRecDepth 100000 in
theorem r_51_28 : ∀ (d : Nat) (l0 l1 l3 l4 : Option Value) (v : Int32) (st : List Value) (M : Mem) (Q : Outcome → Mem → Prop), Wp d 51 28 [l0, l1, some (.int v), l3, l4] st M Q = Wp d 51 29 [l0, l1, some (.int v), l3, l4] (.int v :: st) M Q := fun d l0 l1 l3 l4 v st M Q => wA (show ins 51 28 = some (.iload_n 2, 1) by decide +kernel) rfl
set_option maxRecDepth 100000 in
theorem r_51_29 : ∀ (d : Nat) (ls : Lc) (v0 : Value)  (st : List Value) (M : Mem) (Q : Outcome → Mem → Prop), (smallR st = true) → Wp d 51 29 ls (v0 :: st) M Q = Ca d 51 29 ls 38 [v0] st M Q := fun d ls v0 st M Q h0 => w_stat (as := [v0]) (show ins 51 29 = some (.invokestatic 214, 3) by decide +kernel) (show mRes (mC 51) 214 = some (0, 1, [(0, 38)]) by decide +kernel) (by decide +kernel) (by decide +kernel) rfl h0
set_option maxRecDepth 100000 in
theorem r_51_32 : ∀ (d : Nat) (ls : Lc) (v0 : Value)  (st : List Value) (M : Mem) (Q : Outcome → Mem → Prop), (smallR st = true) → Wp d 51 32 ls (v0 :: st) M Q = Ca d 51 32 ls 39 [v0] st M Q := fun d ls v0 st M Q h0 => w_stat (as := [v0]) (show ins 51 32 = some (.invokestatic 217, 3) by decide +kernel) (show mRes (mC 51) 217 = some (0, 1, [(0, 39)]) by decide +kernel) (by decide +kernel) (by decide +kernel) rfl h0
set_option maxRecDepth 100000 in
theorem r_51_35 : ∀ (d : Nat) (l1 l2 l3 l4 : Option Value) (v : Nat) (st : List Value) (M : Mem) (Q : Outcome → Mem → Prop), Wp d 51 35 [some (.ref v), l1, l2, l3, l4] st M Q = Wp d 51 36 [some (.ref v), l1, l2, l3, l4] (.ref v :: st) M Q := fun d l1 l2 l3 l4 v st M Q => wA (show ins 51 35 = some (.aload_n 0, 1) by decide +kernel) rfl
set_option maxRecDepth 100000 in
theorem r_51_36 : ∀ (d : Nat) (l0 l2 l3 l4 : Option Value) (v : Int32) (st : List Value) (M : Mem) (Q : Outcome → Mem → Prop), Wp d 51 36 [l0, some (.int v), l2, l3, l4] st M Q = Wp d 51 37 [l0, some (.int v), l2, l3, l4] (.int v :: st) M Q := fun d l0 l2 l3 l4 v st M Q => wA (show ins 51 36 = some (.iload_n 1, 1) by decide +kernel) rfl
set_option maxRecDepth 100000 in
theorem r_51_37 : ∀ (d : Nat) (l0 l1 l3 l4 : Option Value) (v : Int32) (st : List Value) (M : Mem) (Q : Outcome → Mem → Prop), Wp d 51 37 [l0, l1, some (.int v), l3, l4] st M Q = Wp d 51 38 [l0, l1, some (.int v), l3, l4] (.int v :: st) M Q := fun d l0 l1 l3 l4 v st M Q => wA (show ins 51 37 = some (.iload_n 2, 1) by decide +kernel) rfl
set_option maxRecDepth 100000 in
theorem r_51_38 : ∀ (d : Nat) (ls : Lc) (v0 v1 : Value) (a : Nat) (st : List Value) (M : Mem) (Q : Outcome → Mem → Prop), (smallR st = true) → Wp d 51 38 ls (v1 :: v0 :: .ref a :: st) M Q = (kO M a = 1 ∧ Ca d 51 38 ls 41 (.ref a :: [v0, v1]) st M Q) := fun d ls v0 v1 a st M Q h0 => w_virt1 (as := [v0, v1]) (show ins 51 38 = some (.invokevirtual 223, 3) by decide +kernel) (show mRes (mC 51) 223 = some (3, 1, [(1, 41)]) by decide +kernel) (by decide +kernel) rfl (by decide +kernel) (by decide +kernel) h0
set_option maxRecDepth 100000 in
theorem r_51_41 : ∀ (d : Nat) (ls : Lc) (st : List Value) (M : Mem) (Q : Outcome → Mem → Prop), Wp d 51 41 ls st M Q = Wp d 51 42 ls (.int (I (-1)) :: st) M Q := fun d ls st M Q => w_iconst (show ins 51 41 = some (.iconst (-1), 1) by decide +kernel)
set_option maxRecDepth 100000 in
theorem r_51_42 : ∀ (d : Nat) (ls : Lc) (a b : Int32) (st : List Value) (M : Mem) (Q : Outcome → Mem → Prop), Wp d 51 42 ls (.int b :: .int a :: st) M Q = Br (¬ a = b) d 51 49 45 ls st M Q := fun d ls a b st M Q => w_icmp (show ins 51 42 = some (.if_icmp .ne 7, 3) by decide +kernel) rfl rfl
set_option maxRecDepth 100000 in
theorem r_51_45 : ∀ (d : Nat) (ls : Lc) (st : List Value) (M : Mem) (Q : Outcome → Mem → Prop), Wp d 51 45 ls st M Q = Wp d 51 46 ls (.int (I 1) :: st) M Q := fun d ls st M Q => w_iconst (show ins 51 45 = some (.iconst 1, 1) by decide +kernel)
set_option maxRecDepth 100000 in
theorem r_51_46 : ∀ (d : Nat) (ls : Lc) (st : List Value) (M : Mem) (Q : Outcome → Mem → Prop), Wp d 51 46 ls st M Q = Wp d 51 50 ls st M Q := fun d ls st M Q => w_goto (show ins 51 46 = some (.goto 4, 3) by decide +kernel) rfl
set_option maxRecDepth 100000 in
theorem r_51_49 : ∀ (d : Nat) (ls : Lc) (st : List Value) (M : Mem) (Q : Outcome → Mem → Prop), Wp d 51 49 ls st M Q = Wp d 51 50 ls (.int (I 0) :: st) M Q := fun d ls st M Q => w_iconst (show ins 51 49 = some (.iconst 0, 1) by decide +kernel)
set_option maxRecDepth 100000 in
theorem r_51_50 : ∀ (d : Nat) (ls : Lc) (v0 : Value)  (st : List Value) (M : Mem) (Q : Outcome → Mem → Prop), (smallR st = true) → Wp d 51 50 ls (v0 :: st) M Q = Ca d 51 50 ls 42 [v0] st M Q := fun d ls v0 st M Q h0 => w_stat (as := [v0]) (show ins 51 50 = some (.invokestatic 227, 3) by decide +kernel) (show mRes (mC 51) 227 = some (0, 1, [(0, 42)]) by decide +kernel) (by decide +kernel) (by decide +kernel) rfl h0
set_option maxRecDepth 100000 in
theorem r_51_53 : ∀ (d : Nat) (l1 l2 l3 l4 : Option Value) (v : Nat) (st : List Value) (M : Mem) (Q : Outcome → Mem → Prop), Wp d 51 53 [some (.ref v), l1, l2, l3, l4] st M Q = Wp d 51 54 [some (.ref v), l1, l2, l3, l4] (.ref v :: st) M Q := fun d l1 l2 l3 l4 v st M Q => wA (show ins 51 53 = some (.aload_n 0, 1) by decide +kernel) rfl
set_option maxRecDepth 100000 in
theorem r_51_54 : ∀ (d : Nat) (ls : Lc) (a : Nat) (st : List Value) (M : Mem) (Q : Outcome → Mem → Prop), (smallR st = true) → Wp d 51 54 ls (.ref a :: st) M Q = (kO M a = 1 ∧ Ca d 51 54 ls 43 (.ref a :: []) st M Q) := fun d ls a st M Q h0 => w_virt1 (as := []) (show ins 51 54 = some (.invokevirtual 230, 3) by decide +kernel) (show mRes (mC 51) 230 = some (3, 1, [(1, 43)]) by decide +kernel) (by decide +kernel) rfl (by decide +kernel) (by decide +kernel) h0
set_option maxRecDepth 100000 in
theorem r_51_57 : ∀ (d : Nat) (l1 l2 l3 l4 : Option Value) (v : Nat) (st : List Value) (M : Mem) (Q : Outcome → Mem → Prop), Wp d 51 57 [some (.ref v), l1, l2, l3, l4] st M Q = Wp d 51 58 [some (.ref v), l1, l2, l3, l4] (.ref v :: st) M Q := fun d l1 l2 l3 l4 v st M Q => wA (show ins 51 57 = some (.aload_n 0, 1) by decide +kernel) rfl
set_option maxRecDepth 100000 in
theorem r_51_58 : ∀ (d : Nat) (l0 l2 l3 l4 : Option Value) (v : Int32) (st : List Value) (M : Mem) (Q : Outcome → Mem → Prop), Wp d 51 58 [l0, some (.int v), l2, l3, l4] st M Q = Wp d 51 59 [l0, some (.int v), l2, l3, l4] (.int v :: st) M Q := fun d l0 l2 l3 l4 v st M Q => wA (show ins 51 58 = some (.iload_n 1, 1) by decide +kernel) rfl
set_option maxRecDepth 100000 in
theorem r_51_59 : ∀ (d : Nat) (l0 l1 l3 l4 : Option Value) (v : Int32) (st : List Value) (M : Mem) (Q : Outcome → Mem → Prop), Wp d 51 59 [l0, l1, some (.int v), l3, l4] st M Q = Wp d 51 60 [l0, l1, some (.int v), l3, l4] (.int v :: st) M Q := fun d l0 l1 l3 l4 v st M Q => wA (show ins 51 59 = some (.iload_n 2, 1) by decide +kernel) rfl
set_option maxRecDepth 100000 in
theorem r_51_60 : ∀ (d : Nat) (l0 l1 l2 l4 : Option Value) (v : Int32) (st : List Value) (M : Mem) (Q : Outcome → Mem → Prop), Wp d 51 60 [l0, l1, l2, some (.int v), l4] st M Q = Wp d 51 61 [l0, l1, l2, some (.int v), l4] (.int v :: st) M Q := fun d l0 l1 l2 l4 v st M Q => wA (show ins 51 60 = some (.iload_n 3, 1) by decide +kernel) rfl
set_option maxRecDepth 100000 in
theorem r_51_61 : ∀ (d : Nat) (ls : Lc) (v0 v1 v2 : Value) (a : Nat) (st : List Value) (M : Mem) (Q : Outcome → Mem → Prop), (smallR st = true) → Wp d 51 61 ls (v2 :: v1 :: v0 :: .ref a :: st) M Q = (kO M a = 1 ∧ Ca d 51 61 ls 44 (.ref a :: [v0, v1, v2]) st M Q) := fun d ls v0 v1 v2 a st M Q h0 => w_virt1 (as := [v0, v1, v2]) (show ins 51 61 = some (.invokevirtual 233, 3) by decide +kernel) (show mRes (mC 51) 233 = some (3, 1, [(1, 44)]) by decide +kernel) (by decide +kernel) rfl (by decide +kernel) (by decide +kernel) h0
set_option maxRecDepth 100000 in
theorem r_51_64 : ∀ (d : Nat) (l1 l2 l3 l4 : Option Value) (v : Nat) (st : List Value) (M : Mem) (Q : Outcome → Mem → Prop), Wp d 51 64 [some (.ref v), l1, l2, l3, l4] st M Q = Wp d 51 65 [some (.ref v), l1, l2, l3, l4] (.ref v :: st) M Q := fun d l1 l2 l3 l4 v st M Q => wA (show ins 51 64 = some (.aload_n 0, 1) by decide +kernel) rfl
set_option maxRecDepth 100000 in
theorem r_51_65 : ∀ (d : Nat) (l0 l1 l2 l4 : Option Value) (v : Int32) (st : List Value) (M : Mem) (Q : Outcome → Mem → Prop), Wp d 51 65 [l0, l1, l2, some (.int v), l4] st M Q = Wp d 51 66 [l0, l1, l2, some (.int v), l4] (.int v :: st) M Q := fun d l0 l1 l2 l4 v st M Q => wA (show ins 51 65 = some (.iload_n 3, 1) by decide +kernel) rfl
set_option maxRecDepth 100000 in
theorem r_51_66 : ∀ (d : Nat) (l1 l2 l3 l4 : Option Value) (v : Nat) (st : List Value) (M : Mem) (Q : Outcome → Mem → Prop), Wp d 51 66 [some (.ref v), l1, l2, l3, l4] st M Q = Wp d 51 67 [some (.ref v), l1, l2, l3, l4] (.ref v :: st) M Q := fun d l1 l2 l3 l4 v st M Q => wA (show ins 51 66 = some (.aload_n 0, 1) by decide +kernel) rfl
set_option maxRecDepth 100000 in
theorem r_51_67 : ∀ (d : Nat) (l0 l1 l2 l4 : Option Value) (v : Int32) (st : List Value) (M : Mem) (Q : Outcome → Mem → Prop), Wp d 51 67 [l0, l1, l2, some (.int v), l4] st M Q = Wp d 51 68 [l0, l1, l2, some (.int v), l4] (.int v :: st) M Q := fun d l0 l1 l2 l4 v st M Q => wA (show ins 51 67 = some (.iload_n 3, 1) by decide +kernel) rfl
set_option maxRecDepth 100000 in
theorem r_51_68 : ∀ (d : Nat) (ls : Lc) (v0 : Value) (a : Nat) (st : List Value) (M : Mem) (Q : Outcome → Mem → Prop), (smallR st = true) → Wp d 51 68 ls (v0 :: .ref a :: st) M Q = (kO M a = 1 ∧ Ca d 51 68 ls 46 (.ref a :: [v0]) st M Q) := fun d ls v0 a st M Q h0 => w_virt1 (as := [v0]) (show ins 51 68 = some (.invokevirtual 189, 3) by decide +kernel) (show mRes (mC 51) 189 = some (3, 1, [(1, 46)]) by decide +kernel) (by decide +kernel) rfl (by decide +kernel) (by decide +kernel) h0
set_option maxRecDepth 100000 in
theorem r_51_71 : ∀ (d : Nat) (ls : Lc) (st : List Value) (M : Mem) (Q : Outcome → Mem → Prop), Wp d 51 71 ls st M Q = Wp d 51 72 ls (.int (I 1) :: st) M Q := fun d ls st M Q => w_iconst (show ins 51 71 = some (.iconst 1, 1) by decide +kernel)
set_option maxRecDepth 100000 in
theorem r_51_72 : ∀ (d : Nat) (ls : Lc) (a b : Int) (st : List Value) (M : Mem) (Q : Outcome → Mem → Prop), Wp d 51 72 ls (.int (I b) :: .int (I a) :: st) M Q = Wp d 51 73 ls (.int (I (a + b)) :: st) M Q := fun d ls a b st M Q => w_iadd (show ins 51 72 = some (.iadd, 1) by decide +kernel)
set_option maxRecDepth 100000 in
theorem r_51_73 : ∀ (d : Nat) (l1 l2 l3 l4 : Option Value) (v : Nat) (st : List Value) (M : Mem) (Q : Outcome → Mem → Prop), Wp d 51 73 [some (.ref v), l1, l2, l3, l4] st M Q = Wp d 51 74 [some (.ref v), l1, l2, l3, l4] (.ref v :: st) M Q := fun d l1 l2 l3 l4 v st M Q => wA (show ins 51 73 = some (.aload_n 0, 1) by decide +kernel) rfl
set_option maxRecDepth 100000 in
theorem r_51_74 : ∀ (d : Nat) (l0 l1 l2 l4 : Option Value) (v : Int32) (st : List Value) (M : Mem) (Q : Outcome → Mem → Prop), Wp d 51 74 [l0, l1, l2, some (.int v), l4] st M Q = Wp d 51 75 [l0, l1, l2, some (.int v), l4] (.int v :: st) M Q := fun d l0 l1 l2 l4 v st M Q => wA (show ins 51 74 = some (.iload_n 3, 1) by decide +kernel) rfl
set_option maxRecDepth 100000 in
theorem r_51_75 : ∀ (d : Nat) (ls : Lc) (v0 : Value) (a : Nat) (st : List Value) (M : Mem) (Q : Outcome → Mem → Prop), (smallR st = true) → Wp d 51 75 ls (v0 :: .ref a :: st) M Q = (kO M a = 1 ∧ Ca d 51 75 ls 47 (.ref a :: [v0]) st M Q) := fun d ls v0 a st M Q h0 => w_virt1 (as := [v0]) (show ins 51 75 = some (.invokevirtual 192, 3) by decide +kernel) (show mRes (mC 51) 192 = some (3, 1, [(1, 47)]) by decide +kernel) (by decide +kernel) rfl (by decide +kernel) (by decide +kernel) h0
set_option maxRecDepth 100000 in
theorem r_51_78 : ∀ (d : Nat) (ls : Lc) (v0 v1 v2 : Value) (a : Nat) (st : List Value) (M : Mem) (Q : Outcome → Mem → Prop), (smallR st = true) → Wp d 51 78 ls (v2 :: v1 :: v0 :: .ref a :: st) M Q = (kO M a = 1 ∧ Ca d 51 78 ls 48 (.ref a :: [v0, v1, v2]) st M Q) := fun d ls v0 v1 v2 a st M Q h0 => w_virt1 (as := [v0, v1, v2]) (show ins 51 78 = some (.invokevirtual 195, 3) by decide +kernel) (show mRes (mC 51) 195 = some (3, 1, [(1, 48)]) by decide +kernel) (by decide +kernel) rfl (by decide +kernel) (by decide +kernel) h0
set_option maxRecDepth 100000 in
theorem r_51_81 : ∀ (d : Nat) (ls : Lc) (st : List Value) (M : Mem) (Q : Outcome → Mem → Prop), Wp d 51 81 ls st M Q = Wp d 51 93 ls st M Q := fun d ls st M Q => w_goto (show ins 51 81 = some (.goto 12, 3) by decide +kernel) rfl
set_option maxRecDepth 100000 in
theorem r_51_84 : ∀ (d : Nat) (l0 l1 l2 l3 l4 : Option Value) (v : Nat) (st : List Value) (M : Mem) (Q : Outcome → Mem → Prop), (lo l3 = false) → Wp d 51 84 [l0, l1, l2, l3, l4] (.ref v :: st) M Q = Wp d 51 86 [l0, l1, l2, l3, some (.ref v)] st M Q := fun d l0 l1 l2 l3 l4 v st M Q hl => w_astore (show ins 51 84 = some (.astore 4, 2) by decide +kernel) (st1_S rfl rfl hl)
set_option maxRecDepth 100000 in
theorem r_51_84_1 : ∀ (d : Nat) (l0 l1 l2 l3 l4 : Option Value) (st : List Value) (M : Mem) (Q : Outcome → Mem → Prop), (lo l3 = false) → Wp d 51 84 [l0, l1, l2, l3, l4] (.null :: st) M Q = Wp d 51 86 [l0, l1, l2, l3, some (.null)] st M Q := fun d l0 l1 l2 l3 l4 st M Q hl => w_astoreN (show ins 51 84 = some (.astore 4, 2) by decide +kernel) (st1_S rfl rfl hl)
set_option maxRecDepth 100000 in
theorem r_51_86 : ∀ (d : Nat) (l1 l2 l3 l4 : Option Value) (v : Nat) (st : List Value) (M : Mem) (Q : Outcome → Mem → Prop), Wp d 51 86 [some (.ref v), l1, l2, l3, l4] st M Q = Wp d 51 87 [some (.ref v), l1, l2, l3, l4] (.ref v :: st) M Q := fun d l1 l2 l3 l4 v st M Q => wA (show ins 51 86 = some (.aload_n 0, 1) by decide +kernel) rfl
set_option maxRecDepth 100000 in
theorem r_51_87 : ∀ (d : Nat) (ls : Lc) (a : Nat) (st : List Value) (M : Mem) (Q : Outcome → Mem → Prop), (smallR st = true) → Wp d 51 87 ls (.ref a :: st) M Q = (kO M a = 1 ∧ Ca d 51 87 ls 49 (.ref a :: []) st M Q) := fun d ls a st M Q h0 => w_virt1 (as := []) (show ins 51 87 = some (.invokevirtual 236, 3) by decide +kernel) (show mRes (mC 51) 236 = some (3, 1, [(1, 49)]) by decide +kernel) (by decide +kernel) rfl (by decide +kernel) (by decide +kernel) h0
set_option maxRecDepth 100000 in
theorem r_51_90 : ∀ (d : Nat) (l0 l1 l2 l3 : Option Value) (v : Nat) (st : List Value) (M : Mem) (Q : Outcome → Mem → Prop), Wp d 51 90 [l0, l1, l2, l3, some (.ref v)] st M Q = Wp d 51 92 [l0, l1, l2, l3, some (.ref v)] (.ref v :: st) M Q := fun d l0 l1 l2 l3 v st M Q => wA (show ins 51 90 = some (.aload 4, 2) by decide +kernel) rfl
set_option maxRecDepth 100000 in
theorem r_51_90_1 : ∀ (d : Nat) (l0 l1 l2 l3 : Option Value) (st : List Value) (M : Mem) (Q : Outcome → Mem → Prop), Wp d 51 90 [l0, l1, l2, l3, some .null] st M Q = Wp d 51 92 [l0, l1, l2, l3, some .null] (.null :: st) M Q := fun d l0 l1 l2 l3 st M Q => wA (show ins 51 90 = some (.aload 4, 2) by decide +kernel) rfl
set_option maxRecDepth 100000 in
theorem r_51_92 : ∀ (d : Nat) (ls : Lc) (a : Nat) (st : List Value) (M : Mem) (Q : Outcome → Mem → Prop), Wp d 51 92 ls (.ref a :: st) M Q = Th d 51 92 ls a M Q := fun d ls a st M Q => w_athrow (show ins 51 92 = some (.athrow, 1) by decide +kernel)
set_option maxRecDepth 100000 in
theorem r_51_93 : ∀ (d : Nat) (l1 l2 l3 l4 : Option Value) (v : Nat) (st : List Value) (M : Mem) (Q : Outcome → Mem → Prop), Wp d 51 93 [some (.ref v), l1, l2, l3, l4] st M Q = Wp d 51 94 [some (.ref v), l1, l2, l3, l4] (.ref v :: st) M Q := fun d l1 l2 l3 l4 v st M Q => wA (show ins 51 93 = some (.aload_n 0, 1) by decide +kernel) rfl
set_option maxRecDepth 100000 in
theorem r_51_94 : ∀ (d : Nat) (l0 l1 l2 l4 : Option Value) (v : Int32) (st : List Value) (M : Mem) (Q : Outcome → Mem → Prop), Wp d 51 94 [l0, l1, l2, some (.int v), l4] st M Q = Wp d 51 95 [l0, l1, l2, some (.int v), l4] (.int v :: st) M Q := fun d l0 l1 l2 l4 v st M Q => wA (show ins 51 94 = some (.iload_n 3, 1) by decide +kernel) rfl
set_option maxRecDepth 100000 in
theorem r_51_95 : ∀ (d : Nat) (ls : Lc) (v0 : Value) (a : Nat) (st : List Value) (M : Mem) (Q : Outcome → Mem → Prop), (smallR st = true) → Wp d 51 95 ls (v0 :: .ref a :: st) M Q = (kO M a = 1 ∧ Ca d 51 95 ls 46 (.ref a :: [v0]) st M Q) := fun d ls v0 a st M Q h0 => w_virt1 (as := [v0]) (show ins 51 95 = some (.invokevirtual 189, 3) by decide +kernel) (show mRes (mC 51) 189 = some (3, 1, [(1, 46)]) by decide +kernel) (by decide +kernel) rfl (by decide +kernel) (by decide +kernel) h0
set_option maxRecDepth 100000 in
theorem r_51_98 : ∀ (d : Nat) (ls : Lc) (v : Int32) (M : Mem) (Q : Outcome → Mem → Prop), Wp d 51 98 ls [.int v] M Q = Q (.returned (some (.int v))) M := fun d ls v M Q => w_ireturn (show ins 51 98 = some (.ireturn, 1) by decide +kernel) (by decide +kernel)
set_option maxRecDepth 100000 in
theorem W_51 : (type_of% r_51_0) ∧ (type_of% r_51_1) ∧ (type_of% r_51_4) ∧ (type_of% r_51_5) ∧ (type_of% r_51_6) ∧ (type_of% r_51_9) ∧ (type_of% r_51_12) ∧ (type_of% r_51_13) ∧ (type_of% r_51_14) ∧ (type_of% r_51_17) ∧ (type_of% r_51_20) ∧ (type_of% r_51_21) ∧ (type_of% r_51_24) ∧ (type_of% r_51_25) ∧ (type_of% r_51_28) ∧ (type_of% r_51_29) ∧ (type_of% r_51_32) ∧ (type_of% r_51_35) ∧ (type_of% r_51_36) ∧ (type_of% r_51_37) ∧ (type_of% r_51_38) ∧ (type_of% r_51_41) ∧ (type_of% r_51_42) ∧ (type_of% r_51_45) ∧ (type_of% r_51_46) ∧ (type_of% r_51_49) ∧ (type_of% r_51_50) ∧ (type_of% r_51_53) ∧ (type_of% r_51_54) ∧ (type_of% r_51_57) ∧ (type_of% r_51_58) ∧ (type_of% r_51_59) ∧ (type_of% r_51_60) ∧ (type_of% r_51_61) ∧ (type_of% r_51_64) ∧ (type_of% r_51_65) ∧ (type_of% r_51_66) ∧ (type_of% r_51_67) ∧ (type_of% r_51_68) ∧ (type_of% r_51_71) ∧ (type_of% r_51_72) ∧ (type_of% r_51_73) ∧ (type_of% r_51_74) ∧ (type_of% r_51_75) ∧ (type_of% r_51_78) ∧ (type_of% r_51_81) ∧ (type_of% r_51_84) ∧ (type_of% r_51_84_1) ∧ (type_of% r_51_86) ∧ (type_of% r_51_87) ∧ (type_of% r_51_90) ∧ (type_of% r_51_90_1) ∧ (type_of% r_51_92) ∧ (type_of% r_51_93) ∧ (type_of% r_51_94) ∧ (type_of% r_51_95) ∧ (type_of% r_51_98) := ⟨r_51_0, r_51_1, r_51_4, r_51_5, r_51_6, r_51_9, r_51_12, r_51_13, r_51_14, r_51_17, r_51_20, r_51_21, r_51_24, r_51_25, r_51_28, r_51_29, r_51_32, r_51_35, r_51_36, r_51_37, r_51_38, r_51_41, r_51_42, r_51_45, r_51_46, r_51_49, r_51_50, r_51_53, r_51_54, r_51_57, r_51_58, r_51_59, r_51_60, r_51_61, r_51_64, r_51_65, r_51_66, r_51_67, r_51_68, r_51_71, r_51_72, r_51_73, r_51_74, r_51_75, r_51_78, r_51_81, r_51_84, r_51_84_1, r_51_86, r_51_87, r_51_90, r_51_90_1, r_51_92, r_51_93, r_51_94, r_51_95, r_51_98⟩
set_option maxRecDepth 100000 in
theorem ca_51 {d y pc : Nat} {ls : Lc} {a : Nat} {z0 : Int32} {z1 : Int32} {z2 : Int32} {r : List Value} {M : Mem} {Q : Outcome → Mem → Prop} (hd : 0 < d) (hw : Wp (d - 1) 51 0 [some (.ref a), some (.int z0), some (.int z1), some (.int z2), none] [] M (Cq d y pc ls r Q)) : Ca d y pc ls 51 [.ref a, .int z0, .int z1, .int z2] r M Q := ca_of (mq_get (by decide)) (by rfl) hd hw
/-! 52 PackedTree.isFile(I)Z; loop heads [] -/
set_option maxRecDepth 100000 in
theorem r_52_0 : ∀ (d : Nat) (l1 : Option Value) (v : Nat) (st : List Value) (M : Mem) (Q : Outcome → Mem → Prop), Wp d 52 0 [some (.ref v), l1] st M Q = Wp d 52 1 [some (.ref v), l1] (.ref v :: st) M Q := fun d l1 v st M Q => wA (show ins 52 0 = some (.aload_n 0, 1) by decide +kernel) rfl
set_option maxRecDepth 100000 in
theorem r_52_1 : ∀ (d : Nat) (l0 : Option Value) (v : Int32) (st : List Value) (M : Mem) (Q : Outcome → Mem → Prop), Wp d 52 1 [l0, some (.int v)] st M Q = Wp d 52 2 [l0, some (.int v)] (.int v :: st) M Q := fun d l0 v st M Q => wA (show ins 52 1 = some (.iload_n 1, 1) by decide +kernel) rfl
set_option maxRecDepth 100000 in
theorem r_52_2 : ∀ (d : Nat) (ls : Lc) (st : List Value) (M : Mem) (Q : Outcome → Mem → Prop), Wp d 52 2 ls st M Q = Wp d 52 3 ls (.int (I 1) :: st) M Q := fun d ls st M Q => w_iconst (show ins 52 2 = some (.iconst 1, 1) by decide +kernel)
set_option maxRecDepth 100000 in
theorem r_52_3 : ∀ (d : Nat) (ls : Lc) (v0 v1 : Value) (a : Nat) (st : List Value) (M : Mem) (Q : Outcome → Mem → Prop), (smallR st = true) → Wp d 52 3 ls (v1 :: v0 :: .ref a :: st) M Q = (kO M a = 1 ∧ Ca d 52 3 ls 32 (.ref a :: [v0, v1]) st M Q) := fun d ls v0 v1 a st M Q h0 => w_virt1 (as := [v0, v1]) (show ins 52 3 = some (.invokevirtual 181, 3) by decide +kernel) (show mRes (mC 52) 181 = some (3, 1, [(1, 32)]) by decide +kernel) (by decide +kernel) rfl (by decide +kernel) (by decide +kernel) h0
set_option maxRecDepth 100000 in
theorem r_52_6 : ∀ (d : Nat) (ls : Lc) (z : Int) (M : Mem) (Q : Outcome → Mem → Prop), (z = 0 ∨ z = 1) → Wp d 52 6 ls [.int (I z)] M Q = Q (.returned (some (.int (I z)))) M := fun d ls z M Q h0 => w_zretI (show ins 52 6 = some (.ireturn, 1) by decide +kernel) (by decide +kernel) h0
set_option maxRecDepth 100000 in
theorem r_52_6_1 : ∀ (d : Nat) (ls : Lc) (b : Bool) (M : Mem) (Q : Outcome → Mem → Prop), Wp d 52 6 ls [.int (I (bI b))] M Q = Q (.returned (some (.int (I (bI b))))) M := fun d ls b M Q => w_zretB (show ins 52 6 = some (.ireturn, 1) by decide +kernel) (by decide +kernel)
set_option maxRecDepth 100000 in
theorem W_52 : (type_of% r_52_0) ∧ (type_of% r_52_1) ∧ (type_of% r_52_2) ∧ (type_of% r_52_3) ∧ (type_of% r_52_6) ∧ (type_of% r_52_6_1) := ⟨r_52_0, r_52_1, r_52_2, r_52_3, r_52_6, r_52_6_1⟩
set_option maxRecDepth 100000 in
theorem ca_52 {d y pc : Nat} {ls : Lc} {a : Nat} {z0 : Int32} {r : List Value} {M : Mem} {Q : Outcome → Mem → Prop} (hd : 0 < d) (hw : Wp (d - 1) 52 0 [some (.ref a), some (.int z0)] [] M (Cq d y pc ls r Q)) : Ca d y pc ls 52 [.ref a, .int z0] r M Q := ca_of (mq_get (by decide)) (by rfl) hd hw
/-! 53 PackedTree.unlink(II)I; loop heads [] -/
set_option maxRecDepth 100000 in
theorem r_53_0 : ∀ (d : Nat) (l1 l2 l3 l4 : Option Value) (v : Nat) (st : List Value) (M : Mem) (Q : Outcome → Mem → Prop), Wp d 53 0 [some (.ref v), l1, l2, l3, l4] st M Q = Wp d 53 1 [some (.ref v), l1, l2, l3, l4] (.ref v :: st) M Q := fun d l1 l2 l3 l4 v st M Q => wA (show ins 53 0 = some (.aload_n 0, 1) by decide +kernel) rfl
set_option maxRecDepth 100000 in
theorem r_53_1 : ∀ (d : Nat) (ls : Lc) (a : Nat) (st : List Value) (M : Mem) (Q : Outcome → Mem → Prop), (smallR st = true) → Wp d 53 1 ls (.ref a :: st) M Q = (kO M a = 1 ∧ Ca d 53 1 ls 30 (.ref a :: []) st M Q) := fun d ls a st M Q h0 => w_virt1 (as := []) (show ins 53 1 = some (.invokevirtual 204, 3) by decide +kernel) (show mRes (mC 53) 204 = some (3, 1, [(1, 30)]) by decide +kernel) (by decide +kernel) rfl (by decide +kernel) (by decide +kernel) h0
set_option maxRecDepth 100000 in
theorem r_53_4 : ∀ (d : Nat) (l1 l2 l3 l4 : Option Value) (v : Nat) (st : List Value) (M : Mem) (Q : Outcome → Mem → Prop), Wp d 53 4 [some (.ref v), l1, l2, l3, l4] st M Q = Wp d 53 5 [some (.ref v), l1, l2, l3, l4] (.ref v :: st) M Q := fun d l1 l2 l3 l4 v st M Q => wA (show ins 53 4 = some (.aload_n 0, 1) by decide +kernel) rfl
set_option maxRecDepth 100000 in
theorem r_53_5 : ∀ (d : Nat) (l0 l2 l3 l4 : Option Value) (v : Int32) (st : List Value) (M : Mem) (Q : Outcome → Mem → Prop), Wp d 53 5 [l0, some (.int v), l2, l3, l4] st M Q = Wp d 53 6 [l0, some (.int v), l2, l3, l4] (.int v :: st) M Q := fun d l0 l2 l3 l4 v st M Q => wA (show ins 53 5 = some (.iload_n 1, 1) by decide +kernel) rfl
set_option maxRecDepth 100000 in
theorem r_53_6 : ∀ (d : Nat) (ls : Lc) (v0 : Value) (a : Nat) (st : List Value) (M : Mem) (Q : Outcome → Mem → Prop), (smallR st = true) → Wp d 53 6 ls (v0 :: .ref a :: st) M Q = (kO M a = 1 ∧ Ca d 53 6 ls 31 (.ref a :: [v0]) st M Q) := fun d ls v0 a st M Q h0 => w_virt1 (as := [v0]) (show ins 53 6 = some (.invokevirtual 207, 3) by decide +kernel) (show mRes (mC 53) 207 = some (3, 1, [(1, 31)]) by decide +kernel) (by decide +kernel) rfl (by decide +kernel) (by decide +kernel) h0
set_option maxRecDepth 100000 in
theorem r_53_9 : ∀ (d : Nat) (ls : Lc) (v0 : Value)  (st : List Value) (M : Mem) (Q : Outcome → Mem → Prop), (smallR st = true) → Wp d 53 9 ls (v0 :: st) M Q = Ca d 53 9 ls 37 [v0] st M Q := fun d ls v0 st M Q h0 => w_stat (as := [v0]) (show ins 53 9 = some (.invokestatic 210, 3) by decide +kernel) (show mRes (mC 53) 210 = some (0, 1, [(0, 37)]) by decide +kernel) (by decide +kernel) (by decide +kernel) rfl h0
set_option maxRecDepth 100000 in
theorem r_53_12 : ∀ (d : Nat) (l1 l2 l3 l4 : Option Value) (v : Nat) (st : List Value) (M : Mem) (Q : Outcome → Mem → Prop), Wp d 53 12 [some (.ref v), l1, l2, l3, l4] st M Q = Wp d 53 13 [some (.ref v), l1, l2, l3, l4] (.ref v :: st) M Q := fun d l1 l2 l3 l4 v st M Q => wA (show ins 53 12 = some (.aload_n 0, 1) by decide +kernel) rfl
set_option maxRecDepth 100000 in
theorem r_53_13 : ∀ (d : Nat) (l0 l2 l3 l4 : Option Value) (v : Int32) (st : List Value) (M : Mem) (Q : Outcome → Mem → Prop), Wp d 53 13 [l0, some (.int v), l2, l3, l4] st M Q = Wp d 53 14 [l0, some (.int v), l2, l3, l4] (.int v :: st) M Q := fun d l0 l2 l3 l4 v st M Q => wA (show ins 53 13 = some (.iload_n 1, 1) by decide +kernel) rfl
set_option maxRecDepth 100000 in
theorem r_53_14 : ∀ (d : Nat) (l0 l1 l3 l4 : Option Value) (v : Int32) (st : List Value) (M : Mem) (Q : Outcome → Mem → Prop), Wp d 53 14 [l0, l1, some (.int v), l3, l4] st M Q = Wp d 53 15 [l0, l1, some (.int v), l3, l4] (.int v :: st) M Q := fun d l0 l1 l3 l4 v st M Q => wA (show ins 53 14 = some (.iload_n 2, 1) by decide +kernel) rfl
set_option maxRecDepth 100000 in
theorem r_53_15 : ∀ (d : Nat) (ls : Lc) (v0 v1 : Value) (a : Nat) (st : List Value) (M : Mem) (Q : Outcome → Mem → Prop), (smallR st = true) → Wp d 53 15 ls (v1 :: v0 :: .ref a :: st) M Q = (kO M a = 1 ∧ Ca d 53 15 ls 41 (.ref a :: [v0, v1]) st M Q) := fun d ls v0 v1 a st M Q h0 => w_virt1 (as := [v0, v1]) (show ins 53 15 = some (.invokevirtual 223, 3) by decide +kernel) (show mRes (mC 53) 223 = some (3, 1, [(1, 41)]) by decide +kernel) (by decide +kernel) rfl (by decide +kernel) (by decide +kernel) h0
set_option maxRecDepth 100000 in
theorem r_53_18 : ∀ (d : Nat) (l0 l1 l2 l3 l4 : Option Value) (v : Int32) (st : List Value) (M : Mem) (Q : Outcome → Mem → Prop), (lo l2 = false) → Wp d 53 18 [l0, l1, l2, l3, l4] (.int v :: st) M Q = Wp d 53 19 [l0, l1, l2, some (.int v), l4] st M Q := fun d l0 l1 l2 l3 l4 v st M Q hl => w_istore_n (show ins 53 18 = some (.istore_n 3, 1) by decide +kernel) (st1_S rfl rfl hl)
set_option maxRecDepth 100000 in
theorem r_53_19 : ∀ (d : Nat) (l0 l1 l2 l4 : Option Value) (v : Int32) (st : List Value) (M : Mem) (Q : Outcome → Mem → Prop), Wp d 53 19 [l0, l1, l2, some (.int v), l4] st M Q = Wp d 53 20 [l0, l1, l2, some (.int v), l4] (.int v :: st) M Q := fun d l0 l1 l2 l4 v st M Q => wA (show ins 53 19 = some (.iload_n 3, 1) by decide +kernel) rfl
set_option maxRecDepth 100000 in
theorem r_53_20 : ∀ (d : Nat) (ls : Lc) (st : List Value) (M : Mem) (Q : Outcome → Mem → Prop), Wp d 53 20 ls st M Q = Wp d 53 21 ls (.int (I (-1)) :: st) M Q := fun d ls st M Q => w_iconst (show ins 53 20 = some (.iconst (-1), 1) by decide +kernel)
set_option maxRecDepth 100000 in
theorem r_53_21 : ∀ (d : Nat) (ls : Lc) (a b : Int32) (st : List Value) (M : Mem) (Q : Outcome → Mem → Prop), Wp d 53 21 ls (.int b :: .int a :: st) M Q = Br (a = b) d 53 28 24 ls st M Q := fun d ls a b st M Q => w_icmp (show ins 53 21 = some (.if_icmp .eq 7, 3) by decide +kernel) rfl rfl
set_option maxRecDepth 100000 in
theorem r_53_24 : ∀ (d : Nat) (ls : Lc) (st : List Value) (M : Mem) (Q : Outcome → Mem → Prop), Wp d 53 24 ls st M Q = Wp d 53 25 ls (.int (I 1) :: st) M Q := fun d ls st M Q => w_iconst (show ins 53 24 = some (.iconst 1, 1) by decide +kernel)
set_option maxRecDepth 100000 in
theorem r_53_25 : ∀ (d : Nat) (ls : Lc) (st : List Value) (M : Mem) (Q : Outcome → Mem → Prop), Wp d 53 25 ls st M Q = Wp d 53 29 ls st M Q := fun d ls st M Q => w_goto (show ins 53 25 = some (.goto 4, 3) by decide +kernel) rfl
set_option maxRecDepth 100000 in
theorem r_53_28 : ∀ (d : Nat) (ls : Lc) (st : List Value) (M : Mem) (Q : Outcome → Mem → Prop), Wp d 53 28 ls st M Q = Wp d 53 29 ls (.int (I 0) :: st) M Q := fun d ls st M Q => w_iconst (show ins 53 28 = some (.iconst 0, 1) by decide +kernel)
set_option maxRecDepth 100000 in
theorem r_53_29 : ∀ (d : Nat) (ls : Lc) (v0 : Value)  (st : List Value) (M : Mem) (Q : Outcome → Mem → Prop), (smallR st = true) → Wp d 53 29 ls (v0 :: st) M Q = Ca d 53 29 ls 37 [v0] st M Q := fun d ls v0 st M Q h0 => w_stat (as := [v0]) (show ins 53 29 = some (.invokestatic 210, 3) by decide +kernel) (show mRes (mC 53) 210 = some (0, 1, [(0, 37)]) by decide +kernel) (by decide +kernel) (by decide +kernel) rfl h0
set_option maxRecDepth 100000 in
theorem r_53_32 : ∀ (d : Nat) (l1 l2 l3 l4 : Option Value) (v : Nat) (st : List Value) (M : Mem) (Q : Outcome → Mem → Prop), Wp d 53 32 [some (.ref v), l1, l2, l3, l4] st M Q = Wp d 53 33 [some (.ref v), l1, l2, l3, l4] (.ref v :: st) M Q := fun d l1 l2 l3 l4 v st M Q => wA (show ins 53 32 = some (.aload_n 0, 1) by decide +kernel) rfl
set_option maxRecDepth 100000 in
theorem r_53_33 : ∀ (d : Nat) (l0 l1 l2 l4 : Option Value) (v : Int32) (st : List Value) (M : Mem) (Q : Outcome → Mem → Prop), Wp d 53 33 [l0, l1, l2, some (.int v), l4] st M Q = Wp d 53 34 [l0, l1, l2, some (.int v), l4] (.int v :: st) M Q := fun d l0 l1 l2 l4 v st M Q => wA (show ins 53 33 = some (.iload_n 3, 1) by decide +kernel) rfl
set_option maxRecDepth 100000 in
theorem r_53_34 : ∀ (d : Nat) (ls : Lc) (v0 : Value) (a : Nat) (st : List Value) (M : Mem) (Q : Outcome → Mem → Prop), (smallR st = true) → Wp d 53 34 ls (v0 :: .ref a :: st) M Q = (kO M a = 1 ∧ Ca d 53 34 ls 52 (.ref a :: [v0]) st M Q) := fun d ls v0 a st M Q h0 => w_virt1 (as := [v0]) (show ins 53 34 = some (.invokevirtual 239, 3) by decide +kernel) (show mRes (mC 53) 239 = some (3, 1, [(1, 52)]) by decide +kernel) (by decide +kernel) rfl (by decide +kernel) (by decide +kernel) h0
set_option maxRecDepth 100000 in
theorem r_53_37 : ∀ (d : Nat) (ls : Lc) (a : Int32) (st : List Value) (M : Mem) (Q : Outcome → Mem → Prop), Wp d 53 37 ls (.int a :: st) M Q = Br (¬ a = I 0) d 53 48 40 ls st M Q := fun d ls a st M Q => w_if (show ins 53 37 = some (.ifCond .ne 11, 3) by decide +kernel) rfl rfl
set_option maxRecDepth 100000 in
theorem r_53_40 : ∀ (d : Nat) (l1 l2 l3 l4 : Option Value) (v : Nat) (st : List Value) (M : Mem) (Q : Outcome → Mem → Prop), Wp d 53 40 [some (.ref v), l1, l2, l3, l4] st M Q = Wp d 53 41 [some (.ref v), l1, l2, l3, l4] (.ref v :: st) M Q := fun d l1 l2 l3 l4 v st M Q => wA (show ins 53 40 = some (.aload_n 0, 1) by decide +kernel) rfl
set_option maxRecDepth 100000 in
theorem r_53_41 : ∀ (d : Nat) (l0 l1 l2 l4 : Option Value) (v : Int32) (st : List Value) (M : Mem) (Q : Outcome → Mem → Prop), Wp d 53 41 [l0, l1, l2, some (.int v), l4] st M Q = Wp d 53 42 [l0, l1, l2, some (.int v), l4] (.int v :: st) M Q := fun d l0 l1 l2 l4 v st M Q => wA (show ins 53 41 = some (.iload_n 3, 1) by decide +kernel) rfl
set_option maxRecDepth 100000 in
theorem r_53_42 : ∀ (d : Nat) (ls : Lc) (v0 : Value) (a : Nat) (st : List Value) (M : Mem) (Q : Outcome → Mem → Prop), (smallR st = true) → Wp d 53 42 ls (v0 :: .ref a :: st) M Q = (kO M a = 1 ∧ Ca d 53 42 ls 47 (.ref a :: [v0]) st M Q) := fun d ls v0 a st M Q h0 => w_virt1 (as := [v0]) (show ins 53 42 = some (.invokevirtual 192, 3) by decide +kernel) (show mRes (mC 53) 192 = some (3, 1, [(1, 47)]) by decide +kernel) (by decide +kernel) rfl (by decide +kernel) (by decide +kernel) h0
set_option maxRecDepth 100000 in
theorem r_53_45 : ∀ (d : Nat) (ls : Lc) (a : Int32) (st : List Value) (M : Mem) (Q : Outcome → Mem → Prop), Wp d 53 45 ls (.int a :: st) M Q = Br (¬ a = I 0) d 53 52 48 ls st M Q := fun d ls a st M Q => w_if (show ins 53 45 = some (.ifCond .ne 7, 3) by decide +kernel) rfl rfl
set_option maxRecDepth 100000 in
theorem r_53_48 : ∀ (d : Nat) (ls : Lc) (st : List Value) (M : Mem) (Q : Outcome → Mem → Prop), Wp d 53 48 ls st M Q = Wp d 53 49 ls (.int (I 1) :: st) M Q := fun d ls st M Q => w_iconst (show ins 53 48 = some (.iconst 1, 1) by decide +kernel)
set_option maxRecDepth 100000 in
theorem r_53_49 : ∀ (d : Nat) (ls : Lc) (st : List Value) (M : Mem) (Q : Outcome → Mem → Prop), Wp d 53 49 ls st M Q = Wp d 53 53 ls st M Q := fun d ls st M Q => w_goto (show ins 53 49 = some (.goto 4, 3) by decide +kernel) rfl
set_option maxRecDepth 100000 in
theorem r_53_52 : ∀ (d : Nat) (ls : Lc) (st : List Value) (M : Mem) (Q : Outcome → Mem → Prop), Wp d 53 52 ls st M Q = Wp d 53 53 ls (.int (I 0) :: st) M Q := fun d ls st M Q => w_iconst (show ins 53 52 = some (.iconst 0, 1) by decide +kernel)
set_option maxRecDepth 100000 in
theorem r_53_53 : ∀ (d : Nat) (ls : Lc) (v0 : Value)  (st : List Value) (M : Mem) (Q : Outcome → Mem → Prop), (smallR st = true) → Wp d 53 53 ls (v0 :: st) M Q = Ca d 53 53 ls 42 [v0] st M Q := fun d ls v0 st M Q h0 => w_stat (as := [v0]) (show ins 53 53 = some (.invokestatic 227, 3) by decide +kernel) (show mRes (mC 53) 227 = some (0, 1, [(0, 42)]) by decide +kernel) (by decide +kernel) (by decide +kernel) rfl h0
set_option maxRecDepth 100000 in
theorem r_53_56 : ∀ (d : Nat) (l1 l2 l3 l4 : Option Value) (v : Nat) (st : List Value) (M : Mem) (Q : Outcome → Mem → Prop), Wp d 53 56 [some (.ref v), l1, l2, l3, l4] st M Q = Wp d 53 57 [some (.ref v), l1, l2, l3, l4] (.ref v :: st) M Q := fun d l1 l2 l3 l4 v st M Q => wA (show ins 53 56 = some (.aload_n 0, 1) by decide +kernel) rfl
set_option maxRecDepth 100000 in
theorem r_53_57 : ∀ (d : Nat) (l0 l2 l3 l4 : Option Value) (v : Int32) (st : List Value) (M : Mem) (Q : Outcome → Mem → Prop), Wp d 53 57 [l0, some (.int v), l2, l3, l4] st M Q = Wp d 53 58 [l0, some (.int v), l2, l3, l4] (.int v :: st) M Q := fun d l0 l2 l3 l4 v st M Q => wA (show ins 53 57 = some (.iload_n 1, 1) by decide +kernel) rfl
set_option maxRecDepth 100000 in
theorem r_53_58 : ∀ (d : Nat) (l0 l1 l3 l4 : Option Value) (v : Int32) (st : List Value) (M : Mem) (Q : Outcome → Mem → Prop), Wp d 53 58 [l0, l1, some (.int v), l3, l4] st M Q = Wp d 53 59 [l0, l1, some (.int v), l3, l4] (.int v :: st) M Q := fun d l0 l1 l3 l4 v st M Q => wA (show ins 53 58 = some (.iload_n 2, 1) by decide +kernel) rfl
set_option maxRecDepth 100000 in
theorem r_53_59 : ∀ (d : Nat) (ls : Lc) (v0 v1 : Value) (a : Nat) (st : List Value) (M : Mem) (Q : Outcome → Mem → Prop), (smallR st = true) → Wp d 53 59 ls (v1 :: v0 :: .ref a :: st) M Q = (kO M a = 1 ∧ Ca d 53 59 ls 54 (.ref a :: [v0, v1]) st M Q) := fun d ls v0 v1 a st M Q h0 => w_virt1 (as := [v0, v1]) (show ins 53 59 = some (.invokevirtual 242, 3) by decide +kernel) (show mRes (mC 53) 242 = some (3, 1, [(1, 54)]) by decide +kernel) (by decide +kernel) rfl (by decide +kernel) (by decide +kernel) h0
set_option maxRecDepth 100000 in
theorem r_53_62 : ∀ (d : Nat) (l1 l2 l3 l4 : Option Value) (v : Nat) (st : List Value) (M : Mem) (Q : Outcome → Mem → Prop), Wp d 53 62 [some (.ref v), l1, l2, l3, l4] st M Q = Wp d 53 63 [some (.ref v), l1, l2, l3, l4] (.ref v :: st) M Q := fun d l1 l2 l3 l4 v st M Q => wA (show ins 53 62 = some (.aload_n 0, 1) by decide +kernel) rfl
set_option maxRecDepth 100000 in
theorem r_53_63 : ∀ (d : Nat) (l0 l1 l2 l4 : Option Value) (v : Int32) (st : List Value) (M : Mem) (Q : Outcome → Mem → Prop), Wp d 53 63 [l0, l1, l2, some (.int v), l4] st M Q = Wp d 53 64 [l0, l1, l2, some (.int v), l4] (.int v :: st) M Q := fun d l0 l1 l2 l4 v st M Q => wA (show ins 53 63 = some (.iload_n 3, 1) by decide +kernel) rfl
set_option maxRecDepth 100000 in
theorem r_53_64 : ∀ (d : Nat) (ls : Lc) (v0 : Value) (a : Nat) (st : List Value) (M : Mem) (Q : Outcome → Mem → Prop), (smallR st = true) → Wp d 53 64 ls (v0 :: .ref a :: st) M Q = (kO M a = 1 ∧ Ca d 53 64 ls 46 (.ref a :: [v0]) st M Q) := fun d ls v0 a st M Q h0 => w_virt1 (as := [v0]) (show ins 53 64 = some (.invokevirtual 189, 3) by decide +kernel) (show mRes (mC 53) 189 = some (3, 1, [(1, 46)]) by decide +kernel) (by decide +kernel) rfl (by decide +kernel) (by decide +kernel) h0
set_option maxRecDepth 100000 in
theorem r_53_67 : ∀ (d : Nat) (ls : Lc) (st : List Value) (M : Mem) (Q : Outcome → Mem → Prop), Wp d 53 67 ls st M Q = Wp d 53 68 ls (.int (I 1) :: st) M Q := fun d ls st M Q => w_iconst (show ins 53 67 = some (.iconst 1, 1) by decide +kernel)
set_option maxRecDepth 100000 in
theorem r_53_68 : ∀ (d : Nat) (ls : Lc) (a b : Int) (st : List Value) (M : Mem) (Q : Outcome → Mem → Prop), Wp d 53 68 ls (.int (I b) :: .int (I a) :: st) M Q = Wp d 53 69 ls (.int (I (a - b)) :: st) M Q := fun d ls a b st M Q => w_isub (show ins 53 68 = some (.isub, 1) by decide +kernel)
set_option maxRecDepth 100000 in
theorem r_53_69 : ∀ (d : Nat) (l0 l1 l2 l3 l4 : Option Value) (v : Int32) (st : List Value) (M : Mem) (Q : Outcome → Mem → Prop), (lo l3 = false) → Wp d 53 69 [l0, l1, l2, l3, l4] (.int v :: st) M Q = Wp d 53 71 [l0, l1, l2, l3, some (.int v)] st M Q := fun d l0 l1 l2 l3 l4 v st M Q hl => w_istore (show ins 53 69 = some (.istore 4, 2) by decide +kernel) (st1_S rfl rfl hl)
set_option maxRecDepth 100000 in
theorem r_53_71 : ∀ (d : Nat) (l0 l1 l2 l3 : Option Value) (v : Int32) (st : List Value) (M : Mem) (Q : Outcome → Mem → Prop), Wp d 53 71 [l0, l1, l2, l3, some (.int v)] st M Q = Wp d 53 73 [l0, l1, l2, l3, some (.int v)] (.int v :: st) M Q := fun d l0 l1 l2 l3 v st M Q => wA (show ins 53 71 = some (.iload 4, 2) by decide +kernel) rfl
set_option maxRecDepth 100000 in
theorem r_53_73 : ∀ (d : Nat) (ls : Lc) (a : Int32) (st : List Value) (M : Mem) (Q : Outcome → Mem → Prop), Wp d 53 73 ls (.int a :: st) M Q = Br (a ≤ I 0) d 53 91 76 ls st M Q := fun d ls a st M Q => w_if (show ins 53 73 = some (.ifCond .le 18, 3) by decide +kernel) rfl rfl
set_option maxRecDepth 100000 in
theorem r_53_76 : ∀ (d : Nat) (l1 l2 l3 l4 : Option Value) (v : Nat) (st : List Value) (M : Mem) (Q : Outcome → Mem → Prop), Wp d 53 76 [some (.ref v), l1, l2, l3, l4] st M Q = Wp d 53 77 [some (.ref v), l1, l2, l3, l4] (.ref v :: st) M Q := fun d l1 l2 l3 l4 v st M Q => wA (show ins 53 76 = some (.aload_n 0, 1) by decide +kernel) rfl
set_option maxRecDepth 100000 in
theorem r_53_77 : ∀ (d : Nat) (l0 l1 l2 l4 : Option Value) (v : Int32) (st : List Value) (M : Mem) (Q : Outcome → Mem → Prop), Wp d 53 77 [l0, l1, l2, some (.int v), l4] st M Q = Wp d 53 78 [l0, l1, l2, some (.int v), l4] (.int v :: st) M Q := fun d l0 l1 l2 l4 v st M Q => wA (show ins 53 77 = some (.iload_n 3, 1) by decide +kernel) rfl
set_option maxRecDepth 100000 in
theorem r_53_78 : ∀ (d : Nat) (l0 l1 l2 l3 : Option Value) (v : Int32) (st : List Value) (M : Mem) (Q : Outcome → Mem → Prop), Wp d 53 78 [l0, l1, l2, l3, some (.int v)] st M Q = Wp d 53 80 [l0, l1, l2, l3, some (.int v)] (.int v :: st) M Q := fun d l0 l1 l2 l3 v st M Q => wA (show ins 53 78 = some (.iload 4, 2) by decide +kernel) rfl
set_option maxRecDepth 100000 in
theorem r_53_80 : ∀ (d : Nat) (l1 l2 l3 l4 : Option Value) (v : Nat) (st : List Value) (M : Mem) (Q : Outcome → Mem → Prop), Wp d 53 80 [some (.ref v), l1, l2, l3, l4] st M Q = Wp d 53 81 [some (.ref v), l1, l2, l3, l4] (.ref v :: st) M Q := fun d l1 l2 l3 l4 v st M Q => wA (show ins 53 80 = some (.aload_n 0, 1) by decide +kernel) rfl
set_option maxRecDepth 100000 in
theorem r_53_81 : ∀ (d : Nat) (l0 l1 l2 l4 : Option Value) (v : Int32) (st : List Value) (M : Mem) (Q : Outcome → Mem → Prop), Wp d 53 81 [l0, l1, l2, some (.int v), l4] st M Q = Wp d 53 82 [l0, l1, l2, some (.int v), l4] (.int v :: st) M Q := fun d l0 l1 l2 l4 v st M Q => wA (show ins 53 81 = some (.iload_n 3, 1) by decide +kernel) rfl
set_option maxRecDepth 100000 in
theorem r_53_82 : ∀ (d : Nat) (ls : Lc) (v0 : Value) (a : Nat) (st : List Value) (M : Mem) (Q : Outcome → Mem → Prop), (smallR st = true) → Wp d 53 82 ls (v0 :: .ref a :: st) M Q = (kO M a = 1 ∧ Ca d 53 82 ls 47 (.ref a :: [v0]) st M Q) := fun d ls v0 a st M Q h0 => w_virt1 (as := [v0]) (show ins 53 82 = some (.invokevirtual 192, 3) by decide +kernel) (show mRes (mC 53) 192 = some (3, 1, [(1, 47)]) by decide +kernel) (by decide +kernel) rfl (by decide +kernel) (by decide +kernel) h0
set_option maxRecDepth 100000 in
theorem r_53_85 : ∀ (d : Nat) (ls : Lc) (v0 v1 v2 : Value) (a : Nat) (st : List Value) (M : Mem) (Q : Outcome → Mem → Prop), (smallR st = true) → Wp d 53 85 ls (v2 :: v1 :: v0 :: .ref a :: st) M Q = (kO M a = 1 ∧ Ca d 53 85 ls 48 (.ref a :: [v0, v1, v2]) st M Q) := fun d ls v0 v1 v2 a st M Q h0 => w_virt1 (as := [v0, v1, v2]) (show ins 53 85 = some (.invokevirtual 195, 3) by decide +kernel) (show mRes (mC 53) 195 = some (3, 1, [(1, 48)]) by decide +kernel) (by decide +kernel) rfl (by decide +kernel) (by decide +kernel) h0
set_option maxRecDepth 100000 in
theorem r_53_88 : ∀ (d : Nat) (ls : Lc) (st : List Value) (M : Mem) (Q : Outcome → Mem → Prop), Wp d 53 88 ls st M Q = Wp d 53 96 ls st M Q := fun d ls st M Q => w_goto (show ins 53 88 = some (.goto 8, 3) by decide +kernel) rfl
set_option maxRecDepth 100000 in
theorem r_53_91 : ∀ (d : Nat) (l1 l2 l3 l4 : Option Value) (v : Nat) (st : List Value) (M : Mem) (Q : Outcome → Mem → Prop), Wp d 53 91 [some (.ref v), l1, l2, l3, l4] st M Q = Wp d 53 92 [some (.ref v), l1, l2, l3, l4] (.ref v :: st) M Q := fun d l1 l2 l3 l4 v st M Q => wA (show ins 53 91 = some (.aload_n 0, 1) by decide +kernel) rfl
set_option maxRecDepth 100000 in
theorem r_53_92 : ∀ (d : Nat) (l0 l1 l2 l4 : Option Value) (v : Int32) (st : List Value) (M : Mem) (Q : Outcome → Mem → Prop), Wp d 53 92 [l0, l1, l2, some (.int v), l4] st M Q = Wp d 53 93 [l0, l1, l2, some (.int v), l4] (.int v :: st) M Q := fun d l0 l1 l2 l4 v st M Q => wA (show ins 53 92 = some (.iload_n 3, 1) by decide +kernel) rfl
set_option maxRecDepth 100000 in
theorem r_53_93 : ∀ (d : Nat) (ls : Lc) (v0 : Value) (a : Nat) (st : List Value) (M : Mem) (Q : Outcome → Mem → Prop), (smallR st = true) → Wp d 53 93 ls (v0 :: .ref a :: st) M Q = (kO M a = 1 ∧ Ca d 53 93 ls 55 (.ref a :: [v0]) st M Q) := fun d ls v0 a st M Q h0 => w_virt1 (as := [v0]) (show ins 53 93 = some (.invokevirtual 245, 3) by decide +kernel) (show mRes (mC 53) 245 = some (3, 1, [(1, 55)]) by decide +kernel) (by decide +kernel) rfl (by decide +kernel) (by decide +kernel) h0
set_option maxRecDepth 100000 in
theorem r_53_96 : ∀ (d : Nat) (l0 l1 l2 l3 : Option Value) (v : Int32) (st : List Value) (M : Mem) (Q : Outcome → Mem → Prop), Wp d 53 96 [l0, l1, l2, l3, some (.int v)] st M Q = Wp d 53 98 [l0, l1, l2, l3, some (.int v)] (.int v :: st) M Q := fun d l0 l1 l2 l3 v st M Q => wA (show ins 53 96 = some (.iload 4, 2) by decide +kernel) rfl
set_option maxRecDepth 100000 in
theorem r_53_98 : ∀ (d : Nat) (ls : Lc) (v : Int32) (M : Mem) (Q : Outcome → Mem → Prop), Wp d 53 98 ls [.int v] M Q = Q (.returned (some (.int v))) M := fun d ls v M Q => w_ireturn (show ins 53 98 = some (.ireturn, 1) by decide +kernel) (by decide +kernel)
set_option maxRecDepth 100000 in
theorem W_53 : (type_of% r_53_0) ∧ (type_of% r_53_1) ∧ (type_of% r_53_4) ∧ (type_of% r_53_5) ∧ (type_of% r_53_6) ∧ (type_of% r_53_9) ∧ (type_of% r_53_12) ∧ (type_of% r_53_13) ∧ (type_of% r_53_14) ∧ (type_of% r_53_15) ∧ (type_of% r_53_18) ∧ (type_of% r_53_19) ∧ (type_of% r_53_20) ∧ (type_of% r_53_21) ∧ (type_of% r_53_24) ∧ (type_of% r_53_25) ∧ (type_of% r_53_28) ∧ (type_of% r_53_29) ∧ (type_of% r_53_32) ∧ (type_of% r_53_33) ∧ (type_of% r_53_34) ∧ (type_of% r_53_37) ∧ (type_of% r_53_40) ∧ (type_of% r_53_41) ∧ (type_of% r_53_42) ∧ (type_of% r_53_45) ∧ (type_of% r_53_48) ∧ (type_of% r_53_49) ∧ (type_of% r_53_52) ∧ (type_of% r_53_53) ∧ (type_of% r_53_56) ∧ (type_of% r_53_57) ∧ (type_of% r_53_58) ∧ (type_of% r_53_59) ∧ (type_of% r_53_62) ∧ (type_of% r_53_63) ∧ (type_of% r_53_64) ∧ (type_of% r_53_67) ∧ (type_of% r_53_68) ∧ (type_of% r_53_69) ∧ (type_of% r_53_71) ∧ (type_of% r_53_73) ∧ (type_of% r_53_76) ∧ (type_of% r_53_77) ∧ (type_of% r_53_78) ∧ (type_of% r_53_80) ∧ (type_of% r_53_81) ∧ (type_of% r_53_82) ∧ (type_of% r_53_85) ∧ (type_of% r_53_88) ∧ (type_of% r_53_91) ∧ (type_of% r_53_92) ∧ (type_of% r_53_93) ∧ (type_of% r_53_96) ∧ (type_of% r_53_98) := ⟨r_53_0, r_53_1, r_53_4, r_53_5, r_53_6, r_53_9, r_53_12, r_53_13, r_53_14, r_53_15, r_53_18, r_53_19, r_53_20, r_53_21, r_53_24, r_53_25, r_53_28, r_53_29, r_53_32, r_53_33, r_53_34, r_53_37, r_53_40, r_53_41, r_53_42, r_53_45, r_53_48, r_53_49, r_53_52, r_53_53, r_53_56, r_53_57, r_53_58, r_53_59, r_53_62, r_53_63, r_53_64, r_53_67, r_53_68, r_53_69, r_53_71, r_53_73, r_53_76, r_53_77, r_53_78, r_53_80, r_53_81, r_53_82, r_53_85, r_53_88, r_53_91, r_53_92, r_53_93, r_53_96, r_53_98⟩
set_option maxRecDepth 100000 in
theorem ca_53 {d y pc : Nat} {ls : Lc} {a : Nat} {z0 : Int32} {z1 : Int32} {r : List Value} {M : Mem} {Q : Outcome → Mem → Prop} (hd : 0 < d) (hw : Wp (d - 1) 53 0 [some (.ref a), some (.int z0), some (.int z1), none, none] [] M (Cq d y pc ls r Q)) : Ca d y pc ls 53 [.ref a, .int z0, .int z1] r M Q := ca_of (mq_get (by decide)) (by rfl) hd hw
/-! 54 PackedTree.leave(II)V; loop heads [] -/
set_option maxRecDepth 100000 in
theorem r_54_0 : ∀ (d : Nat) (l1 l2 : Option Value) (v : Nat) (st : List Value) (M : Mem) (Q : Outcome → Mem → Prop), Wp d 54 0 [some (.ref v), l1, l2] st M Q = Wp d 54 1 [some (.ref v), l1, l2] (.ref v :: st) M Q := fun d l1 l2 v st M Q => wA (show ins 54 0 = some (.aload_n 0, 1) by decide +kernel) rfl
set_option maxRecDepth 100000 in
theorem r_54_1 : ∀ (d : Nat) (ls : Lc) (a : Nat) (st : List Value) (M : Mem) (Q : Outcome → Mem → Prop), Wp d 54 1 ls (.ref a :: st) M Q = (fk 9 (kO M a) = true ∧ Wp d 54 4 ls (va_rf (mR M 9 a) :: st) M Q) := fun d ls a st M Q => w_getR (show ins 54 1 = some (.getfield 58, 3) by decide +kernel) (show fRes (mC 54) 58 = some (9, 1, false) by decide +kernel) (by decide +kernel)
set_option maxRecDepth 100000 in
theorem r_54_4 : ∀ (d : Nat) (l0 l2 : Option Value) (v : Int32) (st : List Value) (M : Mem) (Q : Outcome → Mem → Prop), Wp d 54 4 [l0, some (.int v), l2] st M Q = Wp d 54 5 [l0, some (.int v), l2] (.int v :: st) M Q := fun d l0 l2 v st M Q => wA (show ins 54 4 = some (.iload_n 1, 1) by decide +kernel) rfl
set_option maxRecDepth 100000 in
theorem r_54_5 : ∀ (d : Nat) (ls : Lc) (st : List Value) (M : Mem) (Q : Outcome → Mem → Prop), Wp d 54 5 ls st M Q = Wp d 54 6 ls (.int (I 1) :: st) M Q := fun d ls st M Q => w_iconst (show ins 54 5 = some (.iconst 1, 1) by decide +kernel)
set_option maxRecDepth 100000 in
theorem r_54_6 : ∀ (d : Nat) (l0 l1 : Option Value) (v : Int32) (st : List Value) (M : Mem) (Q : Outcome → Mem → Prop), Wp d 54 6 [l0, l1, some (.int v)] st M Q = Wp d 54 7 [l0, l1, some (.int v)] (.int v :: st) M Q := fun d l0 l1 v st M Q => wA (show ins 54 6 = some (.iload_n 2, 1) by decide +kernel) rfl
set_option maxRecDepth 100000 in
theorem r_54_7 : ∀ (d : Nat) (ls : Lc) (v0 v1 v2 : Value)  (st : List Value) (M : Mem) (Q : Outcome → Mem → Prop), (smallR st = true) → Wp d 54 7 ls (v2 :: v1 :: v0 :: st) M Q = Ca d 54 7 ls 24 [v0, v1, v2] st M Q := fun d ls v0 v1 v2 st M Q h0 => w_stat (as := [v0, v1, v2]) (show ins 54 7 = some (.invokestatic 82, 3) by decide +kernel) (show mRes (mC 54) 82 = some (0, 1, [(0, 24)]) by decide +kernel) (by decide +kernel) (by decide +kernel) rfl h0
set_option maxRecDepth 100000 in
theorem r_54_10 : ∀ (d : Nat) (l1 l2 : Option Value) (v : Nat) (st : List Value) (M : Mem) (Q : Outcome → Mem → Prop), Wp d 54 10 [some (.ref v), l1, l2] st M Q = Wp d 54 11 [some (.ref v), l1, l2] (.ref v :: st) M Q := fun d l1 l2 v st M Q => wA (show ins 54 10 = some (.aload_n 0, 1) by decide +kernel) rfl
set_option maxRecDepth 100000 in
theorem r_54_11 : ∀ (d : Nat) (ls : Lc) (a : Nat) (st : List Value) (M : Mem) (Q : Outcome → Mem → Prop), Wp d 54 11 ls (.ref a :: st) M Q = (fk 0 (kO M a) = true ∧ Wp d 54 14 ls (va_rf (mR M 0 a) :: st) M Q) := fun d ls a st M Q => w_getR (show ins 54 11 = some (.getfield 25, 3) by decide +kernel) (show fRes (mC 54) 25 = some (0, 1, false) by decide +kernel) (by decide +kernel)
set_option maxRecDepth 100000 in
theorem r_54_14 : ∀ (d : Nat) (ls : Lc) (st : List Value) (M : Mem) (Q : Outcome → Mem → Prop), Wp d 54 14 ls st M Q = Wp d 54 15 ls (.int (I 0) :: st) M Q := fun d ls st M Q => w_iconst (show ins 54 14 = some (.iconst 0, 1) by decide +kernel)
set_option maxRecDepth 100000 in
theorem r_54_15 : ∀ (d : Nat) (ls : Lc) (v0 v1 v2 : Value) (a : Nat) (st : List Value) (M : Mem) (Q : Outcome → Mem → Prop), (smallR st = true) → Wp d 54 15 ls (v2 :: v1 :: v0 :: .ref a :: st) M Q = (kO M a = 3 ∧ Ca d 54 15 ls 97 (.ref a :: [v0, v1, v2]) st M Q) := fun d ls v0 v1 v2 a st M Q h0 => w_virt1 (as := [v0, v1, v2]) (show ins 54 15 = some (.invokevirtual 85, 3) by decide +kernel) (show mRes (mC 54) 85 = some (3, 3, [(3, 97)]) by decide +kernel) (by decide +kernel) rfl (by decide +kernel) (by decide +kernel) h0
set_option maxRecDepth 100000 in
theorem r_54_18 : ∀ (d : Nat) (l1 l2 : Option Value) (v : Nat) (st : List Value) (M : Mem) (Q : Outcome → Mem → Prop), Wp d 54 18 [some (.ref v), l1, l2] st M Q = Wp d 54 19 [some (.ref v), l1, l2] (.ref v :: st) M Q := fun d l1 l2 v st M Q => wA (show ins 54 18 = some (.aload_n 0, 1) by decide +kernel) rfl
set_option maxRecDepth 100000 in
theorem r_54_19 : ∀ (d : Nat) (l0 l2 : Option Value) (v : Int32) (st : List Value) (M : Mem) (Q : Outcome → Mem → Prop), Wp d 54 19 [l0, some (.int v), l2] st M Q = Wp d 54 20 [l0, some (.int v), l2] (.int v :: st) M Q := fun d l0 l2 v st M Q => wA (show ins 54 19 = some (.iload_n 1, 1) by decide +kernel) rfl
set_option maxRecDepth 100000 in
theorem r_54_20 : ∀ (d : Nat) (ls : Lc) (st : List Value) (M : Mem) (Q : Outcome → Mem → Prop), Wp d 54 20 ls st M Q = Wp d 54 21 ls (.int (I (-1)) :: st) M Q := fun d ls st M Q => w_iconst (show ins 54 20 = some (.iconst (-1), 1) by decide +kernel)
set_option maxRecDepth 100000 in
theorem r_54_21 : ∀ (d : Nat) (ls : Lc) (v0 v1 : Value) (a : Nat) (st : List Value) (M : Mem) (Q : Outcome → Mem → Prop), (smallR st = true) → Wp d 54 21 ls (v1 :: v0 :: .ref a :: st) M Q = (kO M a = 1 ∧ Ca d 54 21 ls 45 (.ref a :: [v0, v1]) st M Q) := fun d ls v0 v1 a st M Q h0 => w_virt1 (as := [v0, v1]) (show ins 54 21 = some (.invokevirtual 201, 3) by decide +kernel) (show mRes (mC 54) 201 = some (3, 1, [(1, 45)]) by decide +kernel) (by decide +kernel) rfl (by decide +kernel) (by decide +kernel) h0
set_option maxRecDepth 100000 in
theorem r_54_24 : ∀ (d : Nat) (ls : Lc) (M : Mem) (Q : Outcome → Mem → Prop), Wp d 54 24 ls [] M Q = Q (.returned none) M := fun d ls M Q => w_return (show ins 54 24 = some (.return_, 1) by decide +kernel) (by decide +kernel)
set_option maxRecDepth 100000 in
theorem W_54 : (type_of% r_54_0) ∧ (type_of% r_54_1) ∧ (type_of% r_54_4) ∧ (type_of% r_54_5) ∧ (type_of% r_54_6) ∧ (type_of% r_54_7) ∧ (type_of% r_54_10) ∧ (type_of% r_54_11) ∧ (type_of% r_54_14) ∧ (type_of% r_54_15) ∧ (type_of% r_54_18) ∧ (type_of% r_54_19) ∧ (type_of% r_54_20) ∧ (type_of% r_54_21) ∧ (type_of% r_54_24) := ⟨r_54_0, r_54_1, r_54_4, r_54_5, r_54_6, r_54_7, r_54_10, r_54_11, r_54_14, r_54_15, r_54_18, r_54_19, r_54_20, r_54_21, r_54_24⟩
set_option maxRecDepth 100000 in
theorem ca_54 {d y pc : Nat} {ls : Lc} {a : Nat} {z0 : Int32} {z1 : Int32} {r : List Value} {M : Mem} {Q : Outcome → Mem → Prop} (hd : 0 < d) (hw : Wp (d - 1) 54 0 [some (.ref a), some (.int z0), some (.int z1)] [] M (Cq d y pc ls r Q)) : Ca d y pc ls 54 [.ref a, .int z0, .int z1] r M Q := ca_of (mq_get (by decide)) (by rfl) hd hw
/-! 55 PackedTree.remove(I)V; loop heads [8] -/
set_option maxRecDepth 100000 in
theorem r_55_0 : ∀ (d : Nat) (l1 l2 : Option Value) (v : Nat) (st : List Value) (M : Mem) (Q : Outcome → Mem → Prop), Wp d 55 0 [some (.ref v), l1, l2] st M Q = Wp d 55 1 [some (.ref v), l1, l2] (.ref v :: st) M Q := fun d l1 l2 v st M Q => wA (show ins 55 0 = some (.aload_n 0, 1) by decide +kernel) rfl
set_option maxRecDepth 100000 in
theorem r_55_1 : ∀ (d : Nat) (l0 l2 : Option Value) (v : Int32) (st : List Value) (M : Mem) (Q : Outcome → Mem → Prop), Wp d 55 1 [l0, some (.int v), l2] st M Q = Wp d 55 2 [l0, some (.int v), l2] (.int v :: st) M Q := fun d l0 l2 v st M Q => wA (show ins 55 1 = some (.iload_n 1, 1) by decide +kernel) rfl
set_option maxRecDepth 100000 in
theorem r_55_2 : ∀ (d : Nat) (ls : Lc) (v0 : Value) (a : Nat) (st : List Value) (M : Mem) (Q : Outcome → Mem → Prop), (smallR st = true) → Wp d 55 2 ls (v0 :: .ref a :: st) M Q = (kO M a = 1 ∧ Ca d 55 2 ls 56 (.ref a :: [v0]) st M Q) := fun d ls v0 a st M Q h0 => w_virt1 (as := [v0]) (show ins 55 2 = some (.invokevirtual 248, 3) by decide +kernel) (show mRes (mC 55) 248 = some (3, 1, [(1, 56)]) by decide +kernel) (by decide +kernel) rfl (by decide +kernel) (by decide +kernel) h0
set_option maxRecDepth 100000 in
theorem r_55_5 : ∀ (d : Nat) (ls : Lc) (st : List Value) (M : Mem) (Q : Outcome → Mem → Prop), Wp d 55 5 ls st M Q = Wp d 55 6 ls (.int (I 1) :: st) M Q := fun d ls st M Q => w_iconst (show ins 55 5 = some (.iconst 1, 1) by decide +kernel)
set_option maxRecDepth 100000 in
theorem r_55_6 : ∀ (d : Nat) (ls : Lc) (a b : Int) (st : List Value) (M : Mem) (Q : Outcome → Mem → Prop), Wp d 55 6 ls (.int (I b) :: .int (I a) :: st) M Q = Wp d 55 7 ls (.int (I (a - b)) :: st) M Q := fun d ls a b st M Q => w_isub (show ins 55 6 = some (.isub, 1) by decide +kernel)
set_option maxRecDepth 100000 in
theorem r_55_7 : ∀ (d : Nat) (l0 l1 l2 : Option Value) (v : Int32) (st : List Value) (M : Mem) (Q : Outcome → Mem → Prop), (lo l1 = false) → Wp d 55 7 [l0, l1, l2] (.int v :: st) M Q = Wp d 55 8 [l0, l1, some (.int v)] st M Q := fun d l0 l1 l2 v st M Q hl => w_istore_n (show ins 55 7 = some (.istore_n 2, 1) by decide +kernel) (st1_S rfl rfl hl)
set_option maxRecDepth 100000 in
theorem r_55_8 : ∀ (d : Nat) (l0 l1 : Option Value) (v : Int32) (st : List Value) (M : Mem) (Q : Outcome → Mem → Prop), Wp d 55 8 [l0, l1, some (.int v)] st M Q = Wp d 55 9 [l0, l1, some (.int v)] (.int v :: st) M Q := fun d l0 l1 v st M Q => wA (show ins 55 8 = some (.iload_n 2, 1) by decide +kernel) rfl
set_option maxRecDepth 100000 in
theorem r_55_9 : ∀ (d : Nat) (ls : Lc) (a : Int32) (st : List Value) (M : Mem) (Q : Outcome → Mem → Prop), Wp d 55 9 ls (.int a :: st) M Q = Br (a < I 0) d 55 31 12 ls st M Q := fun d ls a st M Q => w_if (show ins 55 9 = some (.ifCond .lt 22, 3) by decide +kernel) rfl rfl
set_option maxRecDepth 100000 in
theorem r_55_12 : ∀ (d : Nat) (l1 l2 : Option Value) (v : Nat) (st : List Value) (M : Mem) (Q : Outcome → Mem → Prop), Wp d 55 12 [some (.ref v), l1, l2] st M Q = Wp d 55 13 [some (.ref v), l1, l2] (.ref v :: st) M Q := fun d l1 l2 v st M Q => wA (show ins 55 12 = some (.aload_n 0, 1) by decide +kernel) rfl
set_option maxRecDepth 100000 in
theorem r_55_13 : ∀ (d : Nat) (ls : Lc) (a : Nat) (st : List Value) (M : Mem) (Q : Outcome → Mem → Prop), Wp d 55 13 ls (.ref a :: st) M Q = (fk 6 (kO M a) = true ∧ Wp d 55 16 ls (va_rf (mR M 6 a) :: st) M Q) := fun d ls a st M Q => w_getR (show ins 55 13 = some (.getfield 49, 3) by decide +kernel) (show fRes (mC 55) 49 = some (6, 1, false) by decide +kernel) (by decide +kernel)
set_option maxRecDepth 100000 in
theorem r_55_16 : ∀ (d : Nat) (l1 l2 : Option Value) (v : Nat) (st : List Value) (M : Mem) (Q : Outcome → Mem → Prop), Wp d 55 16 [some (.ref v), l1, l2] st M Q = Wp d 55 17 [some (.ref v), l1, l2] (.ref v :: st) M Q := fun d l1 l2 v st M Q => wA (show ins 55 16 = some (.aload_n 0, 1) by decide +kernel) rfl
set_option maxRecDepth 100000 in
theorem r_55_17 : ∀ (d : Nat) (ls : Lc) (a : Nat) (st : List Value) (M : Mem) (Q : Outcome → Mem → Prop), Wp d 55 17 ls (.ref a :: st) M Q = (fk 5 (kO M a) = true ∧ Wp d 55 20 ls (va_rf (mR M 5 a) :: st) M Q) := fun d ls a st M Q => w_getR (show ins 55 17 = some (.getfield 32, 3) by decide +kernel) (show fRes (mC 55) 32 = some (5, 1, false) by decide +kernel) (by decide +kernel)
set_option maxRecDepth 100000 in
theorem r_55_20 : ∀ (d : Nat) (l0 l1 : Option Value) (v : Int32) (st : List Value) (M : Mem) (Q : Outcome → Mem → Prop), Wp d 55 20 [l0, l1, some (.int v)] st M Q = Wp d 55 21 [l0, l1, some (.int v)] (.int v :: st) M Q := fun d l0 l1 v st M Q => wA (show ins 55 20 = some (.iload_n 2, 1) by decide +kernel) rfl
set_option maxRecDepth 100000 in
theorem r_55_21 : ∀ (d : Nat) (ls : Lc) (a : Nat) (j : Int32) (st : List Value) (M : Mem) (Q : Outcome → Mem → Prop), Wp d 55 21 ls (.int j :: .ref a :: st) M Q = ((((kX M a).1 = 0 ∨ (kX M a).1 = 8) ∧ inB j (kX M a).2 = true) ∧ Wp d 55 22 ls (.int (mA M a j.toNatClampNeg) :: st) M Q) := fun d ls a j st M Q => w_iaload (show ins 55 21 = some (.iaload, 1) by decide +kernel)
set_option maxRecDepth 100000 in
theorem r_55_22 : ∀ (d : Nat) (ls : Lc) (v0 : Value) (a : Nat) (st : List Value) (M : Mem) (Q : Outcome → Mem → Prop), (smallR st = true) → Wp d 55 22 ls (v0 :: .ref a :: st) M Q = (kO M a = 2 ∧ Ca d 55 22 ls 89 (.ref a :: [v0]) st M Q) := fun d ls v0 a st M Q h0 => w_virt1 (as := [v0]) (show ins 55 22 = some (.invokevirtual 251, 3) by decide +kernel) (show mRes (mC 55) 251 = some (3, 2, [(2, 89)]) by decide +kernel) (by decide +kernel) rfl (by decide +kernel) (by decide +kernel) h0
set_option maxRecDepth 100000 in
theorem r_55_25 : ∀ (d : Nat) (l0 l1 : Option Value) (z : Int) (st : List Value) (M : Mem) (Q : Outcome → Mem → Prop), (lo l1 = false) → Wp d 55 25 [l0, l1, some (.int (I z))] st M Q = Wp d 55 28 [l0, l1, some (.int (I (z + (-1))))] st M Q := fun d l0 l1 z st M Q hl => w_iinc (show ins 55 25 = some (.iinc 2 (-1), 3) by decide +kernel) rfl (st1_S rfl rfl hl)
set_option maxRecDepth 100000 in
theorem r_55_28 : ∀ (d : Nat) (ls : Lc) (st : List Value) (M : Mem) (Q : Outcome → Mem → Prop), Wp d 55 28 ls st M Q = Wp d 55 8 ls st M Q := fun d ls st M Q => w_goto (show ins 55 28 = some (.goto (-20), 3) by decide +kernel) rfl
set_option maxRecDepth 100000 in
theorem r_55_31 : ∀ (d : Nat) (l1 l2 : Option Value) (v : Nat) (st : List Value) (M : Mem) (Q : Outcome → Mem → Prop), Wp d 55 31 [some (.ref v), l1, l2] st M Q = Wp d 55 32 [some (.ref v), l1, l2] (.ref v :: st) M Q := fun d l1 l2 v st M Q => wA (show ins 55 31 = some (.aload_n 0, 1) by decide +kernel) rfl
set_option maxRecDepth 100000 in
theorem r_55_32 : ∀ (d : Nat) (ls : Lc) (a : Nat) (st : List Value) (M : Mem) (Q : Outcome → Mem → Prop), Wp d 55 32 ls (.ref a :: st) M Q = (fk 9 (kO M a) = true ∧ Wp d 55 35 ls (va_rf (mR M 9 a) :: st) M Q) := fun d ls a st M Q => w_getR (show ins 55 32 = some (.getfield 58, 3) by decide +kernel) (show fRes (mC 55) 58 = some (9, 1, false) by decide +kernel) (by decide +kernel)
set_option maxRecDepth 100000 in
theorem r_55_35 : ∀ (d : Nat) (l0 l2 : Option Value) (v : Int32) (st : List Value) (M : Mem) (Q : Outcome → Mem → Prop), Wp d 55 35 [l0, some (.int v), l2] st M Q = Wp d 55 36 [l0, some (.int v), l2] (.int v :: st) M Q := fun d l0 l2 v st M Q => wA (show ins 55 35 = some (.iload_n 1, 1) by decide +kernel) rfl
set_option maxRecDepth 100000 in
theorem r_55_36 : ∀ (d : Nat) (ls : Lc) (st : List Value) (M : Mem) (Q : Outcome → Mem → Prop), Wp d 55 36 ls st M Q = Wp d 55 37 ls (.int (I 3) :: st) M Q := fun d ls st M Q => w_iconst (show ins 55 36 = some (.iconst 3, 1) by decide +kernel)
set_option maxRecDepth 100000 in
theorem r_55_37 : ∀ (d : Nat) (ls : Lc) (st : List Value) (M : Mem) (Q : Outcome → Mem → Prop), Wp d 55 37 ls st M Q = Wp d 55 38 ls (.int (I 0) :: st) M Q := fun d ls st M Q => w_iconst (show ins 55 37 = some (.iconst 0, 1) by decide +kernel)
set_option maxRecDepth 100000 in
theorem r_55_38 : ∀ (d : Nat) (ls : Lc) (v0 v1 v2 : Value)  (st : List Value) (M : Mem) (Q : Outcome → Mem → Prop), (smallR st = true) → Wp d 55 38 ls (v2 :: v1 :: v0 :: st) M Q = Ca d 55 38 ls 24 [v0, v1, v2] st M Q := fun d ls v0 v1 v2 st M Q h0 => w_stat (as := [v0, v1, v2]) (show ins 55 38 = some (.invokestatic 82, 3) by decide +kernel) (show mRes (mC 55) 82 = some (0, 1, [(0, 24)]) by decide +kernel) (by decide +kernel) (by decide +kernel) rfl h0
set_option maxRecDepth 100000 in
theorem r_55_41 : ∀ (d : Nat) (l1 l2 : Option Value) (v : Nat) (st : List Value) (M : Mem) (Q : Outcome → Mem → Prop), Wp d 55 41 [some (.ref v), l1, l2] st M Q = Wp d 55 42 [some (.ref v), l1, l2] (.ref v :: st) M Q := fun d l1 l2 v st M Q => wA (show ins 55 41 = some (.aload_n 0, 1) by decide +kernel) rfl
set_option maxRecDepth 100000 in
theorem r_55_42 : ∀ (d : Nat) (ls : Lc) (a : Nat) (st : List Value) (M : Mem) (Q : Outcome → Mem → Prop), Wp d 55 42 ls (.ref a :: st) M Q = (fk 0 (kO M a) = true ∧ Wp d 55 45 ls (va_rf (mR M 0 a) :: st) M Q) := fun d ls a st M Q => w_getR (show ins 55 42 = some (.getfield 25, 3) by decide +kernel) (show fRes (mC 55) 25 = some (0, 1, false) by decide +kernel) (by decide +kernel)
set_option maxRecDepth 100000 in
theorem r_55_45 : ∀ (d : Nat) (ls : Lc) (st : List Value) (M : Mem) (Q : Outcome → Mem → Prop), Wp d 55 45 ls st M Q = Wp d 55 46 ls (.int (I 0) :: st) M Q := fun d ls st M Q => w_iconst (show ins 55 45 = some (.iconst 0, 1) by decide +kernel)
set_option maxRecDepth 100000 in
theorem r_55_46 : ∀ (d : Nat) (ls : Lc) (v0 v1 v2 : Value) (a : Nat) (st : List Value) (M : Mem) (Q : Outcome → Mem → Prop), (smallR st = true) → Wp d 55 46 ls (v2 :: v1 :: v0 :: .ref a :: st) M Q = (kO M a = 3 ∧ Ca d 55 46 ls 97 (.ref a :: [v0, v1, v2]) st M Q) := fun d ls v0 v1 v2 a st M Q h0 => w_virt1 (as := [v0, v1, v2]) (show ins 55 46 = some (.invokevirtual 85, 3) by decide +kernel) (show mRes (mC 55) 85 = some (3, 3, [(3, 97)]) by decide +kernel) (by decide +kernel) rfl (by decide +kernel) (by decide +kernel) h0
set_option maxRecDepth 100000 in
theorem r_55_49 : ∀ (d : Nat) (l1 l2 : Option Value) (v : Nat) (st : List Value) (M : Mem) (Q : Outcome → Mem → Prop), Wp d 55 49 [some (.ref v), l1, l2] st M Q = Wp d 55 50 [some (.ref v), l1, l2] (.ref v :: st) M Q := fun d l1 l2 v st M Q => wA (show ins 55 49 = some (.aload_n 0, 1) by decide +kernel) rfl
set_option maxRecDepth 100000 in
theorem r_55_50 : ∀ (d : Nat) (ls : Lc) (a : Nat) (st : List Value) (M : Mem) (Q : Outcome → Mem → Prop), Wp d 55 50 ls (.ref a :: st) M Q = (fk 9 (kO M a) = true ∧ Wp d 55 53 ls (va_rf (mR M 9 a) :: st) M Q) := fun d ls a st M Q => w_getR (show ins 55 50 = some (.getfield 58, 3) by decide +kernel) (show fRes (mC 55) 58 = some (9, 1, false) by decide +kernel) (by decide +kernel)
set_option maxRecDepth 100000 in
theorem r_55_53 : ∀ (d : Nat) (l0 l2 : Option Value) (v : Int32) (st : List Value) (M : Mem) (Q : Outcome → Mem → Prop), Wp d 55 53 [l0, some (.int v), l2] st M Q = Wp d 55 54 [l0, some (.int v), l2] (.int v :: st) M Q := fun d l0 l2 v st M Q => wA (show ins 55 53 = some (.iload_n 1, 1) by decide +kernel) rfl
set_option maxRecDepth 100000 in
theorem r_55_54 : ∀ (d : Nat) (ls : Lc) (st : List Value) (M : Mem) (Q : Outcome → Mem → Prop), Wp d 55 54 ls st M Q = Wp d 55 55 ls (.int (I 2) :: st) M Q := fun d ls st M Q => w_iconst (show ins 55 54 = some (.iconst 2, 1) by decide +kernel)
set_option maxRecDepth 100000 in
theorem r_55_55 : ∀ (d : Nat) (ls : Lc) (st : List Value) (M : Mem) (Q : Outcome → Mem → Prop), Wp d 55 55 ls st M Q = Wp d 55 56 ls (.int (I 0) :: st) M Q := fun d ls st M Q => w_iconst (show ins 55 55 = some (.iconst 0, 1) by decide +kernel)
set_option maxRecDepth 100000 in
theorem r_55_56 : ∀ (d : Nat) (ls : Lc) (v0 v1 v2 : Value)  (st : List Value) (M : Mem) (Q : Outcome → Mem → Prop), (smallR st = true) → Wp d 55 56 ls (v2 :: v1 :: v0 :: st) M Q = Ca d 55 56 ls 24 [v0, v1, v2] st M Q := fun d ls v0 v1 v2 st M Q h0 => w_stat (as := [v0, v1, v2]) (show ins 55 56 = some (.invokestatic 82, 3) by decide +kernel) (show mRes (mC 55) 82 = some (0, 1, [(0, 24)]) by decide +kernel) (by decide +kernel) (by decide +kernel) rfl h0
set_option maxRecDepth 100000 in
theorem r_55_59 : ∀ (d : Nat) (l1 l2 : Option Value) (v : Nat) (st : List Value) (M : Mem) (Q : Outcome → Mem → Prop), Wp d 55 59 [some (.ref v), l1, l2] st M Q = Wp d 55 60 [some (.ref v), l1, l2] (.ref v :: st) M Q := fun d l1 l2 v st M Q => wA (show ins 55 59 = some (.aload_n 0, 1) by decide +kernel) rfl
set_option maxRecDepth 100000 in
theorem r_55_60 : ∀ (d : Nat) (ls : Lc) (a : Nat) (st : List Value) (M : Mem) (Q : Outcome → Mem → Prop), Wp d 55 60 ls (.ref a :: st) M Q = (fk 0 (kO M a) = true ∧ Wp d 55 63 ls (va_rf (mR M 0 a) :: st) M Q) := fun d ls a st M Q => w_getR (show ins 55 60 = some (.getfield 25, 3) by decide +kernel) (show fRes (mC 55) 25 = some (0, 1, false) by decide +kernel) (by decide +kernel)
set_option maxRecDepth 100000 in
theorem r_55_63 : ∀ (d : Nat) (ls : Lc) (st : List Value) (M : Mem) (Q : Outcome → Mem → Prop), Wp d 55 63 ls st M Q = Wp d 55 64 ls (.int (I 0) :: st) M Q := fun d ls st M Q => w_iconst (show ins 55 63 = some (.iconst 0, 1) by decide +kernel)
set_option maxRecDepth 100000 in
theorem r_55_64 : ∀ (d : Nat) (ls : Lc) (v0 v1 v2 : Value) (a : Nat) (st : List Value) (M : Mem) (Q : Outcome → Mem → Prop), (smallR st = true) → Wp d 55 64 ls (v2 :: v1 :: v0 :: .ref a :: st) M Q = (kO M a = 3 ∧ Ca d 55 64 ls 97 (.ref a :: [v0, v1, v2]) st M Q) := fun d ls v0 v1 v2 a st M Q h0 => w_virt1 (as := [v0, v1, v2]) (show ins 55 64 = some (.invokevirtual 85, 3) by decide +kernel) (show mRes (mC 55) 85 = some (3, 3, [(3, 97)]) by decide +kernel) (by decide +kernel) rfl (by decide +kernel) (by decide +kernel) h0
set_option maxRecDepth 100000 in
theorem r_55_67 : ∀ (d : Nat) (l1 l2 : Option Value) (v : Nat) (st : List Value) (M : Mem) (Q : Outcome → Mem → Prop), Wp d 55 67 [some (.ref v), l1, l2] st M Q = Wp d 55 68 [some (.ref v), l1, l2] (.ref v :: st) M Q := fun d l1 l2 v st M Q => wA (show ins 55 67 = some (.aload_n 0, 1) by decide +kernel) rfl
set_option maxRecDepth 100000 in
theorem r_55_68 : ∀ (d : Nat) (ls : Lc) (a : Nat) (st : List Value) (M : Mem) (Q : Outcome → Mem → Prop), Wp d 55 68 ls (.ref a :: st) M Q = (fk 9 (kO M a) = true ∧ Wp d 55 71 ls (va_rf (mR M 9 a) :: st) M Q) := fun d ls a st M Q => w_getR (show ins 55 68 = some (.getfield 58, 3) by decide +kernel) (show fRes (mC 55) 58 = some (9, 1, false) by decide +kernel) (by decide +kernel)
set_option maxRecDepth 100000 in
theorem r_55_71 : ∀ (d : Nat) (l0 l2 : Option Value) (v : Int32) (st : List Value) (M : Mem) (Q : Outcome → Mem → Prop), Wp d 55 71 [l0, some (.int v), l2] st M Q = Wp d 55 72 [l0, some (.int v), l2] (.int v :: st) M Q := fun d l0 l2 v st M Q => wA (show ins 55 71 = some (.iload_n 1, 1) by decide +kernel) rfl
set_option maxRecDepth 100000 in
theorem r_55_72 : ∀ (d : Nat) (ls : Lc) (st : List Value) (M : Mem) (Q : Outcome → Mem → Prop), Wp d 55 72 ls st M Q = Wp d 55 73 ls (.int (I 0) :: st) M Q := fun d ls st M Q => w_iconst (show ins 55 72 = some (.iconst 0, 1) by decide +kernel)
set_option maxRecDepth 100000 in
theorem r_55_73 : ∀ (d : Nat) (ls : Lc) (st : List Value) (M : Mem) (Q : Outcome → Mem → Prop), Wp d 55 73 ls st M Q = Wp d 55 74 ls (.int (I 0) :: st) M Q := fun d ls st M Q => w_iconst (show ins 55 73 = some (.iconst 0, 1) by decide +kernel)
set_option maxRecDepth 100000 in
theorem r_55_74 : ∀ (d : Nat) (ls : Lc) (v0 v1 v2 : Value)  (st : List Value) (M : Mem) (Q : Outcome → Mem → Prop), (smallR st = true) → Wp d 55 74 ls (v2 :: v1 :: v0 :: st) M Q = Ca d 55 74 ls 24 [v0, v1, v2] st M Q := fun d ls v0 v1 v2 st M Q h0 => w_stat (as := [v0, v1, v2]) (show ins 55 74 = some (.invokestatic 82, 3) by decide +kernel) (show mRes (mC 55) 82 = some (0, 1, [(0, 24)]) by decide +kernel) (by decide +kernel) (by decide +kernel) rfl h0
set_option maxRecDepth 100000 in
theorem r_55_77 : ∀ (d : Nat) (l1 l2 : Option Value) (v : Nat) (st : List Value) (M : Mem) (Q : Outcome → Mem → Prop), Wp d 55 77 [some (.ref v), l1, l2] st M Q = Wp d 55 78 [some (.ref v), l1, l2] (.ref v :: st) M Q := fun d l1 l2 v st M Q => wA (show ins 55 77 = some (.aload_n 0, 1) by decide +kernel) rfl
set_option maxRecDepth 100000 in
theorem r_55_78 : ∀ (d : Nat) (ls : Lc) (a : Nat) (st : List Value) (M : Mem) (Q : Outcome → Mem → Prop), Wp d 55 78 ls (.ref a :: st) M Q = (fk 0 (kO M a) = true ∧ Wp d 55 81 ls (va_rf (mR M 0 a) :: st) M Q) := fun d ls a st M Q => w_getR (show ins 55 78 = some (.getfield 25, 3) by decide +kernel) (show fRes (mC 55) 25 = some (0, 1, false) by decide +kernel) (by decide +kernel)
set_option maxRecDepth 100000 in
theorem r_55_81 : ∀ (d : Nat) (ls : Lc) (st : List Value) (M : Mem) (Q : Outcome → Mem → Prop), Wp d 55 81 ls st M Q = Wp d 55 82 ls (.int (I 0) :: st) M Q := fun d ls st M Q => w_iconst (show ins 55 81 = some (.iconst 0, 1) by decide +kernel)
set_option maxRecDepth 100000 in
theorem r_55_82 : ∀ (d : Nat) (ls : Lc) (v0 v1 v2 : Value) (a : Nat) (st : List Value) (M : Mem) (Q : Outcome → Mem → Prop), (smallR st = true) → Wp d 55 82 ls (v2 :: v1 :: v0 :: .ref a :: st) M Q = (kO M a = 3 ∧ Ca d 55 82 ls 97 (.ref a :: [v0, v1, v2]) st M Q) := fun d ls v0 v1 v2 a st M Q h0 => w_virt1 (as := [v0, v1, v2]) (show ins 55 82 = some (.invokevirtual 85, 3) by decide +kernel) (show mRes (mC 55) 85 = some (3, 3, [(3, 97)]) by decide +kernel) (by decide +kernel) rfl (by decide +kernel) (by decide +kernel) h0
set_option maxRecDepth 100000 in
theorem r_55_85 : ∀ (d : Nat) (ls : Lc) (M : Mem) (Q : Outcome → Mem → Prop), Wp d 55 85 ls [] M Q = Q (.returned none) M := fun d ls M Q => w_return (show ins 55 85 = some (.return_, 1) by decide +kernel) (by decide +kernel)
set_option maxRecDepth 100000 in
theorem w_55_8 : (type_of% r_55_8) := r_55_8
set_option maxRecDepth 100000 in
theorem W_55 : (type_of% r_55_0) ∧ (type_of% r_55_1) ∧ (type_of% r_55_2) ∧ (type_of% r_55_5) ∧ (type_of% r_55_6) ∧ (type_of% r_55_7) ∧ (type_of% r_55_9) ∧ (type_of% r_55_12) ∧ (type_of% r_55_13) ∧ (type_of% r_55_16) ∧ (type_of% r_55_17) ∧ (type_of% r_55_20) ∧ (type_of% r_55_21) ∧ (type_of% r_55_22) ∧ (type_of% r_55_25) ∧ (type_of% r_55_28) ∧ (type_of% r_55_31) ∧ (type_of% r_55_32) ∧ (type_of% r_55_35) ∧ (type_of% r_55_36) ∧ (type_of% r_55_37) ∧ (type_of% r_55_38) ∧ (type_of% r_55_41) ∧ (type_of% r_55_42) ∧ (type_of% r_55_45) ∧ (type_of% r_55_46) ∧ (type_of% r_55_49) ∧ (type_of% r_55_50) ∧ (type_of% r_55_53) ∧ (type_of% r_55_54) ∧ (type_of% r_55_55) ∧ (type_of% r_55_56) ∧ (type_of% r_55_59) ∧ (type_of% r_55_60) ∧ (type_of% r_55_63) ∧ (type_of% r_55_64) ∧ (type_of% r_55_67) ∧ (type_of% r_55_68) ∧ (type_of% r_55_71) ∧ (type_of% r_55_72) ∧ (type_of% r_55_73) ∧ (type_of% r_55_74) ∧ (type_of% r_55_77) ∧ (type_of% r_55_78) ∧ (type_of% r_55_81) ∧ (type_of% r_55_82) ∧ (type_of% r_55_85) := ⟨r_55_0, r_55_1, r_55_2, r_55_5, r_55_6, r_55_7, r_55_9, r_55_12, r_55_13, r_55_16, r_55_17, r_55_20, r_55_21, r_55_22, r_55_25, r_55_28, r_55_31, r_55_32, r_55_35, r_55_36, r_55_37, r_55_38, r_55_41, r_55_42, r_55_45, r_55_46, r_55_49, r_55_50, r_55_53, r_55_54, r_55_55, r_55_56, r_55_59, r_55_60, r_55_63, r_55_64, r_55_67, r_55_68, r_55_71, r_55_72, r_55_73, r_55_74, r_55_77, r_55_78, r_55_81, r_55_82, r_55_85⟩
set_option maxRecDepth 100000 in
theorem ca_55 {d y pc : Nat} {ls : Lc} {a : Nat} {z0 : Int32} {r : List Value} {M : Mem} {Q : Outcome → Mem → Prop} (hd : 0 < d) (hw : Wp (d - 1) 55 0 [some (.ref a), some (.int z0), none] [] M (Cq d y pc ls r Q)) : Ca d y pc ls 55 [.ref a, .int z0] r M Q := ca_of (mq_get (by decide)) (by rfl) hd hw
/-! 56 PackedTree.readPointers(I)I; loop heads [11] -/
set_option maxRecDepth 100000 in
theorem r_56_0 : ∀ (d : Nat) (l1 l2 l3 : Option Value) (v : Nat) (st : List Value) (M : Mem) (Q : Outcome → Mem → Prop), Wp d 56 0 [some (.ref v), l1, l2, l3] st M Q = Wp d 56 1 [some (.ref v), l1, l2, l3] (.ref v :: st) M Q := fun d l1 l2 l3 v st M Q => wA (show ins 56 0 = some (.aload_n 0, 1) by decide +kernel) rfl
set_option maxRecDepth 100000 in
theorem r_56_1 : ∀ (d : Nat) (l0 l2 l3 : Option Value) (v : Int32) (st : List Value) (M : Mem) (Q : Outcome → Mem → Prop), Wp d 56 1 [l0, some (.int v), l2, l3] st M Q = Wp d 56 2 [l0, some (.int v), l2, l3] (.int v :: st) M Q := fun d l0 l2 l3 v st M Q => wA (show ins 56 1 = some (.iload_n 1, 1) by decide +kernel) rfl
set_option maxRecDepth 100000 in
theorem r_56_2 : ∀ (d : Nat) (ls : Lc) (st : List Value) (M : Mem) (Q : Outcome → Mem → Prop), Wp d 56 2 ls st M Q = Wp d 56 3 ls (.int (I 2) :: st) M Q := fun d ls st M Q => w_iconst (show ins 56 2 = some (.iconst 2, 1) by decide +kernel)
set_option maxRecDepth 100000 in
theorem r_56_3 : ∀ (d : Nat) (ls : Lc) (v0 v1 : Value) (a : Nat) (st : List Value) (M : Mem) (Q : Outcome → Mem → Prop), (smallR st = true) → Wp d 56 3 ls (v1 :: v0 :: .ref a :: st) M Q = (kO M a = 1 ∧ Ca d 56 3 ls 57 (.ref a :: [v0, v1]) st M Q) := fun d ls v0 v1 a st M Q h0 => w_virt1 (as := [v0, v1]) (show ins 56 3 = some (.invokevirtual 282, 3) by decide +kernel) (show mRes (mC 56) 282 = some (3, 1, [(1, 57)]) by decide +kernel) (by decide +kernel) rfl (by decide +kernel) (by decide +kernel) h0
set_option maxRecDepth 100000 in
theorem r_56_6 : ∀ (d : Nat) (ls : Lc) (st : List Value) (M : Mem) (Q : Outcome → Mem → Prop), Wp d 56 6 ls st M Q = Wp d 56 7 ls (.int (I 2) :: st) M Q := fun d ls st M Q => w_iconst (show ins 56 6 = some (.iconst 2, 1) by decide +kernel)
set_option maxRecDepth 100000 in
theorem r_56_7 : ∀ (d : Nat) (ls : Lc) (a b : Int) (st : List Value) (M : Mem) (Q : Outcome → Mem → Prop), (0 ≤ a) → (a < 2147483648) → (0 < b) → (b < 2147483648) → Wp d 56 7 ls (.int (I b) :: .int (I a) :: st) M Q = Wp d 56 8 ls (.int (I (a / b)) :: st) M Q := fun d ls a b st M Q h0 h1 h2 h3 => w_idiv (show ins 56 7 = some (.idiv, 1) by decide +kernel) h0 h1 h2 h3
set_option maxRecDepth 100000 in
theorem r_56_8 : ∀ (d : Nat) (l0 l1 l2 l3 : Option Value) (v : Int32) (st : List Value) (M : Mem) (Q : Outcome → Mem → Prop), (lo l1 = false) → Wp d 56 8 [l0, l1, l2, l3] (.int v :: st) M Q = Wp d 56 9 [l0, l1, some (.int v), l3] st M Q := fun d l0 l1 l2 l3 v st M Q hl => w_istore_n (show ins 56 8 = some (.istore_n 2, 1) by decide +kernel) (st1_S rfl rfl hl)
set_option maxRecDepth 100000 in
theorem r_56_9 : ∀ (d : Nat) (ls : Lc) (st : List Value) (M : Mem) (Q : Outcome → Mem → Prop), Wp d 56 9 ls st M Q = Wp d 56 10 ls (.int (I 0) :: st) M Q := fun d ls st M Q => w_iconst (show ins 56 9 = some (.iconst 0, 1) by decide +kernel)
set_option maxRecDepth 100000 in
theorem r_56_10 : ∀ (d : Nat) (l0 l1 l2 l3 : Option Value) (v : Int32) (st : List Value) (M : Mem) (Q : Outcome → Mem → Prop), (lo l2 = false) → Wp d 56 10 [l0, l1, l2, l3] (.int v :: st) M Q = Wp d 56 11 [l0, l1, l2, some (.int v)] st M Q := fun d l0 l1 l2 l3 v st M Q hl => w_istore_n (show ins 56 10 = some (.istore_n 3, 1) by decide +kernel) (st1_S rfl rfl hl)
set_option maxRecDepth 100000 in
theorem r_56_11 : ∀ (d : Nat) (l0 l1 l2 : Option Value) (v : Int32) (st : List Value) (M : Mem) (Q : Outcome → Mem → Prop), Wp d 56 11 [l0, l1, l2, some (.int v)] st M Q = Wp d 56 12 [l0, l1, l2, some (.int v)] (.int v :: st) M Q := fun d l0 l1 l2 v st M Q => wA (show ins 56 11 = some (.iload_n 3, 1) by decide +kernel) rfl
set_option maxRecDepth 100000 in
theorem r_56_12 : ∀ (d : Nat) (l0 l1 l3 : Option Value) (v : Int32) (st : List Value) (M : Mem) (Q : Outcome → Mem → Prop), Wp d 56 12 [l0, l1, some (.int v), l3] st M Q = Wp d 56 13 [l0, l1, some (.int v), l3] (.int v :: st) M Q := fun d l0 l1 l3 v st M Q => wA (show ins 56 12 = some (.iload_n 2, 1) by decide +kernel) rfl
set_option maxRecDepth 100000 in
theorem r_56_13 : ∀ (d : Nat) (ls : Lc) (a b : Int32) (st : List Value) (M : Mem) (Q : Outcome → Mem → Prop), Wp d 56 13 ls (.int b :: .int a :: st) M Q = Br (b ≤ a) d 56 62 16 ls st M Q := fun d ls a b st M Q => w_icmp (show ins 56 13 = some (.if_icmp .ge 49, 3) by decide +kernel) rfl rfl
set_option maxRecDepth 100000 in
theorem r_56_16 : ∀ (d : Nat) (l1 l2 l3 : Option Value) (v : Nat) (st : List Value) (M : Mem) (Q : Outcome → Mem → Prop), Wp d 56 16 [some (.ref v), l1, l2, l3] st M Q = Wp d 56 17 [some (.ref v), l1, l2, l3] (.ref v :: st) M Q := fun d l1 l2 l3 v st M Q => wA (show ins 56 16 = some (.aload_n 0, 1) by decide +kernel) rfl
set_option maxRecDepth 100000 in
theorem r_56_17 : ∀ (d : Nat) (ls : Lc) (a : Nat) (st : List Value) (M : Mem) (Q : Outcome → Mem → Prop), Wp d 56 17 ls (.ref a :: st) M Q = (fk 5 (kO M a) = true ∧ Wp d 56 20 ls (va_rf (mR M 5 a) :: st) M Q) := fun d ls a st M Q => w_getR (show ins 56 17 = some (.getfield 32, 3) by decide +kernel) (show fRes (mC 56) 32 = some (5, 1, false) by decide +kernel) (by decide +kernel)
set_option maxRecDepth 100000 in
theorem r_56_20 : ∀ (d : Nat) (l0 l1 l2 : Option Value) (v : Int32) (st : List Value) (M : Mem) (Q : Outcome → Mem → Prop), Wp d 56 20 [l0, l1, l2, some (.int v)] st M Q = Wp d 56 21 [l0, l1, l2, some (.int v)] (.int v :: st) M Q := fun d l0 l1 l2 v st M Q => wA (show ins 56 20 = some (.iload_n 3, 1) by decide +kernel) rfl
set_option maxRecDepth 100000 in
theorem r_56_21 : ∀ (d : Nat) (l1 l2 l3 : Option Value) (v : Nat) (st : List Value) (M : Mem) (Q : Outcome → Mem → Prop), Wp d 56 21 [some (.ref v), l1, l2, l3] st M Q = Wp d 56 22 [some (.ref v), l1, l2, l3] (.ref v :: st) M Q := fun d l1 l2 l3 v st M Q => wA (show ins 56 21 = some (.aload_n 0, 1) by decide +kernel) rfl
set_option maxRecDepth 100000 in
theorem r_56_22 : ∀ (d : Nat) (ls : Lc) (a : Nat) (st : List Value) (M : Mem) (Q : Outcome → Mem → Prop), Wp d 56 22 ls (.ref a :: st) M Q = (fk 9 (kO M a) = true ∧ Wp d 56 25 ls (va_rf (mR M 9 a) :: st) M Q) := fun d ls a st M Q => w_getR (show ins 56 22 = some (.getfield 58, 3) by decide +kernel) (show fRes (mC 56) 58 = some (9, 1, false) by decide +kernel) (by decide +kernel)
set_option maxRecDepth 100000 in
theorem r_56_25 : ∀ (d : Nat) (ls : Lc) (a : Nat) (st : List Value) (M : Mem) (Q : Outcome → Mem → Prop), Wp d 56 25 ls (.ref a :: st) M Q = (fk 14 (kO M a) = true ∧ Wp d 56 28 ls (va_rf (mR M 14 a) :: st) M Q) := fun d ls a st M Q => w_getR (show ins 56 25 = some (.getfield 155, 3) by decide +kernel) (show fRes (mC 56) 155 = some (14, 3, true) by decide +kernel) (by decide +kernel)
set_option maxRecDepth 100000 in
theorem r_56_28 : ∀ (d : Nat) (ls : Lc) (a : Nat) (st : List Value) (M : Mem) (Q : Outcome → Mem → Prop), Wp d 56 28 ls (.ref a :: st) M Q = (fk 35 (kO M a) = true ∧ Wp d 56 31 ls (va_rf (mR M 35 a) :: st) M Q) := fun d ls a st M Q => w_getR (show ins 56 28 = some (.getfield 159, 3) by decide +kernel) (show fRes (mC 56) 159 = some (35, 5, true) by decide +kernel) (by decide +kernel)
set_option maxRecDepth 100000 in
theorem r_56_31 : ∀ (d : Nat) (l1 l2 l3 : Option Value) (v : Nat) (st : List Value) (M : Mem) (Q : Outcome → Mem → Prop), Wp d 56 31 [some (.ref v), l1, l2, l3] st M Q = Wp d 56 32 [some (.ref v), l1, l2, l3] (.ref v :: st) M Q := fun d l1 l2 l3 v st M Q => wA (show ins 56 31 = some (.aload_n 0, 1) by decide +kernel) rfl
set_option maxRecDepth 100000 in
theorem r_56_32 : ∀ (d : Nat) (ls : Lc) (a : Nat) (st : List Value) (M : Mem) (Q : Outcome → Mem → Prop), Wp d 56 32 ls (.ref a :: st) M Q = (fk 9 (kO M a) = true ∧ Wp d 56 35 ls (va_rf (mR M 9 a) :: st) M Q) := fun d ls a st M Q => w_getR (show ins 56 32 = some (.getfield 58, 3) by decide +kernel) (show fRes (mC 56) 58 = some (9, 1, false) by decide +kernel) (by decide +kernel)
set_option maxRecDepth 100000 in
theorem r_56_35 : ∀ (d : Nat) (ls : Lc) (a : Nat) (st : List Value) (M : Mem) (Q : Outcome → Mem → Prop), Wp d 56 35 ls (.ref a :: st) M Q = (fk 14 (kO M a) = true ∧ Wp d 56 38 ls (va_rf (mR M 14 a) :: st) M Q) := fun d ls a st M Q => w_getR (show ins 56 35 = some (.getfield 155, 3) by decide +kernel) (show fRes (mC 56) 155 = some (14, 3, true) by decide +kernel) (by decide +kernel)
set_option maxRecDepth 100000 in
theorem r_56_38 : ∀ (d : Nat) (l1 l2 l3 : Option Value) (v : Nat) (st : List Value) (M : Mem) (Q : Outcome → Mem → Prop), Wp d 56 38 [some (.ref v), l1, l2, l3] st M Q = Wp d 56 39 [some (.ref v), l1, l2, l3] (.ref v :: st) M Q := fun d l1 l2 l3 v st M Q => wA (show ins 56 38 = some (.aload_n 0, 1) by decide +kernel) rfl
set_option maxRecDepth 100000 in
theorem r_56_39 : ∀ (d : Nat) (ls : Lc) (a : Nat) (st : List Value) (M : Mem) (Q : Outcome → Mem → Prop), Wp d 56 39 ls (.ref a :: st) M Q = (fk 9 (kO M a) = true ∧ Wp d 56 42 ls (va_rf (mR M 9 a) :: st) M Q) := fun d ls a st M Q => w_getR (show ins 56 39 = some (.getfield 58, 3) by decide +kernel) (show fRes (mC 56) 58 = some (9, 1, false) by decide +kernel) (by decide +kernel)
set_option maxRecDepth 100000 in
theorem r_56_42 : ∀ (d : Nat) (ls : Lc) (a : Nat) (st : List Value) (M : Mem) (Q : Outcome → Mem → Prop), Wp d 56 42 ls (.ref a :: st) M Q = (fk 16 (kO M a) = true ∧ Wp d 56 45 ls (.int (mF M 16 a) :: st) M Q) := fun d ls a st M Q => w_getI (show ins 56 42 = some (.getfield 164, 3) by decide +kernel) (show fRes (mC 56) 164 = some (16, 3, true) by decide +kernel) (by decide +kernel)
set_option maxRecDepth 100000 in
theorem r_56_45 : ∀ (d : Nat) (ls : Lc) (v0 : Value) (a : Nat) (st : List Value) (M : Mem) (Q : Outcome → Mem → Prop), (smallR st = true) → Wp d 56 45 ls (v0 :: .ref a :: st) M Q = (kO M a = 5 ∧ Ca d 56 45 ls 126 (.ref a :: [v0]) st M Q) := fun d ls v0 a st M Q h0 => w_virt1 (as := [v0]) (show ins 56 45 = some (.invokevirtual 167, 3) by decide +kernel) (show mRes (mC 56) 167 = some (3, 5, [(5, 126)]) by decide +kernel) (by decide +kernel) rfl (by decide +kernel) (by decide +kernel) h0
set_option maxRecDepth 100000 in
theorem r_56_48 : ∀ (d : Nat) (ls : Lc) (st : List Value) (M : Mem) (Q : Outcome → Mem → Prop), Wp d 56 48 ls st M Q = Wp d 56 49 ls (.int (I 2) :: st) M Q := fun d ls st M Q => w_iconst (show ins 56 48 = some (.iconst 2, 1) by decide +kernel)
set_option maxRecDepth 100000 in
theorem r_56_49 : ∀ (d : Nat) (l0 l1 l2 : Option Value) (v : Int32) (st : List Value) (M : Mem) (Q : Outcome → Mem → Prop), Wp d 56 49 [l0, l1, l2, some (.int v)] st M Q = Wp d 56 50 [l0, l1, l2, some (.int v)] (.int v :: st) M Q := fun d l0 l1 l2 v st M Q => wA (show ins 56 49 = some (.iload_n 3, 1) by decide +kernel) rfl
set_option maxRecDepth 100000 in
theorem r_56_50 : ∀ (d : Nat) (ls : Lc) (a b : Int) (st : List Value) (M : Mem) (Q : Outcome → Mem → Prop), Wp d 56 50 ls (.int (I b) :: .int (I a) :: st) M Q = Wp d 56 51 ls (.int (I (a * b)) :: st) M Q := fun d ls a b st M Q => w_imul (show ins 56 50 = some (.imul, 1) by decide +kernel)
set_option maxRecDepth 100000 in
theorem r_56_51 : ∀ (d : Nat) (ls : Lc) (a b : Int) (st : List Value) (M : Mem) (Q : Outcome → Mem → Prop), Wp d 56 51 ls (.int (I b) :: .int (I a) :: st) M Q = Wp d 56 52 ls (.int (I (a + b)) :: st) M Q := fun d ls a b st M Q => w_iadd (show ins 56 51 = some (.iadd, 1) by decide +kernel)
set_option maxRecDepth 100000 in
theorem r_56_52 : ∀ (d : Nat) (ls : Lc) (v0 v1 : Value)  (st : List Value) (M : Mem) (Q : Outcome → Mem → Prop), (smallR st = true) → Wp d 56 52 ls (v1 :: v0 :: st) M Q = Ca d 56 52 ls 36 [v0, v1] st M Q := fun d ls v0 v1 st M Q h0 => w_stat (as := [v0, v1]) (show ins 56 52 = some (.invokestatic 3, 3) by decide +kernel) (show mRes (mC 56) 3 = some (0, 1, [(0, 36)]) by decide +kernel) (by decide +kernel) (by decide +kernel) rfl h0
set_option maxRecDepth 100000 in
theorem r_56_55 : ∀ (d : Nat) (ls : Lc) (a : Nat) (j v : Int32) (st : List Value) (M : Mem) (Q : Outcome → Mem → Prop), Wp d 56 55 ls (.int v :: .int j :: .ref a :: st) M Q = (((kX M a).1 = 0 ∧ inB j (kX M a).2 = true) ∧ Wp d 56 56 ls st (sA M a j.toNatClampNeg v) Q) := fun d ls a j v st M Q => w_iastore (show ins 56 55 = some (.iastore, 1) by decide +kernel)
set_option maxRecDepth 100000 in
theorem r_56_56 : ∀ (d : Nat) (l0 l1 l2 : Option Value) (z : Int) (st : List Value) (M : Mem) (Q : Outcome → Mem → Prop), (lo l2 = false) → Wp d 56 56 [l0, l1, l2, some (.int (I z))] st M Q = Wp d 56 59 [l0, l1, l2, some (.int (I (z + 1)))] st M Q := fun d l0 l1 l2 z st M Q hl => w_iinc (show ins 56 56 = some (.iinc 3 1, 3) by decide +kernel) rfl (st1_S rfl rfl hl)
set_option maxRecDepth 100000 in
theorem r_56_59 : ∀ (d : Nat) (ls : Lc) (st : List Value) (M : Mem) (Q : Outcome → Mem → Prop), Wp d 56 59 ls st M Q = Wp d 56 11 ls st M Q := fun d ls st M Q => w_goto (show ins 56 59 = some (.goto (-48), 3) by decide +kernel) rfl
set_option maxRecDepth 100000 in
theorem r_56_62 : ∀ (d : Nat) (l0 l1 l3 : Option Value) (v : Int32) (st : List Value) (M : Mem) (Q : Outcome → Mem → Prop), Wp d 56 62 [l0, l1, some (.int v), l3] st M Q = Wp d 56 63 [l0, l1, some (.int v), l3] (.int v :: st) M Q := fun d l0 l1 l3 v st M Q => wA (show ins 56 62 = some (.iload_n 2, 1) by decide +kernel) rfl
set_option maxRecDepth 100000 in
theorem r_56_63 : ∀ (d : Nat) (ls : Lc) (v : Int32) (M : Mem) (Q : Outcome → Mem → Prop), Wp d 56 63 ls [.int v] M Q = Q (.returned (some (.int v))) M := fun d ls v M Q => w_ireturn (show ins 56 63 = some (.ireturn, 1) by decide +kernel) (by decide +kernel)
set_option maxRecDepth 100000 in
theorem w_56_11 : (type_of% r_56_11) := r_56_11
set_option maxRecDepth 100000 in
theorem W_56 : (type_of% r_56_0) ∧ (type_of% r_56_1) ∧ (type_of% r_56_2) ∧ (type_of% r_56_3) ∧ (type_of% r_56_6) ∧ (type_of% r_56_7) ∧ (type_of% r_56_8) ∧ (type_of% r_56_9) ∧ (type_of% r_56_10) ∧ (type_of% r_56_12) ∧ (type_of% r_56_13) ∧ (type_of% r_56_16) ∧ (type_of% r_56_17) ∧ (type_of% r_56_20) ∧ (type_of% r_56_21) ∧ (type_of% r_56_22) ∧ (type_of% r_56_25) ∧ (type_of% r_56_28) ∧ (type_of% r_56_31) ∧ (type_of% r_56_32) ∧ (type_of% r_56_35) ∧ (type_of% r_56_38) ∧ (type_of% r_56_39) ∧ (type_of% r_56_42) ∧ (type_of% r_56_45) ∧ (type_of% r_56_48) ∧ (type_of% r_56_49) ∧ (type_of% r_56_50) ∧ (type_of% r_56_51) ∧ (type_of% r_56_52) ∧ (type_of% r_56_55) ∧ (type_of% r_56_56) ∧ (type_of% r_56_59) ∧ (type_of% r_56_62) ∧ (type_of% r_56_63) := ⟨r_56_0, r_56_1, r_56_2, r_56_3, r_56_6, r_56_7, r_56_8, r_56_9, r_56_10, r_56_12, r_56_13, r_56_16, r_56_17, r_56_20, r_56_21, r_56_22, r_56_25, r_56_28, r_56_31, r_56_32, r_56_35, r_56_38, r_56_39, r_56_42, r_56_45, r_56_48, r_56_49, r_56_50, r_56_51, r_56_52, r_56_55, r_56_56, r_56_59, r_56_62, r_56_63⟩
set_option maxRecDepth 100000 in
theorem ca_56 {d y pc : Nat} {ls : Lc} {a : Nat} {z0 : Int32} {r : List Value} {M : Mem} {Q : Outcome → Mem → Prop} (hd : 0 < d) (hw : Wp (d - 1) 56 0 [some (.ref a), some (.int z0), none, none] [] M (Cq d y pc ls r Q)) : Ca d y pc ls 56 [.ref a, .int z0] r M Q := ca_of (mq_get (by decide)) (by rfl) hd hw
/-! 57 PackedTree.bytesOf(II)I; loop heads [] -/
set_option maxRecDepth 100000 in
theorem r_57_0 : ∀ (d : Nat) (l1 l2 : Option Value) (v : Nat) (st : List Value) (M : Mem) (Q : Outcome → Mem → Prop), Wp d 57 0 [some (.ref v), l1, l2] st M Q = Wp d 57 1 [some (.ref v), l1, l2] (.ref v :: st) M Q := fun d l1 l2 v st M Q => wA (show ins 57 0 = some (.aload_n 0, 1) by decide +kernel) rfl
set_option maxRecDepth 100000 in
theorem r_57_1 : ∀ (d : Nat) (ls : Lc) (a : Nat) (st : List Value) (M : Mem) (Q : Outcome → Mem → Prop), Wp d 57 1 ls (.ref a :: st) M Q = (fk 9 (kO M a) = true ∧ Wp d 57 4 ls (va_rf (mR M 9 a) :: st) M Q) := fun d ls a st M Q => w_getR (show ins 57 1 = some (.getfield 58, 3) by decide +kernel) (show fRes (mC 57) 58 = some (9, 1, false) by decide +kernel) (by decide +kernel)
set_option maxRecDepth 100000 in
theorem r_57_4 : ∀ (d : Nat) (l0 l2 : Option Value) (v : Int32) (st : List Value) (M : Mem) (Q : Outcome → Mem → Prop), Wp d 57 4 [l0, some (.int v), l2] st M Q = Wp d 57 5 [l0, some (.int v), l2] (.int v :: st) M Q := fun d l0 l2 v st M Q => wA (show ins 57 4 = some (.iload_n 1, 1) by decide +kernel) rfl
set_option maxRecDepth 100000 in
theorem r_57_5 : ∀ (d : Nat) (l0 l1 : Option Value) (v : Int32) (st : List Value) (M : Mem) (Q : Outcome → Mem → Prop), Wp d 57 5 [l0, l1, some (.int v)] st M Q = Wp d 57 6 [l0, l1, some (.int v)] (.int v :: st) M Q := fun d l0 l1 v st M Q => wA (show ins 57 5 = some (.iload_n 2, 1) by decide +kernel) rfl
set_option maxRecDepth 100000 in
theorem r_57_6 : ∀ (d : Nat) (ls : Lc) (st : List Value) (M : Mem) (Q : Outcome → Mem → Prop), Wp d 57 6 ls st M Q = Wp d 57 7 ls (.int (I 0) :: st) M Q := fun d ls st M Q => w_iconst (show ins 57 6 = some (.iconst 0, 1) by decide +kernel)
set_option maxRecDepth 100000 in
theorem r_57_7 : ∀ (d : Nat) (ls : Lc) (v0 v1 v2 : Value)  (st : List Value) (M : Mem) (Q : Outcome → Mem → Prop), (smallR st = true) → Wp d 57 7 ls (v2 :: v1 :: v0 :: st) M Q = Ca d 57 7 ls 24 [v0, v1, v2] st M Q := fun d ls v0 v1 v2 st M Q h0 => w_stat (as := [v0, v1, v2]) (show ins 57 7 = some (.invokestatic 82, 3) by decide +kernel) (show mRes (mC 57) 82 = some (0, 1, [(0, 24)]) by decide +kernel) (by decide +kernel) (by decide +kernel) rfl h0
set_option maxRecDepth 100000 in
theorem r_57_10 : ∀ (d : Nat) (ls : Lc) (v0 : Value) (a : Nat) (st : List Value) (M : Mem) (Q : Outcome → Mem → Prop), (smallR st = true) → Wp d 57 10 ls (v0 :: .ref a :: st) M Q = (kO M a = 3 ∧ Ca d 57 10 ls 98 (.ref a :: [v0]) st M Q) := fun d ls v0 a st M Q h0 => w_virt1 (as := [v0]) (show ins 57 10 = some (.invokevirtual 151, 3) by decide +kernel) (show mRes (mC 57) 151 = some (3, 3, [(3, 98)]) by decide +kernel) (by decide +kernel) rfl (by decide +kernel) (by decide +kernel) h0
set_option maxRecDepth 100000 in
theorem r_57_13 : ∀ (d : Nat) (ls : Lc) (a : Int32) (st : List Value) (M : Mem) (Q : Outcome → Mem → Prop), Wp d 57 13 ls (.int a :: st) M Q = Br (a = I 0) d 57 37 16 ls st M Q := fun d ls a st M Q => w_if (show ins 57 13 = some (.ifCond .eq 24, 3) by decide +kernel) rfl rfl
set_option maxRecDepth 100000 in
theorem r_57_16 : ∀ (d : Nat) (l1 l2 : Option Value) (v : Nat) (st : List Value) (M : Mem) (Q : Outcome → Mem → Prop), Wp d 57 16 [some (.ref v), l1, l2] st M Q = Wp d 57 17 [some (.ref v), l1, l2] (.ref v :: st) M Q := fun d l1 l2 v st M Q => wA (show ins 57 16 = some (.aload_n 0, 1) by decide +kernel) rfl
set_option maxRecDepth 100000 in
theorem r_57_17 : ∀ (d : Nat) (ls : Lc) (a : Nat) (st : List Value) (M : Mem) (Q : Outcome → Mem → Prop), Wp d 57 17 ls (.ref a :: st) M Q = (fk 9 (kO M a) = true ∧ Wp d 57 20 ls (va_rf (mR M 9 a) :: st) M Q) := fun d ls a st M Q => w_getR (show ins 57 17 = some (.getfield 58, 3) by decide +kernel) (show fRes (mC 57) 58 = some (9, 1, false) by decide +kernel) (by decide +kernel)
set_option maxRecDepth 100000 in
theorem r_57_20 : ∀ (d : Nat) (ls : Lc) (a : Nat) (st : List Value) (M : Mem) (Q : Outcome → Mem → Prop), Wp d 57 20 ls (.ref a :: st) M Q = (fk 14 (kO M a) = true ∧ Wp d 57 23 ls (va_rf (mR M 14 a) :: st) M Q) := fun d ls a st M Q => w_getR (show ins 57 20 = some (.getfield 155, 3) by decide +kernel) (show fRes (mC 57) 155 = some (14, 3, true) by decide +kernel) (by decide +kernel)
set_option maxRecDepth 100000 in
theorem r_57_23 : ∀ (d : Nat) (ls : Lc) (a : Nat) (st : List Value) (M : Mem) (Q : Outcome → Mem → Prop), Wp d 57 23 ls (.ref a :: st) M Q = (fk 38 (kO M a) = true ∧ Wp d 57 26 ls (va_rf (mR M 38 a) :: st) M Q) := fun d ls a st M Q => w_getR (show ins 57 23 = some (.getfield 198, 3) by decide +kernel) (show fRes (mC 57) 198 = some (38, 5, true) by decide +kernel) (by decide +kernel)
set_option maxRecDepth 100000 in
theorem r_57_26 : ∀ (d : Nat) (l1 l2 : Option Value) (v : Nat) (st : List Value) (M : Mem) (Q : Outcome → Mem → Prop), Wp d 57 26 [some (.ref v), l1, l2] st M Q = Wp d 57 27 [some (.ref v), l1, l2] (.ref v :: st) M Q := fun d l1 l2 v st M Q => wA (show ins 57 26 = some (.aload_n 0, 1) by decide +kernel) rfl
set_option maxRecDepth 100000 in
theorem r_57_27 : ∀ (d : Nat) (ls : Lc) (a : Nat) (st : List Value) (M : Mem) (Q : Outcome → Mem → Prop), Wp d 57 27 ls (.ref a :: st) M Q = (fk 9 (kO M a) = true ∧ Wp d 57 30 ls (va_rf (mR M 9 a) :: st) M Q) := fun d ls a st M Q => w_getR (show ins 57 27 = some (.getfield 58, 3) by decide +kernel) (show fRes (mC 57) 58 = some (9, 1, false) by decide +kernel) (by decide +kernel)
set_option maxRecDepth 100000 in
theorem r_57_30 : ∀ (d : Nat) (ls : Lc) (a : Nat) (st : List Value) (M : Mem) (Q : Outcome → Mem → Prop), Wp d 57 30 ls (.ref a :: st) M Q = (fk 16 (kO M a) = true ∧ Wp d 57 33 ls (.int (mF M 16 a) :: st) M Q) := fun d ls a st M Q => w_getI (show ins 57 30 = some (.getfield 164, 3) by decide +kernel) (show fRes (mC 57) 164 = some (16, 3, true) by decide +kernel) (by decide +kernel)
set_option maxRecDepth 100000 in
theorem r_57_33 : ∀ (d : Nat) (ls : Lc) (a : Nat) (j : Int32) (st : List Value) (M : Mem) (Q : Outcome → Mem → Prop), Wp d 57 33 ls (.int j :: .ref a :: st) M Q = ((((kX M a).1 = 0 ∨ (kX M a).1 = 8) ∧ inB j (kX M a).2 = true) ∧ Wp d 57 34 ls (.int (mA M a j.toNatClampNeg) :: st) M Q) := fun d ls a j st M Q => w_iaload (show ins 57 33 = some (.iaload, 1) by decide +kernel)
set_option maxRecDepth 100000 in
theorem r_57_34 : ∀ (d : Nat) (ls : Lc) (st : List Value) (M : Mem) (Q : Outcome → Mem → Prop), Wp d 57 34 ls st M Q = Wp d 57 38 ls st M Q := fun d ls st M Q => w_goto (show ins 57 34 = some (.goto 4, 3) by decide +kernel) rfl
set_option maxRecDepth 100000 in
theorem r_57_37 : ∀ (d : Nat) (ls : Lc) (st : List Value) (M : Mem) (Q : Outcome → Mem → Prop), Wp d 57 37 ls st M Q = Wp d 57 38 ls (.int (I 0) :: st) M Q := fun d ls st M Q => w_iconst (show ins 57 37 = some (.iconst 0, 1) by decide +kernel)
set_option maxRecDepth 100000 in
theorem r_57_38 : ∀ (d : Nat) (ls : Lc) (v : Int32) (M : Mem) (Q : Outcome → Mem → Prop), Wp d 57 38 ls [.int v] M Q = Q (.returned (some (.int v))) M := fun d ls v M Q => w_ireturn (show ins 57 38 = some (.ireturn, 1) by decide +kernel) (by decide +kernel)
set_option maxRecDepth 100000 in
theorem W_57 : (type_of% r_57_0) ∧ (type_of% r_57_1) ∧ (type_of% r_57_4) ∧ (type_of% r_57_5) ∧ (type_of% r_57_6) ∧ (type_of% r_57_7) ∧ (type_of% r_57_10) ∧ (type_of% r_57_13) ∧ (type_of% r_57_16) ∧ (type_of% r_57_17) ∧ (type_of% r_57_20) ∧ (type_of% r_57_23) ∧ (type_of% r_57_26) ∧ (type_of% r_57_27) ∧ (type_of% r_57_30) ∧ (type_of% r_57_33) ∧ (type_of% r_57_34) ∧ (type_of% r_57_37) ∧ (type_of% r_57_38) := ⟨r_57_0, r_57_1, r_57_4, r_57_5, r_57_6, r_57_7, r_57_10, r_57_13, r_57_16, r_57_17, r_57_20, r_57_23, r_57_26, r_57_27, r_57_30, r_57_33, r_57_34, r_57_37, r_57_38⟩
set_option maxRecDepth 100000 in
theorem ca_57 {d y pc : Nat} {ls : Lc} {a : Nat} {z0 : Int32} {z1 : Int32} {r : List Value} {M : Mem} {Q : Outcome → Mem → Prop} (hd : 0 < d) (hw : Wp (d - 1) 57 0 [some (.ref a), some (.int z0), some (.int z1)] [] M (Cq d y pc ls r Q)) : Ca d y pc ls 57 [.ref a, .int z0, .int z1] r M Q := ca_of (mq_get (by decide)) (by rfl) hd hw
/-! 58 PackedTree.move(IIII)I; loop heads [] -/
set_option maxRecDepth 100000 in
theorem r_58_0 : ∀ (d : Nat) (l1 l2 l3 l4 l5 l6 : Option Value) (v : Nat) (st : List Value) (M : Mem) (Q : Outcome → Mem → Prop), Wp d 58 0 [some (.ref v), l1, l2, l3, l4, l5, l6] st M Q = Wp d 58 1 [some (.ref v), l1, l2, l3, l4, l5, l6] (.ref v :: st) M Q := fun d l1 l2 l3 l4 l5 l6 v st M Q => wA (show ins 58 0 = some (.aload_n 0, 1) by decide +kernel) rfl
set_option maxRecDepth 100000 in
theorem r_58_1 : ∀ (d : Nat) (ls : Lc) (a : Nat) (st : List Value) (M : Mem) (Q : Outcome → Mem → Prop), (smallR st = true) → Wp d 58 1 ls (.ref a :: st) M Q = (kO M a = 1 ∧ Ca d 58 1 ls 30 (.ref a :: []) st M Q) := fun d ls a st M Q h0 => w_virt1 (as := []) (show ins 58 1 = some (.invokevirtual 204, 3) by decide +kernel) (show mRes (mC 58) 204 = some (3, 1, [(1, 30)]) by decide +kernel) (by decide +kernel) rfl (by decide +kernel) (by decide +kernel) h0
set_option maxRecDepth 100000 in
theorem r_58_4 : ∀ (d : Nat) (l1 l2 l3 l4 l5 l6 : Option Value) (v : Nat) (st : List Value) (M : Mem) (Q : Outcome → Mem → Prop), Wp d 58 4 [some (.ref v), l1, l2, l3, l4, l5, l6] st M Q = Wp d 58 5 [some (.ref v), l1, l2, l3, l4, l5, l6] (.ref v :: st) M Q := fun d l1 l2 l3 l4 l5 l6 v st M Q => wA (show ins 58 4 = some (.aload_n 0, 1) by decide +kernel) rfl
set_option maxRecDepth 100000 in
theorem r_58_5 : ∀ (d : Nat) (l0 l2 l3 l4 l5 l6 : Option Value) (v : Int32) (st : List Value) (M : Mem) (Q : Outcome → Mem → Prop), Wp d 58 5 [l0, some (.int v), l2, l3, l4, l5, l6] st M Q = Wp d 58 6 [l0, some (.int v), l2, l3, l4, l5, l6] (.int v :: st) M Q := fun d l0 l2 l3 l4 l5 l6 v st M Q => wA (show ins 58 5 = some (.iload_n 1, 1) by decide +kernel) rfl
set_option maxRecDepth 100000 in
theorem r_58_6 : ∀ (d : Nat) (ls : Lc) (v0 : Value) (a : Nat) (st : List Value) (M : Mem) (Q : Outcome → Mem → Prop), (smallR st = true) → Wp d 58 6 ls (v0 :: .ref a :: st) M Q = (kO M a = 1 ∧ Ca d 58 6 ls 31 (.ref a :: [v0]) st M Q) := fun d ls v0 a st M Q h0 => w_virt1 (as := [v0]) (show ins 58 6 = some (.invokevirtual 207, 3) by decide +kernel) (show mRes (mC 58) 207 = some (3, 1, [(1, 31)]) by decide +kernel) (by decide +kernel) rfl (by decide +kernel) (by decide +kernel) h0
set_option maxRecDepth 100000 in
theorem r_58_9 : ∀ (d : Nat) (ls : Lc) (a : Int32) (st : List Value) (M : Mem) (Q : Outcome → Mem → Prop), Wp d 58 9 ls (.int a :: st) M Q = Br (a = I 0) d 58 24 12 ls st M Q := fun d ls a st M Q => w_if (show ins 58 9 = some (.ifCond .eq 15, 3) by decide +kernel) rfl rfl
set_option maxRecDepth 100000 in
theorem r_58_12 : ∀ (d : Nat) (l1 l2 l3 l4 l5 l6 : Option Value) (v : Nat) (st : List Value) (M : Mem) (Q : Outcome → Mem → Prop), Wp d 58 12 [some (.ref v), l1, l2, l3, l4, l5, l6] st M Q = Wp d 58 13 [some (.ref v), l1, l2, l3, l4, l5, l6] (.ref v :: st) M Q := fun d l1 l2 l3 l4 l5 l6 v st M Q => wA (show ins 58 12 = some (.aload_n 0, 1) by decide +kernel) rfl
set_option maxRecDepth 100000 in
theorem r_58_13 : ∀ (d : Nat) (l0 l1 l2 l4 l5 l6 : Option Value) (v : Int32) (st : List Value) (M : Mem) (Q : Outcome → Mem → Prop), Wp d 58 13 [l0, l1, l2, some (.int v), l4, l5, l6] st M Q = Wp d 58 14 [l0, l1, l2, some (.int v), l4, l5, l6] (.int v :: st) M Q := fun d l0 l1 l2 l4 l5 l6 v st M Q => wA (show ins 58 13 = some (.iload_n 3, 1) by decide +kernel) rfl
set_option maxRecDepth 100000 in
theorem r_58_14 : ∀ (d : Nat) (ls : Lc) (v0 : Value) (a : Nat) (st : List Value) (M : Mem) (Q : Outcome → Mem → Prop), (smallR st = true) → Wp d 58 14 ls (v0 :: .ref a :: st) M Q = (kO M a = 1 ∧ Ca d 58 14 ls 31 (.ref a :: [v0]) st M Q) := fun d ls v0 a st M Q h0 => w_virt1 (as := [v0]) (show ins 58 14 = some (.invokevirtual 207, 3) by decide +kernel) (show mRes (mC 58) 207 = some (3, 1, [(1, 31)]) by decide +kernel) (by decide +kernel) rfl (by decide +kernel) (by decide +kernel) h0
set_option maxRecDepth 100000 in
theorem r_58_17 : ∀ (d : Nat) (ls : Lc) (a : Int32) (st : List Value) (M : Mem) (Q : Outcome → Mem → Prop), Wp d 58 17 ls (.int a :: st) M Q = Br (a = I 0) d 58 24 20 ls st M Q := fun d ls a st M Q => w_if (show ins 58 17 = some (.ifCond .eq 7, 3) by decide +kernel) rfl rfl
set_option maxRecDepth 100000 in
theorem r_58_20 : ∀ (d : Nat) (ls : Lc) (st : List Value) (M : Mem) (Q : Outcome → Mem → Prop), Wp d 58 20 ls st M Q = Wp d 58 21 ls (.int (I 1) :: st) M Q := fun d ls st M Q => w_iconst (show ins 58 20 = some (.iconst 1, 1) by decide +kernel)
set_option maxRecDepth 100000 in
theorem r_58_21 : ∀ (d : Nat) (ls : Lc) (st : List Value) (M : Mem) (Q : Outcome → Mem → Prop), Wp d 58 21 ls st M Q = Wp d 58 25 ls st M Q := fun d ls st M Q => w_goto (show ins 58 21 = some (.goto 4, 3) by decide +kernel) rfl
set_option maxRecDepth 100000 in
theorem r_58_24 : ∀ (d : Nat) (ls : Lc) (st : List Value) (M : Mem) (Q : Outcome → Mem → Prop), Wp d 58 24 ls st M Q = Wp d 58 25 ls (.int (I 0) :: st) M Q := fun d ls st M Q => w_iconst (show ins 58 24 = some (.iconst 0, 1) by decide +kernel)
set_option maxRecDepth 100000 in
theorem r_58_25 : ∀ (d : Nat) (ls : Lc) (v0 : Value)  (st : List Value) (M : Mem) (Q : Outcome → Mem → Prop), (smallR st = true) → Wp d 58 25 ls (v0 :: st) M Q = Ca d 58 25 ls 37 [v0] st M Q := fun d ls v0 st M Q h0 => w_stat (as := [v0]) (show ins 58 25 = some (.invokestatic 210, 3) by decide +kernel) (show mRes (mC 58) 210 = some (0, 1, [(0, 37)]) by decide +kernel) (by decide +kernel) (by decide +kernel) rfl h0
set_option maxRecDepth 100000 in
theorem r_58_28 : ∀ (d : Nat) (l1 l2 l3 l4 l5 l6 : Option Value) (v : Nat) (st : List Value) (M : Mem) (Q : Outcome → Mem → Prop), Wp d 58 28 [some (.ref v), l1, l2, l3, l4, l5, l6] st M Q = Wp d 58 29 [some (.ref v), l1, l2, l3, l4, l5, l6] (.ref v :: st) M Q := fun d l1 l2 l3 l4 l5 l6 v st M Q => wA (show ins 58 28 = some (.aload_n 0, 1) by decide +kernel) rfl
set_option maxRecDepth 100000 in
theorem r_58_29 : ∀ (d : Nat) (l0 l2 l3 l4 l5 l6 : Option Value) (v : Int32) (st : List Value) (M : Mem) (Q : Outcome → Mem → Prop), Wp d 58 29 [l0, some (.int v), l2, l3, l4, l5, l6] st M Q = Wp d 58 30 [l0, some (.int v), l2, l3, l4, l5, l6] (.int v :: st) M Q := fun d l0 l2 l3 l4 l5 l6 v st M Q => wA (show ins 58 29 = some (.iload_n 1, 1) by decide +kernel) rfl
set_option maxRecDepth 100000 in
theorem r_58_30 : ∀ (d : Nat) (l0 l1 l3 l4 l5 l6 : Option Value) (v : Int32) (st : List Value) (M : Mem) (Q : Outcome → Mem → Prop), Wp d 58 30 [l0, l1, some (.int v), l3, l4, l5, l6] st M Q = Wp d 58 31 [l0, l1, some (.int v), l3, l4, l5, l6] (.int v :: st) M Q := fun d l0 l1 l3 l4 l5 l6 v st M Q => wA (show ins 58 30 = some (.iload_n 2, 1) by decide +kernel) rfl
set_option maxRecDepth 100000 in
theorem r_58_31 : ∀ (d : Nat) (ls : Lc) (v0 v1 : Value) (a : Nat) (st : List Value) (M : Mem) (Q : Outcome → Mem → Prop), (smallR st = true) → Wp d 58 31 ls (v1 :: v0 :: .ref a :: st) M Q = (kO M a = 1 ∧ Ca d 58 31 ls 41 (.ref a :: [v0, v1]) st M Q) := fun d ls v0 v1 a st M Q h0 => w_virt1 (as := [v0, v1]) (show ins 58 31 = some (.invokevirtual 223, 3) by decide +kernel) (show mRes (mC 58) 223 = some (3, 1, [(1, 41)]) by decide +kernel) (by decide +kernel) rfl (by decide +kernel) (by decide +kernel) h0
set_option maxRecDepth 100000 in
theorem r_58_34 : ∀ (d : Nat) (l0 l1 l2 l3 l4 l5 l6 : Option Value) (v : Int32) (st : List Value) (M : Mem) (Q : Outcome → Mem → Prop), (lo l4 = false) → Wp d 58 34 [l0, l1, l2, l3, l4, l5, l6] (.int v :: st) M Q = Wp d 58 36 [l0, l1, l2, l3, l4, some (.int v), l6] st M Q := fun d l0 l1 l2 l3 l4 l5 l6 v st M Q hl => w_istore (show ins 58 34 = some (.istore 5, 2) by decide +kernel) (st1_S rfl rfl hl)
set_option maxRecDepth 100000 in
theorem r_58_36 : ∀ (d : Nat) (l0 l1 l2 l3 l4 l6 : Option Value) (v : Int32) (st : List Value) (M : Mem) (Q : Outcome → Mem → Prop), Wp d 58 36 [l0, l1, l2, l3, l4, some (.int v), l6] st M Q = Wp d 58 38 [l0, l1, l2, l3, l4, some (.int v), l6] (.int v :: st) M Q := fun d l0 l1 l2 l3 l4 l6 v st M Q => wA (show ins 58 36 = some (.iload 5, 2) by decide +kernel) rfl
set_option maxRecDepth 100000 in
theorem r_58_38 : ∀ (d : Nat) (ls : Lc) (st : List Value) (M : Mem) (Q : Outcome → Mem → Prop), Wp d 58 38 ls st M Q = Wp d 58 39 ls (.int (I (-1)) :: st) M Q := fun d ls st M Q => w_iconst (show ins 58 38 = some (.iconst (-1), 1) by decide +kernel)
set_option maxRecDepth 100000 in
theorem r_58_39 : ∀ (d : Nat) (ls : Lc) (a b : Int32) (st : List Value) (M : Mem) (Q : Outcome → Mem → Prop), Wp d 58 39 ls (.int b :: .int a :: st) M Q = Br (a = b) d 58 46 42 ls st M Q := fun d ls a b st M Q => w_icmp (show ins 58 39 = some (.if_icmp .eq 7, 3) by decide +kernel) rfl rfl
set_option maxRecDepth 100000 in
theorem r_58_42 : ∀ (d : Nat) (ls : Lc) (st : List Value) (M : Mem) (Q : Outcome → Mem → Prop), Wp d 58 42 ls st M Q = Wp d 58 43 ls (.int (I 1) :: st) M Q := fun d ls st M Q => w_iconst (show ins 58 42 = some (.iconst 1, 1) by decide +kernel)
set_option maxRecDepth 100000 in
theorem r_58_43 : ∀ (d : Nat) (ls : Lc) (st : List Value) (M : Mem) (Q : Outcome → Mem → Prop), Wp d 58 43 ls st M Q = Wp d 58 47 ls st M Q := fun d ls st M Q => w_goto (show ins 58 43 = some (.goto 4, 3) by decide +kernel) rfl
set_option maxRecDepth 100000 in
theorem r_58_46 : ∀ (d : Nat) (ls : Lc) (st : List Value) (M : Mem) (Q : Outcome → Mem → Prop), Wp d 58 46 ls st M Q = Wp d 58 47 ls (.int (I 0) :: st) M Q := fun d ls st M Q => w_iconst (show ins 58 46 = some (.iconst 0, 1) by decide +kernel)
set_option maxRecDepth 100000 in
theorem r_58_47 : ∀ (d : Nat) (ls : Lc) (v0 : Value)  (st : List Value) (M : Mem) (Q : Outcome → Mem → Prop), (smallR st = true) → Wp d 58 47 ls (v0 :: st) M Q = Ca d 58 47 ls 37 [v0] st M Q := fun d ls v0 st M Q h0 => w_stat (as := [v0]) (show ins 58 47 = some (.invokestatic 210, 3) by decide +kernel) (show mRes (mC 58) 210 = some (0, 1, [(0, 37)]) by decide +kernel) (by decide +kernel) (by decide +kernel) rfl h0
set_option maxRecDepth 100000 in
theorem r_58_50 : ∀ (d : Nat) (l0 l1 l2 l3 l5 l6 : Option Value) (v : Int32) (st : List Value) (M : Mem) (Q : Outcome → Mem → Prop), Wp d 58 50 [l0, l1, l2, l3, some (.int v), l5, l6] st M Q = Wp d 58 52 [l0, l1, l2, l3, some (.int v), l5, l6] (.int v :: st) M Q := fun d l0 l1 l2 l3 l5 l6 v st M Q => wA (show ins 58 50 = some (.iload 4, 2) by decide +kernel) rfl
set_option maxRecDepth 100000 in
theorem r_58_52 : ∀ (d : Nat) (ls : Lc) (v0 : Value)  (st : List Value) (M : Mem) (Q : Outcome → Mem → Prop), (smallR st = true) → Wp d 58 52 ls (v0 :: st) M Q = Ca d 58 52 ls 38 [v0] st M Q := fun d ls v0 st M Q h0 => w_stat (as := [v0]) (show ins 58 52 = some (.invokestatic 214, 3) by decide +kernel) (show mRes (mC 58) 214 = some (0, 1, [(0, 38)]) by decide +kernel) (by decide +kernel) (by decide +kernel) rfl h0
set_option maxRecDepth 100000 in
theorem r_58_55 : ∀ (d : Nat) (ls : Lc) (v0 : Value)  (st : List Value) (M : Mem) (Q : Outcome → Mem → Prop), (smallR st = true) → Wp d 58 55 ls (v0 :: st) M Q = Ca d 58 55 ls 39 [v0] st M Q := fun d ls v0 st M Q h0 => w_stat (as := [v0]) (show ins 58 55 = some (.invokestatic 217, 3) by decide +kernel) (show mRes (mC 58) 217 = some (0, 1, [(0, 39)]) by decide +kernel) (by decide +kernel) (by decide +kernel) rfl h0
set_option maxRecDepth 100000 in
theorem r_58_58 : ∀ (d : Nat) (l1 l2 l3 l4 l5 l6 : Option Value) (v : Nat) (st : List Value) (M : Mem) (Q : Outcome → Mem → Prop), Wp d 58 58 [some (.ref v), l1, l2, l3, l4, l5, l6] st M Q = Wp d 58 59 [some (.ref v), l1, l2, l3, l4, l5, l6] (.ref v :: st) M Q := fun d l1 l2 l3 l4 l5 l6 v st M Q => wA (show ins 58 58 = some (.aload_n 0, 1) by decide +kernel) rfl
set_option maxRecDepth 100000 in
theorem r_58_59 : ∀ (d : Nat) (l0 l1 l2 l4 l5 l6 : Option Value) (v : Int32) (st : List Value) (M : Mem) (Q : Outcome → Mem → Prop), Wp d 58 59 [l0, l1, l2, some (.int v), l4, l5, l6] st M Q = Wp d 58 60 [l0, l1, l2, some (.int v), l4, l5, l6] (.int v :: st) M Q := fun d l0 l1 l2 l4 l5 l6 v st M Q => wA (show ins 58 59 = some (.iload_n 3, 1) by decide +kernel) rfl
set_option maxRecDepth 100000 in
theorem r_58_60 : ∀ (d : Nat) (l0 l1 l2 l3 l5 l6 : Option Value) (v : Int32) (st : List Value) (M : Mem) (Q : Outcome → Mem → Prop), Wp d 58 60 [l0, l1, l2, l3, some (.int v), l5, l6] st M Q = Wp d 58 62 [l0, l1, l2, l3, some (.int v), l5, l6] (.int v :: st) M Q := fun d l0 l1 l2 l3 l5 l6 v st M Q => wA (show ins 58 60 = some (.iload 4, 2) by decide +kernel) rfl
set_option maxRecDepth 100000 in
theorem r_58_62 : ∀ (d : Nat) (ls : Lc) (v0 v1 : Value) (a : Nat) (st : List Value) (M : Mem) (Q : Outcome → Mem → Prop), (smallR st = true) → Wp d 58 62 ls (v1 :: v0 :: .ref a :: st) M Q = (kO M a = 1 ∧ Ca d 58 62 ls 41 (.ref a :: [v0, v1]) st M Q) := fun d ls v0 v1 a st M Q h0 => w_virt1 (as := [v0, v1]) (show ins 58 62 = some (.invokevirtual 223, 3) by decide +kernel) (show mRes (mC 58) 223 = some (3, 1, [(1, 41)]) by decide +kernel) (by decide +kernel) rfl (by decide +kernel) (by decide +kernel) h0
set_option maxRecDepth 100000 in
theorem r_58_65 : ∀ (d : Nat) (ls : Lc) (st : List Value) (M : Mem) (Q : Outcome → Mem → Prop), Wp d 58 65 ls st M Q = Wp d 58 66 ls (.int (I (-1)) :: st) M Q := fun d ls st M Q => w_iconst (show ins 58 65 = some (.iconst (-1), 1) by decide +kernel)
set_option maxRecDepth 100000 in
theorem r_58_66 : ∀ (d : Nat) (ls : Lc) (a b : Int32) (st : List Value) (M : Mem) (Q : Outcome → Mem → Prop), Wp d 58 66 ls (.int b :: .int a :: st) M Q = Br (¬ a = b) d 58 92 69 ls st M Q := fun d ls a b st M Q => w_icmp (show ins 58 66 = some (.if_icmp .ne 26, 3) by decide +kernel) rfl rfl
set_option maxRecDepth 100000 in
theorem r_58_69 : ∀ (d : Nat) (l1 l2 l3 l4 l5 l6 : Option Value) (v : Nat) (st : List Value) (M : Mem) (Q : Outcome → Mem → Prop), Wp d 58 69 [some (.ref v), l1, l2, l3, l4, l5, l6] st M Q = Wp d 58 70 [some (.ref v), l1, l2, l3, l4, l5, l6] (.ref v :: st) M Q := fun d l1 l2 l3 l4 l5 l6 v st M Q => wA (show ins 58 69 = some (.aload_n 0, 1) by decide +kernel) rfl
set_option maxRecDepth 100000 in
theorem r_58_70 : ∀ (d : Nat) (l0 l1 l2 l3 l4 l6 : Option Value) (v : Int32) (st : List Value) (M : Mem) (Q : Outcome → Mem → Prop), Wp d 58 70 [l0, l1, l2, l3, l4, some (.int v), l6] st M Q = Wp d 58 72 [l0, l1, l2, l3, l4, some (.int v), l6] (.int v :: st) M Q := fun d l0 l1 l2 l3 l4 l6 v st M Q => wA (show ins 58 70 = some (.iload 5, 2) by decide +kernel) rfl
set_option maxRecDepth 100000 in
theorem r_58_72 : ∀ (d : Nat) (ls : Lc) (v0 : Value) (a : Nat) (st : List Value) (M : Mem) (Q : Outcome → Mem → Prop), (smallR st = true) → Wp d 58 72 ls (v0 :: .ref a :: st) M Q = (kO M a = 1 ∧ Ca d 58 72 ls 52 (.ref a :: [v0]) st M Q) := fun d ls v0 a st M Q h0 => w_virt1 (as := [v0]) (show ins 58 72 = some (.invokevirtual 239, 3) by decide +kernel) (show mRes (mC 58) 239 = some (3, 1, [(1, 52)]) by decide +kernel) (by decide +kernel) rfl (by decide +kernel) (by decide +kernel) h0
set_option maxRecDepth 100000 in
theorem r_58_75 : ∀ (d : Nat) (ls : Lc) (a : Int32) (st : List Value) (M : Mem) (Q : Outcome → Mem → Prop), Wp d 58 75 ls (.int a :: st) M Q = Br (¬ a = I 0) d 58 88 78 ls st M Q := fun d ls a st M Q => w_if (show ins 58 75 = some (.ifCond .ne 13, 3) by decide +kernel) rfl rfl
set_option maxRecDepth 100000 in
theorem r_58_78 : ∀ (d : Nat) (l1 l2 l3 l4 l5 l6 : Option Value) (v : Nat) (st : List Value) (M : Mem) (Q : Outcome → Mem → Prop), Wp d 58 78 [some (.ref v), l1, l2, l3, l4, l5, l6] st M Q = Wp d 58 79 [some (.ref v), l1, l2, l3, l4, l5, l6] (.ref v :: st) M Q := fun d l1 l2 l3 l4 l5 l6 v st M Q => wA (show ins 58 78 = some (.aload_n 0, 1) by decide +kernel) rfl
set_option maxRecDepth 100000 in
theorem r_58_79 : ∀ (d : Nat) (l0 l1 l2 l4 l5 l6 : Option Value) (v : Int32) (st : List Value) (M : Mem) (Q : Outcome → Mem → Prop), Wp d 58 79 [l0, l1, l2, some (.int v), l4, l5, l6] st M Q = Wp d 58 80 [l0, l1, l2, some (.int v), l4, l5, l6] (.int v :: st) M Q := fun d l0 l1 l2 l4 l5 l6 v st M Q => wA (show ins 58 79 = some (.iload_n 3, 1) by decide +kernel) rfl
set_option maxRecDepth 100000 in
theorem r_58_80 : ∀ (d : Nat) (l0 l1 l2 l3 l4 l6 : Option Value) (v : Int32) (st : List Value) (M : Mem) (Q : Outcome → Mem → Prop), Wp d 58 80 [l0, l1, l2, l3, l4, some (.int v), l6] st M Q = Wp d 58 82 [l0, l1, l2, l3, l4, some (.int v), l6] (.int v :: st) M Q := fun d l0 l1 l2 l3 l4 l6 v st M Q => wA (show ins 58 80 = some (.iload 5, 2) by decide +kernel) rfl
set_option maxRecDepth 100000 in
theorem r_58_82 : ∀ (d : Nat) (ls : Lc) (v0 v1 : Value) (a : Nat) (st : List Value) (M : Mem) (Q : Outcome → Mem → Prop), (smallR st = true) → Wp d 58 82 ls (v1 :: v0 :: .ref a :: st) M Q = (kO M a = 1 ∧ Ca d 58 82 ls 59 (.ref a :: [v0, v1]) st M Q) := fun d ls v0 v1 a st M Q h0 => w_virt1 (as := [v0, v1]) (show ins 58 82 = some (.invokevirtual 276, 3) by decide +kernel) (show mRes (mC 58) 276 = some (3, 1, [(1, 59)]) by decide +kernel) (by decide +kernel) rfl (by decide +kernel) (by decide +kernel) h0
set_option maxRecDepth 100000 in
theorem r_58_85 : ∀ (d : Nat) (ls : Lc) (a : Int32) (st : List Value) (M : Mem) (Q : Outcome → Mem → Prop), Wp d 58 85 ls (.int a :: st) M Q = Br (¬ a = I 0) d 58 92 88 ls st M Q := fun d ls a st M Q => w_if (show ins 58 85 = some (.ifCond .ne 7, 3) by decide +kernel) rfl rfl
set_option maxRecDepth 100000 in
theorem r_58_88 : ∀ (d : Nat) (ls : Lc) (st : List Value) (M : Mem) (Q : Outcome → Mem → Prop), Wp d 58 88 ls st M Q = Wp d 58 89 ls (.int (I 1) :: st) M Q := fun d ls st M Q => w_iconst (show ins 58 88 = some (.iconst 1, 1) by decide +kernel)
set_option maxRecDepth 100000 in
theorem r_58_89 : ∀ (d : Nat) (ls : Lc) (st : List Value) (M : Mem) (Q : Outcome → Mem → Prop), Wp d 58 89 ls st M Q = Wp d 58 93 ls st M Q := fun d ls st M Q => w_goto (show ins 58 89 = some (.goto 4, 3) by decide +kernel) rfl
set_option maxRecDepth 100000 in
theorem r_58_92 : ∀ (d : Nat) (ls : Lc) (st : List Value) (M : Mem) (Q : Outcome → Mem → Prop), Wp d 58 92 ls st M Q = Wp d 58 93 ls (.int (I 0) :: st) M Q := fun d ls st M Q => w_iconst (show ins 58 92 = some (.iconst 0, 1) by decide +kernel)
set_option maxRecDepth 100000 in
theorem r_58_93 : ∀ (d : Nat) (ls : Lc) (v0 : Value)  (st : List Value) (M : Mem) (Q : Outcome → Mem → Prop), (smallR st = true) → Wp d 58 93 ls (v0 :: st) M Q = Ca d 58 93 ls 42 [v0] st M Q := fun d ls v0 st M Q h0 => w_stat (as := [v0]) (show ins 58 93 = some (.invokestatic 227, 3) by decide +kernel) (show mRes (mC 58) 227 = some (0, 1, [(0, 42)]) by decide +kernel) (by decide +kernel) (by decide +kernel) rfl h0
set_option maxRecDepth 100000 in
theorem r_58_96 : ∀ (d : Nat) (l1 l2 l3 l4 l5 l6 : Option Value) (v : Nat) (st : List Value) (M : Mem) (Q : Outcome → Mem → Prop), Wp d 58 96 [some (.ref v), l1, l2, l3, l4, l5, l6] st M Q = Wp d 58 97 [some (.ref v), l1, l2, l3, l4, l5, l6] (.ref v :: st) M Q := fun d l1 l2 l3 l4 l5 l6 v st M Q => wA (show ins 58 96 = some (.aload_n 0, 1) by decide +kernel) rfl
set_option maxRecDepth 100000 in
theorem r_58_97 : ∀ (d : Nat) (ls : Lc) (a : Nat) (st : List Value) (M : Mem) (Q : Outcome → Mem → Prop), (smallR st = true) → Wp d 58 97 ls (.ref a :: st) M Q = (kO M a = 1 ∧ Ca d 58 97 ls 43 (.ref a :: []) st M Q) := fun d ls a st M Q h0 => w_virt1 (as := []) (show ins 58 97 = some (.invokevirtual 230, 3) by decide +kernel) (show mRes (mC 58) 230 = some (3, 1, [(1, 43)]) by decide +kernel) (by decide +kernel) rfl (by decide +kernel) (by decide +kernel) h0
set_option maxRecDepth 100000 in
theorem r_58_100 : ∀ (d : Nat) (l1 l2 l3 l4 l5 l6 : Option Value) (v : Nat) (st : List Value) (M : Mem) (Q : Outcome → Mem → Prop), Wp d 58 100 [some (.ref v), l1, l2, l3, l4, l5, l6] st M Q = Wp d 58 101 [some (.ref v), l1, l2, l3, l4, l5, l6] (.ref v :: st) M Q := fun d l1 l2 l3 l4 l5 l6 v st M Q => wA (show ins 58 100 = some (.aload_n 0, 1) by decide +kernel) rfl
set_option maxRecDepth 100000 in
theorem r_58_101 : ∀ (d : Nat) (l0 l2 l3 l4 l5 l6 : Option Value) (v : Int32) (st : List Value) (M : Mem) (Q : Outcome → Mem → Prop), Wp d 58 101 [l0, some (.int v), l2, l3, l4, l5, l6] st M Q = Wp d 58 102 [l0, some (.int v), l2, l3, l4, l5, l6] (.int v :: st) M Q := fun d l0 l2 l3 l4 l5 l6 v st M Q => wA (show ins 58 101 = some (.iload_n 1, 1) by decide +kernel) rfl
set_option maxRecDepth 100000 in
theorem r_58_102 : ∀ (d : Nat) (l0 l1 l3 l4 l5 l6 : Option Value) (v : Int32) (st : List Value) (M : Mem) (Q : Outcome → Mem → Prop), Wp d 58 102 [l0, l1, some (.int v), l3, l4, l5, l6] st M Q = Wp d 58 103 [l0, l1, some (.int v), l3, l4, l5, l6] (.int v :: st) M Q := fun d l0 l1 l3 l4 l5 l6 v st M Q => wA (show ins 58 102 = some (.iload_n 2, 1) by decide +kernel) rfl
set_option maxRecDepth 100000 in
theorem r_58_103 : ∀ (d : Nat) (ls : Lc) (v0 v1 : Value) (a : Nat) (st : List Value) (M : Mem) (Q : Outcome → Mem → Prop), (smallR st = true) → Wp d 58 103 ls (v1 :: v0 :: .ref a :: st) M Q = (kO M a = 1 ∧ Ca d 58 103 ls 54 (.ref a :: [v0, v1]) st M Q) := fun d ls v0 v1 a st M Q h0 => w_virt1 (as := [v0, v1]) (show ins 58 103 = some (.invokevirtual 242, 3) by decide +kernel) (show mRes (mC 58) 242 = some (3, 1, [(1, 54)]) by decide +kernel) (by decide +kernel) rfl (by decide +kernel) (by decide +kernel) h0
set_option maxRecDepth 100000 in
theorem r_58_106 : ∀ (d : Nat) (l1 l2 l3 l4 l5 l6 : Option Value) (v : Nat) (st : List Value) (M : Mem) (Q : Outcome → Mem → Prop), Wp d 58 106 [some (.ref v), l1, l2, l3, l4, l5, l6] st M Q = Wp d 58 107 [some (.ref v), l1, l2, l3, l4, l5, l6] (.ref v :: st) M Q := fun d l1 l2 l3 l4 l5 l6 v st M Q => wA (show ins 58 106 = some (.aload_n 0, 1) by decide +kernel) rfl
set_option maxRecDepth 100000 in
theorem r_58_107 : ∀ (d : Nat) (l0 l1 l2 l4 l5 l6 : Option Value) (v : Int32) (st : List Value) (M : Mem) (Q : Outcome → Mem → Prop), Wp d 58 107 [l0, l1, l2, some (.int v), l4, l5, l6] st M Q = Wp d 58 108 [l0, l1, l2, some (.int v), l4, l5, l6] (.int v :: st) M Q := fun d l0 l1 l2 l4 l5 l6 v st M Q => wA (show ins 58 107 = some (.iload_n 3, 1) by decide +kernel) rfl
set_option maxRecDepth 100000 in
theorem r_58_108 : ∀ (d : Nat) (l0 l1 l2 l3 l5 l6 : Option Value) (v : Int32) (st : List Value) (M : Mem) (Q : Outcome → Mem → Prop), Wp d 58 108 [l0, l1, l2, l3, some (.int v), l5, l6] st M Q = Wp d 58 110 [l0, l1, l2, l3, some (.int v), l5, l6] (.int v :: st) M Q := fun d l0 l1 l2 l3 l5 l6 v st M Q => wA (show ins 58 108 = some (.iload 4, 2) by decide +kernel) rfl
set_option maxRecDepth 100000 in
theorem r_58_110 : ∀ (d : Nat) (l0 l1 l2 l3 l4 l6 : Option Value) (v : Int32) (st : List Value) (M : Mem) (Q : Outcome → Mem → Prop), Wp d 58 110 [l0, l1, l2, l3, l4, some (.int v), l6] st M Q = Wp d 58 112 [l0, l1, l2, l3, l4, some (.int v), l6] (.int v :: st) M Q := fun d l0 l1 l2 l3 l4 l6 v st M Q => wA (show ins 58 110 = some (.iload 5, 2) by decide +kernel) rfl
set_option maxRecDepth 100000 in
theorem r_58_112 : ∀ (d : Nat) (ls : Lc) (v0 v1 v2 : Value) (a : Nat) (st : List Value) (M : Mem) (Q : Outcome → Mem → Prop), (smallR st = true) → Wp d 58 112 ls (v2 :: v1 :: v0 :: .ref a :: st) M Q = (kO M a = 1 ∧ Ca d 58 112 ls 44 (.ref a :: [v0, v1, v2]) st M Q) := fun d ls v0 v1 v2 a st M Q h0 => w_virt1 (as := [v0, v1, v2]) (show ins 58 112 = some (.invokevirtual 233, 3) by decide +kernel) (show mRes (mC 58) 233 = some (3, 1, [(1, 44)]) by decide +kernel) (by decide +kernel) rfl (by decide +kernel) (by decide +kernel) h0
set_option maxRecDepth 100000 in
theorem r_58_115 : ∀ (d : Nat) (ls : Lc) (st : List Value) (M : Mem) (Q : Outcome → Mem → Prop), Wp d 58 115 ls st M Q = Wp d 58 127 ls st M Q := fun d ls st M Q => w_goto (show ins 58 115 = some (.goto 12, 3) by decide +kernel) rfl
set_option maxRecDepth 100000 in
theorem r_58_118 : ∀ (d : Nat) (l0 l1 l2 l3 l4 l5 l6 : Option Value) (v : Nat) (st : List Value) (M : Mem) (Q : Outcome → Mem → Prop), (lo l5 = false) → Wp d 58 118 [l0, l1, l2, l3, l4, l5, l6] (.ref v :: st) M Q = Wp d 58 120 [l0, l1, l2, l3, l4, l5, some (.ref v)] st M Q := fun d l0 l1 l2 l3 l4 l5 l6 v st M Q hl => w_astore (show ins 58 118 = some (.astore 6, 2) by decide +kernel) (st1_S rfl rfl hl)
set_option maxRecDepth 100000 in
theorem r_58_118_1 : ∀ (d : Nat) (l0 l1 l2 l3 l4 l5 l6 : Option Value) (st : List Value) (M : Mem) (Q : Outcome → Mem → Prop), (lo l5 = false) → Wp d 58 118 [l0, l1, l2, l3, l4, l5, l6] (.null :: st) M Q = Wp d 58 120 [l0, l1, l2, l3, l4, l5, some (.null)] st M Q := fun d l0 l1 l2 l3 l4 l5 l6 st M Q hl => w_astoreN (show ins 58 118 = some (.astore 6, 2) by decide +kernel) (st1_S rfl rfl hl)
set_option maxRecDepth 100000 in
theorem r_58_120 : ∀ (d : Nat) (l1 l2 l3 l4 l5 l6 : Option Value) (v : Nat) (st : List Value) (M : Mem) (Q : Outcome → Mem → Prop), Wp d 58 120 [some (.ref v), l1, l2, l3, l4, l5, l6] st M Q = Wp d 58 121 [some (.ref v), l1, l2, l3, l4, l5, l6] (.ref v :: st) M Q := fun d l1 l2 l3 l4 l5 l6 v st M Q => wA (show ins 58 120 = some (.aload_n 0, 1) by decide +kernel) rfl
set_option maxRecDepth 100000 in
theorem r_58_121 : ∀ (d : Nat) (ls : Lc) (a : Nat) (st : List Value) (M : Mem) (Q : Outcome → Mem → Prop), (smallR st = true) → Wp d 58 121 ls (.ref a :: st) M Q = (kO M a = 1 ∧ Ca d 58 121 ls 49 (.ref a :: []) st M Q) := fun d ls a st M Q h0 => w_virt1 (as := []) (show ins 58 121 = some (.invokevirtual 236, 3) by decide +kernel) (show mRes (mC 58) 236 = some (3, 1, [(1, 49)]) by decide +kernel) (by decide +kernel) rfl (by decide +kernel) (by decide +kernel) h0
set_option maxRecDepth 100000 in
theorem r_58_124 : ∀ (d : Nat) (l0 l1 l2 l3 l4 l5 : Option Value) (v : Nat) (st : List Value) (M : Mem) (Q : Outcome → Mem → Prop), Wp d 58 124 [l0, l1, l2, l3, l4, l5, some (.ref v)] st M Q = Wp d 58 126 [l0, l1, l2, l3, l4, l5, some (.ref v)] (.ref v :: st) M Q := fun d l0 l1 l2 l3 l4 l5 v st M Q => wA (show ins 58 124 = some (.aload 6, 2) by decide +kernel) rfl
set_option maxRecDepth 100000 in
theorem r_58_124_1 : ∀ (d : Nat) (l0 l1 l2 l3 l4 l5 : Option Value) (st : List Value) (M : Mem) (Q : Outcome → Mem → Prop), Wp d 58 124 [l0, l1, l2, l3, l4, l5, some .null] st M Q = Wp d 58 126 [l0, l1, l2, l3, l4, l5, some .null] (.null :: st) M Q := fun d l0 l1 l2 l3 l4 l5 st M Q => wA (show ins 58 124 = some (.aload 6, 2) by decide +kernel) rfl
set_option maxRecDepth 100000 in
theorem r_58_126 : ∀ (d : Nat) (ls : Lc) (a : Nat) (st : List Value) (M : Mem) (Q : Outcome → Mem → Prop), Wp d 58 126 ls (.ref a :: st) M Q = Th d 58 126 ls a M Q := fun d ls a st M Q => w_athrow (show ins 58 126 = some (.athrow, 1) by decide +kernel)
set_option maxRecDepth 100000 in
theorem r_58_127 : ∀ (d : Nat) (l0 l1 l2 l3 l4 l6 : Option Value) (v : Int32) (st : List Value) (M : Mem) (Q : Outcome → Mem → Prop), Wp d 58 127 [l0, l1, l2, l3, l4, some (.int v), l6] st M Q = Wp d 58 129 [l0, l1, l2, l3, l4, some (.int v), l6] (.int v :: st) M Q := fun d l0 l1 l2 l3 l4 l6 v st M Q => wA (show ins 58 127 = some (.iload 5, 2) by decide +kernel) rfl
set_option maxRecDepth 100000 in
theorem r_58_129 : ∀ (d : Nat) (ls : Lc) (v : Int32) (M : Mem) (Q : Outcome → Mem → Prop), Wp d 58 129 ls [.int v] M Q = Q (.returned (some (.int v))) M := fun d ls v M Q => w_ireturn (show ins 58 129 = some (.ireturn, 1) by decide +kernel) (by decide +kernel)
set_option maxRecDepth 100000 in
theorem W_58 : (type_of% r_58_0) ∧ (type_of% r_58_1) ∧ (type_of% r_58_4) ∧ (type_of% r_58_5) ∧ (type_of% r_58_6) ∧ (type_of% r_58_9) ∧ (type_of% r_58_12) ∧ (type_of% r_58_13) ∧ (type_of% r_58_14) ∧ (type_of% r_58_17) ∧ (type_of% r_58_20) ∧ (type_of% r_58_21) ∧ (type_of% r_58_24) ∧ (type_of% r_58_25) ∧ (type_of% r_58_28) ∧ (type_of% r_58_29) ∧ (type_of% r_58_30) ∧ (type_of% r_58_31) ∧ (type_of% r_58_34) ∧ (type_of% r_58_36) ∧ (type_of% r_58_38) ∧ (type_of% r_58_39) ∧ (type_of% r_58_42) ∧ (type_of% r_58_43) ∧ (type_of% r_58_46) ∧ (type_of% r_58_47) ∧ (type_of% r_58_50) ∧ (type_of% r_58_52) ∧ (type_of% r_58_55) ∧ (type_of% r_58_58) ∧ (type_of% r_58_59) ∧ (type_of% r_58_60) ∧ (type_of% r_58_62) ∧ (type_of% r_58_65) ∧ (type_of% r_58_66) ∧ (type_of% r_58_69) ∧ (type_of% r_58_70) ∧ (type_of% r_58_72) ∧ (type_of% r_58_75) ∧ (type_of% r_58_78) ∧ (type_of% r_58_79) ∧ (type_of% r_58_80) ∧ (type_of% r_58_82) ∧ (type_of% r_58_85) ∧ (type_of% r_58_88) ∧ (type_of% r_58_89) ∧ (type_of% r_58_92) ∧ (type_of% r_58_93) ∧ (type_of% r_58_96) ∧ (type_of% r_58_97) ∧ (type_of% r_58_100) ∧ (type_of% r_58_101) ∧ (type_of% r_58_102) ∧ (type_of% r_58_103) ∧ (type_of% r_58_106) ∧ (type_of% r_58_107) ∧ (type_of% r_58_108) ∧ (type_of% r_58_110) ∧ (type_of% r_58_112) ∧ (type_of% r_58_115) ∧ (type_of% r_58_118) ∧ (type_of% r_58_118_1) ∧ (type_of% r_58_120) ∧ (type_of% r_58_121) ∧ (type_of% r_58_124) ∧ (type_of% r_58_124_1) ∧ (type_of% r_58_126) ∧ (type_of% r_58_127) ∧ (type_of% r_58_129) := ⟨r_58_0, r_58_1, r_58_4, r_58_5, r_58_6, r_58_9, r_58_12, r_58_13, r_58_14, r_58_17, r_58_20, r_58_21, r_58_24, r_58_25, r_58_28, r_58_29, r_58_30, r_58_31, r_58_34, r_58_36, r_58_38, r_58_39, r_58_42, r_58_43, r_58_46, r_58_47, r_58_50, r_58_52, r_58_55, r_58_58, r_58_59, r_58_60, r_58_62, r_58_65, r_58_66, r_58_69, r_58_70, r_58_72, r_58_75, r_58_78, r_58_79, r_58_80, r_58_82, r_58_85, r_58_88, r_58_89, r_58_92, r_58_93, r_58_96, r_58_97, r_58_100, r_58_101, r_58_102, r_58_103, r_58_106, r_58_107, r_58_108, r_58_110, r_58_112, r_58_115, r_58_118, r_58_118_1, r_58_120, r_58_121, r_58_124, r_58_124_1, r_58_126, r_58_127, r_58_129⟩
set_option maxRecDepth 100000 in
theorem ca_58 {d y pc : Nat} {ls : Lc} {a : Nat} {z0 : Int32} {z1 : Int32} {z2 : Int32} {z3 : Int32} {r : List Value} {M : Mem} {Q : Outcome → Mem → Prop} (hd : 0 < d) (hw : Wp (d - 1) 58 0 [some (.ref a), some (.int z0), some (.int z1), some (.int z2), some (.int z3), none, none] [] M (Cq d y pc ls r Q)) : Ca d y pc ls 58 [.ref a, .int z0, .int z1, .int z2, .int z3] r M Q := ca_of (mq_get (by decide)) (by rfl) hd hw
/-! 59 PackedTree.isWithin(II)Z; loop heads [2] -/
set_option maxRecDepth 100000 in
theorem r_59_0 : ∀ (d : Nat) (l0 l2 l3 : Option Value) (v : Int32) (st : List Value) (M : Mem) (Q : Outcome → Mem → Prop), Wp d 59 0 [l0, some (.int v), l2, l3] st M Q = Wp d 59 1 [l0, some (.int v), l2, l3] (.int v :: st) M Q := fun d l0 l2 l3 v st M Q => wA (show ins 59 0 = some (.iload_n 1, 1) by decide +kernel) rfl
set_option maxRecDepth 100000 in
theorem r_59_1 : ∀ (d : Nat) (l0 l1 l2 l3 : Option Value) (v : Int32) (st : List Value) (M : Mem) (Q : Outcome → Mem → Prop), (lo l2 = false) → Wp d 59 1 [l0, l1, l2, l3] (.int v :: st) M Q = Wp d 59 2 [l0, l1, l2, some (.int v)] st M Q := fun d l0 l1 l2 l3 v st M Q hl => w_istore_n (show ins 59 1 = some (.istore_n 3, 1) by decide +kernel) (st1_S rfl rfl hl)
set_option maxRecDepth 100000 in
theorem r_59_2 : ∀ (d : Nat) (l0 l1 l2 : Option Value) (v : Int32) (st : List Value) (M : Mem) (Q : Outcome → Mem → Prop), Wp d 59 2 [l0, l1, l2, some (.int v)] st M Q = Wp d 59 3 [l0, l1, l2, some (.int v)] (.int v :: st) M Q := fun d l0 l1 l2 v st M Q => wA (show ins 59 2 = some (.iload_n 3, 1) by decide +kernel) rfl
set_option maxRecDepth 100000 in
theorem r_59_3 : ∀ (d : Nat) (l0 l1 l3 : Option Value) (v : Int32) (st : List Value) (M : Mem) (Q : Outcome → Mem → Prop), Wp d 59 3 [l0, l1, some (.int v), l3] st M Q = Wp d 59 4 [l0, l1, some (.int v), l3] (.int v :: st) M Q := fun d l0 l1 l3 v st M Q => wA (show ins 59 3 = some (.iload_n 2, 1) by decide +kernel) rfl
set_option maxRecDepth 100000 in
theorem r_59_4 : ∀ (d : Nat) (ls : Lc) (a b : Int32) (st : List Value) (M : Mem) (Q : Outcome → Mem → Prop), Wp d 59 4 ls (.int b :: .int a :: st) M Q = Br (a = b) d 59 21 7 ls st M Q := fun d ls a b st M Q => w_icmp (show ins 59 4 = some (.if_icmp .eq 17, 3) by decide +kernel) rfl rfl
set_option maxRecDepth 100000 in
theorem r_59_7 : ∀ (d : Nat) (l0 l1 l2 : Option Value) (v : Int32) (st : List Value) (M : Mem) (Q : Outcome → Mem → Prop), Wp d 59 7 [l0, l1, l2, some (.int v)] st M Q = Wp d 59 8 [l0, l1, l2, some (.int v)] (.int v :: st) M Q := fun d l0 l1 l2 v st M Q => wA (show ins 59 7 = some (.iload_n 3, 1) by decide +kernel) rfl
set_option maxRecDepth 100000 in
theorem r_59_8 : ∀ (d : Nat) (ls : Lc) (st : List Value) (M : Mem) (Q : Outcome → Mem → Prop), Wp d 59 8 ls st M Q = Wp d 59 9 ls (.int (I 1) :: st) M Q := fun d ls st M Q => w_iconst (show ins 59 8 = some (.iconst 1, 1) by decide +kernel)
set_option maxRecDepth 100000 in
theorem r_59_9 : ∀ (d : Nat) (ls : Lc) (a b : Int32) (st : List Value) (M : Mem) (Q : Outcome → Mem → Prop), Wp d 59 9 ls (.int b :: .int a :: st) M Q = Br (a = b) d 59 21 12 ls st M Q := fun d ls a b st M Q => w_icmp (show ins 59 9 = some (.if_icmp .eq 12, 3) by decide +kernel) rfl rfl
set_option maxRecDepth 100000 in
theorem r_59_12 : ∀ (d : Nat) (l1 l2 l3 : Option Value) (v : Nat) (st : List Value) (M : Mem) (Q : Outcome → Mem → Prop), Wp d 59 12 [some (.ref v), l1, l2, l3] st M Q = Wp d 59 13 [some (.ref v), l1, l2, l3] (.ref v :: st) M Q := fun d l1 l2 l3 v st M Q => wA (show ins 59 12 = some (.aload_n 0, 1) by decide +kernel) rfl
set_option maxRecDepth 100000 in
theorem r_59_13 : ∀ (d : Nat) (l0 l1 l2 : Option Value) (v : Int32) (st : List Value) (M : Mem) (Q : Outcome → Mem → Prop), Wp d 59 13 [l0, l1, l2, some (.int v)] st M Q = Wp d 59 14 [l0, l1, l2, some (.int v)] (.int v :: st) M Q := fun d l0 l1 l2 v st M Q => wA (show ins 59 13 = some (.iload_n 3, 1) by decide +kernel) rfl
set_option maxRecDepth 100000 in
theorem r_59_14 : ∀ (d : Nat) (ls : Lc) (v0 : Value) (a : Nat) (st : List Value) (M : Mem) (Q : Outcome → Mem → Prop), (smallR st = true) → Wp d 59 14 ls (v0 :: .ref a :: st) M Q = (kO M a = 1 ∧ Ca d 59 14 ls 60 (.ref a :: [v0]) st M Q) := fun d ls v0 a st M Q h0 => w_virt1 (as := [v0]) (show ins 59 14 = some (.invokevirtual 273, 3) by decide +kernel) (show mRes (mC 59) 273 = some (3, 1, [(1, 60)]) by decide +kernel) (by decide +kernel) rfl (by decide +kernel) (by decide +kernel) h0
set_option maxRecDepth 100000 in
theorem r_59_17 : ∀ (d : Nat) (l0 l1 l2 l3 : Option Value) (v : Int32) (st : List Value) (M : Mem) (Q : Outcome → Mem → Prop), (lo l2 = false) → Wp d 59 17 [l0, l1, l2, l3] (.int v :: st) M Q = Wp d 59 18 [l0, l1, l2, some (.int v)] st M Q := fun d l0 l1 l2 l3 v st M Q hl => w_istore_n (show ins 59 17 = some (.istore_n 3, 1) by decide +kernel) (st1_S rfl rfl hl)
set_option maxRecDepth 100000 in
theorem r_59_18 : ∀ (d : Nat) (ls : Lc) (st : List Value) (M : Mem) (Q : Outcome → Mem → Prop), Wp d 59 18 ls st M Q = Wp d 59 2 ls st M Q := fun d ls st M Q => w_goto (show ins 59 18 = some (.goto (-16), 3) by decide +kernel) rfl
set_option maxRecDepth 100000 in
theorem r_59_21 : ∀ (d : Nat) (l0 l1 l2 : Option Value) (v : Int32) (st : List Value) (M : Mem) (Q : Outcome → Mem → Prop), Wp d 59 21 [l0, l1, l2, some (.int v)] st M Q = Wp d 59 22 [l0, l1, l2, some (.int v)] (.int v :: st) M Q := fun d l0 l1 l2 v st M Q => wA (show ins 59 21 = some (.iload_n 3, 1) by decide +kernel) rfl
set_option maxRecDepth 100000 in
theorem r_59_22 : ∀ (d : Nat) (l0 l1 l3 : Option Value) (v : Int32) (st : List Value) (M : Mem) (Q : Outcome → Mem → Prop), Wp d 59 22 [l0, l1, some (.int v), l3] st M Q = Wp d 59 23 [l0, l1, some (.int v), l3] (.int v :: st) M Q := fun d l0 l1 l3 v st M Q => wA (show ins 59 22 = some (.iload_n 2, 1) by decide +kernel) rfl
set_option maxRecDepth 100000 in
theorem r_59_23 : ∀ (d : Nat) (ls : Lc) (a b : Int32) (st : List Value) (M : Mem) (Q : Outcome → Mem → Prop), Wp d 59 23 ls (.int b :: .int a :: st) M Q = Br (¬ a = b) d 59 30 26 ls st M Q := fun d ls a b st M Q => w_icmp (show ins 59 23 = some (.if_icmp .ne 7, 3) by decide +kernel) rfl rfl
set_option maxRecDepth 100000 in
theorem r_59_26 : ∀ (d : Nat) (ls : Lc) (st : List Value) (M : Mem) (Q : Outcome → Mem → Prop), Wp d 59 26 ls st M Q = Wp d 59 27 ls (.int (I 1) :: st) M Q := fun d ls st M Q => w_iconst (show ins 59 26 = some (.iconst 1, 1) by decide +kernel)
set_option maxRecDepth 100000 in
theorem r_59_27 : ∀ (d : Nat) (ls : Lc) (st : List Value) (M : Mem) (Q : Outcome → Mem → Prop), Wp d 59 27 ls st M Q = Wp d 59 31 ls st M Q := fun d ls st M Q => w_goto (show ins 59 27 = some (.goto 4, 3) by decide +kernel) rfl
set_option maxRecDepth 100000 in
theorem r_59_30 : ∀ (d : Nat) (ls : Lc) (st : List Value) (M : Mem) (Q : Outcome → Mem → Prop), Wp d 59 30 ls st M Q = Wp d 59 31 ls (.int (I 0) :: st) M Q := fun d ls st M Q => w_iconst (show ins 59 30 = some (.iconst 0, 1) by decide +kernel)
set_option maxRecDepth 100000 in
theorem r_59_31 : ∀ (d : Nat) (ls : Lc) (z : Int) (M : Mem) (Q : Outcome → Mem → Prop), (z = 0 ∨ z = 1) → Wp d 59 31 ls [.int (I z)] M Q = Q (.returned (some (.int (I z)))) M := fun d ls z M Q h0 => w_zretI (show ins 59 31 = some (.ireturn, 1) by decide +kernel) (by decide +kernel) h0
set_option maxRecDepth 100000 in
theorem r_59_31_1 : ∀ (d : Nat) (ls : Lc) (b : Bool) (M : Mem) (Q : Outcome → Mem → Prop), Wp d 59 31 ls [.int (I (bI b))] M Q = Q (.returned (some (.int (I (bI b))))) M := fun d ls b M Q => w_zretB (show ins 59 31 = some (.ireturn, 1) by decide +kernel) (by decide +kernel)
set_option maxRecDepth 100000 in
theorem w_59_2 : (type_of% r_59_2) := r_59_2
set_option maxRecDepth 100000 in
theorem W_59 : (type_of% r_59_0) ∧ (type_of% r_59_1) ∧ (type_of% r_59_3) ∧ (type_of% r_59_4) ∧ (type_of% r_59_7) ∧ (type_of% r_59_8) ∧ (type_of% r_59_9) ∧ (type_of% r_59_12) ∧ (type_of% r_59_13) ∧ (type_of% r_59_14) ∧ (type_of% r_59_17) ∧ (type_of% r_59_18) ∧ (type_of% r_59_21) ∧ (type_of% r_59_22) ∧ (type_of% r_59_23) ∧ (type_of% r_59_26) ∧ (type_of% r_59_27) ∧ (type_of% r_59_30) ∧ (type_of% r_59_31) ∧ (type_of% r_59_31_1) := ⟨r_59_0, r_59_1, r_59_3, r_59_4, r_59_7, r_59_8, r_59_9, r_59_12, r_59_13, r_59_14, r_59_17, r_59_18, r_59_21, r_59_22, r_59_23, r_59_26, r_59_27, r_59_30, r_59_31, r_59_31_1⟩
set_option maxRecDepth 100000 in
theorem ca_59 {d y pc : Nat} {ls : Lc} {a : Nat} {z0 : Int32} {z1 : Int32} {r : List Value} {M : Mem} {Q : Outcome → Mem → Prop} (hd : 0 < d) (hw : Wp (d - 1) 59 0 [some (.ref a), some (.int z0), some (.int z1), none] [] M (Cq d y pc ls r Q)) : Ca d y pc ls 59 [.ref a, .int z0, .int z1] r M Q := ca_of (mq_get (by decide)) (by rfl) hd hw
