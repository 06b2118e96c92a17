/-! 185 PackedTreeModel.isFile(I)Z; loop heads [] -/
set_option maxRecDepth 100000 in
theorem r_185_0 : ∀ (d : Nat) (l1 : Option Value) (v : Nat) (st : List Value) (M : Mem) (Q : Outcome → Mem → Prop), Wp d 185 0 [some (.ref v), l1] st M Q = Wp d 185 1 [some (.ref v), l1] (.ref v :: st) M Q := fun d l1 v st M Q => wA (show ins 185 0 = some (.aload_n 0, 1) by decide +kernel) rfl
set_option maxRecDepth 100000 in
theorem r_185_1 : ∀ (d : Nat) (l0 : Option Value) (v : Int32) (st : List Value) (M : Mem) (Q : Outcome → Mem → Prop), Wp d 185 1 [l0, some (.int v)] st M Q = Wp d 185 2 [l0, some (.int v)] (.int v :: st) M Q := fun d l0 v st M Q => wA (show ins 185 1 = some (.iload_n 1, 1) by decide +kernel) rfl
set_option maxRecDepth 100000 in
theorem r_185_2 : ∀ (d : Nat) (ls : Lc) (v0 : Value) (a : Nat) (st : List Value) (M : Mem) (Q : Outcome → Mem → Prop), (smallR st = true) → Wp d 185 2 ls (v0 :: .ref a :: st) M Q = (kO M a = 8 ∧ Ca d 185 2 ls 158 (.ref a :: [v0]) st M Q) := fun d ls v0 a st M Q h0 => w_virt1 (as := [v0]) (show ins 185 2 = some (.invokevirtual 47, 3) by decide +kernel) (show mRes (mC 185) 47 = some (3, 8, [(8, 158)]) by decide +kernel) (by decide +kernel) rfl (by decide +kernel) (by decide +kernel) h0
set_option maxRecDepth 100000 in
theorem r_185_5 : ∀ (d : Nat) (ls : Lc) (a : Int32) (st : List Value) (M : Mem) (Q : Outcome → Mem → Prop), Wp d 185 5 ls (.int a :: st) M Q = Br (a = I 0) d 185 25 8 ls st M Q := fun d ls a st M Q => w_if (show ins 185 5 = some (.ifCond .eq 20, 3) by decide +kernel) rfl rfl
set_option maxRecDepth 100000 in
theorem r_185_8 : ∀ (d : Nat) (l1 : Option Value) (v : Nat) (st : List Value) (M : Mem) (Q : Outcome → Mem → Prop), Wp d 185 8 [some (.ref v), l1] st M Q = Wp d 185 9 [some (.ref v), l1] (.ref v :: st) M Q := fun d l1 v st M Q => wA (show ins 185 8 = some (.aload_n 0, 1) by decide +kernel) rfl
set_option maxRecDepth 100000 in
theorem r_185_9 : ∀ (d : Nat) (ls : Lc) (a : Nat) (st : List Value) (M : Mem) (Q : Outcome → Mem → Prop), Wp d 185 9 ls (.ref a :: st) M Q = (fk 53 (kO M a) = true ∧ Wp d 185 12 ls (va_rf (mR M 53 a) :: st) M Q) := fun d ls a st M Q => w_getR (show ins 185 9 = some (.getfield 7, 3) by decide +kernel) (show fRes (mC 185) 7 = some (53, 8, false) by decide +kernel) (by decide +kernel)
set_option maxRecDepth 100000 in
theorem r_185_12 : ∀ (d : Nat) (ls : Lc) (st : List Value) (M : Mem) (Q : Outcome → Mem → Prop), Wp d 185 12 ls st M Q = Wp d 185 14 ls (.int (I 96) :: st) M Q := fun d ls st M Q => w_bipush (show ins 185 12 = some (.bipush 96, 2) by decide +kernel) (by decide)
set_option maxRecDepth 100000 in
theorem r_185_14 : ∀ (d : Nat) (l0 : Option Value) (v : Int32) (st : List Value) (M : Mem) (Q : Outcome → Mem → Prop), Wp d 185 14 [l0, some (.int v)] st M Q = Wp d 185 15 [l0, some (.int v)] (.int v :: st) M Q := fun d l0 v st M Q => wA (show ins 185 14 = some (.iload_n 1, 1) by decide +kernel) rfl
set_option maxRecDepth 100000 in
theorem r_185_15 : ∀ (d : Nat) (ls : Lc) (a b : Int) (st : List Value) (M : Mem) (Q : Outcome → Mem → Prop), Wp d 185 15 ls (.int (I b) :: .int (I a) :: st) M Q = Wp d 185 16 ls (.int (I (a + b)) :: st) M Q := fun d ls a b st M Q => w_iadd (show ins 185 15 = some (.iadd, 1) by decide +kernel)
set_option maxRecDepth 100000 in
theorem r_185_16 : ∀ (d : Nat) (ls : Lc) (a : Nat) (j : Int32) (st : List Value) (M : Mem) (Q : Outcome → Mem → Prop), Wp d 185 16 ls (.int j :: .ref a :: st) M Q = ((((kX M a).1 = 0 ∨ (kX M a).1 = 8) ∧ inB j (kX M a).2 = true) ∧ Wp d 185 17 ls (.int (mA M a j.toNatClampNeg) :: st) M Q) := fun d ls a j st M Q => w_iaload (show ins 185 16 = some (.iaload, 1) by decide +kernel)
set_option maxRecDepth 100000 in
theorem r_185_17 : ∀ (d : Nat) (ls : Lc) (st : List Value) (M : Mem) (Q : Outcome → Mem → Prop), Wp d 185 17 ls st M Q = Wp d 185 18 ls (.int (I 2) :: st) M Q := fun d ls st M Q => w_iconst (show ins 185 17 = some (.iconst 2, 1) by decide +kernel)
set_option maxRecDepth 100000 in
theorem r_185_18 : ∀ (d : Nat) (ls : Lc) (a b : Int32) (st : List Value) (M : Mem) (Q : Outcome → Mem → Prop), Wp d 185 18 ls (.int b :: .int a :: st) M Q = Br (¬ a = b) d 185 25 21 ls st M Q := fun d ls a b st M Q => w_icmp (show ins 185 18 = some (.if_icmp .ne 7, 3) by decide +kernel) rfl rfl
set_option maxRecDepth 100000 in
theorem r_185_21 : ∀ (d : Nat) (ls : Lc) (st : List Value) (M : Mem) (Q : Outcome → Mem → Prop), Wp d 185 21 ls st M Q = Wp d 185 22 ls (.int (I 1) :: st) M Q := fun d ls st M Q => w_iconst (show ins 185 21 = some (.iconst 1, 1) by decide +kernel)
set_option maxRecDepth 100000 in
theorem r_185_22 : ∀ (d : Nat) (ls : Lc) (st : List Value) (M : Mem) (Q : Outcome → Mem → Prop), Wp d 185 22 ls st M Q = Wp d 185 26 ls st M Q := fun d ls st M Q => w_goto (show ins 185 22 = some (.goto 4, 3) by decide +kernel) rfl
set_option maxRecDepth 100000 in
theorem r_185_25 : ∀ (d : Nat) (ls : Lc) (st : List Value) (M : Mem) (Q : Outcome → Mem → Prop), Wp d 185 25 ls st M Q = Wp d 185 26 ls (.int (I 0) :: st) M Q := fun d ls st M Q => w_iconst (show ins 185 25 = some (.iconst 0, 1) by decide +kernel)
set_option maxRecDepth 100000 in
theorem r_185_26 : ∀ (d : Nat) (ls : Lc) (z : Int) (M : Mem) (Q : Outcome → Mem → Prop), (z = 0 ∨ z = 1) → Wp d 185 26 ls [.int (I z)] M Q = Q (.returned (some (.int (I z)))) M := fun d ls z M Q h0 => w_zretI (show ins 185 26 = some (.ireturn, 1) by decide +kernel) (by decide +kernel) h0
set_option maxRecDepth 100000 in
theorem r_185_26_1 : ∀ (d : Nat) (ls : Lc) (b : Bool) (M : Mem) (Q : Outcome → Mem → Prop), Wp d 185 26 ls [.int (I (bI b))] M Q = Q (.returned (some (.int (I (bI b))))) M := fun d ls b M Q => w_zretB (show ins 185 26 = some (.ireturn, 1) by decide +kernel) (by decide +kernel)
set_option maxRecDepth 100000 in
theorem W_185 : (type_of% r_185_0) ∧ (type_of% r_185_1) ∧ (type_of% r_185_2) ∧ (type_of% r_185_5) ∧ (type_of% r_185_8) ∧ (type_of% r_185_9) ∧ (type_of% r_185_12) ∧ (type_of% r_185_14) ∧ (type_of% r_185_15) ∧ (type_of% r_185_16) ∧ (type_of% r_185_17) ∧ (type_of% r_185_18) ∧ (type_of% r_185_21) ∧ (type_of% r_185_22) ∧ (type_of% r_185_25) ∧ (type_of% r_185_26) ∧ (type_of% r_185_26_1) := ⟨r_185_0, r_185_1, r_185_2, r_185_5, r_185_8, r_185_9, r_185_12, r_185_14, r_185_15, r_185_16, r_185_17, r_185_18, r_185_21, r_185_22, r_185_25, r_185_26, r_185_26_1⟩
set_option maxRecDepth 100000 in
theorem ca_185 {d y pc : Nat} {ls : Lc} {a : Nat} {z0 : Int32} {r : List Value} {M : Mem} {Q : Outcome → Mem → Prop} (hd : 0 < d) (hw : Wp (d - 1) 185 0 [some (.ref a), some (.int z0)] [] M (Cq d y pc ls r Q)) : Ca d y pc ls 185 [.ref a, .int z0] r M Q := ca_of (mq_get (by decide)) (by rfl) hd hw
/-! 186 PackedTreeModel.unlink(II)I; loop heads [202] -/
set_option maxRecDepth 100000 in
theorem r_186_0 : ∀ (d : Nat) (l1 l2 l3 l4 l5 l6 : Option Value) (v : Nat) (st : List Value) (M : Mem) (Q : Outcome → Mem → Prop), Wp d 186 0 [some (.ref v), l1, l2, l3, l4, l5, l6] st M Q = Wp d 186 1 [some (.ref v), l1, l2, l3, l4, l5, l6] (.ref v :: st) M Q := fun d l1 l2 l3 l4 l5 l6 v st M Q => wA (show ins 186 0 = some (.aload_n 0, 1) by decide +kernel) rfl
set_option maxRecDepth 100000 in
theorem r_186_1 : ∀ (d : Nat) (ls : Lc) (a : Nat) (st : List Value) (M : Mem) (Q : Outcome → Mem → Prop), Wp d 186 1 ls (.ref a :: st) M Q = (fk 52 (kO M a) = true ∧ Wp d 186 4 ls (.int (mF M 52 a) :: st) M Q) := fun d ls a st M Q => w_getI (show ins 186 1 = some (.getfield 149, 3) by decide +kernel) (show fRes (mC 186) 149 = some (52, 8, false) by decide +kernel) (by decide +kernel)
set_option maxRecDepth 100000 in
theorem r_186_4 : ∀ (d : Nat) (ls : Lc) (a : Int32) (st : List Value) (M : Mem) (Q : Outcome → Mem → Prop), Wp d 186 4 ls (.int a :: st) M Q = Br (¬ a = I 0) d 186 15 7 ls st M Q := fun d ls a st M Q => w_if (show ins 186 4 = some (.ifCond .ne 11, 3) by decide +kernel) rfl rfl
set_option maxRecDepth 100000 in
theorem r_186_7 : ∀ (d : Nat) (l1 l2 l3 l4 l5 l6 : Option Value) (v : Nat) (st : List Value) (M : Mem) (Q : Outcome → Mem → Prop), Wp d 186 7 [some (.ref v), l1, l2, l3, l4, l5, l6] st M Q = Wp d 186 8 [some (.ref v), l1, l2, l3, l4, l5, l6] (.ref v :: st) M Q := fun d l1 l2 l3 l4 l5 l6 v st M Q => wA (show ins 186 7 = some (.aload_n 0, 1) by decide +kernel) rfl
set_option maxRecDepth 100000 in
theorem r_186_8 : ∀ (d : Nat) (l0 l2 l3 l4 l5 l6 : Option Value) (v : Int32) (st : List Value) (M : Mem) (Q : Outcome → Mem → Prop), Wp d 186 8 [l0, some (.int v), l2, l3, l4, l5, l6] st M Q = Wp d 186 9 [l0, some (.int v), l2, l3, l4, l5, l6] (.int v :: st) M Q := fun d l0 l2 l3 l4 l5 l6 v st M Q => wA (show ins 186 8 = some (.iload_n 1, 1) by decide +kernel) rfl
set_option maxRecDepth 100000 in
theorem r_186_9 : ∀ (d : Nat) (ls : Lc) (v0 : Value) (a : Nat) (st : List Value) (M : Mem) (Q : Outcome → Mem → Prop), (smallR st = true) → Wp d 186 9 ls (v0 :: .ref a :: st) M Q = (kO M a = 8 ∧ Ca d 186 9 ls 157 (.ref a :: [v0]) st M Q) := fun d ls v0 a st M Q h0 => w_virt1 (as := [v0]) (show ins 186 9 = some (.invokevirtual 152, 3) by decide +kernel) (show mRes (mC 186) 152 = some (3, 8, [(8, 157)]) by decide +kernel) (by decide +kernel) rfl (by decide +kernel) (by decide +kernel) h0
set_option maxRecDepth 100000 in
theorem r_186_12 : ∀ (d : Nat) (ls : Lc) (a : Int32) (st : List Value) (M : Mem) (Q : Outcome → Mem → Prop), Wp d 186 12 ls (.int a :: st) M Q = Br (¬ a = I 0) d 186 19 15 ls st M Q := fun d ls a st M Q => w_if (show ins 186 12 = some (.ifCond .ne 7, 3) by decide +kernel) rfl rfl
set_option maxRecDepth 100000 in
theorem r_186_15 : ∀ (d : Nat) (ls : Lc) (st : List Value) (M : Mem) (Q : Outcome → Mem → Prop), Wp d 186 15 ls st M Q = Wp d 186 16 ls (.int (I (-1)) :: st) M Q := fun d ls st M Q => w_iconst (show ins 186 15 = some (.iconst (-1), 1) by decide +kernel)
set_option maxRecDepth 100000 in
theorem r_186_16 : ∀ (d : Nat) (ls : Lc) (st : List Value) (M : Mem) (Q : Outcome → Mem → Prop), Wp d 186 16 ls st M Q = Wp d 186 25 ls st M Q := fun d ls st M Q => w_goto (show ins 186 16 = some (.goto 9, 3) by decide +kernel) rfl
set_option maxRecDepth 100000 in
theorem r_186_19 : ∀ (d : Nat) (l1 l2 l3 l4 l5 l6 : Option Value) (v : Nat) (st : List Value) (M : Mem) (Q : Outcome → Mem → Prop), Wp d 186 19 [some (.ref v), l1, l2, l3, l4, l5, l6] st M Q = Wp d 186 20 [some (.ref v), l1, l2, l3, l4, l5, l6] (.ref v :: st) M Q := fun d l1 l2 l3 l4 l5 l6 v st M Q => wA (show ins 186 19 = some (.aload_n 0, 1) by decide +kernel) rfl
set_option maxRecDepth 100000 in
theorem r_186_20 : ∀ (d : Nat) (l0 l2 l3 l4 l5 l6 : Option Value) (v : Int32) (st : List Value) (M : Mem) (Q : Outcome → Mem → Prop), Wp d 186 20 [l0, some (.int v), l2, l3, l4, l5, l6] st M Q = Wp d 186 21 [l0, some (.int v), l2, l3, l4, l5, l6] (.int v :: st) M Q := fun d l0 l2 l3 l4 l5 l6 v st M Q => wA (show ins 186 20 = some (.iload_n 1, 1) by decide +kernel) rfl
set_option maxRecDepth 100000 in
theorem r_186_21 : ∀ (d : Nat) (l0 l1 l3 l4 l5 l6 : Option Value) (v : Int32) (st : List Value) (M : Mem) (Q : Outcome → Mem → Prop), Wp d 186 21 [l0, l1, some (.int v), l3, l4, l5, l6] st M Q = Wp d 186 22 [l0, l1, some (.int v), l3, l4, l5, l6] (.int v :: st) M Q := fun d l0 l1 l3 l4 l5 l6 v st M Q => wA (show ins 186 21 = some (.iload_n 2, 1) by decide +kernel) rfl
set_option maxRecDepth 100000 in
theorem r_186_22 : ∀ (d : Nat) (ls : Lc) (v0 v1 : Value) (a : Nat) (st : List Value) (M : Mem) (Q : Outcome → Mem → Prop), (smallR st = true) → Wp d 186 22 ls (v1 :: v0 :: .ref a :: st) M Q = (kO M a = 8 ∧ Ca d 186 22 ls 161 (.ref a :: [v0, v1]) st M Q) := fun d ls v0 v1 a st M Q h0 => w_virt1 (as := [v0, v1]) (show ins 186 22 = some (.invokevirtual 158, 3) by decide +kernel) (show mRes (mC 186) 158 = some (3, 8, [(8, 161)]) by decide +kernel) (by decide +kernel) rfl (by decide +kernel) (by decide +kernel) h0
set_option maxRecDepth 100000 in
theorem r_186_25 : ∀ (d : Nat) (l0 l1 l2 l3 l4 l5 l6 : Option Value) (v : Int32) (st : List Value) (M : Mem) (Q : Outcome → Mem → Prop), (lo l2 = false) → Wp d 186 25 [l0, l1, l2, l3, l4, l5, l6] (.int v :: st) M Q = Wp d 186 26 [l0, l1, l2, some (.int v), l4, l5, l6] st M Q := fun d l0 l1 l2 l3 l4 l5 l6 v st M Q hl => w_istore_n (show ins 186 25 = some (.istore_n 3, 1) by decide +kernel) (st1_S rfl rfl hl)
set_option maxRecDepth 100000 in
theorem r_186_26 : ∀ (d : Nat) (l1 l2 l3 l4 l5 l6 : Option Value) (v : Nat) (st : List Value) (M : Mem) (Q : Outcome → Mem → Prop), Wp d 186 26 [some (.ref v), l1, l2, l3, l4, l5, l6] st M Q = Wp d 186 27 [some (.ref v), l1, l2, l3, l4, l5, l6] (.ref v :: st) M Q := fun d l1 l2 l3 l4 l5 l6 v st M Q => wA (show ins 186 26 = some (.aload_n 0, 1) by decide +kernel) rfl
set_option maxRecDepth 100000 in
theorem r_186_27 : ∀ (d : Nat) (l1 l2 l3 l4 l5 l6 : Option Value) (v : Nat) (st : List Value) (M : Mem) (Q : Outcome → Mem → Prop), Wp d 186 27 [some (.ref v), l1, l2, l3, l4, l5, l6] st M Q = Wp d 186 28 [some (.ref v), l1, l2, l3, l4, l5, l6] (.ref v :: st) M Q := fun d l1 l2 l3 l4 l5 l6 v st M Q => wA (show ins 186 27 = some (.aload_n 0, 1) by decide +kernel) rfl
set_option maxRecDepth 100000 in
theorem r_186_28 : ∀ (d : Nat) (ls : Lc) (a : Nat) (st : List Value) (M : Mem) (Q : Outcome → Mem → Prop), Wp d 186 28 ls (.ref a :: st) M Q = (fk 52 (kO M a) = true ∧ Wp d 186 31 ls (.int (mF M 52 a) :: st) M Q) := fun d ls a st M Q => w_getI (show ins 186 28 = some (.getfield 149, 3) by decide +kernel) (show fRes (mC 186) 149 = some (52, 8, false) by decide +kernel) (by decide +kernel)
set_option maxRecDepth 100000 in
theorem r_186_31 : ∀ (d : Nat) (ls : Lc) (a : Int32) (st : List Value) (M : Mem) (Q : Outcome → Mem → Prop), Wp d 186 31 ls (.int a :: st) M Q = Br (a = I 0) d 186 38 34 ls st M Q := fun d ls a st M Q => w_if (show ins 186 31 = some (.ifCond .eq 7, 3) by decide +kernel) rfl rfl
set_option maxRecDepth 100000 in
theorem r_186_34 : ∀ (d : Nat) (ls : Lc) (st : List Value) (M : Mem) (Q : Outcome → Mem → Prop), Wp d 186 34 ls st M Q = Wp d 186 35 ls (.int (I 1) :: st) M Q := fun d ls st M Q => w_iconst (show ins 186 34 = some (.iconst 1, 1) by decide +kernel)
set_option maxRecDepth 100000 in
theorem r_186_35 : ∀ (d : Nat) (ls : Lc) (st : List Value) (M : Mem) (Q : Outcome → Mem → Prop), Wp d 186 35 ls st M Q = Wp d 186 77 ls st M Q := fun d ls st M Q => w_goto (show ins 186 35 = some (.goto 42, 3) by decide +kernel) rfl
set_option maxRecDepth 100000 in
theorem r_186_38 : ∀ (d : Nat) (l0 l1 l2 l4 l5 l6 : Option Value) (v : Int32) (st : List Value) (M : Mem) (Q : Outcome → Mem → Prop), Wp d 186 38 [l0, l1, l2, some (.int v), l4, l5, l6] st M Q = Wp d 186 39 [l0, l1, l2, some (.int v), l4, l5, l6] (.int v :: st) M Q := fun d l0 l1 l2 l4 l5 l6 v st M Q => wA (show ins 186 38 = some (.iload_n 3, 1) by decide +kernel) rfl
set_option maxRecDepth 100000 in
theorem r_186_39 : ∀ (d : Nat) (ls : Lc) (a : Int32) (st : List Value) (M : Mem) (Q : Outcome → Mem → Prop), Wp d 186 39 ls (.int a :: st) M Q = Br (I 0 ≤ a) d 186 46 42 ls st M Q := fun d ls a st M Q => w_if (show ins 186 39 = some (.ifCond .ge 7, 3) by decide +kernel) rfl rfl
set_option maxRecDepth 100000 in
theorem r_186_42 : ∀ (d : Nat) (ls : Lc) (st : List Value) (M : Mem) (Q : Outcome → Mem → Prop), Wp d 186 42 ls st M Q = Wp d 186 43 ls (.int (I 2) :: st) M Q := fun d ls st M Q => w_iconst (show ins 186 42 = some (.iconst 2, 1) by decide +kernel)
set_option maxRecDepth 100000 in
theorem r_186_43 : ∀ (d : Nat) (ls : Lc) (st : List Value) (M : Mem) (Q : Outcome → Mem → Prop), Wp d 186 43 ls st M Q = Wp d 186 77 ls st M Q := fun d ls st M Q => w_goto (show ins 186 43 = some (.goto 34, 3) by decide +kernel) rfl
set_option maxRecDepth 100000 in
theorem r_186_46 : ∀ (d : Nat) (l1 l2 l3 l4 l5 l6 : Option Value) (v : Nat) (st : List Value) (M : Mem) (Q : Outcome → Mem → Prop), Wp d 186 46 [some (.ref v), l1, l2, l3, l4, l5, l6] st M Q = Wp d 186 47 [some (.ref v), l1, l2, l3, l4, l5, l6] (.ref v :: st) M Q := fun d l1 l2 l3 l4 l5 l6 v st M Q => wA (show ins 186 46 = some (.aload_n 0, 1) by decide +kernel) rfl
set_option maxRecDepth 100000 in
theorem r_186_47 : ∀ (d : Nat) (ls : Lc) (a : Nat) (st : List Value) (M : Mem) (Q : Outcome → Mem → Prop), Wp d 186 47 ls (.ref a :: st) M Q = (fk 53 (kO M a) = true ∧ Wp d 186 50 ls (va_rf (mR M 53 a) :: st) M Q) := fun d ls a st M Q => w_getR (show ins 186 47 = some (.getfield 7, 3) by decide +kernel) (show fRes (mC 186) 7 = some (53, 8, false) by decide +kernel) (by decide +kernel)
set_option maxRecDepth 100000 in
theorem r_186_50 : ∀ (d : Nat) (ls : Lc) (st : List Value) (M : Mem) (Q : Outcome → Mem → Prop), Wp d 186 50 ls st M Q = Wp d 186 52 ls (.int (I 96) :: st) M Q := fun d ls st M Q => w_bipush (show ins 186 50 = some (.bipush 96, 2) by decide +kernel) (by decide)
set_option maxRecDepth 100000 in
theorem r_186_52 : ∀ (d : Nat) (l0 l1 l2 l4 l5 l6 : Option Value) (v : Int32) (st : List Value) (M : Mem) (Q : Outcome → Mem → Prop), Wp d 186 52 [l0, l1, l2, some (.int v), l4, l5, l6] st M Q = Wp d 186 53 [l0, l1, l2, some (.int v), l4, l5, l6] (.int v :: st) M Q := fun d l0 l1 l2 l4 l5 l6 v st M Q => wA (show ins 186 52 = some (.iload_n 3, 1) by decide +kernel) rfl
set_option maxRecDepth 100000 in
theorem r_186_53 : ∀ (d : Nat) (ls : Lc) (a b : Int) (st : List Value) (M : Mem) (Q : Outcome → Mem → Prop), Wp d 186 53 ls (.int (I b) :: .int (I a) :: st) M Q = Wp d 186 54 ls (.int (I (a + b)) :: st) M Q := fun d ls a b st M Q => w_iadd (show ins 186 53 = some (.iadd, 1) by decide +kernel)
set_option maxRecDepth 100000 in
theorem r_186_54 : ∀ (d : Nat) (ls : Lc) (a : Nat) (j : Int32) (st : List Value) (M : Mem) (Q : Outcome → Mem → Prop), Wp d 186 54 ls (.int j :: .ref a :: st) M Q = ((((kX M a).1 = 0 ∨ (kX M a).1 = 8) ∧ inB j (kX M a).2 = true) ∧ Wp d 186 55 ls (.int (mA M a j.toNatClampNeg) :: st) M Q) := fun d ls a j st M Q => w_iaload (show ins 186 54 = some (.iaload, 1) by decide +kernel)
set_option maxRecDepth 100000 in
theorem r_186_55 : ∀ (d : Nat) (ls : Lc) (st : List Value) (M : Mem) (Q : Outcome → Mem → Prop), Wp d 186 55 ls st M Q = Wp d 186 56 ls (.int (I 1) :: st) M Q := fun d ls st M Q => w_iconst (show ins 186 55 = some (.iconst 1, 1) by decide +kernel)
set_option maxRecDepth 100000 in
theorem r_186_56 : ∀ (d : Nat) (ls : Lc) (a b : Int32) (st : List Value) (M : Mem) (Q : Outcome → Mem → Prop), Wp d 186 56 ls (.int b :: .int a :: st) M Q = Br (¬ a = b) d 186 76 59 ls st M Q := fun d ls a b st M Q => w_icmp (show ins 186 56 = some (.if_icmp .ne 20, 3) by decide +kernel) rfl rfl
set_option maxRecDepth 100000 in
theorem r_186_59 : ∀ (d : Nat) (l1 l2 l3 l4 l5 l6 : Option Value) (v : Nat) (st : List Value) (M : Mem) (Q : Outcome → Mem → Prop), Wp d 186 59 [some (.ref v), l1, l2, l3, l4, l5, l6] st M Q = Wp d 186 60 [some (.ref v), l1, l2, l3, l4, l5, l6] (.ref v :: st) M Q := fun d l1 l2 l3 l4 l5 l6 v st M Q => wA (show ins 186 59 = some (.aload_n 0, 1) by decide +kernel) rfl
set_option maxRecDepth 100000 in
theorem r_186_60 : ∀ (d : Nat) (ls : Lc) (a : Nat) (st : List Value) (M : Mem) (Q : Outcome → Mem → Prop), Wp d 186 60 ls (.ref a :: st) M Q = (fk 53 (kO M a) = true ∧ Wp d 186 63 ls (va_rf (mR M 53 a) :: st) M Q) := fun d ls a st M Q => w_getR (show ins 186 60 = some (.getfield 7, 3) by decide +kernel) (show fRes (mC 186) 7 = some (53, 8, false) by decide +kernel) (by decide +kernel)
set_option maxRecDepth 100000 in
theorem r_186_63 : ∀ (d : Nat) (ls : Lc) (st : List Value) (M : Mem) (Q : Outcome → Mem → Prop), Wp d 186 63 ls st M Q = Wp d 186 66 ls (.int (I 218) :: st) M Q := fun d ls st M Q => w_sipush (show ins 186 63 = some (.sipush 218, 3) by decide +kernel) (by decide)
set_option maxRecDepth 100000 in
theorem r_186_66 : ∀ (d : Nat) (l0 l1 l2 l4 l5 l6 : Option Value) (v : Int32) (st : List Value) (M : Mem) (Q : Outcome → Mem → Prop), Wp d 186 66 [l0, l1, l2, some (.int v), l4, l5, l6] st M Q = Wp d 186 67 [l0, l1, l2, some (.int v), l4, l5, l6] (.int v :: st) M Q := fun d l0 l1 l2 l4 l5 l6 v st M Q => wA (show ins 186 66 = some (.iload_n 3, 1) by decide +kernel) rfl
set_option maxRecDepth 100000 in
theorem r_186_67 : ∀ (d : Nat) (ls : Lc) (a b : Int) (st : List Value) (M : Mem) (Q : Outcome → Mem → Prop), Wp d 186 67 ls (.int (I b) :: .int (I a) :: st) M Q = Wp d 186 68 ls (.int (I (a + b)) :: st) M Q := fun d ls a b st M Q => w_iadd (show ins 186 67 = some (.iadd, 1) by decide +kernel)
set_option maxRecDepth 100000 in
theorem r_186_68 : ∀ (d : Nat) (ls : Lc) (a : Nat) (j : Int32) (st : List Value) (M : Mem) (Q : Outcome → Mem → Prop), Wp d 186 68 ls (.int j :: .ref a :: st) M Q = ((((kX M a).1 = 0 ∨ (kX M a).1 = 8) ∧ inB j (kX M a).2 = true) ∧ Wp d 186 69 ls (.int (mA M a j.toNatClampNeg) :: st) M Q) := fun d ls a j st M Q => w_iaload (show ins 186 68 = some (.iaload, 1) by decide +kernel)
set_option maxRecDepth 100000 in
theorem r_186_69 : ∀ (d : Nat) (ls : Lc) (a : Int32) (st : List Value) (M : Mem) (Q : Outcome → Mem → Prop), Wp d 186 69 ls (.int a :: st) M Q = Br (a ≤ I 0) d 186 76 72 ls st M Q := fun d ls a st M Q => w_if (show ins 186 69 = some (.ifCond .le 7, 3) by decide +kernel) rfl rfl
set_option maxRecDepth 100000 in
theorem r_186_72 : ∀ (d : Nat) (ls : Lc) (st : List Value) (M : Mem) (Q : Outcome → Mem → Prop), Wp d 186 72 ls st M Q = Wp d 186 73 ls (.int (I 3) :: st) M Q := fun d ls st M Q => w_iconst (show ins 186 72 = some (.iconst 3, 1) by decide +kernel)
set_option maxRecDepth 100000 in
theorem r_186_73 : ∀ (d : Nat) (ls : Lc) (st : List Value) (M : Mem) (Q : Outcome → Mem → Prop), Wp d 186 73 ls st M Q = Wp d 186 77 ls st M Q := fun d ls st M Q => w_goto (show ins 186 73 = some (.goto 4, 3) by decide +kernel) rfl
set_option maxRecDepth 100000 in
theorem r_186_76 : ∀ (d : Nat) (ls : Lc) (st : List Value) (M : Mem) (Q : Outcome → Mem → Prop), Wp d 186 76 ls st M Q = Wp d 186 77 ls (.int (I 0) :: st) M Q := fun d ls st M Q => w_iconst (show ins 186 76 = some (.iconst 0, 1) by decide +kernel)
set_option maxRecDepth 100000 in
theorem r_186_77 : ∀ (d : Nat) (ls : Lc) (a : Nat) (v : Int32) (st : List Value) (M : Mem) (Q : Outcome → Mem → Prop), Wp d 186 77 ls (.int v :: .ref a :: st) M Q = (fk 54 (kO M a) = true ∧ Wp d 186 80 ls st (sF M 54 a v) Q) := fun d ls a v st M Q => w_putI (show ins 186 77 = some (.putfield 40, 3) by decide +kernel) (show fRes (mC 186) 40 = some (54, 8, false) by decide +kernel) (by decide +kernel) (by decide +kernel)
set_option maxRecDepth 100000 in
theorem r_186_80 : ∀ (d : Nat) (l1 l2 l3 l4 l5 l6 : Option Value) (v : Nat) (st : List Value) (M : Mem) (Q : Outcome → Mem → Prop), Wp d 186 80 [some (.ref v), l1, l2, l3, l4, l5, l6] st M Q = Wp d 186 81 [some (.ref v), l1, l2, l3, l4, l5, l6] (.ref v :: st) M Q := fun d l1 l2 l3 l4 l5 l6 v st M Q => wA (show ins 186 80 = some (.aload_n 0, 1) by decide +kernel) rfl
set_option maxRecDepth 100000 in
theorem r_186_81 : ∀ (d : Nat) (ls : Lc) (a : Nat) (st : List Value) (M : Mem) (Q : Outcome → Mem → Prop), Wp d 186 81 ls (.ref a :: st) M Q = (fk 54 (kO M a) = true ∧ Wp d 186 84 ls (.int (mF M 54 a) :: st) M Q) := fun d ls a st M Q => w_getI (show ins 186 81 = some (.getfield 40, 3) by decide +kernel) (show fRes (mC 186) 40 = some (54, 8, false) by decide +kernel) (by decide +kernel)
set_option maxRecDepth 100000 in
theorem r_186_84 : ∀ (d : Nat) (ls : Lc) (a : Int32) (st : List Value) (M : Mem) (Q : Outcome → Mem → Prop), Wp d 186 84 ls (.int a :: st) M Q = Br (a ≤ I 0) d 186 89 87 ls st M Q := fun d ls a st M Q => w_if (show ins 186 84 = some (.ifCond .le 5, 3) by decide +kernel) rfl rfl
set_option maxRecDepth 100000 in
theorem r_186_87 : ∀ (d : Nat) (ls : Lc) (st : List Value) (M : Mem) (Q : Outcome → Mem → Prop), Wp d 186 87 ls st M Q = Wp d 186 88 ls (.int (I 0) :: st) M Q := fun d ls st M Q => w_iconst (show ins 186 87 = some (.iconst 0, 1) by decide +kernel)
set_option maxRecDepth 100000 in
theorem r_186_88 : ∀ (d : Nat) (ls : Lc) (v : Int32) (M : Mem) (Q : Outcome → Mem → Prop), Wp d 186 88 ls [.int v] M Q = Q (.returned (some (.int v))) M := fun d ls v M Q => w_ireturn (show ins 186 88 = some (.ireturn, 1) by decide +kernel) (by decide +kernel)
set_option maxRecDepth 100000 in
theorem r_186_89 : ∀ (d : Nat) (l1 l2 l3 l4 l5 l6 : Option Value) (v : Nat) (st : List Value) (M : Mem) (Q : Outcome → Mem → Prop), Wp d 186 89 [some (.ref v), l1, l2, l3, l4, l5, l6] st M Q = Wp d 186 90 [some (.ref v), l1, l2, l3, l4, l5, l6] (.ref v :: st) M Q := fun d l1 l2 l3 l4 l5 l6 v st M Q => wA (show ins 186 89 = some (.aload_n 0, 1) by decide +kernel) rfl
set_option maxRecDepth 100000 in
theorem r_186_90 : ∀ (d : Nat) (ls : Lc) (a : Nat) (st : List Value) (M : Mem) (Q : Outcome → Mem → Prop), (smallR st = true) → Wp d 186 90 ls (.ref a :: st) M Q = (kO M a = 8 ∧ Ca d 186 90 ls 166 (.ref a :: []) st M Q) := fun d ls a st M Q h0 => w_virt1 (as := []) (show ins 186 90 = some (.invokevirtual 164, 3) by decide +kernel) (show mRes (mC 186) 164 = some (3, 8, [(8, 166)]) by decide +kernel) (by decide +kernel) rfl (by decide +kernel) (by decide +kernel) h0
set_option maxRecDepth 100000 in
theorem r_186_93 : ∀ (d : Nat) (l1 l2 l3 l4 l5 l6 : Option Value) (v : Nat) (st : List Value) (M : Mem) (Q : Outcome → Mem → Prop), Wp d 186 93 [some (.ref v), l1, l2, l3, l4, l5, l6] st M Q = Wp d 186 94 [some (.ref v), l1, l2, l3, l4, l5, l6] (.ref v :: st) M Q := fun d l1 l2 l3 l4 l5 l6 v st M Q => wA (show ins 186 93 = some (.aload_n 0, 1) by decide +kernel) rfl
set_option maxRecDepth 100000 in
theorem r_186_94 : ∀ (d : Nat) (l0 l2 l3 l4 l5 l6 : Option Value) (v : Int32) (st : List Value) (M : Mem) (Q : Outcome → Mem → Prop), Wp d 186 94 [l0, some (.int v), l2, l3, l4, l5, l6] st M Q = Wp d 186 95 [l0, some (.int v), l2, l3, l4, l5, l6] (.int v :: st) M Q := fun d l0 l2 l3 l4 l5 l6 v st M Q => wA (show ins 186 94 = some (.iload_n 1, 1) by decide +kernel) rfl
set_option maxRecDepth 100000 in
theorem r_186_95 : ∀ (d : Nat) (ls : Lc) (st : List Value) (M : Mem) (Q : Outcome → Mem → Prop), Wp d 186 95 ls st M Q = Wp d 186 96 ls (.int (I 1) :: st) M Q := fun d ls st M Q => w_iconst (show ins 186 95 = some (.iconst 1, 1) by decide +kernel)
set_option maxRecDepth 100000 in
theorem r_186_96 : ∀ (d : Nat) (l0 l1 l3 l4 l5 l6 : Option Value) (v : Int32) (st : List Value) (M : Mem) (Q : Outcome → Mem → Prop), Wp d 186 96 [l0, l1, some (.int v), l3, l4, l5, l6] st M Q = Wp d 186 97 [l0, l1, some (.int v), l3, l4, l5, l6] (.int v :: st) M Q := fun d l0 l1 l3 l4 l5 l6 v st M Q => wA (show ins 186 96 = some (.iload_n 2, 1) by decide +kernel) rfl
set_option maxRecDepth 100000 in
theorem r_186_97 : ∀ (d : Nat) (ls : Lc) (v0 v1 v2 : Value) (a : Nat) (st : List Value) (M : Mem) (Q : Outcome → Mem → Prop), (smallR st = true) → Wp d 186 97 ls (v2 :: v1 :: v0 :: .ref a :: st) M Q = (kO M a = 8 ∧ Ca d 186 97 ls 187 (.ref a :: [v0, v1, v2]) st M Q) := fun d ls v0 v1 v2 a st M Q h0 => w_virt1 (as := [v0, v1, v2]) (show ins 186 97 = some (.invokevirtual 134, 3) by decide +kernel) (show mRes (mC 186) 134 = some (3, 8, [(8, 187)]) by decide +kernel) (by decide +kernel) rfl (by decide +kernel) (by decide +kernel) h0
set_option maxRecDepth 100000 in
theorem r_186_100 : ∀ (d : Nat) (l1 l2 l3 l4 l5 l6 : Option Value) (v : Nat) (st : List Value) (M : Mem) (Q : Outcome → Mem → Prop), Wp d 186 100 [some (.ref v), l1, l2, l3, l4, l5, l6] st M Q = Wp d 186 101 [some (.ref v), l1, l2, l3, l4, l5, l6] (.ref v :: st) M Q := fun d l1 l2 l3 l4 l5 l6 v st M Q => wA (show ins 186 100 = some (.aload_n 0, 1) by decide +kernel) rfl
set_option maxRecDepth 100000 in
theorem r_186_101 : ∀ (d : Nat) (ls : Lc) (a : Nat) (st : List Value) (M : Mem) (Q : Outcome → Mem → Prop), Wp d 186 101 ls (.ref a :: st) M Q = (fk 53 (kO M a) = true ∧ Wp d 186 104 ls (va_rf (mR M 53 a) :: st) M Q) := fun d ls a st M Q => w_getR (show ins 186 101 = some (.getfield 7, 3) by decide +kernel) (show fRes (mC 186) 7 = some (53, 8, false) by decide +kernel) (by decide +kernel)
set_option maxRecDepth 100000 in
theorem r_186_104 : ∀ (d : Nat) (ls : Lc) (st : List Value) (M : Mem) (Q : Outcome → Mem → Prop), Wp d 186 104 ls st M Q = Wp d 186 107 ls (.int (I 218) :: st) M Q := fun d ls st M Q => w_sipush (show ins 186 104 = some (.sipush 218, 3) by decide +kernel) (by decide)
set_option maxRecDepth 100000 in
theorem r_186_107 : ∀ (d : Nat) (l0 l2 l3 l4 l5 l6 : Option Value) (v : Int32) (st : List Value) (M : Mem) (Q : Outcome → Mem → Prop), Wp d 186 107 [l0, some (.int v), l2, l3, l4, l5, l6] st M Q = Wp d 186 108 [l0, some (.int v), l2, l3, l4, l5, l6] (.int v :: st) M Q := fun d l0 l2 l3 l4 l5 l6 v st M Q => wA (show ins 186 107 = some (.iload_n 1, 1) by decide +kernel) rfl
set_option maxRecDepth 100000 in
theorem r_186_108 : ∀ (d : Nat) (ls : Lc) (a b : Int) (st : List Value) (M : Mem) (Q : Outcome → Mem → Prop), Wp d 186 108 ls (.int (I b) :: .int (I a) :: st) M Q = Wp d 186 109 ls (.int (I (a + b)) :: st) M Q := fun d ls a b st M Q => w_iadd (show ins 186 108 = some (.iadd, 1) by decide +kernel)
set_option maxRecDepth 100000 in
theorem r_186_109 : ∀ (d : Nat) (ls : Lc) (v : Int32) (a : Nat) (st : List Value) (M : Mem) (Q : Outcome → Mem → Prop), Wp d 186 109 ls (.int v :: .ref a :: st) M Q = Wp d 186 110 ls (.int v :: .ref a :: .int v :: .ref a :: st) M Q := fun d ls v a st M Q => wA (show ins 186 109 = some (.dup2, 1) by decide +kernel) rfl
set_option maxRecDepth 100000 in
theorem r_186_110 : ∀ (d : Nat) (ls : Lc) (a : Nat) (j : Int32) (st : List Value) (M : Mem) (Q : Outcome → Mem → Prop), Wp d 186 110 ls (.int j :: .ref a :: st) M Q = ((((kX M a).1 = 0 ∨ (kX M a).1 = 8) ∧ inB j (kX M a).2 = true) ∧ Wp d 186 111 ls (.int (mA M a j.toNatClampNeg) :: st) M Q) := fun d ls a j st M Q => w_iaload (show ins 186 110 = some (.iaload, 1) by decide +kernel)
set_option maxRecDepth 100000 in
theorem r_186_111 : ∀ (d : Nat) (ls : Lc) (st : List Value) (M : Mem) (Q : Outcome → Mem → Prop), Wp d 186 111 ls st M Q = Wp d 186 112 ls (.int (I 1) :: st) M Q := fun d ls st M Q => w_iconst (show ins 186 111 = some (.iconst 1, 1) by decide +kernel)
set_option maxRecDepth 100000 in
theorem r_186_112 : ∀ (d : Nat) (ls : Lc) (a b : Int) (st : List Value) (M : Mem) (Q : Outcome → Mem → Prop), Wp d 186 112 ls (.int (I b) :: .int (I a) :: st) M Q = Wp d 186 113 ls (.int (I (a - b)) :: st) M Q := fun d ls a b st M Q => w_isub (show ins 186 112 = some (.isub, 1) by decide +kernel)
set_option maxRecDepth 100000 in
theorem r_186_113 : ∀ (d : Nat) (ls : Lc) (a : Nat) (j v : Int32) (st : List Value) (M : Mem) (Q : Outcome → Mem → Prop), Wp d 186 113 ls (.int v :: .int j :: .ref a :: st) M Q = (((kX M a).1 = 0 ∧ inB j (kX M a).2 = true) ∧ Wp d 186 114 ls st (sA M a j.toNatClampNeg v) Q) := fun d ls a j v st M Q => w_iastore (show ins 186 113 = some (.iastore, 1) by decide +kernel)
set_option maxRecDepth 100000 in
theorem r_186_114 : ∀ (d : Nat) (l1 l2 l3 l4 l5 l6 : Option Value) (v : Nat) (st : List Value) (M : Mem) (Q : Outcome → Mem → Prop), Wp d 186 114 [some (.ref v), l1, l2, l3, l4, l5, l6] st M Q = Wp d 186 115 [some (.ref v), l1, l2, l3, l4, l5, l6] (.ref v :: st) M Q := fun d l1 l2 l3 l4 l5 l6 v st M Q => wA (show ins 186 114 = some (.aload_n 0, 1) by decide +kernel) rfl
set_option maxRecDepth 100000 in
theorem r_186_115 : ∀ (d : Nat) (ls : Lc) (a : Nat) (st : List Value) (M : Mem) (Q : Outcome → Mem → Prop), Wp d 186 115 ls (.ref a :: st) M Q = (fk 53 (kO M a) = true ∧ Wp d 186 118 ls (va_rf (mR M 53 a) :: st) M Q) := fun d ls a st M Q => w_getR (show ins 186 115 = some (.getfield 7, 3) by decide +kernel) (show fRes (mC 186) 7 = some (53, 8, false) by decide +kernel) (by decide +kernel)
set_option maxRecDepth 100000 in
theorem r_186_118 : ∀ (d : Nat) (ls : Lc) (st : List Value) (M : Mem) (Q : Outcome → Mem → Prop), Wp d 186 118 ls st M Q = Wp d 186 121 ls (.int (I 157) :: st) M Q := fun d ls st M Q => w_sipush (show ins 186 118 = some (.sipush 157, 3) by decide +kernel) (by decide)
set_option maxRecDepth 100000 in
theorem r_186_121 : ∀ (d : Nat) (l0 l1 l2 l4 l5 l6 : Option Value) (v : Int32) (st : List Value) (M : Mem) (Q : Outcome → Mem → Prop), Wp d 186 121 [l0, l1, l2, some (.int v), l4, l5, l6] st M Q = Wp d 186 122 [l0, l1, l2, some (.int v), l4, l5, l6] (.int v :: st) M Q := fun d l0 l1 l2 l4 l5 l6 v st M Q => wA (show ins 186 121 = some (.iload_n 3, 1) by decide +kernel) rfl
set_option maxRecDepth 100000 in
theorem r_186_122 : ∀ (d : Nat) (ls : Lc) (a b : Int) (st : List Value) (M : Mem) (Q : Outcome → Mem → Prop), Wp d 186 122 ls (.int (I b) :: .int (I a) :: st) M Q = Wp d 186 123 ls (.int (I (a + b)) :: st) M Q := fun d ls a b st M Q => w_iadd (show ins 186 122 = some (.iadd, 1) by decide +kernel)
set_option maxRecDepth 100000 in
theorem r_186_123 : ∀ (d : Nat) (ls : Lc) (v : Int32) (a : Nat) (st : List Value) (M : Mem) (Q : Outcome → Mem → Prop), Wp d 186 123 ls (.int v :: .ref a :: st) M Q = Wp d 186 124 ls (.int v :: .ref a :: .int v :: .ref a :: st) M Q := fun d ls v a st M Q => wA (show ins 186 123 = some (.dup2, 1) by decide +kernel) rfl
set_option maxRecDepth 100000 in
theorem r_186_124 : ∀ (d : Nat) (ls : Lc) (a : Nat) (j : Int32) (st : List Value) (M : Mem) (Q : Outcome → Mem → Prop), Wp d 186 124 ls (.int j :: .ref a :: st) M Q = ((((kX M a).1 = 0 ∨ (kX M a).1 = 8) ∧ inB j (kX M a).2 = true) ∧ Wp d 186 125 ls (.int (mA M a j.toNatClampNeg) :: st) M Q) := fun d ls a j st M Q => w_iaload (show ins 186 124 = some (.iaload, 1) by decide +kernel)
set_option maxRecDepth 100000 in
theorem r_186_125 : ∀ (d : Nat) (ls : Lc) (st : List Value) (M : Mem) (Q : Outcome → Mem → Prop), Wp d 186 125 ls st M Q = Wp d 186 126 ls (.int (I 1) :: st) M Q := fun d ls st M Q => w_iconst (show ins 186 125 = some (.iconst 1, 1) by decide +kernel)
set_option maxRecDepth 100000 in
theorem r_186_126 : ∀ (d : Nat) (ls : Lc) (a b : Int) (st : List Value) (M : Mem) (Q : Outcome → Mem → Prop), Wp d 186 126 ls (.int (I b) :: .int (I a) :: st) M Q = Wp d 186 127 ls (.int (I (a - b)) :: st) M Q := fun d ls a b st M Q => w_isub (show ins 186 126 = some (.isub, 1) by decide +kernel)
set_option maxRecDepth 100000 in
theorem r_186_127 : ∀ (d : Nat) (ls : Lc) (a : Nat) (j v : Int32) (st : List Value) (M : Mem) (Q : Outcome → Mem → Prop), Wp d 186 127 ls (.int v :: .int j :: .ref a :: st) M Q = (((kX M a).1 = 0 ∧ inB j (kX M a).2 = true) ∧ Wp d 186 128 ls st (sA M a j.toNatClampNeg v) Q) := fun d ls a j v st M Q => w_iastore (show ins 186 127 = some (.iastore, 1) by decide +kernel)
set_option maxRecDepth 100000 in
theorem r_186_128 : ∀ (d : Nat) (l1 l2 l3 l4 l5 l6 : Option Value) (v : Nat) (st : List Value) (M : Mem) (Q : Outcome → Mem → Prop), Wp d 186 128 [some (.ref v), l1, l2, l3, l4, l5, l6] st M Q = Wp d 186 129 [some (.ref v), l1, l2, l3, l4, l5, l6] (.ref v :: st) M Q := fun d l1 l2 l3 l4 l5 l6 v st M Q => wA (show ins 186 128 = some (.aload_n 0, 1) by decide +kernel) rfl
set_option maxRecDepth 100000 in
theorem r_186_129 : ∀ (d : Nat) (ls : Lc) (a : Nat) (st : List Value) (M : Mem) (Q : Outcome → Mem → Prop), Wp d 186 129 ls (.ref a :: st) M Q = (fk 53 (kO M a) = true ∧ Wp d 186 132 ls (va_rf (mR M 53 a) :: st) M Q) := fun d ls a st M Q => w_getR (show ins 186 129 = some (.getfield 7, 3) by decide +kernel) (show fRes (mC 186) 7 = some (53, 8, false) by decide +kernel) (by decide +kernel)
set_option maxRecDepth 100000 in
theorem r_186_132 : ∀ (d : Nat) (ls : Lc) (st : List Value) (M : Mem) (Q : Outcome → Mem → Prop), Wp d 186 132 ls st M Q = Wp d 186 135 ls (.int (I 157) :: st) M Q := fun d ls st M Q => w_sipush (show ins 186 132 = some (.sipush 157, 3) by decide +kernel) (by decide)
set_option maxRecDepth 100000 in
theorem r_186_135 : ∀ (d : Nat) (l0 l1 l2 l4 l5 l6 : Option Value) (v : Int32) (st : List Value) (M : Mem) (Q : Outcome → Mem → Prop), Wp d 186 135 [l0, l1, l2, some (.int v), l4, l5, l6] st M Q = Wp d 186 136 [l0, l1, l2, some (.int v), l4, l5, l6] (.int v :: st) M Q := fun d l0 l1 l2 l4 l5 l6 v st M Q => wA (show ins 186 135 = some (.iload_n 3, 1) by decide +kernel) rfl
set_option maxRecDepth 100000 in
theorem r_186_136 : ∀ (d : Nat) (ls : Lc) (a b : Int) (st : List Value) (M : Mem) (Q : Outcome → Mem → Prop), Wp d 186 136 ls (.int (I b) :: .int (I a) :: st) M Q = Wp d 186 137 ls (.int (I (a + b)) :: st) M Q := fun d ls a b st M Q => w_iadd (show ins 186 136 = some (.iadd, 1) by decide +kernel)
set_option maxRecDepth 100000 in
theorem r_186_137 : ∀ (d : Nat) (ls : Lc) (a : Nat) (j : Int32) (st : List Value) (M : Mem) (Q : Outcome → Mem → Prop), Wp d 186 137 ls (.int j :: .ref a :: st) M Q = ((((kX M a).1 = 0 ∨ (kX M a).1 = 8) ∧ inB j (kX M a).2 = true) ∧ Wp d 186 138 ls (.int (mA M a j.toNatClampNeg) :: st) M Q) := fun d ls a j st M Q => w_iaload (show ins 186 137 = some (.iaload, 1) by decide +kernel)
set_option maxRecDepth 100000 in
theorem r_186_138 : ∀ (d : Nat) (ls : Lc) (a : Int32) (st : List Value) (M : Mem) (Q : Outcome → Mem → Prop), Wp d 186 138 ls (.int a :: st) M Q = Br (a ≤ I 0) d 186 152 141 ls st M Q := fun d ls a st M Q => w_if (show ins 186 138 = some (.ifCond .le 14, 3) by decide +kernel) rfl rfl
set_option maxRecDepth 100000 in
theorem r_186_141 : ∀ (d : Nat) (l1 l2 l3 l4 l5 l6 : Option Value) (v : Nat) (st : List Value) (M : Mem) (Q : Outcome → Mem → Prop), Wp d 186 141 [some (.ref v), l1, l2, l3, l4, l5, l6] st M Q = Wp d 186 142 [some (.ref v), l1, l2, l3, l4, l5, l6] (.ref v :: st) M Q := fun d l1 l2 l3 l4 l5 l6 v st M Q => wA (show ins 186 141 = some (.aload_n 0, 1) by decide +kernel) rfl
set_option maxRecDepth 100000 in
theorem r_186_142 : ∀ (d : Nat) (ls : Lc) (a : Nat) (st : List Value) (M : Mem) (Q : Outcome → Mem → Prop), Wp d 186 142 ls (.ref a :: st) M Q = (fk 53 (kO M a) = true ∧ Wp d 186 145 ls (va_rf (mR M 53 a) :: st) M Q) := fun d ls a st M Q => w_getR (show ins 186 142 = some (.getfield 7, 3) by decide +kernel) (show fRes (mC 186) 7 = some (53, 8, false) by decide +kernel) (by decide +kernel)
set_option maxRecDepth 100000 in
theorem r_186_145 : ∀ (d : Nat) (ls : Lc) (st : List Value) (M : Mem) (Q : Outcome → Mem → Prop), Wp d 186 145 ls st M Q = Wp d 186 148 ls (.int (I 157) :: st) M Q := fun d ls st M Q => w_sipush (show ins 186 145 = some (.sipush 157, 3) by decide +kernel) (by decide)
set_option maxRecDepth 100000 in
theorem r_186_148 : ∀ (d : Nat) (l0 l1 l2 l4 l5 l6 : Option Value) (v : Int32) (st : List Value) (M : Mem) (Q : Outcome → Mem → Prop), Wp d 186 148 [l0, l1, l2, some (.int v), l4, l5, l6] st M Q = Wp d 186 149 [l0, l1, l2, some (.int v), l4, l5, l6] (.int v :: st) M Q := fun d l0 l1 l2 l4 l5 l6 v st M Q => wA (show ins 186 148 = some (.iload_n 3, 1) by decide +kernel) rfl
set_option maxRecDepth 100000 in
theorem r_186_149 : ∀ (d : Nat) (ls : Lc) (a b : Int) (st : List Value) (M : Mem) (Q : Outcome → Mem → Prop), Wp d 186 149 ls (.int (I b) :: .int (I a) :: st) M Q = Wp d 186 150 ls (.int (I (a + b)) :: st) M Q := fun d ls a b st M Q => w_iadd (show ins 186 149 = some (.iadd, 1) by decide +kernel)
set_option maxRecDepth 100000 in
theorem r_186_150 : ∀ (d : Nat) (ls : Lc) (a : Nat) (j : Int32) (st : List Value) (M : Mem) (Q : Outcome → Mem → Prop), Wp d 186 150 ls (.int j :: .ref a :: st) M Q = ((((kX M a).1 = 0 ∨ (kX M a).1 = 8) ∧ inB j (kX M a).2 = true) ∧ Wp d 186 151 ls (.int (mA M a j.toNatClampNeg) :: st) M Q) := fun d ls a j st M Q => w_iaload (show ins 186 150 = some (.iaload, 1) by decide +kernel)
set_option maxRecDepth 100000 in
theorem r_186_151 : ∀ (d : Nat) (ls : Lc) (v : Int32) (M : Mem) (Q : Outcome → Mem → Prop), Wp d 186 151 ls [.int v] M Q = Q (.returned (some (.int v))) M := fun d ls v M Q => w_ireturn (show ins 186 151 = some (.ireturn, 1) by decide +kernel) (by decide +kernel)
set_option maxRecDepth 100000 in
theorem r_186_152 : ∀ (d : Nat) (l1 l2 l3 l4 l5 l6 : Option Value) (v : Nat) (st : List Value) (M : Mem) (Q : Outcome → Mem → Prop), Wp d 186 152 [some (.ref v), l1, l2, l3, l4, l5, l6] st M Q = Wp d 186 153 [some (.ref v), l1, l2, l3, l4, l5, l6] (.ref v :: st) M Q := fun d l1 l2 l3 l4 l5 l6 v st M Q => wA (show ins 186 152 = some (.aload_n 0, 1) by decide +kernel) rfl
set_option maxRecDepth 100000 in
theorem r_186_153 : ∀ (d : Nat) (ls : Lc) (a : Nat) (st : List Value) (M : Mem) (Q : Outcome → Mem → Prop), Wp d 186 153 ls (.ref a :: st) M Q = (fk 53 (kO M a) = true ∧ Wp d 186 156 ls (va_rf (mR M 53 a) :: st) M Q) := fun d ls a st M Q => w_getR (show ins 186 153 = some (.getfield 7, 3) by decide +kernel) (show fRes (mC 186) 7 = some (53, 8, false) by decide +kernel) (by decide +kernel)
set_option maxRecDepth 100000 in
theorem r_186_156 : ∀ (d : Nat) (ls : Lc) (st : List Value) (M : Mem) (Q : Outcome → Mem → Prop), Wp d 186 156 ls st M Q = Wp d 186 158 ls (.int (I 96) :: st) M Q := fun d ls st M Q => w_bipush (show ins 186 156 = some (.bipush 96, 2) by decide +kernel) (by decide)
set_option maxRecDepth 100000 in
theorem r_186_158 : ∀ (d : Nat) (l0 l1 l2 l4 l5 l6 : Option Value) (v : Int32) (st : List Value) (M : Mem) (Q : Outcome → Mem → Prop), Wp d 186 158 [l0, l1, l2, some (.int v), l4, l5, l6] st M Q = Wp d 186 159 [l0, l1, l2, some (.int v), l4, l5, l6] (.int v :: st) M Q := fun d l0 l1 l2 l4 l5 l6 v st M Q => wA (show ins 186 158 = some (.iload_n 3, 1) by decide +kernel) rfl
set_option maxRecDepth 100000 in
theorem r_186_159 : ∀ (d : Nat) (ls : Lc) (a b : Int) (st : List Value) (M : Mem) (Q : Outcome → Mem → Prop), Wp d 186 159 ls (.int (I b) :: .int (I a) :: st) M Q = Wp d 186 160 ls (.int (I (a + b)) :: st) M Q := fun d ls a b st M Q => w_iadd (show ins 186 159 = some (.iadd, 1) by decide +kernel)
set_option maxRecDepth 100000 in
theorem r_186_160 : ∀ (d : Nat) (ls : Lc) (a : Nat) (j : Int32) (st : List Value) (M : Mem) (Q : Outcome → Mem → Prop), Wp d 186 160 ls (.int j :: .ref a :: st) M Q = ((((kX M a).1 = 0 ∨ (kX M a).1 = 8) ∧ inB j (kX M a).2 = true) ∧ Wp d 186 161 ls (.int (mA M a j.toNatClampNeg) :: st) M Q) := fun d ls a j st M Q => w_iaload (show ins 186 160 = some (.iaload, 1) by decide +kernel)
set_option maxRecDepth 100000 in
theorem r_186_161 : ∀ (d : Nat) (ls : Lc) (st : List Value) (M : Mem) (Q : Outcome → Mem → Prop), Wp d 186 161 ls st M Q = Wp d 186 162 ls (.int (I 2) :: st) M Q := fun d ls st M Q => w_iconst (show ins 186 161 = some (.iconst 2, 1) by decide +kernel)
set_option maxRecDepth 100000 in
theorem r_186_162 : ∀ (d : Nat) (ls : Lc) (a b : Int32) (st : List Value) (M : Mem) (Q : Outcome → Mem → Prop), Wp d 186 162 ls (.int b :: .int a :: st) M Q = Br (¬ a = b) d 186 181 165 ls st M Q := fun d ls a b st M Q => w_icmp (show ins 186 162 = some (.if_icmp .ne 19, 3) by decide +kernel) rfl rfl
set_option maxRecDepth 100000 in
theorem r_186_165 : ∀ (d : Nat) (l1 l2 l3 l4 l5 l6 : Option Value) (v : Nat) (st : List Value) (M : Mem) (Q : Outcome → Mem → Prop), Wp d 186 165 [some (.ref v), l1, l2, l3, l4, l5, l6] st M Q = Wp d 186 166 [some (.ref v), l1, l2, l3, l4, l5, l6] (.ref v :: st) M Q := fun d l1 l2 l3 l4 l5 l6 v st M Q => wA (show ins 186 165 = some (.aload_n 0, 1) by decide +kernel) rfl
set_option maxRecDepth 100000 in
theorem r_186_166 : ∀ (d : Nat) (ls : Lc) (a : Nat) (st : List Value) (M : Mem) (Q : Outcome → Mem → Prop), Wp d 186 166 ls (.ref a :: st) M Q = (fk 53 (kO M a) = true ∧ Wp d 186 169 ls (va_rf (mR M 53 a) :: st) M Q) := fun d ls a st M Q => w_getR (show ins 186 166 = some (.getfield 7, 3) by decide +kernel) (show fRes (mC 186) 7 = some (53, 8, false) by decide +kernel) (by decide +kernel)
set_option maxRecDepth 100000 in
theorem r_186_169 : ∀ (d : Nat) (ls : Lc) (st : List Value) (M : Mem) (Q : Outcome → Mem → Prop), Wp d 186 169 ls st M Q = Wp d 186 172 ls (.int (I 218) :: st) M Q := fun d ls st M Q => w_sipush (show ins 186 169 = some (.sipush 218, 3) by decide +kernel) (by decide)
set_option maxRecDepth 100000 in
theorem r_186_172 : ∀ (d : Nat) (l0 l1 l2 l4 l5 l6 : Option Value) (v : Int32) (st : List Value) (M : Mem) (Q : Outcome → Mem → Prop), Wp d 186 172 [l0, l1, l2, some (.int v), l4, l5, l6] st M Q = Wp d 186 173 [l0, l1, l2, some (.int v), l4, l5, l6] (.int v :: st) M Q := fun d l0 l1 l2 l4 l5 l6 v st M Q => wA (show ins 186 172 = some (.iload_n 3, 1) by decide +kernel) rfl
set_option maxRecDepth 100000 in
theorem r_186_173 : ∀ (d : Nat) (ls : Lc) (a b : Int) (st : List Value) (M : Mem) (Q : Outcome → Mem → Prop), Wp d 186 173 ls (.int (I b) :: .int (I a) :: st) M Q = Wp d 186 174 ls (.int (I (a + b)) :: st) M Q := fun d ls a b st M Q => w_iadd (show ins 186 173 = some (.iadd, 1) by decide +kernel)
set_option maxRecDepth 100000 in
theorem r_186_174 : ∀ (d : Nat) (ls : Lc) (a : Nat) (j : Int32) (st : List Value) (M : Mem) (Q : Outcome → Mem → Prop), Wp d 186 174 ls (.int j :: .ref a :: st) M Q = ((((kX M a).1 = 0 ∨ (kX M a).1 = 8) ∧ inB j (kX M a).2 = true) ∧ Wp d 186 175 ls (.int (mA M a j.toNatClampNeg) :: st) M Q) := fun d ls a j st M Q => w_iaload (show ins 186 174 = some (.iaload, 1) by decide +kernel)
set_option maxRecDepth 100000 in
theorem r_186_175 : ∀ (d : Nat) (ls : Lc) (v0 : Value)  (st : List Value) (M : Mem) (Q : Outcome → Mem → Prop), (smallR st = true) → Wp d 186 175 ls (v0 :: st) M Q = Ca d 186 175 ls 192 [v0] st M Q := fun d ls v0 st M Q h0 => w_stat (as := [v0]) (show ins 186 175 = some (.invokestatic 137, 3) by decide +kernel) (show mRes (mC 186) 137 = some (0, 8, [(0, 192)]) by decide +kernel) (by decide +kernel) (by decide +kernel) rfl h0
set_option maxRecDepth 100000 in
theorem r_186_178 : ∀ (d : Nat) (ls : Lc) (st : List Value) (M : Mem) (Q : Outcome → Mem → Prop), Wp d 186 178 ls st M Q = Wp d 186 182 ls st M Q := fun d ls st M Q => w_goto (show ins 186 178 = some (.goto 4, 3) by decide +kernel) rfl
set_option maxRecDepth 100000 in
theorem r_186_181 : ∀ (d : Nat) (ls : Lc) (st : List Value) (M : Mem) (Q : Outcome → Mem → Prop), Wp d 186 181 ls st M Q = Wp d 186 182 ls (.int (I 0) :: st) M Q := fun d ls st M Q => w_iconst (show ins 186 181 = some (.iconst 0, 1) by decide +kernel)
set_option maxRecDepth 100000 in
theorem r_186_182 : ∀ (d : Nat) (l0 l1 l2 l3 l4 l5 l6 : Option Value) (v : Int32) (st : List Value) (M : Mem) (Q : Outcome → Mem → Prop), (lo l3 = false) → Wp d 186 182 [l0, l1, l2, l3, l4, l5, l6] (.int v :: st) M Q = Wp d 186 184 [l0, l1, l2, l3, some (.int v), l5, l6] st M Q := fun d l0 l1 l2 l3 l4 l5 l6 v st M Q hl => w_istore (show ins 186 182 = some (.istore 4, 2) by decide +kernel) (st1_S rfl rfl hl)
set_option maxRecDepth 100000 in
theorem r_186_184 : ∀ (d : Nat) (l1 l2 l3 l4 l5 l6 : Option Value) (v : Nat) (st : List Value) (M : Mem) (Q : Outcome → Mem → Prop), Wp d 186 184 [some (.ref v), l1, l2, l3, l4, l5, l6] st M Q = Wp d 186 185 [some (.ref v), l1, l2, l3, l4, l5, l6] (.ref v :: st) M Q := fun d l1 l2 l3 l4 l5 l6 v st M Q => wA (show ins 186 184 = some (.aload_n 0, 1) by decide +kernel) rfl
set_option maxRecDepth 100000 in
theorem r_186_185 : ∀ (d : Nat) (ls : Lc) (a : Nat) (st : List Value) (M : Mem) (Q : Outcome → Mem → Prop), Wp d 186 185 ls (.ref a :: st) M Q = (fk 53 (kO M a) = true ∧ Wp d 186 188 ls (va_rf (mR M 53 a) :: st) M Q) := fun d ls a st M Q => w_getR (show ins 186 185 = some (.getfield 7, 3) by decide +kernel) (show fRes (mC 186) 7 = some (53, 8, false) by decide +kernel) (by decide +kernel)
set_option maxRecDepth 100000 in
theorem r_186_188 : ∀ (d : Nat) (ls : Lc) (st : List Value) (M : Mem) (Q : Outcome → Mem → Prop), Wp d 186 188 ls st M Q = Wp d 186 191 ls (.int (I 279) :: st) M Q := fun d ls st M Q => w_sipush (show ins 186 188 = some (.sipush 279, 3) by decide +kernel) (by decide)
set_option maxRecDepth 100000 in
theorem r_186_191 : ∀ (d : Nat) (l0 l1 l2 l4 l5 l6 : Option Value) (v : Int32) (st : List Value) (M : Mem) (Q : Outcome → Mem → Prop), Wp d 186 191 [l0, l1, l2, some (.int v), l4, l5, l6] st M Q = Wp d 186 192 [l0, l1, l2, some (.int v), l4, l5, l6] (.int v :: st) M Q := fun d l0 l1 l2 l4 l5 l6 v st M Q => wA (show ins 186 191 = some (.iload_n 3, 1) by decide +kernel) rfl
set_option maxRecDepth 100000 in
theorem r_186_192 : ∀ (d : Nat) (ls : Lc) (a b : Int) (st : List Value) (M : Mem) (Q : Outcome → Mem → Prop), Wp d 186 192 ls (.int (I b) :: .int (I a) :: st) M Q = Wp d 186 193 ls (.int (I (a + b)) :: st) M Q := fun d ls a b st M Q => w_iadd (show ins 186 192 = some (.iadd, 1) by decide +kernel)
set_option maxRecDepth 100000 in
theorem r_186_193 : ∀ (d : Nat) (ls : Lc) (a : Nat) (j : Int32) (st : List Value) (M : Mem) (Q : Outcome → Mem → Prop), Wp d 186 193 ls (.int j :: .ref a :: st) M Q = ((((kX M a).1 = 0 ∨ (kX M a).1 = 8) ∧ inB j (kX M a).2 = true) ∧ Wp d 186 194 ls (.int (mA M a j.toNatClampNeg) :: st) M Q) := fun d ls a j st M Q => w_iaload (show ins 186 193 = some (.iaload, 1) by decide +kernel)
set_option maxRecDepth 100000 in
theorem r_186_194 : ∀ (d : Nat) (l0 l1 l2 l3 l4 l5 l6 : Option Value) (v : Int32) (st : List Value) (M : Mem) (Q : Outcome → Mem → Prop), (lo l4 = false) → Wp d 186 194 [l0, l1, l2, l3, l4, l5, l6] (.int v :: st) M Q = Wp d 186 196 [l0, l1, l2, l3, l4, some (.int v), l6] st M Q := fun d l0 l1 l2 l3 l4 l5 l6 v st M Q hl => w_istore (show ins 186 194 = some (.istore 5, 2) by decide +kernel) (st1_S rfl rfl hl)
set_option maxRecDepth 100000 in
theorem r_186_196 : ∀ (d : Nat) (l0 l1 l2 l3 l4 l6 : Option Value) (v : Int32) (st : List Value) (M : Mem) (Q : Outcome → Mem → Prop), Wp d 186 196 [l0, l1, l2, l3, l4, some (.int v), l6] st M Q = Wp d 186 198 [l0, l1, l2, l3, l4, some (.int v), l6] (.int v :: st) M Q := fun d l0 l1 l2 l3 l4 l6 v st M Q => wA (show ins 186 196 = some (.iload 5, 2) by decide +kernel) rfl
set_option maxRecDepth 100000 in
theorem r_186_198 : ∀ (d : Nat) (ls : Lc) (st : List Value) (M : Mem) (Q : Outcome → Mem → Prop), Wp d 186 198 ls st M Q = Wp d 186 199 ls (.int (I 1) :: st) M Q := fun d ls st M Q => w_iconst (show ins 186 198 = some (.iconst 1, 1) by decide +kernel)
set_option maxRecDepth 100000 in
theorem r_186_199 : ∀ (d : Nat) (ls : Lc) (a b : Int) (st : List Value) (M : Mem) (Q : Outcome → Mem → Prop), Wp d 186 199 ls (.int (I b) :: .int (I a) :: st) M Q = Wp d 186 200 ls (.int (I (a - b)) :: st) M Q := fun d ls a b st M Q => w_isub (show ins 186 199 = some (.isub, 1) by decide +kernel)
set_option maxRecDepth 100000 in
theorem r_186_200 : ∀ (d : Nat) (l0 l1 l2 l3 l4 l5 l6 : Option Value) (v : Int32) (st : List Value) (M : Mem) (Q : Outcome → Mem → Prop), (lo l5 = false) → Wp d 186 200 [l0, l1, l2, l3, l4, l5, l6] (.int v :: st) M Q = Wp d 186 202 [l0, l1, l2, l3, l4, l5, some (.int v)] st M Q := fun d l0 l1 l2 l3 l4 l5 l6 v st M Q hl => w_istore (show ins 186 200 = some (.istore 6, 2) by decide +kernel) (st1_S rfl rfl hl)
set_option maxRecDepth 100000 in
theorem r_186_202 : ∀ (d : Nat) (l0 l1 l2 l3 l4 l5 : Option Value) (v : Int32) (st : List Value) (M : Mem) (Q : Outcome → Mem → Prop), Wp d 186 202 [l0, l1, l2, l3, l4, l5, some (.int v)] st M Q = Wp d 186 204 [l0, l1, l2, l3, l4, l5, some (.int v)] (.int v :: st) M Q := fun d l0 l1 l2 l3 l4 l5 v st M Q => wA (show ins 186 202 = some (.iload 6, 2) by decide +kernel) rfl
set_option maxRecDepth 100000 in
theorem r_186_204 : ∀ (d : Nat) (ls : Lc) (a : Int32) (st : List Value) (M : Mem) (Q : Outcome → Mem → Prop), Wp d 186 204 ls (.int a :: st) M Q = Br (a < I 0) d 186 233 207 ls st M Q := fun d ls a st M Q => w_if (show ins 186 204 = some (.ifCond .lt 29, 3) by decide +kernel) rfl rfl
set_option maxRecDepth 100000 in
theorem r_186_207 : ∀ (d : Nat) (l1 l2 l3 l4 l5 l6 : Option Value) (v : Nat) (st : List Value) (M : Mem) (Q : Outcome → Mem → Prop), Wp d 186 207 [some (.ref v), l1, l2, l3, l4, l5, l6] st M Q = Wp d 186 208 [some (.ref v), l1, l2, l3, l4, l5, l6] (.ref v :: st) M Q := fun d l1 l2 l3 l4 l5 l6 v st M Q => wA (show ins 186 207 = some (.aload_n 0, 1) by decide +kernel) rfl
set_option maxRecDepth 100000 in
theorem r_186_208 : ∀ (d : Nat) (l1 l2 l3 l4 l5 l6 : Option Value) (v : Nat) (st : List Value) (M : Mem) (Q : Outcome → Mem → Prop), Wp d 186 208 [some (.ref v), l1, l2, l3, l4, l5, l6] st M Q = Wp d 186 209 [some (.ref v), l1, l2, l3, l4, l5, l6] (.ref v :: st) M Q := fun d l1 l2 l3 l4 l5 l6 v st M Q => wA (show ins 186 208 = some (.aload_n 0, 1) by decide +kernel) rfl
set_option maxRecDepth 100000 in
theorem r_186_209 : ∀ (d : Nat) (ls : Lc) (a : Nat) (st : List Value) (M : Mem) (Q : Outcome → Mem → Prop), Wp d 186 209 ls (.ref a :: st) M Q = (fk 53 (kO M a) = true ∧ Wp d 186 212 ls (va_rf (mR M 53 a) :: st) M Q) := fun d ls a st M Q => w_getR (show ins 186 209 = some (.getfield 7, 3) by decide +kernel) (show fRes (mC 186) 7 = some (53, 8, false) by decide +kernel) (by decide +kernel)
set_option maxRecDepth 100000 in
theorem r_186_212 : ∀ (d : Nat) (ls : Lc) (st : List Value) (M : Mem) (Q : Outcome → Mem → Prop), Wp d 186 212 ls st M Q = Wp d 186 215 ls (.int (I 340) :: st) M Q := fun d ls st M Q => w_sipush (show ins 186 212 = some (.sipush 340, 3) by decide +kernel) (by decide)
set_option maxRecDepth 100000 in
theorem r_186_215 : ∀ (d : Nat) (ls : Lc) (st : List Value) (M : Mem) (Q : Outcome → Mem → Prop), Wp d 186 215 ls st M Q = Wp d 186 217 ls (.int (I 16) :: st) M Q := fun d ls st M Q => w_bipush (show ins 186 215 = some (.bipush 16, 2) by decide +kernel) (by decide)
set_option maxRecDepth 100000 in
theorem r_186_217 : ∀ (d : Nat) (l0 l1 l2 l4 l5 l6 : Option Value) (v : Int32) (st : List Value) (M : Mem) (Q : Outcome → Mem → Prop), Wp d 186 217 [l0, l1, l2, some (.int v), l4, l5, l6] st M Q = Wp d 186 218 [l0, l1, l2, some (.int v), l4, l5, l6] (.int v :: st) M Q := fun d l0 l1 l2 l4 l5 l6 v st M Q => wA (show ins 186 217 = some (.iload_n 3, 1) by decide +kernel) rfl
set_option maxRecDepth 100000 in
theorem r_186_218 : ∀ (d : Nat) (ls : Lc) (a b : Int) (st : List Value) (M : Mem) (Q : Outcome → Mem → Prop), Wp d 186 218 ls (.int (I b) :: .int (I a) :: st) M Q = Wp d 186 219 ls (.int (I (a * b)) :: st) M Q := fun d ls a b st M Q => w_imul (show ins 186 218 = some (.imul, 1) by decide +kernel)
set_option maxRecDepth 100000 in
theorem r_186_219 : ∀ (d : Nat) (ls : Lc) (a b : Int) (st : List Value) (M : Mem) (Q : Outcome → Mem → Prop), Wp d 186 219 ls (.int (I b) :: .int (I a) :: st) M Q = Wp d 186 220 ls (.int (I (a + b)) :: st) M Q := fun d ls a b st M Q => w_iadd (show ins 186 219 = some (.iadd, 1) by decide +kernel)
set_option maxRecDepth 100000 in
theorem r_186_220 : ∀ (d : Nat) (l0 l1 l2 l3 l4 l5 : Option Value) (v : Int32) (st : List Value) (M : Mem) (Q : Outcome → Mem → Prop), Wp d 186 220 [l0, l1, l2, l3, l4, l5, some (.int v)] st M Q = Wp d 186 222 [l0, l1, l2, l3, l4, l5, some (.int v)] (.int v :: st) M Q := fun d l0 l1 l2 l3 l4 l5 v st M Q => wA (show ins 186 220 = some (.iload 6, 2) by decide +kernel) rfl
set_option maxRecDepth 100000 in
theorem r_186_222 : ∀ (d : Nat) (ls : Lc) (a b : Int) (st : List Value) (M : Mem) (Q : Outcome → Mem → Prop), Wp d 186 222 ls (.int (I b) :: .int (I a) :: st) M Q = Wp d 186 223 ls (.int (I (a + b)) :: st) M Q := fun d ls a b st M Q => w_iadd (show ins 186 222 = some (.iadd, 1) by decide +kernel)
set_option maxRecDepth 100000 in
theorem r_186_223 : ∀ (d : Nat) (ls : Lc) (a : Nat) (j : Int32) (st : List Value) (M : Mem) (Q : Outcome → Mem → Prop), Wp d 186 223 ls (.int j :: .ref a :: st) M Q = ((((kX M a).1 = 0 ∨ (kX M a).1 = 8) ∧ inB j (kX M a).2 = true) ∧ Wp d 186 224 ls (.int (mA M a j.toNatClampNeg) :: st) M Q) := fun d ls a j st M Q => w_iaload (show ins 186 223 = some (.iaload, 1) by decide +kernel)
set_option maxRecDepth 100000 in
theorem r_186_224 : ∀ (d : Nat) (ls : Lc) (v0 : Value) (a : Nat) (st : List Value) (M : Mem) (Q : Outcome → Mem → Prop), (smallR st = true) → Wp d 186 224 ls (v0 :: .ref a :: st) M Q = (kO M a = 8 ∧ Ca d 186 224 ls 191 (.ref a :: [v0]) st M Q) := fun d ls v0 a st M Q h0 => w_virt1 (as := [v0]) (show ins 186 224 = some (.invokevirtual 85, 3) by decide +kernel) (show mRes (mC 186) 85 = some (3, 8, [(8, 191)]) by decide +kernel) (by decide +kernel) rfl (by decide +kernel) (by decide +kernel) h0
set_option maxRecDepth 100000 in
theorem r_186_227 : ∀ (d : Nat) (l0 l1 l2 l3 l4 l5 : Option Value) (z : Int) (st : List Value) (M : Mem) (Q : Outcome → Mem → Prop), (lo l5 = false) → Wp d 186 227 [l0, l1, l2, l3, l4, l5, some (.int (I z))] st M Q = Wp d 186 230 [l0, l1, l2, l3, l4, l5, some (.int (I (z + (-1))))] st M Q := fun d l0 l1 l2 l3 l4 l5 z st M Q hl => w_iinc (show ins 186 227 = some (.iinc 6 (-1), 3) by decide +kernel) rfl (st1_S rfl rfl hl)
set_option maxRecDepth 100000 in
theorem r_186_230 : ∀ (d : Nat) (ls : Lc) (st : List Value) (M : Mem) (Q : Outcome → Mem → Prop), Wp d 186 230 ls st M Q = Wp d 186 202 ls st M Q := fun d ls st M Q => w_goto (show ins 186 230 = some (.goto (-28), 3) by decide +kernel) rfl
set_option maxRecDepth 100000 in
theorem r_186_233 : ∀ (d : Nat) (l1 l2 l3 l4 l5 l6 : Option Value) (v : Nat) (st : List Value) (M : Mem) (Q : Outcome → Mem → Prop), Wp d 186 233 [some (.ref v), l1, l2, l3, l4, l5, l6] st M Q = Wp d 186 234 [some (.ref v), l1, l2, l3, l4, l5, l6] (.ref v :: st) M Q := fun d l1 l2 l3 l4 l5 l6 v st M Q => wA (show ins 186 233 = some (.aload_n 0, 1) by decide +kernel) rfl
set_option maxRecDepth 100000 in
theorem r_186_234 : ∀ (d : Nat) (l0 l1 l2 l4 l5 l6 : Option Value) (v : Int32) (st : List Value) (M : Mem) (Q : Outcome → Mem → Prop), Wp d 186 234 [l0, l1, l2, some (.int v), l4, l5, l6] st M Q = Wp d 186 235 [l0, l1, l2, some (.int v), l4, l5, l6] (.int v :: st) M Q := fun d l0 l1 l2 l4 l5 l6 v st M Q => wA (show ins 186 234 = some (.iload_n 3, 1) by decide +kernel) rfl
set_option maxRecDepth 100000 in
theorem r_186_235 : ∀ (d : Nat) (ls : Lc) (st : List Value) (M : Mem) (Q : Outcome → Mem → Prop), Wp d 186 235 ls st M Q = Wp d 186 236 ls (.int (I 3) :: st) M Q := fun d ls st M Q => w_iconst (show ins 186 235 = some (.iconst 3, 1) by decide +kernel)
set_option maxRecDepth 100000 in
theorem r_186_236 : ∀ (d : Nat) (l0 l1 l2 l3 l5 l6 : Option Value) (v : Int32) (st : List Value) (M : Mem) (Q : Outcome → Mem → Prop), Wp d 186 236 [l0, l1, l2, l3, some (.int v), l5, l6] st M Q = Wp d 186 238 [l0, l1, l2, l3, some (.int v), l5, l6] (.int v :: st) M Q := fun d l0 l1 l2 l3 l5 l6 v st M Q => wA (show ins 186 236 = some (.iload 4, 2) by decide +kernel) rfl
set_option maxRecDepth 100000 in
theorem r_186_238 : ∀ (d : Nat) (ls : Lc) (st : List Value) (M : Mem) (Q : Outcome → Mem → Prop), Wp d 186 238 ls st M Q = Wp d 186 239 ls (.int (I 0) :: st) M Q := fun d ls st M Q => w_iconst (show ins 186 238 = some (.iconst 0, 1) by decide +kernel)
set_option maxRecDepth 100000 in
theorem r_186_239 : ∀ (d : Nat) (ls : Lc) (v0 v1 v2 v3 : Value) (a : Nat) (st : List Value) (M : Mem) (Q : Outcome → Mem → Prop), (smallR st = true) → Wp d 186 239 ls (v3 :: v2 :: v1 :: v0 :: .ref a :: st) M Q = (kO M a = 8 ∧ Ca d 186 239 ls 193 (.ref a :: [v0, v1, v2, v3]) st M Q) := fun d ls v0 v1 v2 v3 a st M Q h0 => w_virt1 (as := [v0, v1, v2, v3]) (show ins 186 239 = some (.invokevirtual 146, 3) by decide +kernel) (show mRes (mC 186) 146 = some (3, 8, [(8, 193)]) by decide +kernel) (by decide +kernel) rfl (by decide +kernel) (by decide +kernel) h0
set_option maxRecDepth 100000 in
theorem r_186_242 : ∀ (d : Nat) (l1 l2 l3 l4 l5 l6 : Option Value) (v : Nat) (st : List Value) (M : Mem) (Q : Outcome → Mem → Prop), Wp d 186 242 [some (.ref v), l1, l2, l3, l4, l5, l6] st M Q = Wp d 186 243 [some (.ref v), l1, l2, l3, l4, l5, l6] (.ref v :: st) M Q := fun d l1 l2 l3 l4 l5 l6 v st M Q => wA (show ins 186 242 = some (.aload_n 0, 1) by decide +kernel) rfl
set_option maxRecDepth 100000 in
theorem r_186_243 : ∀ (d : Nat) (l0 l1 l2 l4 l5 l6 : Option Value) (v : Int32) (st : List Value) (M : Mem) (Q : Outcome → Mem → Prop), Wp d 186 243 [l0, l1, l2, some (.int v), l4, l5, l6] st M Q = Wp d 186 244 [l0, l1, l2, some (.int v), l4, l5, l6] (.int v :: st) M Q := fun d l0 l1 l2 l4 l5 l6 v st M Q => wA (show ins 186 243 = some (.iload_n 3, 1) by decide +kernel) rfl
set_option maxRecDepth 100000 in
theorem r_186_244 : ∀ (d : Nat) (ls : Lc) (st : List Value) (M : Mem) (Q : Outcome → Mem → Prop), Wp d 186 244 ls st M Q = Wp d 186 245 ls (.int (I 2) :: st) M Q := fun d ls st M Q => w_iconst (show ins 186 244 = some (.iconst 2, 1) by decide +kernel)
set_option maxRecDepth 100000 in
theorem r_186_245 : ∀ (d : Nat) (ls : Lc) (st : List Value) (M : Mem) (Q : Outcome → Mem → Prop), Wp d 186 245 ls st M Q = Wp d 186 246 ls (.int (I 2) :: st) M Q := fun d ls st M Q => w_iconst (show ins 186 245 = some (.iconst 2, 1) by decide +kernel)
set_option maxRecDepth 100000 in
theorem r_186_246 : ∀ (d : Nat) (l0 l1 l2 l3 l4 l6 : Option Value) (v : Int32) (st : List Value) (M : Mem) (Q : Outcome → Mem → Prop), Wp d 186 246 [l0, l1, l2, l3, l4, some (.int v), l6] st M Q = Wp d 186 248 [l0, l1, l2, l3, l4, some (.int v), l6] (.int v :: st) M Q := fun d l0 l1 l2 l3 l4 l6 v st M Q => wA (show ins 186 246 = some (.iload 5, 2) by decide +kernel) rfl
set_option maxRecDepth 100000 in
theorem r_186_248 : ∀ (d : Nat) (ls : Lc) (a b : Int) (st : List Value) (M : Mem) (Q : Outcome → Mem → Prop), Wp d 186 248 ls (.int (I b) :: .int (I a) :: st) M Q = Wp d 186 249 ls (.int (I (a * b)) :: st) M Q := fun d ls a b st M Q => w_imul (show ins 186 248 = some (.imul, 1) by decide +kernel)
set_option maxRecDepth 100000 in
theorem r_186_249 : ∀ (d : Nat) (ls : Lc) (st : List Value) (M : Mem) (Q : Outcome → Mem → Prop), Wp d 186 249 ls st M Q = Wp d 186 250 ls (.int (I 0) :: st) M Q := fun d ls st M Q => w_iconst (show ins 186 249 = some (.iconst 0, 1) by decide +kernel)
set_option maxRecDepth 100000 in
theorem r_186_250 : ∀ (d : Nat) (ls : Lc) (v0 v1 v2 v3 : Value) (a : Nat) (st : List Value) (M : Mem) (Q : Outcome → Mem → Prop), (smallR st = true) → Wp d 186 250 ls (v3 :: v2 :: v1 :: v0 :: .ref a :: st) M Q = (kO M a = 8 ∧ Ca d 186 250 ls 193 (.ref a :: [v0, v1, v2, v3]) st M Q) := fun d ls v0 v1 v2 v3 a st M Q h0 => w_virt1 (as := [v0, v1, v2, v3]) (show ins 186 250 = some (.invokevirtual 146, 3) by decide +kernel) (show mRes (mC 186) 146 = some (3, 8, [(8, 193)]) by decide +kernel) (by decide +kernel) rfl (by decide +kernel) (by decide +kernel) h0
set_option maxRecDepth 100000 in
theorem r_186_253 : ∀ (d : Nat) (l1 l2 l3 l4 l5 l6 : Option Value) (v : Nat) (st : List Value) (M : Mem) (Q : Outcome → Mem → Prop), Wp d 186 253 [some (.ref v), l1, l2, l3, l4, l5, l6] st M Q = Wp d 186 254 [some (.ref v), l1, l2, l3, l4, l5, l6] (.ref v :: st) M Q := fun d l1 l2 l3 l4 l5 l6 v st M Q => wA (show ins 186 253 = some (.aload_n 0, 1) by decide +kernel) rfl
set_option maxRecDepth 100000 in
theorem r_186_254 : ∀ (d : Nat) (l0 l1 l2 l4 l5 l6 : Option Value) (v : Int32) (st : List Value) (M : Mem) (Q : Outcome → Mem → Prop), Wp d 186 254 [l0, l1, l2, some (.int v), l4, l5, l6] st M Q = Wp d 186 255 [l0, l1, l2, some (.int v), l4, l5, l6] (.int v :: st) M Q := fun d l0 l1 l2 l4 l5 l6 v st M Q => wA (show ins 186 254 = some (.iload_n 3, 1) by decide +kernel) rfl
set_option maxRecDepth 100000 in
theorem r_186_255 : ∀ (d : Nat) (ls : Lc) (st : List Value) (M : Mem) (Q : Outcome → Mem → Prop), Wp d 186 255 ls st M Q = Wp d 186 256 ls (.int (I 0) :: st) M Q := fun d ls st M Q => w_iconst (show ins 186 255 = some (.iconst 0, 1) by decide +kernel)
set_option maxRecDepth 100000 in
theorem r_186_256 : ∀ (d : Nat) (ls : Lc) (st : List Value) (M : Mem) (Q : Outcome → Mem → Prop), Wp d 186 256 ls st M Q = Wp d 186 257 ls (.int (I 0) :: st) M Q := fun d ls st M Q => w_iconst (show ins 186 256 = some (.iconst 0, 1) by decide +kernel)
set_option maxRecDepth 100000 in
theorem r_186_257 : ∀ (d : Nat) (ls : Lc) (v0 v1 v2 : Value) (a : Nat) (st : List Value) (M : Mem) (Q : Outcome → Mem → Prop), (smallR st = true) → Wp d 186 257 ls (v2 :: v1 :: v0 :: .ref a :: st) M Q = (kO M a = 8 ∧ Ca d 186 257 ls 187 (.ref a :: [v0, v1, v2]) st M Q) := fun d ls v0 v1 v2 a st M Q h0 => w_virt1 (as := [v0, v1, v2]) (show ins 186 257 = some (.invokevirtual 134, 3) by decide +kernel) (show mRes (mC 186) 134 = some (3, 8, [(8, 187)]) by decide +kernel) (by decide +kernel) rfl (by decide +kernel) (by decide +kernel) h0
set_option maxRecDepth 100000 in
theorem r_186_260 : ∀ (d : Nat) (l1 l2 l3 l4 l5 l6 : Option Value) (v : Nat) (st : List Value) (M : Mem) (Q : Outcome → Mem → Prop), Wp d 186 260 [some (.ref v), l1, l2, l3, l4, l5, l6] st M Q = Wp d 186 261 [some (.ref v), l1, l2, l3, l4, l5, l6] (.ref v :: st) M Q := fun d l1 l2 l3 l4 l5 l6 v st M Q => wA (show ins 186 260 = some (.aload_n 0, 1) by decide +kernel) rfl
set_option maxRecDepth 100000 in
theorem r_186_261 : ∀ (d : Nat) (ls : Lc) (a : Nat) (st : List Value) (M : Mem) (Q : Outcome → Mem → Prop), Wp d 186 261 ls (.ref a :: st) M Q = (fk 53 (kO M a) = true ∧ Wp d 186 264 ls (va_rf (mR M 53 a) :: st) M Q) := fun d ls a st M Q => w_getR (show ins 186 261 = some (.getfield 7, 3) by decide +kernel) (show fRes (mC 186) 7 = some (53, 8, false) by decide +kernel) (by decide +kernel)
set_option maxRecDepth 100000 in
theorem r_186_264 : ∀ (d : Nat) (ls : Lc) (st : List Value) (M : Mem) (Q : Outcome → Mem → Prop), Wp d 186 264 ls st M Q = Wp d 186 266 ls (.int (I 96) :: st) M Q := fun d ls st M Q => w_bipush (show ins 186 264 = some (.bipush 96, 2) by decide +kernel) (by decide)
set_option maxRecDepth 100000 in
theorem r_186_266 : ∀ (d : Nat) (l0 l1 l2 l4 l5 l6 : Option Value) (v : Int32) (st : List Value) (M : Mem) (Q : Outcome → Mem → Prop), Wp d 186 266 [l0, l1, l2, some (.int v), l4, l5, l6] st M Q = Wp d 186 267 [l0, l1, l2, some (.int v), l4, l5, l6] (.int v :: st) M Q := fun d l0 l1 l2 l4 l5 l6 v st M Q => wA (show ins 186 266 = some (.iload_n 3, 1) by decide +kernel) rfl
set_option maxRecDepth 100000 in
theorem r_186_267 : ∀ (d : Nat) (ls : Lc) (a b : Int) (st : List Value) (M : Mem) (Q : Outcome → Mem → Prop), Wp d 186 267 ls (.int (I b) :: .int (I a) :: st) M Q = Wp d 186 268 ls (.int (I (a + b)) :: st) M Q := fun d ls a b st M Q => w_iadd (show ins 186 267 = some (.iadd, 1) by decide +kernel)
set_option maxRecDepth 100000 in
theorem r_186_268 : ∀ (d : Nat) (ls : Lc) (st : List Value) (M : Mem) (Q : Outcome → Mem → Prop), Wp d 186 268 ls st M Q = Wp d 186 269 ls (.int (I 0) :: st) M Q := fun d ls st M Q => w_iconst (show ins 186 268 = some (.iconst 0, 1) by decide +kernel)
set_option maxRecDepth 100000 in
theorem r_186_269 : ∀ (d : Nat) (ls : Lc) (a : Nat) (j v : Int32) (st : List Value) (M : Mem) (Q : Outcome → Mem → Prop), Wp d 186 269 ls (.int v :: .int j :: .ref a :: st) M Q = (((kX M a).1 = 0 ∧ inB j (kX M a).2 = true) ∧ Wp d 186 270 ls st (sA M a j.toNatClampNeg v) Q) := fun d ls a j v st M Q => w_iastore (show ins 186 269 = some (.iastore, 1) by decide +kernel)
set_option maxRecDepth 100000 in
theorem r_186_270 : ∀ (d : Nat) (l1 l2 l3 l4 l5 l6 : Option Value) (v : Nat) (st : List Value) (M : Mem) (Q : Outcome → Mem → Prop), Wp d 186 270 [some (.ref v), l1, l2, l3, l4, l5, l6] st M Q = Wp d 186 271 [some (.ref v), l1, l2, l3, l4, l5, l6] (.ref v :: st) M Q := fun d l1 l2 l3 l4 l5 l6 v st M Q => wA (show ins 186 270 = some (.aload_n 0, 1) by decide +kernel) rfl
set_option maxRecDepth 100000 in
theorem r_186_271 : ∀ (d : Nat) (ls : Lc) (a : Nat) (st : List Value) (M : Mem) (Q : Outcome → Mem → Prop), Wp d 186 271 ls (.ref a :: st) M Q = (fk 53 (kO M a) = true ∧ Wp d 186 274 ls (va_rf (mR M 53 a) :: st) M Q) := fun d ls a st M Q => w_getR (show ins 186 271 = some (.getfield 7, 3) by decide +kernel) (show fRes (mC 186) 7 = some (53, 8, false) by decide +kernel) (by decide +kernel)
set_option maxRecDepth 100000 in
theorem r_186_274 : ∀ (d : Nat) (ls : Lc) (st : List Value) (M : Mem) (Q : Outcome → Mem → Prop), Wp d 186 274 ls st M Q = Wp d 186 277 ls (.int (I 279) :: st) M Q := fun d ls st M Q => w_sipush (show ins 186 274 = some (.sipush 279, 3) by decide +kernel) (by decide)
set_option maxRecDepth 100000 in
theorem r_186_277 : ∀ (d : Nat) (l0 l1 l2 l4 l5 l6 : Option Value) (v : Int32) (st : List Value) (M : Mem) (Q : Outcome → Mem → Prop), Wp d 186 277 [l0, l1, l2, some (.int v), l4, l5, l6] st M Q = Wp d 186 278 [l0, l1, l2, some (.int v), l4, l5, l6] (.int v :: st) M Q := fun d l0 l1 l2 l4 l5 l6 v st M Q => wA (show ins 186 277 = some (.iload_n 3, 1) by decide +kernel) rfl
set_option maxRecDepth 100000 in
theorem r_186_278 : ∀ (d : Nat) (ls : Lc) (a b : Int) (st : List Value) (M : Mem) (Q : Outcome → Mem → Prop), Wp d 186 278 ls (.int (I b) :: .int (I a) :: st) M Q = Wp d 186 279 ls (.int (I (a + b)) :: st) M Q := fun d ls a b st M Q => w_iadd (show ins 186 278 = some (.iadd, 1) by decide +kernel)
set_option maxRecDepth 100000 in
theorem r_186_279 : ∀ (d : Nat) (ls : Lc) (st : List Value) (M : Mem) (Q : Outcome → Mem → Prop), Wp d 186 279 ls st M Q = Wp d 186 280 ls (.int (I 0) :: st) M Q := fun d ls st M Q => w_iconst (show ins 186 279 = some (.iconst 0, 1) by decide +kernel)
set_option maxRecDepth 100000 in
theorem r_186_280 : ∀ (d : Nat) (ls : Lc) (a : Nat) (j v : Int32) (st : List Value) (M : Mem) (Q : Outcome → Mem → Prop), Wp d 186 280 ls (.int v :: .int j :: .ref a :: st) M Q = (((kX M a).1 = 0 ∧ inB j (kX M a).2 = true) ∧ Wp d 186 281 ls st (sA M a j.toNatClampNeg v) Q) := fun d ls a j v st M Q => w_iastore (show ins 186 280 = some (.iastore, 1) by decide +kernel)
set_option maxRecDepth 100000 in
theorem r_186_281 : ∀ (d : Nat) (l1 l2 l3 l4 l5 l6 : Option Value) (v : Nat) (st : List Value) (M : Mem) (Q : Outcome → Mem → Prop), Wp d 186 281 [some (.ref v), l1, l2, l3, l4, l5, l6] st M Q = Wp d 186 282 [some (.ref v), l1, l2, l3, l4, l5, l6] (.ref v :: st) M Q := fun d l1 l2 l3 l4 l5 l6 v st M Q => wA (show ins 186 281 = some (.aload_n 0, 1) by decide +kernel) rfl
set_option maxRecDepth 100000 in
theorem r_186_282 : ∀ (d : Nat) (ls : Lc) (a : Nat) (st : List Value) (M : Mem) (Q : Outcome → Mem → Prop), Wp d 186 282 ls (.ref a :: st) M Q = (fk 53 (kO M a) = true ∧ Wp d 186 285 ls (va_rf (mR M 53 a) :: st) M Q) := fun d ls a st M Q => w_getR (show ins 186 282 = some (.getfield 7, 3) by decide +kernel) (show fRes (mC 186) 7 = some (53, 8, false) by decide +kernel) (by decide +kernel)
set_option maxRecDepth 100000 in
theorem r_186_285 : ∀ (d : Nat) (ls : Lc) (st : List Value) (M : Mem) (Q : Outcome → Mem → Prop), Wp d 186 285 ls st M Q = Wp d 186 288 ls (.int (I 218) :: st) M Q := fun d ls st M Q => w_sipush (show ins 186 285 = some (.sipush 218, 3) by decide +kernel) (by decide)
set_option maxRecDepth 100000 in
theorem r_186_288 : ∀ (d : Nat) (l0 l1 l2 l4 l5 l6 : Option Value) (v : Int32) (st : List Value) (M : Mem) (Q : Outcome → Mem → Prop), Wp d 186 288 [l0, l1, l2, some (.int v), l4, l5, l6] st M Q = Wp d 186 289 [l0, l1, l2, some (.int v), l4, l5, l6] (.int v :: st) M Q := fun d l0 l1 l2 l4 l5 l6 v st M Q => wA (show ins 186 288 = some (.iload_n 3, 1) by decide +kernel) rfl
set_option maxRecDepth 100000 in
theorem r_186_289 : ∀ (d : Nat) (ls : Lc) (a b : Int) (st : List Value) (M : Mem) (Q : Outcome → Mem → Prop), Wp d 186 289 ls (.int (I b) :: .int (I a) :: st) M Q = Wp d 186 290 ls (.int (I (a + b)) :: st) M Q := fun d ls a b st M Q => w_iadd (show ins 186 289 = some (.iadd, 1) by decide +kernel)
set_option maxRecDepth 100000 in
theorem r_186_290 : ∀ (d : Nat) (ls : Lc) (st : List Value) (M : Mem) (Q : Outcome → Mem → Prop), Wp d 186 290 ls st M Q = Wp d 186 291 ls (.int (I 0) :: st) M Q := fun d ls st M Q => w_iconst (show ins 186 290 = some (.iconst 0, 1) by decide +kernel)
set_option maxRecDepth 100000 in
theorem r_186_291 : ∀ (d : Nat) (ls : Lc) (a : Nat) (j v : Int32) (st : List Value) (M : Mem) (Q : Outcome → Mem → Prop), Wp d 186 291 ls (.int v :: .int j :: .ref a :: st) M Q = (((kX M a).1 = 0 ∧ inB j (kX M a).2 = true) ∧ Wp d 186 292 ls st (sA M a j.toNatClampNeg v) Q) := fun d ls a j v st M Q => w_iastore (show ins 186 291 = some (.iastore, 1) by decide +kernel)
set_option maxRecDepth 100000 in
theorem r_186_292 : ∀ (d : Nat) (ls : Lc) (st : List Value) (M : Mem) (Q : Outcome → Mem → Prop), Wp d 186 292 ls st M Q = Wp d 186 293 ls (.int (I 0) :: st) M Q := fun d ls st M Q => w_iconst (show ins 186 292 = some (.iconst 0, 1) by decide +kernel)
set_option maxRecDepth 100000 in
theorem r_186_293 : ∀ (d : Nat) (ls : Lc) (v : Int32) (M : Mem) (Q : Outcome → Mem → Prop), Wp d 186 293 ls [.int v] M Q = Q (.returned (some (.int v))) M := fun d ls v M Q => w_ireturn (show ins 186 293 = some (.ireturn, 1) by decide +kernel) (by decide +kernel)
set_option maxRecDepth 100000 in
theorem w_186_202 : (type_of% r_186_202) := r_186_202
set_option maxRecDepth 100000 in
theorem W_186 : (type_of% r_186_0) ∧ (type_of% r_186_1) ∧ (type_of% r_186_4) ∧ (type_of% r_186_7) ∧ (type_of% r_186_8) ∧ (type_of% r_186_9) ∧ (type_of% r_186_12) ∧ (type_of% r_186_15) ∧ (type_of% r_186_16) ∧ (type_of% r_186_19) ∧ (type_of% r_186_20) ∧ (type_of% r_186_21) ∧ (type_of% r_186_22) ∧ (type_of% r_186_25) ∧ (type_of% r_186_26) ∧ (type_of% r_186_27) ∧ (type_of% r_186_28) ∧ (type_of% r_186_31) ∧ (type_of% r_186_34) ∧ (type_of% r_186_35) ∧ (type_of% r_186_38) ∧ (type_of% r_186_39) ∧ (type_of% r_186_42) ∧ (type_of% r_186_43) ∧ (type_of% r_186_46) ∧ (type_of% r_186_47) ∧ (type_of% r_186_50) ∧ (type_of% r_186_52) ∧ (type_of% r_186_53) ∧ (type_of% r_186_54) ∧ (type_of% r_186_55) ∧ (type_of% r_186_56) ∧ (type_of% r_186_59) ∧ (type_of% r_186_60) ∧ (type_of% r_186_63) ∧ (type_of% r_186_66) ∧ (type_of% r_186_67) ∧ (type_of% r_186_68) ∧ (type_of% r_186_69) ∧ (type_of% r_186_72) ∧ (type_of% r_186_73) ∧ (type_of% r_186_76) ∧ (type_of% r_186_77) ∧ (type_of% r_186_80) ∧ (type_of% r_186_81) ∧ (type_of% r_186_84) ∧ (type_of% r_186_87) ∧ (type_of% r_186_88) ∧ (type_of% r_186_89) ∧ (type_of% r_186_90) ∧ (type_of% r_186_93) ∧ (type_of% r_186_94) ∧ (type_of% r_186_95) ∧ (type_of% r_186_96) ∧ (type_of% r_186_97) ∧ (type_of% r_186_100) ∧ (type_of% r_186_101) ∧ (type_of% r_186_104) ∧ (type_of% r_186_107) ∧ (type_of% r_186_108) ∧ (type_of% r_186_109) ∧ (type_of% r_186_110) ∧ (type_of% r_186_111) ∧ (type_of% r_186_112) ∧ (type_of% r_186_113) ∧ (type_of% r_186_114) ∧ (type_of% r_186_115) ∧ (type_of% r_186_118) ∧ (type_of% r_186_121) ∧ (type_of% r_186_122) ∧ (type_of% r_186_123) ∧ (type_of% r_186_124) ∧ (type_of% r_186_125) ∧ (type_of% r_186_126) ∧ (type_of% r_186_127) ∧ (type_of% r_186_128) ∧ (type_of% r_186_129) ∧ (type_of% r_186_132) ∧ (type_of% r_186_135) ∧ (type_of% r_186_136) ∧ (type_of% r_186_137) ∧ (type_of% r_186_138) ∧ (type_of% r_186_141) ∧ (type_of% r_186_142) ∧ (type_of% r_186_145) ∧ (type_of% r_186_148) ∧ (type_of% r_186_149) ∧ (type_of% r_186_150) ∧ (type_of% r_186_151) ∧ (type_of% r_186_152) ∧ (type_of% r_186_153) ∧ (type_of% r_186_156) ∧ (type_of% r_186_158) ∧ (type_of% r_186_159) ∧ (type_of% r_186_160) ∧ (type_of% r_186_161) ∧ (type_of% r_186_162) ∧ (type_of% r_186_165) ∧ (type_of% r_186_166) ∧ (type_of% r_186_169) ∧ (type_of% r_186_172) ∧ (type_of% r_186_173) ∧ (type_of% r_186_174) ∧ (type_of% r_186_175) ∧ (type_of% r_186_178) ∧ (type_of% r_186_181) ∧ (type_of% r_186_182) ∧ (type_of% r_186_184) ∧ (type_of% r_186_185) ∧ (type_of% r_186_188) ∧ (type_of% r_186_191) ∧ (type_of% r_186_192) ∧ (type_of% r_186_193) ∧ (type_of% r_186_194) ∧ (type_of% r_186_196) ∧ (type_of% r_186_198) ∧ (type_of% r_186_199) ∧ (type_of% r_186_200) ∧ (type_of% r_186_204) ∧ (type_of% r_186_207) ∧ (type_of% r_186_208) ∧ (type_of% r_186_209) ∧ (type_of% r_186_212) ∧ (type_of% r_186_215) ∧ (type_of% r_186_217) ∧ (type_of% r_186_218) ∧ (type_of% r_186_219) ∧ (type_of% r_186_220) ∧ (type_of% r_186_222) ∧ (type_of% r_186_223) ∧ (type_of% r_186_224) ∧ (type_of% r_186_227) ∧ (type_of% r_186_230) ∧ (type_of% r_186_233) ∧ (type_of% r_186_234) ∧ (type_of% r_186_235) ∧ (type_of% r_186_236) ∧ (type_of% r_186_238) ∧ (type_of% r_186_239) ∧ (type_of% r_186_242) ∧ (type_of% r_186_243) ∧ (type_of% r_186_244) ∧ (type_of% r_186_245) ∧ (type_of% r_186_246) ∧ (type_of% r_186_248) ∧ (type_of% r_186_249) ∧ (type_of% r_186_250) ∧ (type_of% r_186_253) ∧ (type_of% r_186_254) ∧ (type_of% r_186_255) ∧ (type_of% r_186_256) ∧ (type_of% r_186_257) ∧ (type_of% r_186_260) ∧ (type_of% r_186_261) ∧ (type_of% r_186_264) ∧ (type_of% r_186_266) ∧ (type_of% r_186_267) ∧ (type_of% r_186_268) ∧ (type_of% r_186_269) ∧ (type_of% r_186_270) ∧ (type_of% r_186_271) ∧ (type_of% r_186_274) ∧ (type_of% r_186_277) ∧ (type_of% r_186_278) ∧ (type_of% r_186_279) ∧ (type_of% r_186_280) ∧ (type_of% r_186_281) ∧ (type_of% r_186_282) ∧ (type_of% r_186_285) ∧ (type_of% r_186_288) ∧ (type_of% r_186_289) ∧ (type_of% r_186_290) ∧ (type_of% r_186_291) ∧ (type_of% r_186_292) ∧ (type_of% r_186_293) := ⟨r_186_0, r_186_1, r_186_4, r_186_7, r_186_8, r_186_9, r_186_12, r_186_15, r_186_16, r_186_19, r_186_20, r_186_21, r_186_22, r_186_25, r_186_26, r_186_27, r_186_28, r_186_31, r_186_34, r_186_35, r_186_38, r_186_39, r_186_42, r_186_43, r_186_46, r_186_47, r_186_50, r_186_52, r_186_53, r_186_54, r_186_55, r_186_56, r_186_59, r_186_60, r_186_63, r_186_66, r_186_67, r_186_68, r_186_69, r_186_72, r_186_73, r_186_76, r_186_77, r_186_80, r_186_81, r_186_84, r_186_87, r_186_88, r_186_89, r_186_90, r_186_93, r_186_94, r_186_95, r_186_96, r_186_97, r_186_100, r_186_101, r_186_104, r_186_107, r_186_108, r_186_109, r_186_110, r_186_111, r_186_112, r_186_113, r_186_114, r_186_115, r_186_118, r_186_121, r_186_122, r_186_123, r_186_124, r_186_125, r_186_126, r_186_127, r_186_128, r_186_129, r_186_132, r_186_135, r_186_136, r_186_137, r_186_138, r_186_141, r_186_142, r_186_145, r_186_148, r_186_149, r_186_150, r_186_151, r_186_152, r_186_153, r_186_156, r_186_158, r_186_159, r_186_160, r_186_161, r_186_162, r_186_165, r_186_166, r_186_169, r_186_172, r_186_173, r_186_174, r_186_175, r_186_178, r_186_181, r_186_182, r_186_184, r_186_185, r_186_188, r_186_191, r_186_192, r_186_193, r_186_194, r_186_196, r_186_198, r_186_199, r_186_200, r_186_204, r_186_207, r_186_208, r_186_209, r_186_212, r_186_215, r_186_217, r_186_218, r_186_219, r_186_220, r_186_222, r_186_223, r_186_224, r_186_227, r_186_230, r_186_233, r_186_234, r_186_235, r_186_236, r_186_238, r_186_239, r_186_242, r_186_243, r_186_244, r_186_245, r_186_246, r_186_248, r_186_249, r_186_250, r_186_253, r_186_254, r_186_255, r_186_256, r_186_257, r_186_260, r_186_261, r_186_264, r_186_266, r_186_267, r_186_268, r_186_269, r_186_270, r_186_271, r_186_274, r_186_277, r_186_278, r_186_279, r_186_280, r_186_281, r_186_282, r_186_285, r_186_288, r_186_289, r_186_290, r_186_291, r_186_292, r_186_293⟩
set_option maxRecDepth 100000 in
theorem ca_186 {d y pc : Nat} {ls : Lc} {a : Nat} {z0 : Int32} {z1 : Int32} {r : List Value} {M : Mem} {Q : Outcome → Mem → Prop} (hd : 0 < d) (hw : Wp (d - 1) 186 0 [some (.ref a), some (.int z0), some (.int z1), none, none, none, none] [] M (Cq d y pc ls r Q)) : Ca d y pc ls 186 [.ref a, .int z0, .int z1] r M Q := ca_of (mq_get (by decide)) (by rfl) hd hw
/-! 187 PackedTreeModel.remove(III)V; loop heads [] -/
set_option maxRecDepth 100000 in
theorem r_187_0 : ∀ (d : Nat) (l1 l2 l3 l4 : Option Value) (v : Nat) (st : List Value) (M : Mem) (Q : Outcome → Mem → Prop), Wp d 187 0 [some (.ref v), l1, l2, l3, l4] st M Q = Wp d 187 1 [some (.ref v), l1, l2, l3, l4] (.ref v :: st) M Q := fun d l1 l2 l3 l4 v st M Q => wA (show ins 187 0 = some (.aload_n 0, 1) by decide +kernel) rfl
set_option maxRecDepth 100000 in
theorem r_187_1 : ∀ (d : Nat) (l0 l2 l3 l4 : Option Value) (v : Int32) (st : List Value) (M : Mem) (Q : Outcome → Mem → Prop), Wp d 187 1 [l0, some (.int v), l2, l3, l4] st M Q = Wp d 187 2 [l0, some (.int v), l2, l3, l4] (.int v :: st) M Q := fun d l0 l2 l3 l4 v st M Q => wA (show ins 187 1 = some (.iload_n 1, 1) by decide +kernel) rfl
set_option maxRecDepth 100000 in
theorem r_187_2 : ∀ (d : Nat) (l0 l1 l3 l4 : Option Value) (v : Int32) (st : List Value) (M : Mem) (Q : Outcome → Mem → Prop), Wp d 187 2 [l0, l1, some (.int v), l3, l4] st M Q = Wp d 187 3 [l0, l1, some (.int v), l3, l4] (.int v :: st) M Q := fun d l0 l1 l3 l4 v st M Q => wA (show ins 187 2 = some (.iload_n 2, 1) by decide +kernel) rfl
set_option maxRecDepth 100000 in
theorem r_187_3 : ∀ (d : Nat) (l0 l1 l2 l4 : Option Value) (v : Int32) (st : List Value) (M : Mem) (Q : Outcome → Mem → Prop), Wp d 187 3 [l0, l1, l2, some (.int v), l4] st M Q = Wp d 187 4 [l0, l1, l2, some (.int v), l4] (.int v :: st) M Q := fun d l0 l1 l2 l4 v st M Q => wA (show ins 187 3 = some (.iload_n 3, 1) by decide +kernel) rfl
set_option maxRecDepth 100000 in
theorem r_187_4 : ∀ (d : Nat) (ls : Lc) (v0 v1 v2 : Value) (a : Nat) (st : List Value) (M : Mem) (Q : Outcome → Mem → Prop), (smallR st = true) → Wp d 187 4 ls (v2 :: v1 :: v0 :: .ref a :: st) M Q = (kO M a = 8 ∧ Ca d 187 4 ls 163 (.ref a :: [v0, v1, v2]) st M Q) := fun d ls v0 v1 v2 a st M Q h0 => w_virt1 (as := [v0, v1, v2]) (show ins 187 4 = some (.invokevirtual 117, 3) by decide +kernel) (show mRes (mC 187) 117 = some (3, 8, [(8, 163)]) by decide +kernel) (by decide +kernel) rfl (by decide +kernel) (by decide +kernel) h0
set_option maxRecDepth 100000 in
theorem r_187_7 : ∀ (d : Nat) (l0 l1 l2 l3 l4 : Option Value) (v : Int32) (st : List Value) (M : Mem) (Q : Outcome → Mem → Prop), (lo l3 = false) → Wp d 187 7 [l0, l1, l2, l3, l4] (.int v :: st) M Q = Wp d 187 9 [l0, l1, l2, l3, some (.int v)] st M Q := fun d l0 l1 l2 l3 l4 v st M Q hl => w_istore (show ins 187 7 = some (.istore 4, 2) by decide +kernel) (st1_S rfl rfl hl)
set_option maxRecDepth 100000 in
theorem r_187_9 : ∀ (d : Nat) (l1 l2 l3 l4 : Option Value) (v : Nat) (st : List Value) (M : Mem) (Q : Outcome → Mem → Prop), Wp d 187 9 [some (.ref v), l1, l2, l3, l4] st M Q = Wp d 187 10 [some (.ref v), l1, l2, l3, l4] (.ref v :: st) M Q := fun d l1 l2 l3 l4 v st M Q => wA (show ins 187 9 = some (.aload_n 0, 1) by decide +kernel) rfl
set_option maxRecDepth 100000 in
theorem r_187_10 : ∀ (d : Nat) (l0 l1 l2 l3 : Option Value) (v : Int32) (st : List Value) (M : Mem) (Q : Outcome → Mem → Prop), Wp d 187 10 [l0, l1, l2, l3, some (.int v)] st M Q = Wp d 187 12 [l0, l1, l2, l3, some (.int v)] (.int v :: st) M Q := fun d l0 l1 l2 l3 v st M Q => wA (show ins 187 10 = some (.iload 4, 2) by decide +kernel) rfl
set_option maxRecDepth 100000 in
theorem r_187_12 : ∀ (d : Nat) (l1 l2 l3 l4 : Option Value) (v : Nat) (st : List Value) (M : Mem) (Q : Outcome → Mem → Prop), Wp d 187 12 [some (.ref v), l1, l2, l3, l4] st M Q = Wp d 187 13 [some (.ref v), l1, l2, l3, l4] (.ref v :: st) M Q := fun d l1 l2 l3 l4 v st M Q => wA (show ins 187 12 = some (.aload_n 0, 1) by decide +kernel) rfl
set_option maxRecDepth 100000 in
theorem r_187_13 : ∀ (d : Nat) (l0 l2 l3 l4 : Option Value) (v : Int32) (st : List Value) (M : Mem) (Q : Outcome → Mem → Prop), Wp d 187 13 [l0, some (.int v), l2, l3, l4] st M Q = Wp d 187 14 [l0, some (.int v), l2, l3, l4] (.int v :: st) M Q := fun d l0 l2 l3 l4 v st M Q => wA (show ins 187 13 = some (.iload_n 1, 1) by decide +kernel) rfl
set_option maxRecDepth 100000 in
theorem r_187_14 : ∀ (d : Nat) (l0 l1 l3 l4 : Option Value) (v : Int32) (st : List Value) (M : Mem) (Q : Outcome → Mem → Prop), Wp d 187 14 [l0, l1, some (.int v), l3, l4] st M Q = Wp d 187 15 [l0, l1, some (.int v), l3, l4] (.int v :: st) M Q := fun d l0 l1 l3 l4 v st M Q => wA (show ins 187 14 = some (.iload_n 2, 1) by decide +kernel) rfl
set_option maxRecDepth 100000 in
theorem r_187_15 : ∀ (d : Nat) (l0 l1 l2 l4 : Option Value) (v : Int32) (st : List Value) (M : Mem) (Q : Outcome → Mem → Prop), Wp d 187 15 [l0, l1, l2, some (.int v), l4] st M Q = Wp d 187 16 [l0, l1, l2, some (.int v), l4] (.int v :: st) M Q := fun d l0 l1 l2 l4 v st M Q => wA (show ins 187 15 = some (.iload_n 3, 1) by decide +kernel) rfl
set_option maxRecDepth 100000 in
theorem r_187_16 : ∀ (d : Nat) (ls : Lc) (v0 v1 v2 : Value) (a : Nat) (st : List Value) (M : Mem) (Q : Outcome → Mem → Prop), (smallR st = true) → Wp d 187 16 ls (v2 :: v1 :: v0 :: .ref a :: st) M Q = (kO M a = 8 ∧ Ca d 187 16 ls 162 (.ref a :: [v0, v1, v2]) st M Q) := fun d ls v0 v1 v2 a st M Q h0 => w_virt1 (as := [v0, v1, v2]) (show ins 187 16 = some (.invokevirtual 124, 3) by decide +kernel) (show mRes (mC 187) 124 = some (3, 8, [(8, 162)]) by decide +kernel) (by decide +kernel) rfl (by decide +kernel) (by decide +kernel) h0
set_option maxRecDepth 100000 in
theorem r_187_19 : ∀ (d : Nat) (ls : Lc) (v0 v1 : Value) (a : Nat) (st : List Value) (M : Mem) (Q : Outcome → Mem → Prop), (smallR st = true) → Wp d 187 19 ls (v1 :: v0 :: .ref a :: st) M Q = (kO M a = 8 ∧ Ca d 187 19 ls 176 (.ref a :: [v0, v1]) st M Q) := fun d ls v0 v1 a st M Q h0 => w_virt1 (as := [v0, v1]) (show ins 187 19 = some (.invokevirtual 94, 3) by decide +kernel) (show mRes (mC 187) 94 = some (3, 8, [(8, 176)]) by decide +kernel) (by decide +kernel) rfl (by decide +kernel) (by decide +kernel) h0
set_option maxRecDepth 100000 in
theorem r_187_22 : ∀ (d : Nat) (l1 l2 l3 l4 : Option Value) (v : Nat) (st : List Value) (M : Mem) (Q : Outcome → Mem → Prop), Wp d 187 22 [some (.ref v), l1, l2, l3, l4] st M Q = Wp d 187 23 [some (.ref v), l1, l2, l3, l4] (.ref v :: st) M Q := fun d l1 l2 l3 l4 v st M Q => wA (show ins 187 22 = some (.aload_n 0, 1) by decide +kernel) rfl
set_option maxRecDepth 100000 in
theorem r_187_23 : ∀ (d : Nat) (l0 l1 l2 l3 : Option Value) (v : Int32) (st : List Value) (M : Mem) (Q : Outcome → Mem → Prop), Wp d 187 23 [l0, l1, l2, l3, some (.int v)] st M Q = Wp d 187 25 [l0, l1, l2, l3, some (.int v)] (.int v :: st) M Q := fun d l0 l1 l2 l3 v st M Q => wA (show ins 187 23 = some (.iload 4, 2) by decide +kernel) rfl
set_option maxRecDepth 100000 in
theorem r_187_25 : ∀ (d : Nat) (ls : Lc) (v0 : Value) (a : Nat) (st : List Value) (M : Mem) (Q : Outcome → Mem → Prop), (smallR st = true) → Wp d 187 25 ls (v0 :: .ref a :: st) M Q = (kO M a = 8 ∧ Ca d 187 25 ls 188 (.ref a :: [v0]) st M Q) := fun d ls v0 a st M Q h0 => w_virt1 (as := [v0]) (show ins 187 25 = some (.invokevirtual 127, 3) by decide +kernel) (show mRes (mC 187) 127 = some (3, 8, [(8, 188)]) by decide +kernel) (by decide +kernel) rfl (by decide +kernel) (by decide +kernel) h0
set_option maxRecDepth 100000 in
theorem r_187_28 : ∀ (d : Nat) (ls : Lc) (M : Mem) (Q : Outcome → Mem → Prop), Wp d 187 28 ls [] M Q = Q (.returned none) M := fun d ls M Q => w_return (show ins 187 28 = some (.return_, 1) by decide +kernel) (by decide +kernel)
set_option maxRecDepth 100000 in
theorem W_187 : (type_of% r_187_0) ∧ (type_of% r_187_1) ∧ (type_of% r_187_2) ∧ (type_of% r_187_3) ∧ (type_of% r_187_4) ∧ (type_of% r_187_7) ∧ (type_of% r_187_9) ∧ (type_of% r_187_10) ∧ (type_of% r_187_12) ∧ (type_of% r_187_13) ∧ (type_of% r_187_14) ∧ (type_of% r_187_15) ∧ (type_of% r_187_16) ∧ (type_of% r_187_19) ∧ (type_of% r_187_22) ∧ (type_of% r_187_23) ∧ (type_of% r_187_25) ∧ (type_of% r_187_28) := ⟨r_187_0, r_187_1, r_187_2, r_187_3, r_187_4, r_187_7, r_187_9, r_187_10, r_187_12, r_187_13, r_187_14, r_187_15, r_187_16, r_187_19, r_187_22, r_187_23, r_187_25, r_187_28⟩
set_option maxRecDepth 100000 in
theorem ca_187 {d y pc : Nat} {ls : Lc} {a : Nat} {z0 : Int32} {z1 : Int32} {z2 : Int32} {r : List Value} {M : Mem} {Q : Outcome → Mem → Prop} (hd : 0 < d) (hw : Wp (d - 1) 187 0 [some (.ref a), some (.int z0), some (.int z1), some (.int z2), none] [] M (Cq d y pc ls r Q)) : Ca d y pc ls 187 [.ref a, .int z0, .int z1, .int z2] r M Q := ca_of (mq_get (by decide)) (by rfl) hd hw
/-! 188 PackedTreeModel.lookAt(I)V; loop heads [2, 87, 150] -/
set_option maxRecDepth 100000 in
theorem r_188_0 : ∀ (d : Nat) (l0 l2 l3 l4 l5 : Option Value) (v : Int32) (st : List Value) (M : Mem) (Q : Outcome → Mem → Prop), Wp d 188 0 [l0, some (.int v), l2, l3, l4, l5] st M Q = Wp d 188 1 [l0, some (.int v), l2, l3, l4, l5] (.int v :: st) M Q := fun d l0 l2 l3 l4 l5 v st M Q => wA (show ins 188 0 = some (.iload_n 1, 1) by decide +kernel) rfl
set_option maxRecDepth 100000 in
theorem r_188_1 : ∀ (d : Nat) (l0 l1 l2 l3 l4 l5 : Option Value) (v : Int32) (st : List Value) (M : Mem) (Q : Outcome → Mem → Prop), (lo l1 = false) → Wp d 188 1 [l0, l1, l2, l3, l4, l5] (.int v :: st) M Q = Wp d 188 2 [l0, l1, some (.int v), l3, l4, l5] st M Q := fun d l0 l1 l2 l3 l4 l5 v st M Q hl => w_istore_n (show ins 188 1 = some (.istore_n 2, 1) by decide +kernel) (st1_S rfl rfl hl)
set_option maxRecDepth 100000 in
theorem r_188_2 : ∀ (d : Nat) (l1 l2 l3 l4 l5 : Option Value) (v : Nat) (st : List Value) (M : Mem) (Q : Outcome → Mem → Prop), Wp d 188 2 [some (.ref v), l1, l2, l3, l4, l5] st M Q = Wp d 188 3 [some (.ref v), l1, l2, l3, l4, l5] (.ref v :: st) M Q := fun d l1 l2 l3 l4 l5 v st M Q => wA (show ins 188 2 = some (.aload_n 0, 1) by decide +kernel) rfl
set_option maxRecDepth 100000 in
theorem r_188_3 : ∀ (d : Nat) (l0 l1 l3 l4 l5 : Option Value) (v : Int32) (st : List Value) (M : Mem) (Q : Outcome → Mem → Prop), Wp d 188 3 [l0, l1, some (.int v), l3, l4, l5] st M Q = Wp d 188 4 [l0, l1, some (.int v), l3, l4, l5] (.int v :: st) M Q := fun d l0 l1 l3 l4 l5 v st M Q => wA (show ins 188 3 = some (.iload_n 2, 1) by decide +kernel) rfl
set_option maxRecDepth 100000 in
theorem r_188_4 : ∀ (d : Nat) (ls : Lc) (st : List Value) (M : Mem) (Q : Outcome → Mem → Prop), Wp d 188 4 ls st M Q = Wp d 188 5 ls (.int (I (-1)) :: st) M Q := fun d ls st M Q => w_iconst (show ins 188 4 = some (.iconst (-1), 1) by decide +kernel)
set_option maxRecDepth 100000 in
theorem r_188_5 : ∀ (d : Nat) (ls : Lc) (v0 v1 : Value) (a : Nat) (st : List Value) (M : Mem) (Q : Outcome → Mem → Prop), (smallR st = true) → Wp d 188 5 ls (v1 :: v0 :: .ref a :: st) M Q = (kO M a = 8 ∧ Ca d 188 5 ls 170 (.ref a :: [v0, v1]) st M Q) := fun d ls v0 v1 a st M Q h0 => w_virt1 (as := [v0, v1]) (show ins 188 5 = some (.invokevirtual 88, 3) by decide +kernel) (show mRes (mC 188) 88 = some (3, 8, [(8, 170)]) by decide +kernel) (by decide +kernel) rfl (by decide +kernel) (by decide +kernel) h0
set_option maxRecDepth 100000 in
theorem r_188_8 : ∀ (d : Nat) (l0 l1 l2 l3 l4 l5 : Option Value) (v : Int32) (st : List Value) (M : Mem) (Q : Outcome → Mem → Prop), (lo l2 = false) → Wp d 188 8 [l0, l1, l2, l3, l4, l5] (.int v :: st) M Q = Wp d 188 9 [l0, l1, l2, some (.int v), l4, l5] st M Q := fun d l0 l1 l2 l3 l4 l5 v st M Q hl => w_istore_n (show ins 188 8 = some (.istore_n 3, 1) by decide +kernel) (st1_S rfl rfl hl)
set_option maxRecDepth 100000 in
theorem r_188_9 : ∀ (d : Nat) (l1 l2 l3 l4 l5 : Option Value) (v : Nat) (st : List Value) (M : Mem) (Q : Outcome → Mem → Prop), Wp d 188 9 [some (.ref v), l1, l2, l3, l4, l5] st M Q = Wp d 188 10 [some (.ref v), l1, l2, l3, l4, l5] (.ref v :: st) M Q := fun d l1 l2 l3 l4 l5 v st M Q => wA (show ins 188 9 = some (.aload_n 0, 1) by decide +kernel) rfl
set_option maxRecDepth 100000 in
theorem r_188_10 : ∀ (d : Nat) (l0 l1 l3 l4 l5 : Option Value) (v : Int32) (st : List Value) (M : Mem) (Q : Outcome → Mem → Prop), Wp d 188 10 [l0, l1, some (.int v), l3, l4, l5] st M Q = Wp d 188 11 [l0, l1, some (.int v), l3, l4, l5] (.int v :: st) M Q := fun d l0 l1 l3 l4 l5 v st M Q => wA (show ins 188 10 = some (.iload_n 2, 1) by decide +kernel) rfl
set_option maxRecDepth 100000 in
theorem r_188_11 : ∀ (d : Nat) (ls : Lc) (st : List Value) (M : Mem) (Q : Outcome → Mem → Prop), Wp d 188 11 ls st M Q = Wp d 188 12 ls (.int (I 1) :: st) M Q := fun d ls st M Q => w_iconst (show ins 188 11 = some (.iconst 1, 1) by decide +kernel)
set_option maxRecDepth 100000 in
theorem r_188_12 : ∀ (d : Nat) (ls : Lc) (v0 v1 : Value) (a : Nat) (st : List Value) (M : Mem) (Q : Outcome → Mem → Prop), (smallR st = true) → Wp d 188 12 ls (v1 :: v0 :: .ref a :: st) M Q = (kO M a = 8 ∧ Ca d 188 12 ls 170 (.ref a :: [v0, v1]) st M Q) := fun d ls v0 v1 a st M Q h0 => w_virt1 (as := [v0, v1]) (show ins 188 12 = some (.invokevirtual 88, 3) by decide +kernel) (show mRes (mC 188) 88 = some (3, 8, [(8, 170)]) by decide +kernel) (by decide +kernel) rfl (by decide +kernel) (by decide +kernel) h0
set_option maxRecDepth 100000 in
theorem r_188_15 : ∀ (d : Nat) (l0 l1 l2 l3 l4 l5 : Option Value) (v : Int32) (st : List Value) (M : Mem) (Q : Outcome → Mem → Prop), (lo l3 = false) → Wp d 188 15 [l0, l1, l2, l3, l4, l5] (.int v :: st) M Q = Wp d 188 17 [l0, l1, l2, l3, some (.int v), l5] st M Q := fun d l0 l1 l2 l3 l4 l5 v st M Q hl => w_istore (show ins 188 15 = some (.istore 4, 2) by decide +kernel) (st1_S rfl rfl hl)
set_option maxRecDepth 100000 in
theorem r_188_17 : ∀ (d : Nat) (l1 l2 l3 l4 l5 : Option Value) (v : Nat) (st : List Value) (M : Mem) (Q : Outcome → Mem → Prop), Wp d 188 17 [some (.ref v), l1, l2, l3, l4, l5] st M Q = Wp d 188 18 [some (.ref v), l1, l2, l3, l4, l5] (.ref v :: st) M Q := fun d l1 l2 l3 l4 l5 v st M Q => wA (show ins 188 17 = some (.aload_n 0, 1) by decide +kernel) rfl
set_option maxRecDepth 100000 in
theorem r_188_18 : ∀ (d : Nat) (l0 l1 l3 l4 l5 : Option Value) (v : Int32) (st : List Value) (M : Mem) (Q : Outcome → Mem → Prop), Wp d 188 18 [l0, l1, some (.int v), l3, l4, l5] st M Q = Wp d 188 19 [l0, l1, some (.int v), l3, l4, l5] (.int v :: st) M Q := fun d l0 l1 l3 l4 l5 v st M Q => wA (show ins 188 18 = some (.iload_n 2, 1) by decide +kernel) rfl
set_option maxRecDepth 100000 in
theorem r_188_19 : ∀ (d : Nat) (ls : Lc) (v0 : Value) (a : Nat) (st : List Value) (M : Mem) (Q : Outcome → Mem → Prop), (smallR st = true) → Wp d 188 19 ls (v0 :: .ref a :: st) M Q = (kO M a = 8 ∧ Ca d 188 19 ls 173 (.ref a :: [v0]) st M Q) := fun d ls v0 a st M Q h0 => w_virt1 (as := [v0]) (show ins 188 19 = some (.invokevirtual 97, 3) by decide +kernel) (show mRes (mC 188) 97 = some (3, 8, [(8, 173)]) by decide +kernel) (by decide +kernel) rfl (by decide +kernel) (by decide +kernel) h0
set_option maxRecDepth 100000 in
theorem r_188_22 : ∀ (d : Nat) (l0 l1 l2 l3 l4 l5 : Option Value) (v : Int32) (st : List Value) (M : Mem) (Q : Outcome → Mem → Prop), (lo l4 = false) → Wp d 188 22 [l0, l1, l2, l3, l4, l5] (.int v :: st) M Q = Wp d 188 24 [l0, l1, l2, l3, l4, some (.int v)] st M Q := fun d l0 l1 l2 l3 l4 l5 v st M Q hl => w_istore (show ins 188 22 = some (.istore 5, 2) by decide +kernel) (st1_S rfl rfl hl)
set_option maxRecDepth 100000 in
theorem r_188_24 : ∀ (d : Nat) (l1 l2 l3 l4 l5 : Option Value) (v : Nat) (st : List Value) (M : Mem) (Q : Outcome → Mem → Prop), Wp d 188 24 [some (.ref v), l1, l2, l3, l4, l5] st M Q = Wp d 188 25 [some (.ref v), l1, l2, l3, l4, l5] (.ref v :: st) M Q := fun d l1 l2 l3 l4 l5 v st M Q => wA (show ins 188 24 = some (.aload_n 0, 1) by decide +kernel) rfl
set_option maxRecDepth 100000 in
theorem r_188_25 : ∀ (d : Nat) (ls : Lc) (a : Nat) (st : List Value) (M : Mem) (Q : Outcome → Mem → Prop), Wp d 188 25 ls (.ref a :: st) M Q = (fk 53 (kO M a) = true ∧ Wp d 188 28 ls (va_rf (mR M 53 a) :: st) M Q) := fun d ls a st M Q => w_getR (show ins 188 25 = some (.getfield 7, 3) by decide +kernel) (show fRes (mC 188) 7 = some (53, 8, false) by decide +kernel) (by decide +kernel)
set_option maxRecDepth 100000 in
theorem r_188_28 : ∀ (d : Nat) (ls : Lc) (st : List Value) (M : Mem) (Q : Outcome → Mem → Prop), Wp d 188 28 ls st M Q = Wp d 188 31 ls (.int (I 3852) :: st) M Q := fun d ls st M Q => w_sipush (show ins 188 28 = some (.sipush 3852, 3) by decide +kernel) (by decide)
set_option maxRecDepth 100000 in
theorem r_188_31 : ∀ (d : Nat) (l0 l1 l3 l4 l5 : Option Value) (v : Int32) (st : List Value) (M : Mem) (Q : Outcome → Mem → Prop), Wp d 188 31 [l0, l1, some (.int v), l3, l4, l5] st M Q = Wp d 188 32 [l0, l1, some (.int v), l3, l4, l5] (.int v :: st) M Q := fun d l0 l1 l3 l4 l5 v st M Q => wA (show ins 188 31 = some (.iload_n 2, 1) by decide +kernel) rfl
set_option maxRecDepth 100000 in
theorem r_188_32 : ∀ (d : Nat) (ls : Lc) (a b : Int) (st : List Value) (M : Mem) (Q : Outcome → Mem → Prop), Wp d 188 32 ls (.int (I b) :: .int (I a) :: st) M Q = Wp d 188 33 ls (.int (I (a + b)) :: st) M Q := fun d ls a b st M Q => w_iadd (show ins 188 32 = some (.iadd, 1) by decide +kernel)
set_option maxRecDepth 100000 in
theorem r_188_33 : ∀ (d : Nat) (ls : Lc) (a : Nat) (j : Int32) (st : List Value) (M : Mem) (Q : Outcome → Mem → Prop), Wp d 188 33 ls (.int j :: .ref a :: st) M Q = ((((kX M a).1 = 0 ∨ (kX M a).1 = 8) ∧ inB j (kX M a).2 = true) ∧ Wp d 188 34 ls (.int (mA M a j.toNatClampNeg) :: st) M Q) := fun d ls a j st M Q => w_iaload (show ins 188 33 = some (.iaload, 1) by decide +kernel)
set_option maxRecDepth 100000 in
theorem r_188_34 : ∀ (d : Nat) (ls : Lc) (a : Int32) (st : List Value) (M : Mem) (Q : Outcome → Mem → Prop), Wp d 188 34 ls (.int a :: st) M Q = Br (¬ a = I 0) d 188 69 37 ls st M Q := fun d ls a st M Q => w_if (show ins 188 34 = some (.ifCond .ne 35, 3) by decide +kernel) rfl rfl
set_option maxRecDepth 100000 in
theorem r_188_37 : ∀ (d : Nat) (l1 l2 l3 l4 l5 : Option Value) (v : Nat) (st : List Value) (M : Mem) (Q : Outcome → Mem → Prop), Wp d 188 37 [some (.ref v), l1, l2, l3, l4, l5] st M Q = Wp d 188 38 [some (.ref v), l1, l2, l3, l4, l5] (.ref v :: st) M Q := fun d l1 l2 l3 l4 l5 v st M Q => wA (show ins 188 37 = some (.aload_n 0, 1) by decide +kernel) rfl
set_option maxRecDepth 100000 in
theorem r_188_38 : ∀ (d : Nat) (ls : Lc) (a : Nat) (st : List Value) (M : Mem) (Q : Outcome → Mem → Prop), Wp d 188 38 ls (.ref a :: st) M Q = (fk 53 (kO M a) = true ∧ Wp d 188 41 ls (va_rf (mR M 53 a) :: st) M Q) := fun d ls a st M Q => w_getR (show ins 188 38 = some (.getfield 7, 3) by decide +kernel) (show fRes (mC 188) 7 = some (53, 8, false) by decide +kernel) (by decide +kernel)
set_option maxRecDepth 100000 in
theorem r_188_41 : ∀ (d : Nat) (ls : Lc) (st : List Value) (M : Mem) (Q : Outcome → Mem → Prop), Wp d 188 41 ls st M Q = Wp d 188 44 ls (.int (I 13068) :: st) M Q := fun d ls st M Q => w_sipush (show ins 188 41 = some (.sipush 13068, 3) by decide +kernel) (by decide)
set_option maxRecDepth 100000 in
theorem r_188_44 : ∀ (d : Nat) (ls : Lc) (a : Nat) (j : Int32) (st : List Value) (M : Mem) (Q : Outcome → Mem → Prop), Wp d 188 44 ls (.int j :: .ref a :: st) M Q = ((((kX M a).1 = 0 ∨ (kX M a).1 = 8) ∧ inB j (kX M a).2 = true) ∧ Wp d 188 45 ls (.int (mA M a j.toNatClampNeg) :: st) M Q) := fun d ls a j st M Q => w_iaload (show ins 188 44 = some (.iaload, 1) by decide +kernel)
set_option maxRecDepth 100000 in
theorem r_188_45 : ∀ (d : Nat) (ls : Lc) (st : List Value) (M : Mem) (Q : Outcome → Mem → Prop), Wp d 188 45 ls st M Q = Wp d 188 46 ls (.int (I 1) :: st) M Q := fun d ls st M Q => w_iconst (show ins 188 45 = some (.iconst 1, 1) by decide +kernel)
set_option maxRecDepth 100000 in
theorem r_188_46 : ∀ (d : Nat) (ls : Lc) (a b : Int32) (st : List Value) (M : Mem) (Q : Outcome → Mem → Prop), Wp d 188 46 ls (.int b :: .int a :: st) M Q = Br (a ≤ b) d 188 69 49 ls st M Q := fun d ls a b st M Q => w_icmp (show ins 188 46 = some (.if_icmp .le 23, 3) by decide +kernel) rfl rfl
set_option maxRecDepth 100000 in
theorem r_188_49 : ∀ (d : Nat) (l1 l2 l3 l4 l5 : Option Value) (v : Nat) (st : List Value) (M : Mem) (Q : Outcome → Mem → Prop), Wp d 188 49 [some (.ref v), l1, l2, l3, l4, l5] st M Q = Wp d 188 50 [some (.ref v), l1, l2, l3, l4, l5] (.ref v :: st) M Q := fun d l1 l2 l3 l4 l5 v st M Q => wA (show ins 188 49 = some (.aload_n 0, 1) by decide +kernel) rfl
set_option maxRecDepth 100000 in
theorem r_188_50 : ∀ (d : Nat) (l0 l1 l3 l4 l5 : Option Value) (v : Int32) (st : List Value) (M : Mem) (Q : Outcome → Mem → Prop), Wp d 188 50 [l0, l1, some (.int v), l3, l4, l5] st M Q = Wp d 188 51 [l0, l1, some (.int v), l3, l4, l5] (.int v :: st) M Q := fun d l0 l1 l3 l4 l5 v st M Q => wA (show ins 188 50 = some (.iload_n 2, 1) by decide +kernel) rfl
set_option maxRecDepth 100000 in
theorem r_188_51 : ∀ (d : Nat) (ls : Lc) (v0 : Value) (a : Nat) (st : List Value) (M : Mem) (Q : Outcome → Mem → Prop), (smallR st = true) → Wp d 188 51 ls (v0 :: .ref a :: st) M Q = (kO M a = 8 ∧ Ca d 188 51 ls 189 (.ref a :: [v0]) st M Q) := fun d ls v0 a st M Q h0 => w_virt1 (as := [v0]) (show ins 188 51 = some (.invokevirtual 110, 3) by decide +kernel) (show mRes (mC 188) 110 = some (3, 8, [(8, 189)]) by decide +kernel) (by decide +kernel) rfl (by decide +kernel) (by decide +kernel) h0
set_option maxRecDepth 100000 in
theorem r_188_54 : ∀ (d : Nat) (l0 l1 l2 l4 l5 : Option Value) (v : Int32) (st : List Value) (M : Mem) (Q : Outcome → Mem → Prop), Wp d 188 54 [l0, l1, l2, some (.int v), l4, l5] st M Q = Wp d 188 55 [l0, l1, l2, some (.int v), l4, l5] (.int v :: st) M Q := fun d l0 l1 l2 l4 l5 v st M Q => wA (show ins 188 54 = some (.iload_n 3, 1) by decide +kernel) rfl
set_option maxRecDepth 100000 in
theorem r_188_55 : ∀ (d : Nat) (ls : Lc) (st : List Value) (M : Mem) (Q : Outcome → Mem → Prop), Wp d 188 55 ls st M Q = Wp d 188 56 ls (.int (I (-1)) :: st) M Q := fun d ls st M Q => w_iconst (show ins 188 55 = some (.iconst (-1), 1) by decide +kernel)
set_option maxRecDepth 100000 in
theorem r_188_56 : ∀ (d : Nat) (ls : Lc) (a b : Int32) (st : List Value) (M : Mem) (Q : Outcome → Mem → Prop), Wp d 188 56 ls (.int b :: .int a :: st) M Q = Br (a = b) d 188 63 59 ls st M Q := fun d ls a b st M Q => w_icmp (show ins 188 56 = some (.if_icmp .eq 7, 3) by decide +kernel) rfl rfl
set_option maxRecDepth 100000 in
theorem r_188_59 : ∀ (d : Nat) (l0 l1 l2 l4 l5 : Option Value) (v : Int32) (st : List Value) (M : Mem) (Q : Outcome → Mem → Prop), Wp d 188 59 [l0, l1, l2, some (.int v), l4, l5] st M Q = Wp d 188 60 [l0, l1, l2, some (.int v), l4, l5] (.int v :: st) M Q := fun d l0 l1 l2 l4 l5 v st M Q => wA (show ins 188 59 = some (.iload_n 3, 1) by decide +kernel) rfl
set_option maxRecDepth 100000 in
theorem r_188_60 : ∀ (d : Nat) (ls : Lc) (st : List Value) (M : Mem) (Q : Outcome → Mem → Prop), Wp d 188 60 ls st M Q = Wp d 188 65 ls st M Q := fun d ls st M Q => w_goto (show ins 188 60 = some (.goto 5, 3) by decide +kernel) rfl
set_option maxRecDepth 100000 in
theorem r_188_63 : ∀ (d : Nat) (l0 l1 l2 l3 l5 : Option Value) (v : Int32) (st : List Value) (M : Mem) (Q : Outcome → Mem → Prop), Wp d 188 63 [l0, l1, l2, l3, some (.int v), l5] st M Q = Wp d 188 65 [l0, l1, l2, l3, some (.int v), l5] (.int v :: st) M Q := fun d l0 l1 l2 l3 l5 v st M Q => wA (show ins 188 63 = some (.iload 4, 2) by decide +kernel) rfl
set_option maxRecDepth 100000 in
theorem r_188_65 : ∀ (d : Nat) (l0 l1 l2 l3 l4 l5 : Option Value) (v : Int32) (st : List Value) (M : Mem) (Q : Outcome → Mem → Prop), (lo l1 = false) → Wp d 188 65 [l0, l1, l2, l3, l4, l5] (.int v :: st) M Q = Wp d 188 66 [l0, l1, some (.int v), l3, l4, l5] st M Q := fun d l0 l1 l2 l3 l4 l5 v st M Q hl => w_istore_n (show ins 188 65 = some (.istore_n 2, 1) by decide +kernel) (st1_S rfl rfl hl)
set_option maxRecDepth 100000 in
theorem r_188_66 : ∀ (d : Nat) (ls : Lc) (st : List Value) (M : Mem) (Q : Outcome → Mem → Prop), Wp d 188 66 ls st M Q = Wp d 188 195 ls st M Q := fun d ls st M Q => w_goto (show ins 188 66 = some (.goto 129, 3) by decide +kernel) rfl
set_option maxRecDepth 100000 in
theorem r_188_69 : ∀ (d : Nat) (l0 l1 l2 l4 l5 : Option Value) (v : Int32) (st : List Value) (M : Mem) (Q : Outcome → Mem → Prop), Wp d 188 69 [l0, l1, l2, some (.int v), l4, l5] st M Q = Wp d 188 70 [l0, l1, l2, some (.int v), l4, l5] (.int v :: st) M Q := fun d l0 l1 l2 l4 l5 v st M Q => wA (show ins 188 69 = some (.iload_n 3, 1) by decide +kernel) rfl
set_option maxRecDepth 100000 in
theorem r_188_70 : ∀ (d : Nat) (ls : Lc) (st : List Value) (M : Mem) (Q : Outcome → Mem → Prop), Wp d 188 70 ls st M Q = Wp d 188 71 ls (.int (I (-1)) :: st) M Q := fun d ls st M Q => w_iconst (show ins 188 70 = some (.iconst (-1), 1) by decide +kernel)
set_option maxRecDepth 100000 in
theorem r_188_71 : ∀ (d : Nat) (ls : Lc) (a b : Int32) (st : List Value) (M : Mem) (Q : Outcome → Mem → Prop), Wp d 188 71 ls (.int b :: .int a :: st) M Q = Br (a = b) d 188 130 74 ls st M Q := fun d ls a b st M Q => w_icmp (show ins 188 71 = some (.if_icmp .eq 59, 3) by decide +kernel) rfl rfl
set_option maxRecDepth 100000 in
theorem r_188_74 : ∀ (d : Nat) (l0 l1 l2 l3 l4 : Option Value) (v : Int32) (st : List Value) (M : Mem) (Q : Outcome → Mem → Prop), Wp d 188 74 [l0, l1, l2, l3, l4, some (.int v)] st M Q = Wp d 188 76 [l0, l1, l2, l3, l4, some (.int v)] (.int v :: st) M Q := fun d l0 l1 l2 l3 l4 v st M Q => wA (show ins 188 74 = some (.iload 5, 2) by decide +kernel) rfl
set_option maxRecDepth 100000 in
theorem r_188_76 : ∀ (d : Nat) (l1 l2 l3 l4 l5 : Option Value) (v : Nat) (st : List Value) (M : Mem) (Q : Outcome → Mem → Prop), Wp d 188 76 [some (.ref v), l1, l2, l3, l4, l5] st M Q = Wp d 188 77 [some (.ref v), l1, l2, l3, l4, l5] (.ref v :: st) M Q := fun d l1 l2 l3 l4 l5 v st M Q => wA (show ins 188 76 = some (.aload_n 0, 1) by decide +kernel) rfl
set_option maxRecDepth 100000 in
theorem r_188_77 : ∀ (d : Nat) (l0 l1 l2 l4 l5 : Option Value) (v : Int32) (st : List Value) (M : Mem) (Q : Outcome → Mem → Prop), Wp d 188 77 [l0, l1, l2, some (.int v), l4, l5] st M Q = Wp d 188 78 [l0, l1, l2, some (.int v), l4, l5] (.int v :: st) M Q := fun d l0 l1 l2 l4 l5 v st M Q => wA (show ins 188 77 = some (.iload_n 3, 1) by decide +kernel) rfl
set_option maxRecDepth 100000 in
theorem r_188_78 : ∀ (d : Nat) (ls : Lc) (v0 : Value) (a : Nat) (st : List Value) (M : Mem) (Q : Outcome → Mem → Prop), (smallR st = true) → Wp d 188 78 ls (v0 :: .ref a :: st) M Q = (kO M a = 8 ∧ Ca d 188 78 ls 173 (.ref a :: [v0]) st M Q) := fun d ls v0 a st M Q h0 => w_virt1 (as := [v0]) (show ins 188 78 = some (.invokevirtual 97, 3) by decide +kernel) (show mRes (mC 188) 97 = some (3, 8, [(8, 173)]) by decide +kernel) (by decide +kernel) rfl (by decide +kernel) (by decide +kernel) h0
set_option maxRecDepth 100000 in
theorem r_188_81 : ∀ (d : Nat) (ls : Lc) (a b : Int) (st : List Value) (M : Mem) (Q : Outcome → Mem → Prop), Wp d 188 81 ls (.int (I b) :: .int (I a) :: st) M Q = Wp d 188 82 ls (.int (I (a + b)) :: st) M Q := fun d ls a b st M Q => w_iadd (show ins 188 81 = some (.iadd, 1) by decide +kernel)
set_option maxRecDepth 100000 in
theorem r_188_82 : ∀ (d : Nat) (ls : Lc) (st : List Value) (M : Mem) (Q : Outcome → Mem → Prop), Wp d 188 82 ls st M Q = Wp d 188 84 ls (.int (I 72) :: st) M Q := fun d ls st M Q => w_bipush (show ins 188 82 = some (.bipush 72, 2) by decide +kernel) (by decide)
set_option maxRecDepth 100000 in
theorem r_188_84 : ∀ (d : Nat) (ls : Lc) (a b : Int32) (st : List Value) (M : Mem) (Q : Outcome → Mem → Prop), Wp d 188 84 ls (.int b :: .int a :: st) M Q = Br (b < a) d 188 130 87 ls st M Q := fun d ls a b st M Q => w_icmp (show ins 188 84 = some (.if_icmp .gt 46, 3) by decide +kernel) rfl rfl
set_option maxRecDepth 100000 in
theorem r_188_87 : ∀ (d : Nat) (l1 l2 l3 l4 l5 : Option Value) (v : Nat) (st : List Value) (M : Mem) (Q : Outcome → Mem → Prop), Wp d 188 87 [some (.ref v), l1, l2, l3, l4, l5] st M Q = Wp d 188 88 [some (.ref v), l1, l2, l3, l4, l5] (.ref v :: st) M Q := fun d l1 l2 l3 l4 l5 v st M Q => wA (show ins 188 87 = some (.aload_n 0, 1) by decide +kernel) rfl
set_option maxRecDepth 100000 in
theorem r_188_88 : ∀ (d : Nat) (ls : Lc) (a : Nat) (st : List Value) (M : Mem) (Q : Outcome → Mem → Prop), Wp d 188 88 ls (.ref a :: st) M Q = (fk 53 (kO M a) = true ∧ Wp d 188 91 ls (va_rf (mR M 53 a) :: st) M Q) := fun d ls a st M Q => w_getR (show ins 188 88 = some (.getfield 7, 3) by decide +kernel) (show fRes (mC 188) 7 = some (53, 8, false) by decide +kernel) (by decide +kernel)
set_option maxRecDepth 100000 in
theorem r_188_91 : ∀ (d : Nat) (ls : Lc) (st : List Value) (M : Mem) (Q : Outcome → Mem → Prop), Wp d 188 91 ls st M Q = Wp d 188 94 ls (.int (I 3852) :: st) M Q := fun d ls st M Q => w_sipush (show ins 188 91 = some (.sipush 3852, 3) by decide +kernel) (by decide)
set_option maxRecDepth 100000 in
theorem r_188_94 : ∀ (d : Nat) (l0 l1 l3 l4 l5 : Option Value) (v : Int32) (st : List Value) (M : Mem) (Q : Outcome → Mem → Prop), Wp d 188 94 [l0, l1, some (.int v), l3, l4, l5] st M Q = Wp d 188 95 [l0, l1, some (.int v), l3, l4, l5] (.int v :: st) M Q := fun d l0 l1 l3 l4 l5 v st M Q => wA (show ins 188 94 = some (.iload_n 2, 1) by decide +kernel) rfl
set_option maxRecDepth 100000 in
theorem r_188_95 : ∀ (d : Nat) (ls : Lc) (a b : Int) (st : List Value) (M : Mem) (Q : Outcome → Mem → Prop), Wp d 188 95 ls (.int (I b) :: .int (I a) :: st) M Q = Wp d 188 96 ls (.int (I (a + b)) :: st) M Q := fun d ls a b st M Q => w_iadd (show ins 188 95 = some (.iadd, 1) by decide +kernel)
set_option maxRecDepth 100000 in
theorem r_188_96 : ∀ (d : Nat) (ls : Lc) (a : Nat) (j : Int32) (st : List Value) (M : Mem) (Q : Outcome → Mem → Prop), Wp d 188 96 ls (.int j :: .ref a :: st) M Q = ((((kX M a).1 = 0 ∨ (kX M a).1 = 8) ∧ inB j (kX M a).2 = true) ∧ Wp d 188 97 ls (.int (mA M a j.toNatClampNeg) :: st) M Q) := fun d ls a j st M Q => w_iaload (show ins 188 96 = some (.iaload, 1) by decide +kernel)
set_option maxRecDepth 100000 in
theorem r_188_97 : ∀ (d : Nat) (ls : Lc) (a : Int32) (st : List Value) (M : Mem) (Q : Outcome → Mem → Prop), Wp d 188 97 ls (.int a :: st) M Q = Br (a ≤ I 0) d 188 120 100 ls st M Q := fun d ls a st M Q => w_if (show ins 188 97 = some (.ifCond .le 23, 3) by decide +kernel) rfl rfl
set_option maxRecDepth 100000 in
theorem r_188_100 : ∀ (d : Nat) (l1 l2 l3 l4 l5 : Option Value) (v : Nat) (st : List Value) (M : Mem) (Q : Outcome → Mem → Prop), Wp d 188 100 [some (.ref v), l1, l2, l3, l4, l5] st M Q = Wp d 188 101 [some (.ref v), l1, l2, l3, l4, l5] (.ref v :: st) M Q := fun d l1 l2 l3 l4 l5 v st M Q => wA (show ins 188 100 = some (.aload_n 0, 1) by decide +kernel) rfl
set_option maxRecDepth 100000 in
theorem r_188_101 : ∀ (d : Nat) (l0 l1 l3 l4 l5 : Option Value) (v : Int32) (st : List Value) (M : Mem) (Q : Outcome → Mem → Prop), Wp d 188 101 [l0, l1, some (.int v), l3, l4, l5] st M Q = Wp d 188 102 [l0, l1, some (.int v), l3, l4, l5] (.int v :: st) M Q := fun d l0 l1 l3 l4 l5 v st M Q => wA (show ins 188 101 = some (.iload_n 2, 1) by decide +kernel) rfl
set_option maxRecDepth 100000 in
theorem r_188_102 : ∀ (d : Nat) (ls : Lc) (st : List Value) (M : Mem) (Q : Outcome → Mem → Prop), Wp d 188 102 ls st M Q = Wp d 188 103 ls (.int (I 0) :: st) M Q := fun d ls st M Q => w_iconst (show ins 188 102 = some (.iconst 0, 1) by decide +kernel)
set_option maxRecDepth 100000 in
theorem r_188_103 : ∀ (d : Nat) (l0 l1 l2 l4 l5 : Option Value) (v : Int32) (st : List Value) (M : Mem) (Q : Outcome → Mem → Prop), Wp d 188 103 [l0, l1, l2, some (.int v), l4, l5] st M Q = Wp d 188 104 [l0, l1, l2, some (.int v), l4, l5] (.int v :: st) M Q := fun d l0 l1 l2 l4 l5 v st M Q => wA (show ins 188 103 = some (.iload_n 3, 1) by decide +kernel) rfl
set_option maxRecDepth 100000 in
theorem r_188_104 : ∀ (d : Nat) (l1 l2 l3 l4 l5 : Option Value) (v : Nat) (st : List Value) (M : Mem) (Q : Outcome → Mem → Prop), Wp d 188 104 [some (.ref v), l1, l2, l3, l4, l5] st M Q = Wp d 188 105 [some (.ref v), l1, l2, l3, l4, l5] (.ref v :: st) M Q := fun d l1 l2 l3 l4 l5 v st M Q => wA (show ins 188 104 = some (.aload_n 0, 1) by decide +kernel) rfl
set_option maxRecDepth 100000 in
theorem r_188_105 : ∀ (d : Nat) (ls : Lc) (a : Nat) (st : List Value) (M : Mem) (Q : Outcome → Mem → Prop), Wp d 188 105 ls (.ref a :: st) M Q = (fk 53 (kO M a) = true ∧ Wp d 188 108 ls (va_rf (mR M 53 a) :: st) M Q) := fun d ls a st M Q => w_getR (show ins 188 105 = some (.getfield 7, 3) by decide +kernel) (show fRes (mC 188) 7 = some (53, 8, false) by decide +kernel) (by decide +kernel)
set_option maxRecDepth 100000 in
theorem r_188_108 : ∀ (d : Nat) (ls : Lc) (st : List Value) (M : Mem) (Q : Outcome → Mem → Prop), Wp d 188 108 ls st M Q = Wp d 188 111 ls (.int (I 3852) :: st) M Q := fun d ls st M Q => w_sipush (show ins 188 108 = some (.sipush 3852, 3) by decide +kernel) (by decide)
set_option maxRecDepth 100000 in
theorem r_188_111 : ∀ (d : Nat) (l0 l1 l2 l4 l5 : Option Value) (v : Int32) (st : List Value) (M : Mem) (Q : Outcome → Mem → Prop), Wp d 188 111 [l0, l1, l2, some (.int v), l4, l5] st M Q = Wp d 188 112 [l0, l1, l2, some (.int v), l4, l5] (.int v :: st) M Q := fun d l0 l1 l2 l4 l5 v st M Q => wA (show ins 188 111 = some (.iload_n 3, 1) by decide +kernel) rfl
set_option maxRecDepth 100000 in
theorem r_188_112 : ∀ (d : Nat) (ls : Lc) (a b : Int) (st : List Value) (M : Mem) (Q : Outcome → Mem → Prop), Wp d 188 112 ls (.int (I b) :: .int (I a) :: st) M Q = Wp d 188 113 ls (.int (I (a + b)) :: st) M Q := fun d ls a b st M Q => w_iadd (show ins 188 112 = some (.iadd, 1) by decide +kernel)
set_option maxRecDepth 100000 in
theorem r_188_113 : ∀ (d : Nat) (ls : Lc) (a : Nat) (j : Int32) (st : List Value) (M : Mem) (Q : Outcome → Mem → Prop), Wp d 188 113 ls (.int j :: .ref a :: st) M Q = ((((kX M a).1 = 0 ∨ (kX M a).1 = 8) ∧ inB j (kX M a).2 = true) ∧ Wp d 188 114 ls (.int (mA M a j.toNatClampNeg) :: st) M Q) := fun d ls a j st M Q => w_iaload (show ins 188 113 = some (.iaload, 1) by decide +kernel)
set_option maxRecDepth 100000 in
theorem r_188_114 : ∀ (d : Nat) (ls : Lc) (v0 v1 v2 v3 : Value) (a : Nat) (st : List Value) (M : Mem) (Q : Outcome → Mem → Prop), (smallR st = true) → Wp d 188 114 ls (v3 :: v2 :: v1 :: v0 :: .ref a :: st) M Q = (kO M a = 8 ∧ Ca d 188 114 ls 175 (.ref a :: [v0, v1, v2, v3]) st M Q) := fun d ls v0 v1 v2 v3 a st M Q h0 => w_virt1 (as := [v0, v1, v2, v3]) (show ins 188 114 = some (.invokevirtual 103, 3) by decide +kernel) (show mRes (mC 188) 103 = some (3, 8, [(8, 175)]) by decide +kernel) (by decide +kernel) rfl (by decide +kernel) (by decide +kernel) h0
set_option maxRecDepth 100000 in
theorem r_188_117 : ∀ (d : Nat) (ls : Lc) (st : List Value) (M : Mem) (Q : Outcome → Mem → Prop), Wp d 188 117 ls st M Q = Wp d 188 87 ls st M Q := fun d ls st M Q => w_goto (show ins 188 117 = some (.goto (-30), 3) by decide +kernel) rfl
set_option maxRecDepth 100000 in
theorem r_188_120 : ∀ (d : Nat) (l1 l2 l3 l4 l5 : Option Value) (v : Nat) (st : List Value) (M : Mem) (Q : Outcome → Mem → Prop), Wp d 188 120 [some (.ref v), l1, l2, l3, l4, l5] st M Q = Wp d 188 121 [some (.ref v), l1, l2, l3, l4, l5] (.ref v :: st) M Q := fun d l1 l2 l3 l4 l5 v st M Q => wA (show ins 188 120 = some (.aload_n 0, 1) by decide +kernel) rfl
set_option maxRecDepth 100000 in
theorem r_188_121 : ∀ (d : Nat) (l0 l1 l3 l4 l5 : Option Value) (v : Int32) (st : List Value) (M : Mem) (Q : Outcome → Mem → Prop), Wp d 188 121 [l0, l1, some (.int v), l3, l4, l5] st M Q = Wp d 188 122 [l0, l1, some (.int v), l3, l4, l5] (.int v :: st) M Q := fun d l0 l1 l3 l4 l5 v st M Q => wA (show ins 188 121 = some (.iload_n 2, 1) by decide +kernel) rfl
set_option maxRecDepth 100000 in
theorem r_188_122 : ∀ (d : Nat) (ls : Lc) (v0 : Value) (a : Nat) (st : List Value) (M : Mem) (Q : Outcome → Mem → Prop), (smallR st = true) → Wp d 188 122 ls (v0 :: .ref a :: st) M Q = (kO M a = 8 ∧ Ca d 188 122 ls 189 (.ref a :: [v0]) st M Q) := fun d ls v0 a st M Q h0 => w_virt1 (as := [v0]) (show ins 188 122 = some (.invokevirtual 110, 3) by decide +kernel) (show mRes (mC 188) 110 = some (3, 8, [(8, 189)]) by decide +kernel) (by decide +kernel) rfl (by decide +kernel) (by decide +kernel) h0
set_option maxRecDepth 100000 in
theorem r_188_125 : ∀ (d : Nat) (l0 l1 l2 l4 l5 : Option Value) (v : Int32) (st : List Value) (M : Mem) (Q : Outcome → Mem → Prop), Wp d 188 125 [l0, l1, l2, some (.int v), l4, l5] st M Q = Wp d 188 126 [l0, l1, l2, some (.int v), l4, l5] (.int v :: st) M Q := fun d l0 l1 l2 l4 l5 v st M Q => wA (show ins 188 125 = some (.iload_n 3, 1) by decide +kernel) rfl
set_option maxRecDepth 100000 in
theorem r_188_126 : ∀ (d : Nat) (l0 l1 l2 l3 l4 l5 : Option Value) (v : Int32) (st : List Value) (M : Mem) (Q : Outcome → Mem → Prop), (lo l1 = false) → Wp d 188 126 [l0, l1, l2, l3, l4, l5] (.int v :: st) M Q = Wp d 188 127 [l0, l1, some (.int v), l3, l4, l5] st M Q := fun d l0 l1 l2 l3 l4 l5 v st M Q hl => w_istore_n (show ins 188 126 = some (.istore_n 2, 1) by decide +kernel) (st1_S rfl rfl hl)
set_option maxRecDepth 100000 in
theorem r_188_127 : ∀ (d : Nat) (ls : Lc) (st : List Value) (M : Mem) (Q : Outcome → Mem → Prop), Wp d 188 127 ls st M Q = Wp d 188 195 ls st M Q := fun d ls st M Q => w_goto (show ins 188 127 = some (.goto 68, 3) by decide +kernel) rfl
set_option maxRecDepth 100000 in
theorem r_188_130 : ∀ (d : Nat) (l0 l1 l2 l3 l5 : Option Value) (v : Int32) (st : List Value) (M : Mem) (Q : Outcome → Mem → Prop), Wp d 188 130 [l0, l1, l2, l3, some (.int v), l5] st M Q = Wp d 188 132 [l0, l1, l2, l3, some (.int v), l5] (.int v :: st) M Q := fun d l0 l1 l2 l3 l5 v st M Q => wA (show ins 188 130 = some (.iload 4, 2) by decide +kernel) rfl
set_option maxRecDepth 100000 in
theorem r_188_132 : ∀ (d : Nat) (ls : Lc) (st : List Value) (M : Mem) (Q : Outcome → Mem → Prop), Wp d 188 132 ls st M Q = Wp d 188 133 ls (.int (I (-1)) :: st) M Q := fun d ls st M Q => w_iconst (show ins 188 132 = some (.iconst (-1), 1) by decide +kernel)
set_option maxRecDepth 100000 in
theorem r_188_133 : ∀ (d : Nat) (ls : Lc) (a b : Int32) (st : List Value) (M : Mem) (Q : Outcome → Mem → Prop), Wp d 188 133 ls (.int b :: .int a :: st) M Q = Br (a = b) d 188 194 136 ls st M Q := fun d ls a b st M Q => w_icmp (show ins 188 133 = some (.if_icmp .eq 61, 3) by decide +kernel) rfl rfl
set_option maxRecDepth 100000 in
theorem r_188_136 : ∀ (d : Nat) (l0 l1 l2 l3 l4 : Option Value) (v : Int32) (st : List Value) (M : Mem) (Q : Outcome → Mem → Prop), Wp d 188 136 [l0, l1, l2, l3, l4, some (.int v)] st M Q = Wp d 188 138 [l0, l1, l2, l3, l4, some (.int v)] (.int v :: st) M Q := fun d l0 l1 l2 l3 l4 v st M Q => wA (show ins 188 136 = some (.iload 5, 2) by decide +kernel) rfl
set_option maxRecDepth 100000 in
theorem r_188_138 : ∀ (d : Nat) (l1 l2 l3 l4 l5 : Option Value) (v : Nat) (st : List Value) (M : Mem) (Q : Outcome → Mem → Prop), Wp d 188 138 [some (.ref v), l1, l2, l3, l4, l5] st M Q = Wp d 188 139 [some (.ref v), l1, l2, l3, l4, l5] (.ref v :: st) M Q := fun d l1 l2 l3 l4 l5 v st M Q => wA (show ins 188 138 = some (.aload_n 0, 1) by decide +kernel) rfl
set_option maxRecDepth 100000 in
theorem r_188_139 : ∀ (d : Nat) (l0 l1 l2 l3 l5 : Option Value) (v : Int32) (st : List Value) (M : Mem) (Q : Outcome → Mem → Prop), Wp d 188 139 [l0, l1, l2, l3, some (.int v), l5] st M Q = Wp d 188 141 [l0, l1, l2, l3, some (.int v), l5] (.int v :: st) M Q := fun d l0 l1 l2 l3 l5 v st M Q => wA (show ins 188 139 = some (.iload 4, 2) by decide +kernel) rfl
set_option maxRecDepth 100000 in
theorem r_188_141 : ∀ (d : Nat) (ls : Lc) (v0 : Value) (a : Nat) (st : List Value) (M : Mem) (Q : Outcome → Mem → Prop), (smallR st = true) → Wp d 188 141 ls (v0 :: .ref a :: st) M Q = (kO M a = 8 ∧ Ca d 188 141 ls 173 (.ref a :: [v0]) st M Q) := fun d ls v0 a st M Q h0 => w_virt1 (as := [v0]) (show ins 188 141 = some (.invokevirtual 97, 3) by decide +kernel) (show mRes (mC 188) 97 = some (3, 8, [(8, 173)]) by decide +kernel) (by decide +kernel) rfl (by decide +kernel) (by decide +kernel) h0
set_option maxRecDepth 100000 in
theorem r_188_144 : ∀ (d : Nat) (ls : Lc) (a b : Int) (st : List Value) (M : Mem) (Q : Outcome → Mem → Prop), Wp d 188 144 ls (.int (I b) :: .int (I a) :: st) M Q = Wp d 188 145 ls (.int (I (a + b)) :: st) M Q := fun d ls a b st M Q => w_iadd (show ins 188 144 = some (.iadd, 1) by decide +kernel)
set_option maxRecDepth 100000 in
theorem r_188_145 : ∀ (d : Nat) (ls : Lc) (st : List Value) (M : Mem) (Q : Outcome → Mem → Prop), Wp d 188 145 ls st M Q = Wp d 188 147 ls (.int (I 72) :: st) M Q := fun d ls st M Q => w_bipush (show ins 188 145 = some (.bipush 72, 2) by decide +kernel) (by decide)
set_option maxRecDepth 100000 in
theorem r_188_147 : ∀ (d : Nat) (ls : Lc) (a b : Int32) (st : List Value) (M : Mem) (Q : Outcome → Mem → Prop), Wp d 188 147 ls (.int b :: .int a :: st) M Q = Br (b < a) d 188 194 150 ls st M Q := fun d ls a b st M Q => w_icmp (show ins 188 147 = some (.if_icmp .gt 47, 3) by decide +kernel) rfl rfl
set_option maxRecDepth 100000 in
theorem r_188_150 : ∀ (d : Nat) (l1 l2 l3 l4 l5 : Option Value) (v : Nat) (st : List Value) (M : Mem) (Q : Outcome → Mem → Prop), Wp d 188 150 [some (.ref v), l1, l2, l3, l4, l5] st M Q = Wp d 188 151 [some (.ref v), l1, l2, l3, l4, l5] (.ref v :: st) M Q := fun d l1 l2 l3 l4 l5 v st M Q => wA (show ins 188 150 = some (.aload_n 0, 1) by decide +kernel) rfl
set_option maxRecDepth 100000 in
theorem r_188_151 : ∀ (d : Nat) (ls : Lc) (a : Nat) (st : List Value) (M : Mem) (Q : Outcome → Mem → Prop), Wp d 188 151 ls (.ref a :: st) M Q = (fk 53 (kO M a) = true ∧ Wp d 188 154 ls (va_rf (mR M 53 a) :: st) M Q) := fun d ls a st M Q => w_getR (show ins 188 151 = some (.getfield 7, 3) by decide +kernel) (show fRes (mC 188) 7 = some (53, 8, false) by decide +kernel) (by decide +kernel)
set_option maxRecDepth 100000 in
theorem r_188_154 : ∀ (d : Nat) (ls : Lc) (st : List Value) (M : Mem) (Q : Outcome → Mem → Prop), Wp d 188 154 ls st M Q = Wp d 188 157 ls (.int (I 3852) :: st) M Q := fun d ls st M Q => w_sipush (show ins 188 154 = some (.sipush 3852, 3) by decide +kernel) (by decide)
set_option maxRecDepth 100000 in
theorem r_188_157 : ∀ (d : Nat) (l0 l1 l2 l3 l5 : Option Value) (v : Int32) (st : List Value) (M : Mem) (Q : Outcome → Mem → Prop), Wp d 188 157 [l0, l1, l2, l3, some (.int v), l5] st M Q = Wp d 188 159 [l0, l1, l2, l3, some (.int v), l5] (.int v :: st) M Q := fun d l0 l1 l2 l3 l5 v st M Q => wA (show ins 188 157 = some (.iload 4, 2) by decide +kernel) rfl
set_option maxRecDepth 100000 in
theorem r_188_159 : ∀ (d : Nat) (ls : Lc) (a b : Int) (st : List Value) (M : Mem) (Q : Outcome → Mem → Prop), Wp d 188 159 ls (.int (I b) :: .int (I a) :: st) M Q = Wp d 188 160 ls (.int (I (a + b)) :: st) M Q := fun d ls a b st M Q => w_iadd (show ins 188 159 = some (.iadd, 1) by decide +kernel)
set_option maxRecDepth 100000 in
theorem r_188_160 : ∀ (d : Nat) (ls : Lc) (a : Nat) (j : Int32) (st : List Value) (M : Mem) (Q : Outcome → Mem → Prop), Wp d 188 160 ls (.int j :: .ref a :: st) M Q = ((((kX M a).1 = 0 ∨ (kX M a).1 = 8) ∧ inB j (kX M a).2 = true) ∧ Wp d 188 161 ls (.int (mA M a j.toNatClampNeg) :: st) M Q) := fun d ls a j st M Q => w_iaload (show ins 188 160 = some (.iaload, 1) by decide +kernel)
set_option maxRecDepth 100000 in
theorem r_188_161 : ∀ (d : Nat) (ls : Lc) (a : Int32) (st : List Value) (M : Mem) (Q : Outcome → Mem → Prop), Wp d 188 161 ls (.int a :: st) M Q = Br (a ≤ I 0) d 188 185 164 ls st M Q := fun d ls a st M Q => w_if (show ins 188 161 = some (.ifCond .le 24, 3) by decide +kernel) rfl rfl
set_option maxRecDepth 100000 in
theorem r_188_164 : ∀ (d : Nat) (l1 l2 l3 l4 l5 : Option Value) (v : Nat) (st : List Value) (M : Mem) (Q : Outcome → Mem → Prop), Wp d 188 164 [some (.ref v), l1, l2, l3, l4, l5] st M Q = Wp d 188 165 [some (.ref v), l1, l2, l3, l4, l5] (.ref v :: st) M Q := fun d l1 l2 l3 l4 l5 v st M Q => wA (show ins 188 164 = some (.aload_n 0, 1) by decide +kernel) rfl
set_option maxRecDepth 100000 in
theorem r_188_165 : ∀ (d : Nat) (l0 l1 l2 l3 l5 : Option Value) (v : Int32) (st : List Value) (M : Mem) (Q : Outcome → Mem → Prop), Wp d 188 165 [l0, l1, l2, l3, some (.int v), l5] st M Q = Wp d 188 167 [l0, l1, l2, l3, some (.int v), l5] (.int v :: st) M Q := fun d l0 l1 l2 l3 l5 v st M Q => wA (show ins 188 165 = some (.iload 4, 2) by decide +kernel) rfl
set_option maxRecDepth 100000 in
theorem r_188_167 : ∀ (d : Nat) (ls : Lc) (st : List Value) (M : Mem) (Q : Outcome → Mem → Prop), Wp d 188 167 ls st M Q = Wp d 188 168 ls (.int (I 0) :: st) M Q := fun d ls st M Q => w_iconst (show ins 188 167 = some (.iconst 0, 1) by decide +kernel)
set_option maxRecDepth 100000 in
theorem r_188_168 : ∀ (d : Nat) (l0 l1 l3 l4 l5 : Option Value) (v : Int32) (st : List Value) (M : Mem) (Q : Outcome → Mem → Prop), Wp d 188 168 [l0, l1, some (.int v), l3, l4, l5] st M Q = Wp d 188 169 [l0, l1, some (.int v), l3, l4, l5] (.int v :: st) M Q := fun d l0 l1 l3 l4 l5 v st M Q => wA (show ins 188 168 = some (.iload_n 2, 1) by decide +kernel) rfl
set_option maxRecDepth 100000 in
theorem r_188_169 : ∀ (d : Nat) (l1 l2 l3 l4 l5 : Option Value) (v : Nat) (st : List Value) (M : Mem) (Q : Outcome → Mem → Prop), Wp d 188 169 [some (.ref v), l1, l2, l3, l4, l5] st M Q = Wp d 188 170 [some (.ref v), l1, l2, l3, l4, l5] (.ref v :: st) M Q := fun d l1 l2 l3 l4 l5 v st M Q => wA (show ins 188 169 = some (.aload_n 0, 1) by decide +kernel) rfl
set_option maxRecDepth 100000 in
theorem r_188_170 : ∀ (d : Nat) (ls : Lc) (a : Nat) (st : List Value) (M : Mem) (Q : Outcome → Mem → Prop), Wp d 188 170 ls (.ref a :: st) M Q = (fk 53 (kO M a) = true ∧ Wp d 188 173 ls (va_rf (mR M 53 a) :: st) M Q) := fun d ls a st M Q => w_getR (show ins 188 170 = some (.getfield 7, 3) by decide +kernel) (show fRes (mC 188) 7 = some (53, 8, false) by decide +kernel) (by decide +kernel)
set_option maxRecDepth 100000 in
theorem r_188_173 : ∀ (d : Nat) (ls : Lc) (st : List Value) (M : Mem) (Q : Outcome → Mem → Prop), Wp d 188 173 ls st M Q = Wp d 188 176 ls (.int (I 3852) :: st) M Q := fun d ls st M Q => w_sipush (show ins 188 173 = some (.sipush 3852, 3) by decide +kernel) (by decide)
set_option maxRecDepth 100000 in
theorem r_188_176 : ∀ (d : Nat) (l0 l1 l3 l4 l5 : Option Value) (v : Int32) (st : List Value) (M : Mem) (Q : Outcome → Mem → Prop), Wp d 188 176 [l0, l1, some (.int v), l3, l4, l5] st M Q = Wp d 188 177 [l0, l1, some (.int v), l3, l4, l5] (.int v :: st) M Q := fun d l0 l1 l3 l4 l5 v st M Q => wA (show ins 188 176 = some (.iload_n 2, 1) by decide +kernel) rfl
set_option maxRecDepth 100000 in
theorem r_188_177 : ∀ (d : Nat) (ls : Lc) (a b : Int) (st : List Value) (M : Mem) (Q : Outcome → Mem → Prop), Wp d 188 177 ls (.int (I b) :: .int (I a) :: st) M Q = Wp d 188 178 ls (.int (I (a + b)) :: st) M Q := fun d ls a b st M Q => w_iadd (show ins 188 177 = some (.iadd, 1) by decide +kernel)
set_option maxRecDepth 100000 in
theorem r_188_178 : ∀ (d : Nat) (ls : Lc) (a : Nat) (j : Int32) (st : List Value) (M : Mem) (Q : Outcome → Mem → Prop), Wp d 188 178 ls (.int j :: .ref a :: st) M Q = ((((kX M a).1 = 0 ∨ (kX M a).1 = 8) ∧ inB j (kX M a).2 = true) ∧ Wp d 188 179 ls (.int (mA M a j.toNatClampNeg) :: st) M Q) := fun d ls a j st M Q => w_iaload (show ins 188 178 = some (.iaload, 1) by decide +kernel)
set_option maxRecDepth 100000 in
theorem r_188_179 : ∀ (d : Nat) (ls : Lc) (v0 v1 v2 v3 : Value) (a : Nat) (st : List Value) (M : Mem) (Q : Outcome → Mem → Prop), (smallR st = true) → Wp d 188 179 ls (v3 :: v2 :: v1 :: v0 :: .ref a :: st) M Q = (kO M a = 8 ∧ Ca d 188 179 ls 175 (.ref a :: [v0, v1, v2, v3]) st M Q) := fun d ls v0 v1 v2 v3 a st M Q h0 => w_virt1 (as := [v0, v1, v2, v3]) (show ins 188 179 = some (.invokevirtual 103, 3) by decide +kernel) (show mRes (mC 188) 103 = some (3, 8, [(8, 175)]) by decide +kernel) (by decide +kernel) rfl (by decide +kernel) (by decide +kernel) h0
set_option maxRecDepth 100000 in
theorem r_188_182 : ∀ (d : Nat) (ls : Lc) (st : List Value) (M : Mem) (Q : Outcome → Mem → Prop), Wp d 188 182 ls st M Q = Wp d 188 150 ls st M Q := fun d ls st M Q => w_goto (show ins 188 182 = some (.goto (-32), 3) by decide +kernel) rfl
set_option maxRecDepth 100000 in
theorem r_188_185 : ∀ (d : Nat) (l1 l2 l3 l4 l5 : Option Value) (v : Nat) (st : List Value) (M : Mem) (Q : Outcome → Mem → Prop), Wp d 188 185 [some (.ref v), l1, l2, l3, l4, l5] st M Q = Wp d 188 186 [some (.ref v), l1, l2, l3, l4, l5] (.ref v :: st) M Q := fun d l1 l2 l3 l4 l5 v st M Q => wA (show ins 188 185 = some (.aload_n 0, 1) by decide +kernel) rfl
set_option maxRecDepth 100000 in
theorem r_188_186 : ∀ (d : Nat) (l0 l1 l2 l3 l5 : Option Value) (v : Int32) (st : List Value) (M : Mem) (Q : Outcome → Mem → Prop), Wp d 188 186 [l0, l1, l2, l3, some (.int v), l5] st M Q = Wp d 188 188 [l0, l1, l2, l3, some (.int v), l5] (.int v :: st) M Q := fun d l0 l1 l2 l3 l5 v st M Q => wA (show ins 188 186 = some (.iload 4, 2) by decide +kernel) rfl
set_option maxRecDepth 100000 in
theorem r_188_188 : ∀ (d : Nat) (ls : Lc) (v0 : Value) (a : Nat) (st : List Value) (M : Mem) (Q : Outcome → Mem → Prop), (smallR st = true) → Wp d 188 188 ls (v0 :: .ref a :: st) M Q = (kO M a = 8 ∧ Ca d 188 188 ls 189 (.ref a :: [v0]) st M Q) := fun d ls v0 a st M Q h0 => w_virt1 (as := [v0]) (show ins 188 188 = some (.invokevirtual 110, 3) by decide +kernel) (show mRes (mC 188) 110 = some (3, 8, [(8, 189)]) by decide +kernel) (by decide +kernel) rfl (by decide +kernel) (by decide +kernel) h0
set_option maxRecDepth 100000 in
theorem r_188_191 : ∀ (d : Nat) (ls : Lc) (st : List Value) (M : Mem) (Q : Outcome → Mem → Prop), Wp d 188 191 ls st M Q = Wp d 188 195 ls st M Q := fun d ls st M Q => w_goto (show ins 188 191 = some (.goto 4, 3) by decide +kernel) rfl
set_option maxRecDepth 100000 in
theorem r_188_194 : ∀ (d : Nat) (ls : Lc) (M : Mem) (Q : Outcome → Mem → Prop), Wp d 188 194 ls [] M Q = Q (.returned none) M := fun d ls M Q => w_return (show ins 188 194 = some (.return_, 1) by decide +kernel) (by decide +kernel)
set_option maxRecDepth 100000 in
theorem r_188_195 : ∀ (d : Nat) (ls : Lc) (st : List Value) (M : Mem) (Q : Outcome → Mem → Prop), Wp d 188 195 ls st M Q = Wp d 188 2 ls st M Q := fun d ls st M Q => w_goto (show ins 188 195 = some (.goto (-193), 3) by decide +kernel) rfl
set_option maxRecDepth 100000 in
theorem w_188_2 : (type_of% r_188_2) := r_188_2
set_option maxRecDepth 100000 in
theorem w_188_87 : (type_of% r_188_87) := r_188_87
set_option maxRecDepth 100000 in
theorem w_188_150 : (type_of% r_188_150) := r_188_150
set_option maxRecDepth 100000 in
theorem W_188 : (type_of% r_188_0) ∧ (type_of% r_188_1) ∧ (type_of% r_188_3) ∧ (type_of% r_188_4) ∧ (type_of% r_188_5) ∧ (type_of% r_188_8) ∧ (type_of% r_188_9) ∧ (type_of% r_188_10) ∧ (type_of% r_188_11) ∧ (type_of% r_188_12) ∧ (type_of% r_188_15) ∧ (type_of% r_188_17) ∧ (type_of% r_188_18) ∧ (type_of% r_188_19) ∧ (type_of% r_188_22) ∧ (type_of% r_188_24) ∧ (type_of% r_188_25) ∧ (type_of% r_188_28) ∧ (type_of% r_188_31) ∧ (type_of% r_188_32) ∧ (type_of% r_188_33) ∧ (type_of% r_188_34) ∧ (type_of% r_188_37) ∧ (type_of% r_188_38) ∧ (type_of% r_188_41) ∧ (type_of% r_188_44) ∧ (type_of% r_188_45) ∧ (type_of% r_188_46) ∧ (type_of% r_188_49) ∧ (type_of% r_188_50) ∧ (type_of% r_188_51) ∧ (type_of% r_188_54) ∧ (type_of% r_188_55) ∧ (type_of% r_188_56) ∧ (type_of% r_188_59) ∧ (type_of% r_188_60) ∧ (type_of% r_188_63) ∧ (type_of% r_188_65) ∧ (type_of% r_188_66) ∧ (type_of% r_188_69) ∧ (type_of% r_188_70) ∧ (type_of% r_188_71) ∧ (type_of% r_188_74) ∧ (type_of% r_188_76) ∧ (type_of% r_188_77) ∧ (type_of% r_188_78) ∧ (type_of% r_188_81) ∧ (type_of% r_188_82) ∧ (type_of% r_188_84) ∧ (type_of% r_188_88) ∧ (type_of% r_188_91) ∧ (type_of% r_188_94) ∧ (type_of% r_188_95) ∧ (type_of% r_188_96) ∧ (type_of% r_188_97) ∧ (type_of% r_188_100) ∧ (type_of% r_188_101) ∧ (type_of% r_188_102) ∧ (type_of% r_188_103) ∧ (type_of% r_188_104) ∧ (type_of% r_188_105) ∧ (type_of% r_188_108) ∧ (type_of% r_188_111) ∧ (type_of% r_188_112) ∧ (type_of% r_188_113) ∧ (type_of% r_188_114) ∧ (type_of% r_188_117) ∧ (type_of% r_188_120) ∧ (type_of% r_188_121) ∧ (type_of% r_188_122) ∧ (type_of% r_188_125) ∧ (type_of% r_188_126) ∧ (type_of% r_188_127) ∧ (type_of% r_188_130) ∧ (type_of% r_188_132) ∧ (type_of% r_188_133) ∧ (type_of% r_188_136) ∧ (type_of% r_188_138) ∧ (type_of% r_188_139) ∧ (type_of% r_188_141) ∧ (type_of% r_188_144) ∧ (type_of% r_188_145) ∧ (type_of% r_188_147) ∧ (type_of% r_188_151) ∧ (type_of% r_188_154) ∧ (type_of% r_188_157) ∧ (type_of% r_188_159) ∧ (type_of% r_188_160) ∧ (type_of% r_188_161) ∧ (type_of% r_188_164) ∧ (type_of% r_188_165) ∧ (type_of% r_188_167) ∧ (type_of% r_188_168) ∧ (type_of% r_188_169) ∧ (type_of% r_188_170) ∧ (type_of% r_188_173) ∧ (type_of% r_188_176) ∧ (type_of% r_188_177) ∧ (type_of% r_188_178) ∧ (type_of% r_188_179) ∧ (type_of% r_188_182) ∧ (type_of% r_188_185) ∧ (type_of% r_188_186) ∧ (type_of% r_188_188) ∧ (type_of% r_188_191) ∧ (type_of% r_188_194) ∧ (type_of% r_188_195) := ⟨r_188_0, r_188_1, r_188_3, r_188_4, r_188_5, r_188_8, r_188_9, r_188_10, r_188_11, r_188_12, r_188_15, r_188_17, r_188_18, r_188_19, r_188_22, r_188_24, r_188_25, r_188_28, r_188_31, r_188_32, r_188_33, r_188_34, r_188_37, r_188_38, r_188_41, r_188_44, r_188_45, r_188_46, r_188_49, r_188_50, r_188_51, r_188_54, r_188_55, r_188_56, r_188_59, r_188_60, r_188_63, r_188_65, r_188_66, r_188_69, r_188_70, r_188_71, r_188_74, r_188_76, r_188_77, r_188_78, r_188_81, r_188_82, r_188_84, r_188_88, r_188_91, r_188_94, r_188_95, r_188_96, r_188_97, r_188_100, r_188_101, r_188_102, r_188_103, r_188_104, r_188_105, r_188_108, r_188_111, r_188_112, r_188_113, r_188_114, r_188_117, r_188_120, r_188_121, r_188_122, r_188_125, r_188_126, r_188_127, r_188_130, r_188_132, r_188_133, r_188_136, r_188_138, r_188_139, r_188_141, r_188_144, r_188_145, r_188_147, r_188_151, r_188_154, r_188_157, r_188_159, r_188_160, r_188_161, r_188_164, r_188_165, r_188_167, r_188_168, r_188_169, r_188_170, r_188_173, r_188_176, r_188_177, r_188_178, r_188_179, r_188_182, r_188_185, r_188_186, r_188_188, r_188_191, r_188_194, r_188_195⟩
set_option maxRecDepth 100000 in
theorem ca_188 {d y pc : Nat} {ls : Lc} {a : Nat} {z0 : Int32} {r : List Value} {M : Mem} {Q : Outcome → Mem → Prop} (hd : 0 < d) (hw : Wp (d - 1) 188 0 [some (.ref a), some (.int z0), none, none, none, none] [] M (Cq d y pc ls r Q)) : Ca d y pc ls 188 [.ref a, .int z0] r M Q := ca_of (mq_get (by decide)) (by rfl) hd hw
/-! 189 PackedTreeModel.gone(I)V; loop heads [2] -/
set_option maxRecDepth 100000 in
theorem r_189_0 : ∀ (d : Nat) (l0 l2 l3 l4 l5 l6 l7 : Option Value) (v : Int32) (st : List Value) (M : Mem) (Q : Outcome → Mem → Prop), Wp d 189 0 [l0, some (.int v), l2, l3, l4, l5, l6, l7] st M Q = Wp d 189 1 [l0, some (.int v), l2, l3, l4, l5, l6, l7] (.int v :: st) M Q := fun d l0 l2 l3 l4 l5 l6 l7 v st M Q => wA (show ins 189 0 = some (.iload_n 1, 1) by decide +kernel) rfl
set_option maxRecDepth 100000 in
theorem r_189_1 : ∀ (d : Nat) (l0 l1 l2 l3 l4 l5 l6 l7 : Option Value) (v : Int32) (st : List Value) (M : Mem) (Q : Outcome → Mem → Prop), (lo l1 = false) → Wp d 189 1 [l0, l1, l2, l3, l4, l5, l6, l7] (.int v :: st) M Q = Wp d 189 2 [l0, l1, some (.int v), l3, l4, l5, l6, l7] st M Q := fun d l0 l1 l2 l3 l4 l5 l6 l7 v st M Q hl => w_istore_n (show ins 189 1 = some (.istore_n 2, 1) by decide +kernel) (st1_S rfl rfl hl)
set_option maxRecDepth 100000 in
theorem r_189_2 : ∀ (d : Nat) (l1 l2 l3 l4 l5 l6 l7 : Option Value) (v : Nat) (st : List Value) (M : Mem) (Q : Outcome → Mem → Prop), Wp d 189 2 [some (.ref v), l1, l2, l3, l4, l5, l6, l7] st M Q = Wp d 189 3 [some (.ref v), l1, l2, l3, l4, l5, l6, l7] (.ref v :: st) M Q := fun d l1 l2 l3 l4 l5 l6 l7 v st M Q => wA (show ins 189 2 = some (.aload_n 0, 1) by decide +kernel) rfl
set_option maxRecDepth 100000 in
theorem r_189_3 : ∀ (d : Nat) (ls : Lc) (a : Nat) (st : List Value) (M : Mem) (Q : Outcome → Mem → Prop), Wp d 189 3 ls (.ref a :: st) M Q = (fk 53 (kO M a) = true ∧ Wp d 189 6 ls (va_rf (mR M 53 a) :: st) M Q) := fun d ls a st M Q => w_getR (show ins 189 3 = some (.getfield 7, 3) by decide +kernel) (show fRes (mC 189) 7 = some (53, 8, false) by decide +kernel) (by decide +kernel)
set_option maxRecDepth 100000 in
theorem r_189_6 : ∀ (d : Nat) (ls : Lc) (st : List Value) (M : Mem) (Q : Outcome → Mem → Prop), Wp d 189 6 ls st M Q = Wp d 189 9 ls (.int (I 3948) :: st) M Q := fun d ls st M Q => w_sipush (show ins 189 6 = some (.sipush 3948, 3) by decide +kernel) (by decide)
set_option maxRecDepth 100000 in
theorem r_189_9 : ∀ (d : Nat) (l0 l1 l3 l4 l5 l6 l7 : Option Value) (v : Int32) (st : List Value) (M : Mem) (Q : Outcome → Mem → Prop), Wp d 189 9 [l0, l1, some (.int v), l3, l4, l5, l6, l7] st M Q = Wp d 189 10 [l0, l1, some (.int v), l3, l4, l5, l6, l7] (.int v :: st) M Q := fun d l0 l1 l3 l4 l5 l6 l7 v st M Q => wA (show ins 189 9 = some (.iload_n 2, 1) by decide +kernel) rfl
set_option maxRecDepth 100000 in
theorem r_189_10 : ∀ (d : Nat) (ls : Lc) (a b : Int) (st : List Value) (M : Mem) (Q : Outcome → Mem → Prop), Wp d 189 10 ls (.int (I b) :: .int (I a) :: st) M Q = Wp d 189 11 ls (.int (I (a + b)) :: st) M Q := fun d ls a b st M Q => w_iadd (show ins 189 10 = some (.iadd, 1) by decide +kernel)
set_option maxRecDepth 100000 in
theorem r_189_11 : ∀ (d : Nat) (ls : Lc) (a : Nat) (j : Int32) (st : List Value) (M : Mem) (Q : Outcome → Mem → Prop), Wp d 189 11 ls (.int j :: .ref a :: st) M Q = ((((kX M a).1 = 0 ∨ (kX M a).1 = 8) ∧ inB j (kX M a).2 = true) ∧ Wp d 189 12 ls (.int (mA M a j.toNatClampNeg) :: st) M Q) := fun d ls a j st M Q => w_iaload (show ins 189 11 = some (.iaload, 1) by decide +kernel)
set_option maxRecDepth 100000 in
theorem r_189_12 : ∀ (d : Nat) (l0 l1 l2 l3 l4 l5 l6 l7 : Option Value) (v : Int32) (st : List Value) (M : Mem) (Q : Outcome → Mem → Prop), (lo l2 = false) → Wp d 189 12 [l0, l1, l2, l3, l4, l5, l6, l7] (.int v :: st) M Q = Wp d 189 13 [l0, l1, l2, some (.int v), l4, l5, l6, l7] st M Q := fun d l0 l1 l2 l3 l4 l5 l6 l7 v st M Q hl => w_istore_n (show ins 189 12 = some (.istore_n 3, 1) by decide +kernel) (st1_S rfl rfl hl)
set_option maxRecDepth 100000 in
theorem r_189_13 : ∀ (d : Nat) (l1 l2 l3 l4 l5 l6 l7 : Option Value) (v : Nat) (st : List Value) (M : Mem) (Q : Outcome → Mem → Prop), Wp d 189 13 [some (.ref v), l1, l2, l3, l4, l5, l6, l7] st M Q = Wp d 189 14 [some (.ref v), l1, l2, l3, l4, l5, l6, l7] (.ref v :: st) M Q := fun d l1 l2 l3 l4 l5 l6 l7 v st M Q => wA (show ins 189 13 = some (.aload_n 0, 1) by decide +kernel) rfl
set_option maxRecDepth 100000 in
theorem r_189_14 : ∀ (d : Nat) (l0 l1 l3 l4 l5 l6 l7 : Option Value) (v : Int32) (st : List Value) (M : Mem) (Q : Outcome → Mem → Prop), Wp d 189 14 [l0, l1, some (.int v), l3, l4, l5, l6, l7] st M Q = Wp d 189 15 [l0, l1, some (.int v), l3, l4, l5, l6, l7] (.int v :: st) M Q := fun d l0 l1 l3 l4 l5 l6 l7 v st M Q => wA (show ins 189 14 = some (.iload_n 2, 1) by decide +kernel) rfl
set_option maxRecDepth 100000 in
theorem r_189_15 : ∀ (d : Nat) (ls : Lc) (v0 : Value) (a : Nat) (st : List Value) (M : Mem) (Q : Outcome → Mem → Prop), (smallR st = true) → Wp d 189 15 ls (v0 :: .ref a :: st) M Q = (kO M a = 8 ∧ Ca d 189 15 ls 190 (.ref a :: [v0]) st M Q) := fun d ls v0 a st M Q h0 => w_virt1 (as := [v0]) (show ins 189 15 = some (.invokevirtual 81, 3) by decide +kernel) (show mRes (mC 189) 81 = some (3, 8, [(8, 190)]) by decide +kernel) (by decide +kernel) rfl (by decide +kernel) (by decide +kernel) h0
set_option maxRecDepth 100000 in
theorem r_189_18 : ∀ (d : Nat) (l1 l2 l3 l4 l5 l6 l7 : Option Value) (v : Nat) (st : List Value) (M : Mem) (Q : Outcome → Mem → Prop), Wp d 189 18 [some (.ref v), l1, l2, l3, l4, l5, l6, l7] st M Q = Wp d 189 19 [some (.ref v), l1, l2, l3, l4, l5, l6, l7] (.ref v :: st) M Q := fun d l1 l2 l3 l4 l5 l6 l7 v st M Q => wA (show ins 189 18 = some (.aload_n 0, 1) by decide +kernel) rfl
set_option maxRecDepth 100000 in
theorem r_189_19 : ∀ (d : Nat) (l0 l1 l3 l4 l5 l6 l7 : Option Value) (v : Int32) (st : List Value) (M : Mem) (Q : Outcome → Mem → Prop), Wp d 189 19 [l0, l1, some (.int v), l3, l4, l5, l6, l7] st M Q = Wp d 189 20 [l0, l1, some (.int v), l3, l4, l5, l6, l7] (.int v :: st) M Q := fun d l0 l1 l3 l4 l5 l6 l7 v st M Q => wA (show ins 189 19 = some (.iload_n 2, 1) by decide +kernel) rfl
set_option maxRecDepth 100000 in
theorem r_189_20 : ∀ (d : Nat) (ls : Lc) (v0 : Value) (a : Nat) (st : List Value) (M : Mem) (Q : Outcome → Mem → Prop), (smallR st = true) → Wp d 189 20 ls (v0 :: .ref a :: st) M Q = (kO M a = 8 ∧ Ca d 189 20 ls 191 (.ref a :: [v0]) st M Q) := fun d ls v0 a st M Q h0 => w_virt1 (as := [v0]) (show ins 189 20 = some (.invokevirtual 85, 3) by decide +kernel) (show mRes (mC 189) 85 = some (3, 8, [(8, 191)]) by decide +kernel) (by decide +kernel) rfl (by decide +kernel) (by decide +kernel) h0
set_option maxRecDepth 100000 in
theorem r_189_23 : ∀ (d : Nat) (l1 l2 l3 l4 l5 l6 l7 : Option Value) (v : Nat) (st : List Value) (M : Mem) (Q : Outcome → Mem → Prop), Wp d 189 23 [some (.ref v), l1, l2, l3, l4, l5, l6, l7] st M Q = Wp d 189 24 [some (.ref v), l1, l2, l3, l4, l5, l6, l7] (.ref v :: st) M Q := fun d l1 l2 l3 l4 l5 l6 l7 v st M Q => wA (show ins 189 23 = some (.aload_n 0, 1) by decide +kernel) rfl
set_option maxRecDepth 100000 in
theorem r_189_24 : ∀ (d : Nat) (l0 l1 l2 l4 l5 l6 l7 : Option Value) (v : Int32) (st : List Value) (M : Mem) (Q : Outcome → Mem → Prop), Wp d 189 24 [l0, l1, l2, some (.int v), l4, l5, l6, l7] st M Q = Wp d 189 25 [l0, l1, l2, some (.int v), l4, l5, l6, l7] (.int v :: st) M Q := fun d l0 l1 l2 l4 l5 l6 l7 v st M Q => wA (show ins 189 24 = some (.iload_n 3, 1) by decide +kernel) rfl
set_option maxRecDepth 100000 in
theorem r_189_25 : ∀ (d : Nat) (l1 l2 l3 l4 l5 l6 l7 : Option Value) (v : Nat) (st : List Value) (M : Mem) (Q : Outcome → Mem → Prop), Wp d 189 25 [some (.ref v), l1, l2, l3, l4, l5, l6, l7] st M Q = Wp d 189 26 [some (.ref v), l1, l2, l3, l4, l5, l6, l7] (.ref v :: st) M Q := fun d l1 l2 l3 l4 l5 l6 l7 v st M Q => wA (show ins 189 25 = some (.aload_n 0, 1) by decide +kernel) rfl
set_option maxRecDepth 100000 in
theorem r_189_26 : ∀ (d : Nat) (l0 l1 l2 l4 l5 l6 l7 : Option Value) (v : Int32) (st : List Value) (M : Mem) (Q : Outcome → Mem → Prop), Wp d 189 26 [l0, l1, l2, some (.int v), l4, l5, l6, l7] st M Q = Wp d 189 27 [l0, l1, l2, some (.int v), l4, l5, l6, l7] (.int v :: st) M Q := fun d l0 l1 l2 l4 l5 l6 l7 v st M Q => wA (show ins 189 26 = some (.iload_n 3, 1) by decide +kernel) rfl
set_option maxRecDepth 100000 in
theorem r_189_27 : ∀ (d : Nat) (l0 l1 l3 l4 l5 l6 l7 : Option Value) (v : Int32) (st : List Value) (M : Mem) (Q : Outcome → Mem → Prop), Wp d 189 27 [l0, l1, some (.int v), l3, l4, l5, l6, l7] st M Q = Wp d 189 28 [l0, l1, some (.int v), l3, l4, l5, l6, l7] (.int v :: st) M Q := fun d l0 l1 l3 l4 l5 l6 l7 v st M Q => wA (show ins 189 27 = some (.iload_n 2, 1) by decide +kernel) rfl
set_option maxRecDepth 100000 in
theorem r_189_28 : ∀ (d : Nat) (ls : Lc) (v0 v1 : Value) (a : Nat) (st : List Value) (M : Mem) (Q : Outcome → Mem → Prop), (smallR st = true) → Wp d 189 28 ls (v1 :: v0 :: .ref a :: st) M Q = (kO M a = 8 ∧ Ca d 189 28 ls 181 (.ref a :: [v0, v1]) st M Q) := fun d ls v0 v1 a st M Q h0 => w_virt1 (as := [v0, v1]) (show ins 189 28 = some (.invokevirtual 70, 3) by decide +kernel) (show mRes (mC 189) 70 = some (3, 8, [(8, 181)]) by decide +kernel) (by decide +kernel) rfl (by decide +kernel) (by decide +kernel) h0
set_option maxRecDepth 100000 in
theorem r_189_31 : ∀ (d : Nat) (ls : Lc) (v0 v1 : Value) (a : Nat) (st : List Value) (M : Mem) (Q : Outcome → Mem → Prop), (smallR st = true) → Wp d 189 31 ls (v1 :: v0 :: .ref a :: st) M Q = (kO M a = 8 ∧ Ca d 189 31 ls 182 (.ref a :: [v0, v1]) st M Q) := fun d ls v0 v1 a st M Q h0 => w_virt1 (as := [v0, v1]) (show ins 189 31 = some (.invokevirtual 74, 3) by decide +kernel) (show mRes (mC 189) 74 = some (3, 8, [(8, 182)]) by decide +kernel) (by decide +kernel) rfl (by decide +kernel) (by decide +kernel) h0
set_option maxRecDepth 100000 in
theorem r_189_34 : ∀ (d : Nat) (l0 l1 l2 l3 l4 l5 l6 l7 : Option Value) (v : Int32) (st : List Value) (M : Mem) (Q : Outcome → Mem → Prop), (lo l3 = false) → Wp d 189 34 [l0, l1, l2, l3, l4, l5, l6, l7] (.int v :: st) M Q = Wp d 189 36 [l0, l1, l2, l3, some (.int v), l5, l6, l7] st M Q := fun d l0 l1 l2 l3 l4 l5 l6 l7 v st M Q hl => w_istore (show ins 189 34 = some (.istore 4, 2) by decide +kernel) (st1_S rfl rfl hl)
set_option maxRecDepth 100000 in
theorem r_189_36 : ∀ (d : Nat) (l1 l2 l3 l4 l5 l6 l7 : Option Value) (v : Nat) (st : List Value) (M : Mem) (Q : Outcome → Mem → Prop), Wp d 189 36 [some (.ref v), l1, l2, l3, l4, l5, l6, l7] st M Q = Wp d 189 37 [some (.ref v), l1, l2, l3, l4, l5, l6, l7] (.ref v :: st) M Q := fun d l1 l2 l3 l4 l5 l6 l7 v st M Q => wA (show ins 189 36 = some (.aload_n 0, 1) by decide +kernel) rfl
set_option maxRecDepth 100000 in
theorem r_189_37 : ∀ (d : Nat) (ls : Lc) (a : Nat) (st : List Value) (M : Mem) (Q : Outcome → Mem → Prop), Wp d 189 37 ls (.ref a :: st) M Q = (fk 53 (kO M a) = true ∧ Wp d 189 40 ls (va_rf (mR M 53 a) :: st) M Q) := fun d ls a st M Q => w_getR (show ins 189 37 = some (.getfield 7, 3) by decide +kernel) (show fRes (mC 189) 7 = some (53, 8, false) by decide +kernel) (by decide +kernel)
set_option maxRecDepth 100000 in
theorem r_189_40 : ∀ (d : Nat) (ls : Lc) (st : List Value) (M : Mem) (Q : Outcome → Mem → Prop), Wp d 189 40 ls st M Q = Wp d 189 43 ls (.int (I 3852) :: st) M Q := fun d ls st M Q => w_sipush (show ins 189 40 = some (.sipush 3852, 3) by decide +kernel) (by decide)
set_option maxRecDepth 100000 in
theorem r_189_43 : ∀ (d : Nat) (l0 l1 l2 l4 l5 l6 l7 : Option Value) (v : Int32) (st : List Value) (M : Mem) (Q : Outcome → Mem → Prop), Wp d 189 43 [l0, l1, l2, some (.int v), l4, l5, l6, l7] st M Q = Wp d 189 44 [l0, l1, l2, some (.int v), l4, l5, l6, l7] (.int v :: st) M Q := fun d l0 l1 l2 l4 l5 l6 l7 v st M Q => wA (show ins 189 43 = some (.iload_n 3, 1) by decide +kernel) rfl
set_option maxRecDepth 100000 in
theorem r_189_44 : ∀ (d : Nat) (ls : Lc) (a b : Int) (st : List Value) (M : Mem) (Q : Outcome → Mem → Prop), Wp d 189 44 ls (.int (I b) :: .int (I a) :: st) M Q = Wp d 189 45 ls (.int (I (a + b)) :: st) M Q := fun d ls a b st M Q => w_iadd (show ins 189 44 = some (.iadd, 1) by decide +kernel)
set_option maxRecDepth 100000 in
theorem r_189_45 : ∀ (d : Nat) (ls : Lc) (a : Nat) (j : Int32) (st : List Value) (M : Mem) (Q : Outcome → Mem → Prop), Wp d 189 45 ls (.int j :: .ref a :: st) M Q = ((((kX M a).1 = 0 ∨ (kX M a).1 = 8) ∧ inB j (kX M a).2 = true) ∧ Wp d 189 46 ls (.int (mA M a j.toNatClampNeg) :: st) M Q) := fun d ls a j st M Q => w_iaload (show ins 189 45 = some (.iaload, 1) by decide +kernel)
set_option maxRecDepth 100000 in
theorem r_189_46 : ∀ (d : Nat) (ls : Lc) (st : List Value) (M : Mem) (Q : Outcome → Mem → Prop), Wp d 189 46 ls st M Q = Wp d 189 47 ls (.int (I 1) :: st) M Q := fun d ls st M Q => w_iconst (show ins 189 46 = some (.iconst 1, 1) by decide +kernel)
set_option maxRecDepth 100000 in
theorem r_189_47 : ∀ (d : Nat) (ls : Lc) (a b : Int32) (st : List Value) (M : Mem) (Q : Outcome → Mem → Prop), Wp d 189 47 ls (.int b :: .int a :: st) M Q = Br (a ≤ b) d 189 51 50 ls st M Q := fun d ls a b st M Q => w_icmp (show ins 189 47 = some (.if_icmp .le 4, 3) by decide +kernel) rfl rfl
set_option maxRecDepth 100000 in
theorem r_189_50 : ∀ (d : Nat) (ls : Lc) (M : Mem) (Q : Outcome → Mem → Prop), Wp d 189 50 ls [] M Q = Q (.returned none) M := fun d ls M Q => w_return (show ins 189 50 = some (.return_, 1) by decide +kernel) (by decide +kernel)
set_option maxRecDepth 100000 in
theorem r_189_51 : ∀ (d : Nat) (l1 l2 l3 l4 l5 l6 l7 : Option Value) (v : Nat) (st : List Value) (M : Mem) (Q : Outcome → Mem → Prop), Wp d 189 51 [some (.ref v), l1, l2, l3, l4, l5, l6, l7] st M Q = Wp d 189 52 [some (.ref v), l1, l2, l3, l4, l5, l6, l7] (.ref v :: st) M Q := fun d l1 l2 l3 l4 l5 l6 l7 v st M Q => wA (show ins 189 51 = some (.aload_n 0, 1) by decide +kernel) rfl
set_option maxRecDepth 100000 in
theorem r_189_52 : ∀ (d : Nat) (ls : Lc) (a : Nat) (st : List Value) (M : Mem) (Q : Outcome → Mem → Prop), Wp d 189 52 ls (.ref a :: st) M Q = (fk 53 (kO M a) = true ∧ Wp d 189 55 ls (va_rf (mR M 53 a) :: st) M Q) := fun d ls a st M Q => w_getR (show ins 189 52 = some (.getfield 7, 3) by decide +kernel) (show fRes (mC 189) 7 = some (53, 8, false) by decide +kernel) (by decide +kernel)
set_option maxRecDepth 100000 in
theorem r_189_55 : ∀ (d : Nat) (ls : Lc) (st : List Value) (M : Mem) (Q : Outcome → Mem → Prop), Wp d 189 55 ls st M Q = Wp d 189 58 ls (.int (I 4044) :: st) M Q := fun d ls st M Q => w_sipush (show ins 189 55 = some (.sipush 4044, 3) by decide +kernel) (by decide)
set_option maxRecDepth 100000 in
theorem r_189_58 : ∀ (d : Nat) (ls : Lc) (st : List Value) (M : Mem) (Q : Outcome → Mem → Prop), Wp d 189 58 ls st M Q = Wp d 189 60 ls (.int (I 6) :: st) M Q := fun d ls st M Q => w_bipush (show ins 189 58 = some (.bipush 6, 2) by decide +kernel) (by decide)
set_option maxRecDepth 100000 in
theorem r_189_60 : ∀ (d : Nat) (l0 l1 l2 l4 l5 l6 l7 : Option Value) (v : Int32) (st : List Value) (M : Mem) (Q : Outcome → Mem → Prop), Wp d 189 60 [l0, l1, l2, some (.int v), l4, l5, l6, l7] st M Q = Wp d 189 61 [l0, l1, l2, some (.int v), l4, l5, l6, l7] (.int v :: st) M Q := fun d l0 l1 l2 l4 l5 l6 l7 v st M Q => wA (show ins 189 60 = some (.iload_n 3, 1) by decide +kernel) rfl
set_option maxRecDepth 100000 in
theorem r_189_61 : ∀ (d : Nat) (ls : Lc) (a b : Int) (st : List Value) (M : Mem) (Q : Outcome → Mem → Prop), Wp d 189 61 ls (.int (I b) :: .int (I a) :: st) M Q = Wp d 189 62 ls (.int (I (a * b)) :: st) M Q := fun d ls a b st M Q => w_imul (show ins 189 61 = some (.imul, 1) by decide +kernel)
set_option maxRecDepth 100000 in
theorem r_189_62 : ∀ (d : Nat) (ls : Lc) (a b : Int) (st : List Value) (M : Mem) (Q : Outcome → Mem → Prop), Wp d 189 62 ls (.int (I b) :: .int (I a) :: st) M Q = Wp d 189 63 ls (.int (I (a + b)) :: st) M Q := fun d ls a b st M Q => w_iadd (show ins 189 62 = some (.iadd, 1) by decide +kernel)
set_option maxRecDepth 100000 in
theorem r_189_63 : ∀ (d : Nat) (ls : Lc) (a : Nat) (j : Int32) (st : List Value) (M : Mem) (Q : Outcome → Mem → Prop), Wp d 189 63 ls (.int j :: .ref a :: st) M Q = ((((kX M a).1 = 0 ∨ (kX M a).1 = 8) ∧ inB j (kX M a).2 = true) ∧ Wp d 189 64 ls (.int (mA M a j.toNatClampNeg) :: st) M Q) := fun d ls a j st M Q => w_iaload (show ins 189 63 = some (.iaload, 1) by decide +kernel)
set_option maxRecDepth 100000 in
theorem r_189_64 : ∀ (d : Nat) (l0 l1 l2 l3 l4 l5 l6 l7 : Option Value) (v : Int32) (st : List Value) (M : Mem) (Q : Outcome → Mem → Prop), (lo l4 = false) → Wp d 189 64 [l0, l1, l2, l3, l4, l5, l6, l7] (.int v :: st) M Q = Wp d 189 66 [l0, l1, l2, l3, l4, some (.int v), l6, l7] st M Q := fun d l0 l1 l2 l3 l4 l5 l6 l7 v st M Q hl => w_istore (show ins 189 64 = some (.istore 5, 2) by decide +kernel) (st1_S rfl rfl hl)
set_option maxRecDepth 100000 in
theorem r_189_66 : ∀ (d : Nat) (l1 l2 l3 l4 l5 l6 l7 : Option Value) (v : Nat) (st : List Value) (M : Mem) (Q : Outcome → Mem → Prop), Wp d 189 66 [some (.ref v), l1, l2, l3, l4, l5, l6, l7] st M Q = Wp d 189 67 [some (.ref v), l1, l2, l3, l4, l5, l6, l7] (.ref v :: st) M Q := fun d l1 l2 l3 l4 l5 l6 l7 v st M Q => wA (show ins 189 66 = some (.aload_n 0, 1) by decide +kernel) rfl
set_option maxRecDepth 100000 in
theorem r_189_67 : ∀ (d : Nat) (ls : Lc) (a : Nat) (st : List Value) (M : Mem) (Q : Outcome → Mem → Prop), Wp d 189 67 ls (.ref a :: st) M Q = (fk 53 (kO M a) = true ∧ Wp d 189 70 ls (va_rf (mR M 53 a) :: st) M Q) := fun d ls a st M Q => w_getR (show ins 189 67 = some (.getfield 7, 3) by decide +kernel) (show fRes (mC 189) 7 = some (53, 8, false) by decide +kernel) (by decide +kernel)
set_option maxRecDepth 100000 in
theorem r_189_70 : ∀ (d : Nat) (ls : Lc) (st : List Value) (M : Mem) (Q : Outcome → Mem → Prop), Wp d 189 70 ls st M Q = Wp d 189 73 ls (.int (I 3948) :: st) M Q := fun d ls st M Q => w_sipush (show ins 189 70 = some (.sipush 3948, 3) by decide +kernel) (by decide)
set_option maxRecDepth 100000 in
theorem r_189_73 : ∀ (d : Nat) (l0 l1 l2 l4 l5 l6 l7 : Option Value) (v : Int32) (st : List Value) (M : Mem) (Q : Outcome → Mem → Prop), Wp d 189 73 [l0, l1, l2, some (.int v), l4, l5, l6, l7] st M Q = Wp d 189 74 [l0, l1, l2, some (.int v), l4, l5, l6, l7] (.int v :: st) M Q := fun d l0 l1 l2 l4 l5 l6 l7 v st M Q => wA (show ins 189 73 = some (.iload_n 3, 1) by decide +kernel) rfl
set_option maxRecDepth 100000 in
theorem r_189_74 : ∀ (d : Nat) (ls : Lc) (a b : Int) (st : List Value) (M : Mem) (Q : Outcome → Mem → Prop), Wp d 189 74 ls (.int (I b) :: .int (I a) :: st) M Q = Wp d 189 75 ls (.int (I (a + b)) :: st) M Q := fun d ls a b st M Q => w_iadd (show ins 189 74 = some (.iadd, 1) by decide +kernel)
set_option maxRecDepth 100000 in
theorem r_189_75 : ∀ (d : Nat) (ls : Lc) (a : Nat) (j : Int32) (st : List Value) (M : Mem) (Q : Outcome → Mem → Prop), Wp d 189 75 ls (.int j :: .ref a :: st) M Q = ((((kX M a).1 = 0 ∨ (kX M a).1 = 8) ∧ inB j (kX M a).2 = true) ∧ Wp d 189 76 ls (.int (mA M a j.toNatClampNeg) :: st) M Q) := fun d ls a j st M Q => w_iaload (show ins 189 75 = some (.iaload, 1) by decide +kernel)
set_option maxRecDepth 100000 in
theorem r_189_76 : ∀ (d : Nat) (ls : Lc) (st : List Value) (M : Mem) (Q : Outcome → Mem → Prop), Wp d 189 76 ls st M Q = Wp d 189 77 ls (.int (I (-1)) :: st) M Q := fun d ls st M Q => w_iconst (show ins 189 76 = some (.iconst (-1), 1) by decide +kernel)
set_option maxRecDepth 100000 in
theorem r_189_77 : ∀ (d : Nat) (ls : Lc) (a b : Int32) (st : List Value) (M : Mem) (Q : Outcome → Mem → Prop), Wp d 189 77 ls (.int b :: .int a :: st) M Q = Br (¬ a = b) d 189 135 80 ls st M Q := fun d ls a b st M Q => w_icmp (show ins 189 77 = some (.if_icmp .ne 58, 3) by decide +kernel) rfl rfl
set_option maxRecDepth 100000 in
theorem r_189_80 : ∀ (d : Nat) (l1 l2 l3 l4 l5 l6 l7 : Option Value) (v : Nat) (st : List Value) (M : Mem) (Q : Outcome → Mem → Prop), Wp d 189 80 [some (.ref v), l1, l2, l3, l4, l5, l6, l7] st M Q = Wp d 189 81 [some (.ref v), l1, l2, l3, l4, l5, l6, l7] (.ref v :: st) M Q := fun d l1 l2 l3 l4 l5 l6 l7 v st M Q => wA (show ins 189 80 = some (.aload_n 0, 1) by decide +kernel) rfl
set_option maxRecDepth 100000 in
theorem r_189_81 : ∀ (d : Nat) (ls : Lc) (a : Nat) (st : List Value) (M : Mem) (Q : Outcome → Mem → Prop), Wp d 189 81 ls (.ref a :: st) M Q = (fk 53 (kO M a) = true ∧ Wp d 189 84 ls (va_rf (mR M 53 a) :: st) M Q) := fun d ls a st M Q => w_getR (show ins 189 81 = some (.getfield 7, 3) by decide +kernel) (show fRes (mC 189) 7 = some (53, 8, false) by decide +kernel) (by decide +kernel)
set_option maxRecDepth 100000 in
theorem r_189_84 : ∀ (d : Nat) (ls : Lc) (st : List Value) (M : Mem) (Q : Outcome → Mem → Prop), Wp d 189 84 ls st M Q = Wp d 189 87 ls (.int (I 13068) :: st) M Q := fun d ls st M Q => w_sipush (show ins 189 84 = some (.sipush 13068, 3) by decide +kernel) (by decide)
set_option maxRecDepth 100000 in
theorem r_189_87 : ∀ (d : Nat) (l1 l2 l3 l4 l5 l6 l7 : Option Value) (v : Nat) (st : List Value) (M : Mem) (Q : Outcome → Mem → Prop), Wp d 189 87 [some (.ref v), l1, l2, l3, l4, l5, l6, l7] st M Q = Wp d 189 88 [some (.ref v), l1, l2, l3, l4, l5, l6, l7] (.ref v :: st) M Q := fun d l1 l2 l3 l4 l5 l6 l7 v st M Q => wA (show ins 189 87 = some (.aload_n 0, 1) by decide +kernel) rfl
set_option maxRecDepth 100000 in
theorem r_189_88 : ∀ (d : Nat) (l0 l1 l2 l4 l5 l6 l7 : Option Value) (v : Int32) (st : List Value) (M : Mem) (Q : Outcome → Mem → Prop), Wp d 189 88 [l0, l1, l2, some (.int v), l4, l5, l6, l7] st M Q = Wp d 189 89 [l0, l1, l2, some (.int v), l4, l5, l6, l7] (.int v :: st) M Q := fun d l0 l1 l2 l4 l5 l6 l7 v st M Q => wA (show ins 189 88 = some (.iload_n 3, 1) by decide +kernel) rfl
set_option maxRecDepth 100000 in
theorem r_189_89 : ∀ (d : Nat) (ls : Lc) (v0 : Value) (a : Nat) (st : List Value) (M : Mem) (Q : Outcome → Mem → Prop), (smallR st = true) → Wp d 189 89 ls (v0 :: .ref a :: st) M Q = (kO M a = 8 ∧ Ca d 189 89 ls 171 (.ref a :: [v0]) st M Q) := fun d ls v0 a st M Q h0 => w_virt1 (as := [v0]) (show ins 189 89 = some (.invokevirtual 55, 3) by decide +kernel) (show mRes (mC 189) 55 = some (3, 8, [(8, 171)]) by decide +kernel) (by decide +kernel) rfl (by decide +kernel) (by decide +kernel) h0
set_option maxRecDepth 100000 in
theorem r_189_92 : ∀ (d : Nat) (ls : Lc) (a b : Int) (st : List Value) (M : Mem) (Q : Outcome → Mem → Prop), Wp d 189 92 ls (.int (I b) :: .int (I a) :: st) M Q = Wp d 189 93 ls (.int (I (a + b)) :: st) M Q := fun d ls a b st M Q => w_iadd (show ins 189 92 = some (.iadd, 1) by decide +kernel)
set_option maxRecDepth 100000 in
theorem r_189_93 : ∀ (d : Nat) (ls : Lc) (st : List Value) (M : Mem) (Q : Outcome → Mem → Prop), Wp d 189 93 ls st M Q = Wp d 189 94 ls (.int (I 0) :: st) M Q := fun d ls st M Q => w_iconst (show ins 189 93 = some (.iconst 0, 1) by decide +kernel)
set_option maxRecDepth 100000 in
theorem r_189_94 : ∀ (d : Nat) (ls : Lc) (a : Nat) (j v : Int32) (st : List Value) (M : Mem) (Q : Outcome → Mem → Prop), Wp d 189 94 ls (.int v :: .int j :: .ref a :: st) M Q = (((kX M a).1 = 0 ∧ inB j (kX M a).2 = true) ∧ Wp d 189 95 ls st (sA M a j.toNatClampNeg v) Q) := fun d ls a j v st M Q => w_iastore (show ins 189 94 = some (.iastore, 1) by decide +kernel)
set_option maxRecDepth 100000 in
theorem r_189_95 : ∀ (d : Nat) (l1 l2 l3 l4 l5 l6 l7 : Option Value) (v : Nat) (st : List Value) (M : Mem) (Q : Outcome → Mem → Prop), Wp d 189 95 [some (.ref v), l1, l2, l3, l4, l5, l6, l7] st M Q = Wp d 189 96 [some (.ref v), l1, l2, l3, l4, l5, l6, l7] (.ref v :: st) M Q := fun d l1 l2 l3 l4 l5 l6 l7 v st M Q => wA (show ins 189 95 = some (.aload_n 0, 1) by decide +kernel) rfl
set_option maxRecDepth 100000 in
theorem r_189_96 : ∀ (d : Nat) (l0 l1 l2 l4 l5 l6 l7 : Option Value) (v : Int32) (st : List Value) (M : Mem) (Q : Outcome → Mem → Prop), Wp d 189 96 [l0, l1, l2, some (.int v), l4, l5, l6, l7] st M Q = Wp d 189 97 [l0, l1, l2, some (.int v), l4, l5, l6, l7] (.int v :: st) M Q := fun d l0 l1 l2 l4 l5 l6 l7 v st M Q => wA (show ins 189 96 = some (.iload_n 3, 1) by decide +kernel) rfl
set_option maxRecDepth 100000 in
theorem r_189_97 : ∀ (d : Nat) (ls : Lc) (v0 : Value) (a : Nat) (st : List Value) (M : Mem) (Q : Outcome → Mem → Prop), (smallR st = true) → Wp d 189 97 ls (v0 :: .ref a :: st) M Q = (kO M a = 8 ∧ Ca d 189 97 ls 191 (.ref a :: [v0]) st M Q) := fun d ls v0 a st M Q h0 => w_virt1 (as := [v0]) (show ins 189 97 = some (.invokevirtual 85, 3) by decide +kernel) (show mRes (mC 189) 85 = some (3, 8, [(8, 191)]) by decide +kernel) (by decide +kernel) rfl (by decide +kernel) (by decide +kernel) h0
set_option maxRecDepth 100000 in
theorem r_189_100 : ∀ (d : Nat) (l1 l2 l3 l4 l5 l6 l7 : Option Value) (v : Nat) (st : List Value) (M : Mem) (Q : Outcome → Mem → Prop), Wp d 189 100 [some (.ref v), l1, l2, l3, l4, l5, l6, l7] st M Q = Wp d 189 101 [some (.ref v), l1, l2, l3, l4, l5, l6, l7] (.ref v :: st) M Q := fun d l1 l2 l3 l4 l5 l6 l7 v st M Q => wA (show ins 189 100 = some (.aload_n 0, 1) by decide +kernel) rfl
set_option maxRecDepth 100000 in
theorem r_189_101 : ∀ (d : Nat) (ls : Lc) (a : Nat) (st : List Value) (M : Mem) (Q : Outcome → Mem → Prop), Wp d 189 101 ls (.ref a :: st) M Q = (fk 53 (kO M a) = true ∧ Wp d 189 104 ls (va_rf (mR M 53 a) :: st) M Q) := fun d ls a st M Q => w_getR (show ins 189 101 = some (.getfield 7, 3) by decide +kernel) (show fRes (mC 189) 7 = some (53, 8, false) by decide +kernel) (by decide +kernel)
set_option maxRecDepth 100000 in
theorem r_189_104 : ∀ (d : Nat) (ls : Lc) (st : List Value) (M : Mem) (Q : Outcome → Mem → Prop), Wp d 189 104 ls st M Q = Wp d 189 107 ls (.int (I 3948) :: st) M Q := fun d ls st M Q => w_sipush (show ins 189 104 = some (.sipush 3948, 3) by decide +kernel) (by decide)
set_option maxRecDepth 100000 in
theorem r_189_107 : ∀ (d : Nat) (l0 l1 l2 l3 l4 l6 l7 : Option Value) (v : Int32) (st : List Value) (M : Mem) (Q : Outcome → Mem → Prop), Wp d 189 107 [l0, l1, l2, l3, l4, some (.int v), l6, l7] st M Q = Wp d 189 109 [l0, l1, l2, l3, l4, some (.int v), l6, l7] (.int v :: st) M Q := fun d l0 l1 l2 l3 l4 l6 l7 v st M Q => wA (show ins 189 107 = some (.iload 5, 2) by decide +kernel) rfl
set_option maxRecDepth 100000 in
theorem r_189_109 : ∀ (d : Nat) (ls : Lc) (a b : Int) (st : List Value) (M : Mem) (Q : Outcome → Mem → Prop), Wp d 189 109 ls (.int (I b) :: .int (I a) :: st) M Q = Wp d 189 110 ls (.int (I (a + b)) :: st) M Q := fun d ls a b st M Q => w_iadd (show ins 189 109 = some (.iadd, 1) by decide +kernel)
set_option maxRecDepth 100000 in
theorem r_189_110 : ∀ (d : Nat) (ls : Lc) (st : List Value) (M : Mem) (Q : Outcome → Mem → Prop), Wp d 189 110 ls st M Q = Wp d 189 111 ls (.int (I (-1)) :: st) M Q := fun d ls st M Q => w_iconst (show ins 189 110 = some (.iconst (-1), 1) by decide +kernel)
set_option maxRecDepth 100000 in
theorem r_189_111 : ∀ (d : Nat) (ls : Lc) (a : Nat) (j v : Int32) (st : List Value) (M : Mem) (Q : Outcome → Mem → Prop), Wp d 189 111 ls (.int v :: .int j :: .ref a :: st) M Q = (((kX M a).1 = 0 ∧ inB j (kX M a).2 = true) ∧ Wp d 189 112 ls st (sA M a j.toNatClampNeg v) Q) := fun d ls a j v st M Q => w_iastore (show ins 189 111 = some (.iastore, 1) by decide +kernel)
set_option maxRecDepth 100000 in
theorem r_189_112 : ∀ (d : Nat) (l1 l2 l3 l4 l5 l6 l7 : Option Value) (v : Nat) (st : List Value) (M : Mem) (Q : Outcome → Mem → Prop), Wp d 189 112 [some (.ref v), l1, l2, l3, l4, l5, l6, l7] st M Q = Wp d 189 113 [some (.ref v), l1, l2, l3, l4, l5, l6, l7] (.ref v :: st) M Q := fun d l1 l2 l3 l4 l5 l6 l7 v st M Q => wA (show ins 189 112 = some (.aload_n 0, 1) by decide +kernel) rfl
set_option maxRecDepth 100000 in
theorem r_189_113 : ∀ (d : Nat) (ls : Lc) (a : Nat) (st : List Value) (M : Mem) (Q : Outcome → Mem → Prop), Wp d 189 113 ls (.ref a :: st) M Q = (fk 53 (kO M a) = true ∧ Wp d 189 116 ls (va_rf (mR M 53 a) :: st) M Q) := fun d ls a st M Q => w_getR (show ins 189 113 = some (.getfield 7, 3) by decide +kernel) (show fRes (mC 189) 7 = some (53, 8, false) by decide +kernel) (by decide +kernel)
set_option maxRecDepth 100000 in
theorem r_189_116 : ∀ (d : Nat) (ls : Lc) (st : List Value) (M : Mem) (Q : Outcome → Mem → Prop), Wp d 189 116 ls st M Q = Wp d 189 119 ls (.int (I 13076) :: st) M Q := fun d ls st M Q => w_sipush (show ins 189 116 = some (.sipush 13076, 3) by decide +kernel) (by decide)
set_option maxRecDepth 100000 in
theorem r_189_119 : ∀ (d : Nat) (l0 l1 l2 l3 l4 l6 l7 : Option Value) (v : Int32) (st : List Value) (M : Mem) (Q : Outcome → Mem → Prop), Wp d 189 119 [l0, l1, l2, l3, l4, some (.int v), l6, l7] st M Q = Wp d 189 121 [l0, l1, l2, l3, l4, some (.int v), l6, l7] (.int v :: st) M Q := fun d l0 l1 l2 l3 l4 l6 l7 v st M Q => wA (show ins 189 119 = some (.iload 5, 2) by decide +kernel) rfl
set_option maxRecDepth 100000 in
theorem r_189_121 : ∀ (d : Nat) (ls : Lc) (a : Nat) (j v : Int32) (st : List Value) (M : Mem) (Q : Outcome → Mem → Prop), Wp d 189 121 ls (.int v :: .int j :: .ref a :: st) M Q = (((kX M a).1 = 0 ∧ inB j (kX M a).2 = true) ∧ Wp d 189 122 ls st (sA M a j.toNatClampNeg v) Q) := fun d ls a j v st M Q => w_iastore (show ins 189 121 = some (.iastore, 1) by decide +kernel)
set_option maxRecDepth 100000 in
theorem r_189_122 : ∀ (d : Nat) (l1 l2 l3 l4 l5 l6 l7 : Option Value) (v : Nat) (st : List Value) (M : Mem) (Q : Outcome → Mem → Prop), Wp d 189 122 [some (.ref v), l1, l2, l3, l4, l5, l6, l7] st M Q = Wp d 189 123 [some (.ref v), l1, l2, l3, l4, l5, l6, l7] (.ref v :: st) M Q := fun d l1 l2 l3 l4 l5 l6 l7 v st M Q => wA (show ins 189 122 = some (.aload_n 0, 1) by decide +kernel) rfl
set_option maxRecDepth 100000 in
theorem r_189_123 : ∀ (d : Nat) (ls : Lc) (a : Nat) (st : List Value) (M : Mem) (Q : Outcome → Mem → Prop), Wp d 189 123 ls (.ref a :: st) M Q = (fk 53 (kO M a) = true ∧ Wp d 189 126 ls (va_rf (mR M 53 a) :: st) M Q) := fun d ls a st M Q => w_getR (show ins 189 123 = some (.getfield 7, 3) by decide +kernel) (show fRes (mC 189) 7 = some (53, 8, false) by decide +kernel) (by decide +kernel)
set_option maxRecDepth 100000 in
theorem r_189_126 : ∀ (d : Nat) (ls : Lc) (st : List Value) (M : Mem) (Q : Outcome → Mem → Prop), Wp d 189 126 ls st M Q = Wp d 189 129 ls (.int (I 13077) :: st) M Q := fun d ls st M Q => w_sipush (show ins 189 126 = some (.sipush 13077, 3) by decide +kernel) (by decide)
set_option maxRecDepth 100000 in
theorem r_189_129 : ∀ (d : Nat) (ls : Lc) (v : Int32) (a : Nat) (st : List Value) (M : Mem) (Q : Outcome → Mem → Prop), Wp d 189 129 ls (.int v :: .ref a :: st) M Q = Wp d 189 130 ls (.int v :: .ref a :: .int v :: .ref a :: st) M Q := fun d ls v a st M Q => wA (show ins 189 129 = some (.dup2, 1) by decide +kernel) rfl
set_option maxRecDepth 100000 in
theorem r_189_130 : ∀ (d : Nat) (ls : Lc) (a : Nat) (j : Int32) (st : List Value) (M : Mem) (Q : Outcome → Mem → Prop), Wp d 189 130 ls (.int j :: .ref a :: st) M Q = ((((kX M a).1 = 0 ∨ (kX M a).1 = 8) ∧ inB j (kX M a).2 = true) ∧ Wp d 189 131 ls (.int (mA M a j.toNatClampNeg) :: st) M Q) := fun d ls a j st M Q => w_iaload (show ins 189 130 = some (.iaload, 1) by decide +kernel)
set_option maxRecDepth 100000 in
theorem r_189_131 : ∀ (d : Nat) (ls : Lc) (st : List Value) (M : Mem) (Q : Outcome → Mem → Prop), Wp d 189 131 ls st M Q = Wp d 189 132 ls (.int (I 1) :: st) M Q := fun d ls st M Q => w_iconst (show ins 189 131 = some (.iconst 1, 1) by decide +kernel)
set_option maxRecDepth 100000 in
theorem r_189_132 : ∀ (d : Nat) (ls : Lc) (a b : Int) (st : List Value) (M : Mem) (Q : Outcome → Mem → Prop), Wp d 189 132 ls (.int (I b) :: .int (I a) :: st) M Q = Wp d 189 133 ls (.int (I (a - b)) :: st) M Q := fun d ls a b st M Q => w_isub (show ins 189 132 = some (.isub, 1) by decide +kernel)
set_option maxRecDepth 100000 in
theorem r_189_133 : ∀ (d : Nat) (ls : Lc) (a : Nat) (j v : Int32) (st : List Value) (M : Mem) (Q : Outcome → Mem → Prop), Wp d 189 133 ls (.int v :: .int j :: .ref a :: st) M Q = (((kX M a).1 = 0 ∧ inB j (kX M a).2 = true) ∧ Wp d 189 134 ls st (sA M a j.toNatClampNeg v) Q) := fun d ls a j v st M Q => w_iastore (show ins 189 133 = some (.iastore, 1) by decide +kernel)
set_option maxRecDepth 100000 in
theorem r_189_134 : ∀ (d : Nat) (ls : Lc) (M : Mem) (Q : Outcome → Mem → Prop), Wp d 189 134 ls [] M Q = Q (.returned none) M := fun d ls M Q => w_return (show ins 189 134 = some (.return_, 1) by decide +kernel) (by decide +kernel)
set_option maxRecDepth 100000 in
theorem r_189_135 : ∀ (d : Nat) (l1 l2 l3 l4 l5 l6 l7 : Option Value) (v : Nat) (st : List Value) (M : Mem) (Q : Outcome → Mem → Prop), Wp d 189 135 [some (.ref v), l1, l2, l3, l4, l5, l6, l7] st M Q = Wp d 189 136 [some (.ref v), l1, l2, l3, l4, l5, l6, l7] (.ref v :: st) M Q := fun d l1 l2 l3 l4 l5 l6 l7 v st M Q => wA (show ins 189 135 = some (.aload_n 0, 1) by decide +kernel) rfl
set_option maxRecDepth 100000 in
theorem r_189_136 : ∀ (d : Nat) (l0 l1 l2 l4 l5 l6 l7 : Option Value) (v : Int32) (st : List Value) (M : Mem) (Q : Outcome → Mem → Prop), Wp d 189 136 [l0, l1, l2, some (.int v), l4, l5, l6, l7] st M Q = Wp d 189 137 [l0, l1, l2, some (.int v), l4, l5, l6, l7] (.int v :: st) M Q := fun d l0 l1 l2 l4 l5 l6 l7 v st M Q => wA (show ins 189 136 = some (.iload_n 3, 1) by decide +kernel) rfl
set_option maxRecDepth 100000 in
theorem r_189_137 : ∀ (d : Nat) (ls : Lc) (st : List Value) (M : Mem) (Q : Outcome → Mem → Prop), Wp d 189 137 ls st M Q = Wp d 189 138 ls (.int (I (-1)) :: st) M Q := fun d ls st M Q => w_iconst (show ins 189 137 = some (.iconst (-1), 1) by decide +kernel)
set_option maxRecDepth 100000 in
theorem r_189_138 : ∀ (d : Nat) (ls : Lc) (v0 v1 : Value) (a : Nat) (st : List Value) (M : Mem) (Q : Outcome → Mem → Prop), (smallR st = true) → Wp d 189 138 ls (v1 :: v0 :: .ref a :: st) M Q = (kO M a = 8 ∧ Ca d 189 138 ls 170 (.ref a :: [v0, v1]) st M Q) := fun d ls v0 v1 a st M Q h0 => w_virt1 (as := [v0, v1]) (show ins 189 138 = some (.invokevirtual 88, 3) by decide +kernel) (show mRes (mC 189) 88 = some (3, 8, [(8, 170)]) by decide +kernel) (by decide +kernel) rfl (by decide +kernel) (by decide +kernel) h0
set_option maxRecDepth 100000 in
theorem r_189_141 : ∀ (d : Nat) (l0 l1 l2 l3 l4 l5 l6 l7 : Option Value) (v : Int32) (st : List Value) (M : Mem) (Q : Outcome → Mem → Prop), (lo l5 = false) → Wp d 189 141 [l0, l1, l2, l3, l4, l5, l6, l7] (.int v :: st) M Q = Wp d 189 143 [l0, l1, l2, l3, l4, l5, some (.int v), l7] st M Q := fun d l0 l1 l2 l3 l4 l5 l6 l7 v st M Q hl => w_istore (show ins 189 141 = some (.istore 6, 2) by decide +kernel) (st1_S rfl rfl hl)
set_option maxRecDepth 100000 in
theorem r_189_143 : ∀ (d : Nat) (l1 l2 l3 l4 l5 l6 l7 : Option Value) (v : Nat) (st : List Value) (M : Mem) (Q : Outcome → Mem → Prop), Wp d 189 143 [some (.ref v), l1, l2, l3, l4, l5, l6, l7] st M Q = Wp d 189 144 [some (.ref v), l1, l2, l3, l4, l5, l6, l7] (.ref v :: st) M Q := fun d l1 l2 l3 l4 l5 l6 l7 v st M Q => wA (show ins 189 143 = some (.aload_n 0, 1) by decide +kernel) rfl
set_option maxRecDepth 100000 in
theorem r_189_144 : ∀ (d : Nat) (l0 l1 l2 l4 l5 l6 l7 : Option Value) (v : Int32) (st : List Value) (M : Mem) (Q : Outcome → Mem → Prop), Wp d 189 144 [l0, l1, l2, some (.int v), l4, l5, l6, l7] st M Q = Wp d 189 145 [l0, l1, l2, some (.int v), l4, l5, l6, l7] (.int v :: st) M Q := fun d l0 l1 l2 l4 l5 l6 l7 v st M Q => wA (show ins 189 144 = some (.iload_n 3, 1) by decide +kernel) rfl
set_option maxRecDepth 100000 in
theorem r_189_145 : ∀ (d : Nat) (ls : Lc) (st : List Value) (M : Mem) (Q : Outcome → Mem → Prop), Wp d 189 145 ls st M Q = Wp d 189 146 ls (.int (I 1) :: st) M Q := fun d ls st M Q => w_iconst (show ins 189 145 = some (.iconst 1, 1) by decide +kernel)
set_option maxRecDepth 100000 in
theorem r_189_146 : ∀ (d : Nat) (ls : Lc) (v0 v1 : Value) (a : Nat) (st : List Value) (M : Mem) (Q : Outcome → Mem → Prop), (smallR st = true) → Wp d 189 146 ls (v1 :: v0 :: .ref a :: st) M Q = (kO M a = 8 ∧ Ca d 189 146 ls 170 (.ref a :: [v0, v1]) st M Q) := fun d ls v0 v1 a st M Q h0 => w_virt1 (as := [v0, v1]) (show ins 189 146 = some (.invokevirtual 88, 3) by decide +kernel) (show mRes (mC 189) 88 = some (3, 8, [(8, 170)]) by decide +kernel) (by decide +kernel) rfl (by decide +kernel) (by decide +kernel) h0
set_option maxRecDepth 100000 in
theorem r_189_149 : ∀ (d : Nat) (l0 l1 l2 l3 l4 l5 l6 l7 : Option Value) (v : Int32) (st : List Value) (M : Mem) (Q : Outcome → Mem → Prop), (lo l6 = false) → Wp d 189 149 [l0, l1, l2, l3, l4, l5, l6, l7] (.int v :: st) M Q = Wp d 189 151 [l0, l1, l2, l3, l4, l5, l6, some (.int v)] st M Q := fun d l0 l1 l2 l3 l4 l5 l6 l7 v st M Q hl => w_istore (show ins 189 149 = some (.istore 7, 2) by decide +kernel) (st1_S rfl rfl hl)
set_option maxRecDepth 100000 in
theorem r_189_151 : ∀ (d : Nat) (l0 l1 l2 l3 l4 l5 l7 : Option Value) (v : Int32) (st : List Value) (M : Mem) (Q : Outcome → Mem → Prop), Wp d 189 151 [l0, l1, l2, l3, l4, l5, some (.int v), l7] st M Q = Wp d 189 153 [l0, l1, l2, l3, l4, l5, some (.int v), l7] (.int v :: st) M Q := fun d l0 l1 l2 l3 l4 l5 l7 v st M Q => wA (show ins 189 151 = some (.iload 6, 2) by decide +kernel) rfl
set_option maxRecDepth 100000 in
theorem r_189_153 : ∀ (d : Nat) (ls : Lc) (st : List Value) (M : Mem) (Q : Outcome → Mem → Prop), Wp d 189 153 ls st M Q = Wp d 189 154 ls (.int (I (-1)) :: st) M Q := fun d ls st M Q => w_iconst (show ins 189 153 = some (.iconst (-1), 1) by decide +kernel)
set_option maxRecDepth 100000 in
theorem r_189_154 : ∀ (d : Nat) (ls : Lc) (a b : Int32) (st : List Value) (M : Mem) (Q : Outcome → Mem → Prop), Wp d 189 154 ls (.int b :: .int a :: st) M Q = Br (a = b) d 189 194 157 ls st M Q := fun d ls a b st M Q => w_icmp (show ins 189 154 = some (.if_icmp .eq 40, 3) by decide +kernel) rfl rfl
set_option maxRecDepth 100000 in
theorem r_189_157 : ∀ (d : Nat) (l1 l2 l3 l4 l5 l6 l7 : Option Value) (v : Nat) (st : List Value) (M : Mem) (Q : Outcome → Mem → Prop), Wp d 189 157 [some (.ref v), l1, l2, l3, l4, l5, l6, l7] st M Q = Wp d 189 158 [some (.ref v), l1, l2, l3, l4, l5, l6, l7] (.ref v :: st) M Q := fun d l1 l2 l3 l4 l5 l6 l7 v st M Q => wA (show ins 189 157 = some (.aload_n 0, 1) by decide +kernel) rfl
set_option maxRecDepth 100000 in
theorem r_189_158 : ∀ (d : Nat) (ls : Lc) (a : Nat) (st : List Value) (M : Mem) (Q : Outcome → Mem → Prop), Wp d 189 158 ls (.ref a :: st) M Q = (fk 53 (kO M a) = true ∧ Wp d 189 161 ls (va_rf (mR M 53 a) :: st) M Q) := fun d ls a st M Q => w_getR (show ins 189 158 = some (.getfield 7, 3) by decide +kernel) (show fRes (mC 189) 7 = some (53, 8, false) by decide +kernel) (by decide +kernel)
set_option maxRecDepth 100000 in
theorem r_189_161 : ∀ (d : Nat) (ls : Lc) (st : List Value) (M : Mem) (Q : Outcome → Mem → Prop), Wp d 189 161 ls st M Q = Wp d 189 164 ls (.int (I 3852) :: st) M Q := fun d ls st M Q => w_sipush (show ins 189 161 = some (.sipush 3852, 3) by decide +kernel) (by decide)
set_option maxRecDepth 100000 in
theorem r_189_164 : ∀ (d : Nat) (l0 l1 l2 l3 l4 l5 l7 : Option Value) (v : Int32) (st : List Value) (M : Mem) (Q : Outcome → Mem → Prop), Wp d 189 164 [l0, l1, l2, l3, l4, l5, some (.int v), l7] st M Q = Wp d 189 166 [l0, l1, l2, l3, l4, l5, some (.int v), l7] (.int v :: st) M Q := fun d l0 l1 l2 l3 l4 l5 l7 v st M Q => wA (show ins 189 164 = some (.iload 6, 2) by decide +kernel) rfl
set_option maxRecDepth 100000 in
theorem r_189_166 : ∀ (d : Nat) (ls : Lc) (a b : Int) (st : List Value) (M : Mem) (Q : Outcome → Mem → Prop), Wp d 189 166 ls (.int (I b) :: .int (I a) :: st) M Q = Wp d 189 167 ls (.int (I (a + b)) :: st) M Q := fun d ls a b st M Q => w_iadd (show ins 189 166 = some (.iadd, 1) by decide +kernel)
set_option maxRecDepth 100000 in
theorem r_189_167 : ∀ (d : Nat) (ls : Lc) (a : Nat) (j : Int32) (st : List Value) (M : Mem) (Q : Outcome → Mem → Prop), Wp d 189 167 ls (.int j :: .ref a :: st) M Q = ((((kX M a).1 = 0 ∨ (kX M a).1 = 8) ∧ inB j (kX M a).2 = true) ∧ Wp d 189 168 ls (.int (mA M a j.toNatClampNeg) :: st) M Q) := fun d ls a j st M Q => w_iaload (show ins 189 167 = some (.iaload, 1) by decide +kernel)
set_option maxRecDepth 100000 in
theorem r_189_168 : ∀ (d : Nat) (ls : Lc) (st : List Value) (M : Mem) (Q : Outcome → Mem → Prop), Wp d 189 168 ls st M Q = Wp d 189 169 ls (.int (I 5) :: st) M Q := fun d ls st M Q => w_iconst (show ins 189 168 = some (.iconst 5, 1) by decide +kernel)
set_option maxRecDepth 100000 in
theorem r_189_169 : ∀ (d : Nat) (ls : Lc) (a b : Int32) (st : List Value) (M : Mem) (Q : Outcome → Mem → Prop), Wp d 189 169 ls (.int b :: .int a :: st) M Q = Br (b ≤ a) d 189 194 172 ls st M Q := fun d ls a b st M Q => w_icmp (show ins 189 169 = some (.if_icmp .ge 25, 3) by decide +kernel) rfl rfl
set_option maxRecDepth 100000 in
theorem r_189_172 : ∀ (d : Nat) (l1 l2 l3 l4 l5 l6 l7 : Option Value) (v : Nat) (st : List Value) (M : Mem) (Q : Outcome → Mem → Prop), Wp d 189 172 [some (.ref v), l1, l2, l3, l4, l5, l6, l7] st M Q = Wp d 189 173 [some (.ref v), l1, l2, l3, l4, l5, l6, l7] (.ref v :: st) M Q := fun d l1 l2 l3 l4 l5 l6 l7 v st M Q => wA (show ins 189 172 = some (.aload_n 0, 1) by decide +kernel) rfl
set_option maxRecDepth 100000 in
theorem r_189_173 : ∀ (d : Nat) (l0 l1 l2 l3 l4 l5 l7 : Option Value) (v : Int32) (st : List Value) (M : Mem) (Q : Outcome → Mem → Prop), Wp d 189 173 [l0, l1, l2, l3, l4, l5, some (.int v), l7] st M Q = Wp d 189 175 [l0, l1, l2, l3, l4, l5, some (.int v), l7] (.int v :: st) M Q := fun d l0 l1 l2 l3 l4 l5 l7 v st M Q => wA (show ins 189 173 = some (.iload 6, 2) by decide +kernel) rfl
set_option maxRecDepth 100000 in
theorem r_189_175 : ∀ (d : Nat) (l1 l2 l3 l4 l5 l6 l7 : Option Value) (v : Nat) (st : List Value) (M : Mem) (Q : Outcome → Mem → Prop), Wp d 189 175 [some (.ref v), l1, l2, l3, l4, l5, l6, l7] st M Q = Wp d 189 176 [some (.ref v), l1, l2, l3, l4, l5, l6, l7] (.ref v :: st) M Q := fun d l1 l2 l3 l4 l5 l6 l7 v st M Q => wA (show ins 189 175 = some (.aload_n 0, 1) by decide +kernel) rfl
set_option maxRecDepth 100000 in
theorem r_189_176 : ∀ (d : Nat) (ls : Lc) (a : Nat) (st : List Value) (M : Mem) (Q : Outcome → Mem → Prop), Wp d 189 176 ls (.ref a :: st) M Q = (fk 53 (kO M a) = true ∧ Wp d 189 179 ls (va_rf (mR M 53 a) :: st) M Q) := fun d ls a st M Q => w_getR (show ins 189 176 = some (.getfield 7, 3) by decide +kernel) (show fRes (mC 189) 7 = some (53, 8, false) by decide +kernel) (by decide +kernel)
set_option maxRecDepth 100000 in
theorem r_189_179 : ∀ (d : Nat) (ls : Lc) (st : List Value) (M : Mem) (Q : Outcome → Mem → Prop), Wp d 189 179 ls st M Q = Wp d 189 182 ls (.int (I 3852) :: st) M Q := fun d ls st M Q => w_sipush (show ins 189 179 = some (.sipush 3852, 3) by decide +kernel) (by decide)
set_option maxRecDepth 100000 in
theorem r_189_182 : ∀ (d : Nat) (l0 l1 l2 l3 l4 l5 l7 : Option Value) (v : Int32) (st : List Value) (M : Mem) (Q : Outcome → Mem → Prop), Wp d 189 182 [l0, l1, l2, l3, l4, l5, some (.int v), l7] st M Q = Wp d 189 184 [l0, l1, l2, l3, l4, l5, some (.int v), l7] (.int v :: st) M Q := fun d l0 l1 l2 l3 l4 l5 l7 v st M Q => wA (show ins 189 182 = some (.iload 6, 2) by decide +kernel) rfl
set_option maxRecDepth 100000 in
theorem r_189_184 : ∀ (d : Nat) (ls : Lc) (a b : Int) (st : List Value) (M : Mem) (Q : Outcome → Mem → Prop), Wp d 189 184 ls (.int (I b) :: .int (I a) :: st) M Q = Wp d 189 185 ls (.int (I (a + b)) :: st) M Q := fun d ls a b st M Q => w_iadd (show ins 189 184 = some (.iadd, 1) by decide +kernel)
set_option maxRecDepth 100000 in
theorem r_189_185 : ∀ (d : Nat) (ls : Lc) (a : Nat) (j : Int32) (st : List Value) (M : Mem) (Q : Outcome → Mem → Prop), Wp d 189 185 ls (.int j :: .ref a :: st) M Q = ((((kX M a).1 = 0 ∨ (kX M a).1 = 8) ∧ inB j (kX M a).2 = true) ∧ Wp d 189 186 ls (.int (mA M a j.toNatClampNeg) :: st) M Q) := fun d ls a j st M Q => w_iaload (show ins 189 185 = some (.iaload, 1) by decide +kernel)
set_option maxRecDepth 100000 in
theorem r_189_186 : ∀ (d : Nat) (l0 l1 l2 l3 l4 l6 l7 : Option Value) (v : Int32) (st : List Value) (M : Mem) (Q : Outcome → Mem → Prop), Wp d 189 186 [l0, l1, l2, l3, l4, some (.int v), l6, l7] st M Q = Wp d 189 188 [l0, l1, l2, l3, l4, some (.int v), l6, l7] (.int v :: st) M Q := fun d l0 l1 l2 l3 l4 l6 l7 v st M Q => wA (show ins 189 186 = some (.iload 5, 2) by decide +kernel) rfl
set_option maxRecDepth 100000 in
theorem r_189_188 : ∀ (d : Nat) (ls : Lc) (v0 v1 v2 : Value) (a : Nat) (st : List Value) (M : Mem) (Q : Outcome → Mem → Prop), (smallR st = true) → Wp d 189 188 ls (v2 :: v1 :: v0 :: .ref a :: st) M Q = (kO M a = 8 ∧ Ca d 189 188 ls 180 (.ref a :: [v0, v1, v2]) st M Q) := fun d ls v0 v1 v2 a st M Q h0 => w_virt1 (as := [v0, v1, v2]) (show ins 189 188 = some (.invokevirtual 66, 3) by decide +kernel) (show mRes (mC 189) 66 = some (3, 8, [(8, 180)]) by decide +kernel) (by decide +kernel) rfl (by decide +kernel) (by decide +kernel) h0
set_option maxRecDepth 100000 in
theorem r_189_191 : ∀ (d : Nat) (ls : Lc) (st : List Value) (M : Mem) (Q : Outcome → Mem → Prop), Wp d 189 191 ls st M Q = Wp d 189 275 ls st M Q := fun d ls st M Q => w_goto (show ins 189 191 = some (.goto 84, 3) by decide +kernel) rfl
set_option maxRecDepth 100000 in
theorem r_189_194 : ∀ (d : Nat) (l0 l1 l2 l3 l4 l5 l6 : Option Value) (v : Int32) (st : List Value) (M : Mem) (Q : Outcome → Mem → Prop), Wp d 189 194 [l0, l1, l2, l3, l4, l5, l6, some (.int v)] st M Q = Wp d 189 196 [l0, l1, l2, l3, l4, l5, l6, some (.int v)] (.int v :: st) M Q := fun d l0 l1 l2 l3 l4 l5 l6 v st M Q => wA (show ins 189 194 = some (.iload 7, 2) by decide +kernel) rfl
set_option maxRecDepth 100000 in
theorem r_189_196 : ∀ (d : Nat) (ls : Lc) (st : List Value) (M : Mem) (Q : Outcome → Mem → Prop), Wp d 189 196 ls st M Q = Wp d 189 197 ls (.int (I (-1)) :: st) M Q := fun d ls st M Q => w_iconst (show ins 189 196 = some (.iconst (-1), 1) by decide +kernel)
set_option maxRecDepth 100000 in
theorem r_189_197 : ∀ (d : Nat) (ls : Lc) (a b : Int32) (st : List Value) (M : Mem) (Q : Outcome → Mem → Prop), Wp d 189 197 ls (.int b :: .int a :: st) M Q = Br (a = b) d 189 227 200 ls st M Q := fun d ls a b st M Q => w_icmp (show ins 189 197 = some (.if_icmp .eq 30, 3) by decide +kernel) rfl rfl
set_option maxRecDepth 100000 in
theorem r_189_200 : ∀ (d : Nat) (l1 l2 l3 l4 l5 l6 l7 : Option Value) (v : Nat) (st : List Value) (M : Mem) (Q : Outcome → Mem → Prop), Wp d 189 200 [some (.ref v), l1, l2, l3, l4, l5, l6, l7] st M Q = Wp d 189 201 [some (.ref v), l1, l2, l3, l4, l5, l6, l7] (.ref v :: st) M Q := fun d l1 l2 l3 l4 l5 l6 l7 v st M Q => wA (show ins 189 200 = some (.aload_n 0, 1) by decide +kernel) rfl
set_option maxRecDepth 100000 in
theorem r_189_201 : ∀ (d : Nat) (ls : Lc) (a : Nat) (st : List Value) (M : Mem) (Q : Outcome → Mem → Prop), Wp d 189 201 ls (.ref a :: st) M Q = (fk 53 (kO M a) = true ∧ Wp d 189 204 ls (va_rf (mR M 53 a) :: st) M Q) := fun d ls a st M Q => w_getR (show ins 189 201 = some (.getfield 7, 3) by decide +kernel) (show fRes (mC 189) 7 = some (53, 8, false) by decide +kernel) (by decide +kernel)
set_option maxRecDepth 100000 in
theorem r_189_204 : ∀ (d : Nat) (ls : Lc) (st : List Value) (M : Mem) (Q : Outcome → Mem → Prop), Wp d 189 204 ls st M Q = Wp d 189 207 ls (.int (I 3852) :: st) M Q := fun d ls st M Q => w_sipush (show ins 189 204 = some (.sipush 3852, 3) by decide +kernel) (by decide)
set_option maxRecDepth 100000 in
theorem r_189_207 : ∀ (d : Nat) (l0 l1 l2 l3 l4 l5 l6 : Option Value) (v : Int32) (st : List Value) (M : Mem) (Q : Outcome → Mem → Prop), Wp d 189 207 [l0, l1, l2, l3, l4, l5, l6, some (.int v)] st M Q = Wp d 189 209 [l0, l1, l2, l3, l4, l5, l6, some (.int v)] (.int v :: st) M Q := fun d l0 l1 l2 l3 l4 l5 l6 v st M Q => wA (show ins 189 207 = some (.iload 7, 2) by decide +kernel) rfl
set_option maxRecDepth 100000 in
theorem r_189_209 : ∀ (d : Nat) (ls : Lc) (a b : Int) (st : List Value) (M : Mem) (Q : Outcome → Mem → Prop), Wp d 189 209 ls (.int (I b) :: .int (I a) :: st) M Q = Wp d 189 210 ls (.int (I (a + b)) :: st) M Q := fun d ls a b st M Q => w_iadd (show ins 189 209 = some (.iadd, 1) by decide +kernel)
set_option maxRecDepth 100000 in
theorem r_189_210 : ∀ (d : Nat) (ls : Lc) (a : Nat) (j : Int32) (st : List Value) (M : Mem) (Q : Outcome → Mem → Prop), Wp d 189 210 ls (.int j :: .ref a :: st) M Q = ((((kX M a).1 = 0 ∨ (kX M a).1 = 8) ∧ inB j (kX M a).2 = true) ∧ Wp d 189 211 ls (.int (mA M a j.toNatClampNeg) :: st) M Q) := fun d ls a j st M Q => w_iaload (show ins 189 210 = some (.iaload, 1) by decide +kernel)
set_option maxRecDepth 100000 in
theorem r_189_211 : ∀ (d : Nat) (ls : Lc) (st : List Value) (M : Mem) (Q : Outcome → Mem → Prop), Wp d 189 211 ls st M Q = Wp d 189 212 ls (.int (I 5) :: st) M Q := fun d ls st M Q => w_iconst (show ins 189 211 = some (.iconst 5, 1) by decide +kernel)
set_option maxRecDepth 100000 in
theorem r_189_212 : ∀ (d : Nat) (ls : Lc) (a b : Int32) (st : List Value) (M : Mem) (Q : Outcome → Mem → Prop), Wp d 189 212 ls (.int b :: .int a :: st) M Q = Br (b ≤ a) d 189 227 215 ls st M Q := fun d ls a b st M Q => w_icmp (show ins 189 212 = some (.if_icmp .ge 15, 3) by decide +kernel) rfl rfl
set_option maxRecDepth 100000 in
theorem r_189_215 : ∀ (d : Nat) (l1 l2 l3 l4 l5 l6 l7 : Option Value) (v : Nat) (st : List Value) (M : Mem) (Q : Outcome → Mem → Prop), Wp d 189 215 [some (.ref v), l1, l2, l3, l4, l5, l6, l7] st M Q = Wp d 189 216 [some (.ref v), l1, l2, l3, l4, l5, l6, l7] (.ref v :: st) M Q := fun d l1 l2 l3 l4 l5 l6 l7 v st M Q => wA (show ins 189 215 = some (.aload_n 0, 1) by decide +kernel) rfl
set_option maxRecDepth 100000 in
theorem r_189_216 : ∀ (d : Nat) (l0 l1 l2 l3 l4 l5 l6 : Option Value) (v : Int32) (st : List Value) (M : Mem) (Q : Outcome → Mem → Prop), Wp d 189 216 [l0, l1, l2, l3, l4, l5, l6, some (.int v)] st M Q = Wp d 189 218 [l0, l1, l2, l3, l4, l5, l6, some (.int v)] (.int v :: st) M Q := fun d l0 l1 l2 l3 l4 l5 l6 v st M Q => wA (show ins 189 216 = some (.iload 7, 2) by decide +kernel) rfl
set_option maxRecDepth 100000 in
theorem r_189_218 : ∀ (d : Nat) (ls : Lc) (st : List Value) (M : Mem) (Q : Outcome → Mem → Prop), Wp d 189 218 ls st M Q = Wp d 189 219 ls (.int (I 0) :: st) M Q := fun d ls st M Q => w_iconst (show ins 189 218 = some (.iconst 0, 1) by decide +kernel)
set_option maxRecDepth 100000 in
theorem r_189_219 : ∀ (d : Nat) (l0 l1 l2 l3 l4 l6 l7 : Option Value) (v : Int32) (st : List Value) (M : Mem) (Q : Outcome → Mem → Prop), Wp d 189 219 [l0, l1, l2, l3, l4, some (.int v), l6, l7] st M Q = Wp d 189 221 [l0, l1, l2, l3, l4, some (.int v), l6, l7] (.int v :: st) M Q := fun d l0 l1 l2 l3 l4 l6 l7 v st M Q => wA (show ins 189 219 = some (.iload 5, 2) by decide +kernel) rfl
set_option maxRecDepth 100000 in
theorem r_189_221 : ∀ (d : Nat) (ls : Lc) (v0 v1 v2 : Value) (a : Nat) (st : List Value) (M : Mem) (Q : Outcome → Mem → Prop), (smallR st = true) → Wp d 189 221 ls (v2 :: v1 :: v0 :: .ref a :: st) M Q = (kO M a = 8 ∧ Ca d 189 221 ls 180 (.ref a :: [v0, v1, v2]) st M Q) := fun d ls v0 v1 v2 a st M Q h0 => w_virt1 (as := [v0, v1, v2]) (show ins 189 221 = some (.invokevirtual 66, 3) by decide +kernel) (show mRes (mC 189) 66 = some (3, 8, [(8, 180)]) by decide +kernel) (by decide +kernel) rfl (by decide +kernel) (by decide +kernel) h0
set_option maxRecDepth 100000 in
theorem r_189_224 : ∀ (d : Nat) (ls : Lc) (st : List Value) (M : Mem) (Q : Outcome → Mem → Prop), Wp d 189 224 ls st M Q = Wp d 189 275 ls st M Q := fun d ls st M Q => w_goto (show ins 189 224 = some (.goto 51, 3) by decide +kernel) rfl
set_option maxRecDepth 100000 in
theorem r_189_227 : ∀ (d : Nat) (l0 l1 l2 l3 l4 l5 l7 : Option Value) (v : Int32) (st : List Value) (M : Mem) (Q : Outcome → Mem → Prop), Wp d 189 227 [l0, l1, l2, l3, l4, l5, some (.int v), l7] st M Q = Wp d 189 229 [l0, l1, l2, l3, l4, l5, some (.int v), l7] (.int v :: st) M Q := fun d l0 l1 l2 l3 l4 l5 l7 v st M Q => wA (show ins 189 227 = some (.iload 6, 2) by decide +kernel) rfl
set_option maxRecDepth 100000 in
theorem r_189_229 : ∀ (d : Nat) (ls : Lc) (st : List Value) (M : Mem) (Q : Outcome → Mem → Prop), Wp d 189 229 ls st M Q = Wp d 189 230 ls (.int (I (-1)) :: st) M Q := fun d ls st M Q => w_iconst (show ins 189 229 = some (.iconst (-1), 1) by decide +kernel)
set_option maxRecDepth 100000 in
theorem r_189_230 : ∀ (d : Nat) (ls : Lc) (a b : Int32) (st : List Value) (M : Mem) (Q : Outcome → Mem → Prop), Wp d 189 230 ls (.int b :: .int a :: st) M Q = Br (a = b) d 189 261 233 ls st M Q := fun d ls a b st M Q => w_icmp (show ins 189 230 = some (.if_icmp .eq 31, 3) by decide +kernel) rfl rfl
set_option maxRecDepth 100000 in
theorem r_189_233 : ∀ (d : Nat) (l1 l2 l3 l4 l5 l6 l7 : Option Value) (v : Nat) (st : List Value) (M : Mem) (Q : Outcome → Mem → Prop), Wp d 189 233 [some (.ref v), l1, l2, l3, l4, l5, l6, l7] st M Q = Wp d 189 234 [some (.ref v), l1, l2, l3, l4, l5, l6, l7] (.ref v :: st) M Q := fun d l1 l2 l3 l4 l5 l6 l7 v st M Q => wA (show ins 189 233 = some (.aload_n 0, 1) by decide +kernel) rfl
set_option maxRecDepth 100000 in
theorem r_189_234 : ∀ (d : Nat) (l0 l1 l2 l4 l5 l6 l7 : Option Value) (v : Int32) (st : List Value) (M : Mem) (Q : Outcome → Mem → Prop), Wp d 189 234 [l0, l1, l2, some (.int v), l4, l5, l6, l7] st M Q = Wp d 189 235 [l0, l1, l2, some (.int v), l4, l5, l6, l7] (.int v :: st) M Q := fun d l0 l1 l2 l4 l5 l6 l7 v st M Q => wA (show ins 189 234 = some (.iload_n 3, 1) by decide +kernel) rfl
set_option maxRecDepth 100000 in
theorem r_189_235 : ∀ (d : Nat) (ls : Lc) (st : List Value) (M : Mem) (Q : Outcome → Mem → Prop), Wp d 189 235 ls st M Q = Wp d 189 236 ls (.int (I 0) :: st) M Q := fun d ls st M Q => w_iconst (show ins 189 235 = some (.iconst 0, 1) by decide +kernel)
set_option maxRecDepth 100000 in
theorem r_189_236 : ∀ (d : Nat) (l1 l2 l3 l4 l5 l6 l7 : Option Value) (v : Nat) (st : List Value) (M : Mem) (Q : Outcome → Mem → Prop), Wp d 189 236 [some (.ref v), l1, l2, l3, l4, l5, l6, l7] st M Q = Wp d 189 237 [some (.ref v), l1, l2, l3, l4, l5, l6, l7] (.ref v :: st) M Q := fun d l1 l2 l3 l4 l5 l6 l7 v st M Q => wA (show ins 189 236 = some (.aload_n 0, 1) by decide +kernel) rfl
set_option maxRecDepth 100000 in
theorem r_189_237 : ∀ (d : Nat) (l0 l1 l2 l3 l4 l5 l7 : Option Value) (v : Int32) (st : List Value) (M : Mem) (Q : Outcome → Mem → Prop), Wp d 189 237 [l0, l1, l2, l3, l4, l5, some (.int v), l7] st M Q = Wp d 189 239 [l0, l1, l2, l3, l4, l5, some (.int v), l7] (.int v :: st) M Q := fun d l0 l1 l2 l3 l4 l5 l7 v st M Q => wA (show ins 189 237 = some (.iload 6, 2) by decide +kernel) rfl
set_option maxRecDepth 100000 in
theorem r_189_239 : ∀ (d : Nat) (l1 l2 l3 l4 l5 l6 l7 : Option Value) (v : Nat) (st : List Value) (M : Mem) (Q : Outcome → Mem → Prop), Wp d 189 239 [some (.ref v), l1, l2, l3, l4, l5, l6, l7] st M Q = Wp d 189 240 [some (.ref v), l1, l2, l3, l4, l5, l6, l7] (.ref v :: st) M Q := fun d l1 l2 l3 l4 l5 l6 l7 v st M Q => wA (show ins 189 239 = some (.aload_n 0, 1) by decide +kernel) rfl
set_option maxRecDepth 100000 in
theorem r_189_240 : ∀ (d : Nat) (ls : Lc) (a : Nat) (st : List Value) (M : Mem) (Q : Outcome → Mem → Prop), Wp d 189 240 ls (.ref a :: st) M Q = (fk 53 (kO M a) = true ∧ Wp d 189 243 ls (va_rf (mR M 53 a) :: st) M Q) := fun d ls a st M Q => w_getR (show ins 189 240 = some (.getfield 7, 3) by decide +kernel) (show fRes (mC 189) 7 = some (53, 8, false) by decide +kernel) (by decide +kernel)
set_option maxRecDepth 100000 in
theorem r_189_243 : ∀ (d : Nat) (ls : Lc) (st : List Value) (M : Mem) (Q : Outcome → Mem → Prop), Wp d 189 243 ls st M Q = Wp d 189 246 ls (.int (I 3852) :: st) M Q := fun d ls st M Q => w_sipush (show ins 189 243 = some (.sipush 3852, 3) by decide +kernel) (by decide)
set_option maxRecDepth 100000 in
theorem r_189_246 : ∀ (d : Nat) (l0 l1 l2 l3 l4 l5 l7 : Option Value) (v : Int32) (st : List Value) (M : Mem) (Q : Outcome → Mem → Prop), Wp d 189 246 [l0, l1, l2, l3, l4, l5, some (.int v), l7] st M Q = Wp d 189 248 [l0, l1, l2, l3, l4, l5, some (.int v), l7] (.int v :: st) M Q := fun d l0 l1 l2 l3 l4 l5 l7 v st M Q => wA (show ins 189 246 = some (.iload 6, 2) by decide +kernel) rfl
set_option maxRecDepth 100000 in
theorem r_189_248 : ∀ (d : Nat) (ls : Lc) (a b : Int) (st : List Value) (M : Mem) (Q : Outcome → Mem → Prop), Wp d 189 248 ls (.int (I b) :: .int (I a) :: st) M Q = Wp d 189 249 ls (.int (I (a + b)) :: st) M Q := fun d ls a b st M Q => w_iadd (show ins 189 248 = some (.iadd, 1) by decide +kernel)
set_option maxRecDepth 100000 in
theorem r_189_249 : ∀ (d : Nat) (ls : Lc) (a : Nat) (j : Int32) (st : List Value) (M : Mem) (Q : Outcome → Mem → Prop), Wp d 189 249 ls (.int j :: .ref a :: st) M Q = ((((kX M a).1 = 0 ∨ (kX M a).1 = 8) ∧ inB j (kX M a).2 = true) ∧ Wp d 189 250 ls (.int (mA M a j.toNatClampNeg) :: st) M Q) := fun d ls a j st M Q => w_iaload (show ins 189 249 = some (.iaload, 1) by decide +kernel)
set_option maxRecDepth 100000 in
theorem r_189_250 : ∀ (d : Nat) (ls : Lc) (st : List Value) (M : Mem) (Q : Outcome → Mem → Prop), Wp d 189 250 ls st M Q = Wp d 189 251 ls (.int (I 1) :: st) M Q := fun d ls st M Q => w_iconst (show ins 189 250 = some (.iconst 1, 1) by decide +kernel)
set_option maxRecDepth 100000 in
theorem r_189_251 : ∀ (d : Nat) (ls : Lc) (a b : Int) (st : List Value) (M : Mem) (Q : Outcome → Mem → Prop), Wp d 189 251 ls (.int (I b) :: .int (I a) :: st) M Q = Wp d 189 252 ls (.int (I (a - b)) :: st) M Q := fun d ls a b st M Q => w_isub (show ins 189 251 = some (.isub, 1) by decide +kernel)
set_option maxRecDepth 100000 in
theorem r_189_252 : ∀ (d : Nat) (ls : Lc) (v0 v1 : Value) (a : Nat) (st : List Value) (M : Mem) (Q : Outcome → Mem → Prop), (smallR st = true) → Wp d 189 252 ls (v1 :: v0 :: .ref a :: st) M Q = (kO M a = 8 ∧ Ca d 189 252 ls 182 (.ref a :: [v0, v1]) st M Q) := fun d ls v0 v1 a st M Q h0 => w_virt1 (as := [v0, v1]) (show ins 189 252 = some (.invokevirtual 74, 3) by decide +kernel) (show mRes (mC 189) 74 = some (3, 8, [(8, 182)]) by decide +kernel) (by decide +kernel) rfl (by decide +kernel) (by decide +kernel) h0
set_option maxRecDepth 100000 in
theorem r_189_255 : ∀ (d : Nat) (ls : Lc) (v0 v1 v2 : Value) (a : Nat) (st : List Value) (M : Mem) (Q : Outcome → Mem → Prop), (smallR st = true) → Wp d 189 255 ls (v2 :: v1 :: v0 :: .ref a :: st) M Q = (kO M a = 8 ∧ Ca d 189 255 ls 180 (.ref a :: [v0, v1, v2]) st M Q) := fun d ls v0 v1 v2 a st M Q h0 => w_virt1 (as := [v0, v1, v2]) (show ins 189 255 = some (.invokevirtual 66, 3) by decide +kernel) (show mRes (mC 189) 66 = some (3, 8, [(8, 180)]) by decide +kernel) (by decide +kernel) rfl (by decide +kernel) (by decide +kernel) h0
set_option maxRecDepth 100000 in
theorem r_189_258 : ∀ (d : Nat) (ls : Lc) (st : List Value) (M : Mem) (Q : Outcome → Mem → Prop), Wp d 189 258 ls st M Q = Wp d 189 274 ls st M Q := fun d ls st M Q => w_goto (show ins 189 258 = some (.goto 16, 3) by decide +kernel) rfl
set_option maxRecDepth 100000 in
theorem r_189_261 : ∀ (d : Nat) (l1 l2 l3 l4 l5 l6 l7 : Option Value) (v : Nat) (st : List Value) (M : Mem) (Q : Outcome → Mem → Prop), Wp d 189 261 [some (.ref v), l1, l2, l3, l4, l5, l6, l7] st M Q = Wp d 189 262 [some (.ref v), l1, l2, l3, l4, l5, l6, l7] (.ref v :: st) M Q := fun d l1 l2 l3 l4 l5 l6 l7 v st M Q => wA (show ins 189 261 = some (.aload_n 0, 1) by decide +kernel) rfl
set_option maxRecDepth 100000 in
theorem r_189_262 : ∀ (d : Nat) (l0 l1 l2 l4 l5 l6 l7 : Option Value) (v : Int32) (st : List Value) (M : Mem) (Q : Outcome → Mem → Prop), Wp d 189 262 [l0, l1, l2, some (.int v), l4, l5, l6, l7] st M Q = Wp d 189 263 [l0, l1, l2, some (.int v), l4, l5, l6, l7] (.int v :: st) M Q := fun d l0 l1 l2 l4 l5 l6 l7 v st M Q => wA (show ins 189 262 = some (.iload_n 3, 1) by decide +kernel) rfl
set_option maxRecDepth 100000 in
theorem r_189_263 : ∀ (d : Nat) (ls : Lc) (st : List Value) (M : Mem) (Q : Outcome → Mem → Prop), Wp d 189 263 ls st M Q = Wp d 189 264 ls (.int (I 1) :: st) M Q := fun d ls st M Q => w_iconst (show ins 189 263 = some (.iconst 1, 1) by decide +kernel)
set_option maxRecDepth 100000 in
theorem r_189_264 : ∀ (d : Nat) (l1 l2 l3 l4 l5 l6 l7 : Option Value) (v : Nat) (st : List Value) (M : Mem) (Q : Outcome → Mem → Prop), Wp d 189 264 [some (.ref v), l1, l2, l3, l4, l5, l6, l7] st M Q = Wp d 189 265 [some (.ref v), l1, l2, l3, l4, l5, l6, l7] (.ref v :: st) M Q := fun d l1 l2 l3 l4 l5 l6 l7 v st M Q => wA (show ins 189 264 = some (.aload_n 0, 1) by decide +kernel) rfl
set_option maxRecDepth 100000 in
theorem r_189_265 : ∀ (d : Nat) (l0 l1 l2 l3 l4 l5 l6 : Option Value) (v : Int32) (st : List Value) (M : Mem) (Q : Outcome → Mem → Prop), Wp d 189 265 [l0, l1, l2, l3, l4, l5, l6, some (.int v)] st M Q = Wp d 189 267 [l0, l1, l2, l3, l4, l5, l6, some (.int v)] (.int v :: st) M Q := fun d l0 l1 l2 l3 l4 l5 l6 v st M Q => wA (show ins 189 265 = some (.iload 7, 2) by decide +kernel) rfl
set_option maxRecDepth 100000 in
theorem r_189_267 : ∀ (d : Nat) (ls : Lc) (st : List Value) (M : Mem) (Q : Outcome → Mem → Prop), Wp d 189 267 ls st M Q = Wp d 189 268 ls (.int (I 0) :: st) M Q := fun d ls st M Q => w_iconst (show ins 189 267 = some (.iconst 0, 1) by decide +kernel)
set_option maxRecDepth 100000 in
theorem r_189_268 : ∀ (d : Nat) (ls : Lc) (v0 v1 : Value) (a : Nat) (st : List Value) (M : Mem) (Q : Outcome → Mem → Prop), (smallR st = true) → Wp d 189 268 ls (v1 :: v0 :: .ref a :: st) M Q = (kO M a = 8 ∧ Ca d 189 268 ls 182 (.ref a :: [v0, v1]) st M Q) := fun d ls v0 v1 a st M Q h0 => w_virt1 (as := [v0, v1]) (show ins 189 268 = some (.invokevirtual 74, 3) by decide +kernel) (show mRes (mC 189) 74 = some (3, 8, [(8, 182)]) by decide +kernel) (by decide +kernel) rfl (by decide +kernel) (by decide +kernel) h0
set_option maxRecDepth 100000 in
theorem r_189_271 : ∀ (d : Nat) (ls : Lc) (v0 v1 v2 : Value) (a : Nat) (st : List Value) (M : Mem) (Q : Outcome → Mem → Prop), (smallR st = true) → Wp d 189 271 ls (v2 :: v1 :: v0 :: .ref a :: st) M Q = (kO M a = 8 ∧ Ca d 189 271 ls 180 (.ref a :: [v0, v1, v2]) st M Q) := fun d ls v0 v1 v2 a st M Q h0 => w_virt1 (as := [v0, v1, v2]) (show ins 189 271 = some (.invokevirtual 66, 3) by decide +kernel) (show mRes (mC 189) 66 = some (3, 8, [(8, 180)]) by decide +kernel) (by decide +kernel) rfl (by decide +kernel) (by decide +kernel) h0
set_option maxRecDepth 100000 in
theorem r_189_274 : ∀ (d : Nat) (ls : Lc) (M : Mem) (Q : Outcome → Mem → Prop), Wp d 189 274 ls [] M Q = Q (.returned none) M := fun d ls M Q => w_return (show ins 189 274 = some (.return_, 1) by decide +kernel) (by decide +kernel)
set_option maxRecDepth 100000 in
theorem r_189_275 : ∀ (d : Nat) (l0 l1 l2 l4 l5 l6 l7 : Option Value) (v : Int32) (st : List Value) (M : Mem) (Q : Outcome → Mem → Prop), Wp d 189 275 [l0, l1, l2, some (.int v), l4, l5, l6, l7] st M Q = Wp d 189 276 [l0, l1, l2, some (.int v), l4, l5, l6, l7] (.int v :: st) M Q := fun d l0 l1 l2 l4 l5 l6 l7 v st M Q => wA (show ins 189 275 = some (.iload_n 3, 1) by decide +kernel) rfl
set_option maxRecDepth 100000 in
theorem r_189_276 : ∀ (d : Nat) (l0 l1 l2 l3 l4 l5 l6 l7 : Option Value) (v : Int32) (st : List Value) (M : Mem) (Q : Outcome → Mem → Prop), (lo l1 = false) → Wp d 189 276 [l0, l1, l2, l3, l4, l5, l6, l7] (.int v :: st) M Q = Wp d 189 277 [l0, l1, some (.int v), l3, l4, l5, l6, l7] st M Q := fun d l0 l1 l2 l3 l4 l5 l6 l7 v st M Q hl => w_istore_n (show ins 189 276 = some (.istore_n 2, 1) by decide +kernel) (st1_S rfl rfl hl)
set_option maxRecDepth 100000 in
theorem r_189_277 : ∀ (d : Nat) (ls : Lc) (st : List Value) (M : Mem) (Q : Outcome → Mem → Prop), Wp d 189 277 ls st M Q = Wp d 189 2 ls st M Q := fun d ls st M Q => w_goto (show ins 189 277 = some (.goto (-275), 3) by decide +kernel) rfl
set_option maxRecDepth 100000 in
theorem w_189_2 : (type_of% r_189_2) := r_189_2
set_option maxRecDepth 100000 in
theorem W_189 : (type_of% r_189_0) ∧ (type_of% r_189_1) ∧ (type_of% r_189_3) ∧ (type_of% r_189_6) ∧ (type_of% r_189_9) ∧ (type_of% r_189_10) ∧ (type_of% r_189_11) ∧ (type_of% r_189_12) ∧ (type_of% r_189_13) ∧ (type_of% r_189_14) ∧ (type_of% r_189_15) ∧ (type_of% r_189_18) ∧ (type_of% r_189_19) ∧ (type_of% r_189_20) ∧ (type_of% r_189_23) ∧ (type_of% r_189_24) ∧ (type_of% r_189_25) ∧ (type_of% r_189_26) ∧ (type_of% r_189_27) ∧ (type_of% r_189_28) ∧ (type_of% r_189_31) ∧ (type_of% r_189_34) ∧ (type_of% r_189_36) ∧ (type_of% r_189_37) ∧ (type_of% r_189_40) ∧ (type_of% r_189_43) ∧ (type_of% r_189_44) ∧ (type_of% r_189_45) ∧ (type_of% r_189_46) ∧ (type_of% r_189_47) ∧ (type_of% r_189_50) ∧ (type_of% r_189_51) ∧ (type_of% r_189_52) ∧ (type_of% r_189_55) ∧ (type_of% r_189_58) ∧ (type_of% r_189_60) ∧ (type_of% r_189_61) ∧ (type_of% r_189_62) ∧ (type_of% r_189_63) ∧ (type_of% r_189_64) ∧ (type_of% r_189_66) ∧ (type_of% r_189_67) ∧ (type_of% r_189_70) ∧ (type_of% r_189_73) ∧ (type_of% r_189_74) ∧ (type_of% r_189_75) ∧ (type_of% r_189_76) ∧ (type_of% r_189_77) ∧ (type_of% r_189_80) ∧ (type_of% r_189_81) ∧ (type_of% r_189_84) ∧ (type_of% r_189_87) ∧ (type_of% r_189_88) ∧ (type_of% r_189_89) ∧ (type_of% r_189_92) ∧ (type_of% r_189_93) ∧ (type_of% r_189_94) ∧ (type_of% r_189_95) ∧ (type_of% r_189_96) ∧ (type_of% r_189_97) ∧ (type_of% r_189_100) ∧ (type_of% r_189_101) ∧ (type_of% r_189_104) ∧ (type_of% r_189_107) ∧ (type_of% r_189_109) ∧ (type_of% r_189_110) ∧ (type_of% r_189_111) ∧ (type_of% r_189_112) ∧ (type_of% r_189_113) ∧ (type_of% r_189_116) ∧ (type_of% r_189_119) ∧ (type_of% r_189_121) ∧ (type_of% r_189_122) ∧ (type_of% r_189_123) ∧ (type_of% r_189_126) ∧ (type_of% r_189_129) ∧ (type_of% r_189_130) ∧ (type_of% r_189_131) ∧ (type_of% r_189_132) ∧ (type_of% r_189_133) ∧ (type_of% r_189_134) ∧ (type_of% r_189_135) ∧ (type_of% r_189_136) ∧ (type_of% r_189_137) ∧ (type_of% r_189_138) ∧ (type_of% r_189_141) ∧ (type_of% r_189_143) ∧ (type_of% r_189_144) ∧ (type_of% r_189_145) ∧ (type_of% r_189_146) ∧ (type_of% r_189_149) ∧ (type_of% r_189_151) ∧ (type_of% r_189_153) ∧ (type_of% r_189_154) ∧ (type_of% r_189_157) ∧ (type_of% r_189_158) ∧ (type_of% r_189_161) ∧ (type_of% r_189_164) ∧ (type_of% r_189_166) ∧ (type_of% r_189_167) ∧ (type_of% r_189_168) ∧ (type_of% r_189_169) ∧ (type_of% r_189_172) ∧ (type_of% r_189_173) ∧ (type_of% r_189_175) ∧ (type_of% r_189_176) ∧ (type_of% r_189_179) ∧ (type_of% r_189_182) ∧ (type_of% r_189_184) ∧ (type_of% r_189_185) ∧ (type_of% r_189_186) ∧ (type_of% r_189_188) ∧ (type_of% r_189_191) ∧ (type_of% r_189_194) ∧ (type_of% r_189_196) ∧ (type_of% r_189_197) ∧ (type_of% r_189_200) ∧ (type_of% r_189_201) ∧ (type_of% r_189_204) ∧ (type_of% r_189_207) ∧ (type_of% r_189_209) ∧ (type_of% r_189_210) ∧ (type_of% r_189_211) ∧ (type_of% r_189_212) ∧ (type_of% r_189_215) ∧ (type_of% r_189_216) ∧ (type_of% r_189_218) ∧ (type_of% r_189_219) ∧ (type_of% r_189_221) ∧ (type_of% r_189_224) ∧ (type_of% r_189_227) ∧ (type_of% r_189_229) ∧ (type_of% r_189_230) ∧ (type_of% r_189_233) ∧ (type_of% r_189_234) ∧ (type_of% r_189_235) ∧ (type_of% r_189_236) ∧ (type_of% r_189_237) ∧ (type_of% r_189_239) ∧ (type_of% r_189_240) ∧ (type_of% r_189_243) ∧ (type_of% r_189_246) ∧ (type_of% r_189_248) ∧ (type_of% r_189_249) ∧ (type_of% r_189_250) ∧ (type_of% r_189_251) ∧ (type_of% r_189_252) ∧ (type_of% r_189_255) ∧ (type_of% r_189_258) ∧ (type_of% r_189_261) ∧ (type_of% r_189_262) ∧ (type_of% r_189_263) ∧ (type_of% r_189_264) ∧ (type_of% r_189_265) ∧ (type_of% r_189_267) ∧ (type_of% r_189_268) ∧ (type_of% r_189_271) ∧ (type_of% r_189_274) ∧ (type_of% r_189_275) ∧ (type_of% r_189_276) ∧ (type_of% r_189_277) := ⟨r_189_0, r_189_1, r_189_3, r_189_6, r_189_9, r_189_10, r_189_11, r_189_12, r_189_13, r_189_14, r_189_15, r_189_18, r_189_19, r_189_20, r_189_23, r_189_24, r_189_25, r_189_26, r_189_27, r_189_28, r_189_31, r_189_34, r_189_36, r_189_37, r_189_40, r_189_43, r_189_44, r_189_45, r_189_46, r_189_47, r_189_50, r_189_51, r_189_52, r_189_55, r_189_58, r_189_60, r_189_61, r_189_62, r_189_63, r_189_64, r_189_66, r_189_67, r_189_70, r_189_73, r_189_74, r_189_75, r_189_76, r_189_77, r_189_80, r_189_81, r_189_84, r_189_87, r_189_88, r_189_89, r_189_92, r_189_93, r_189_94, r_189_95, r_189_96, r_189_97, r_189_100, r_189_101, r_189_104, r_189_107, r_189_109, r_189_110, r_189_111, r_189_112, r_189_113, r_189_116, r_189_119, r_189_121, r_189_122, r_189_123, r_189_126, r_189_129, r_189_130, r_189_131, r_189_132, r_189_133, r_189_134, r_189_135, r_189_136, r_189_137, r_189_138, r_189_141, r_189_143, r_189_144, r_189_145, r_189_146, r_189_149, r_189_151, r_189_153, r_189_154, r_189_157, r_189_158, r_189_161, r_189_164, r_189_166, r_189_167, r_189_168, r_189_169, r_189_172, r_189_173, r_189_175, r_189_176, r_189_179, r_189_182, r_189_184, r_189_185, r_189_186, r_189_188, r_189_191, r_189_194, r_189_196, r_189_197, r_189_200, r_189_201, r_189_204, r_189_207, r_189_209, r_189_210, r_189_211, r_189_212, r_189_215, r_189_216, r_189_218, r_189_219, r_189_221, r_189_224, r_189_227, r_189_229, r_189_230, r_189_233, r_189_234, r_189_235, r_189_236, r_189_237, r_189_239, r_189_240, r_189_243, r_189_246, r_189_248, r_189_249, r_189_250, r_189_251, r_189_252, r_189_255, r_189_258, r_189_261, r_189_262, r_189_263, r_189_264, r_189_265, r_189_267, r_189_268, r_189_271, r_189_274, r_189_275, r_189_276, r_189_277⟩
set_option maxRecDepth 100000 in
theorem ca_189 {d y pc : Nat} {ls : Lc} {a : Nat} {z0 : Int32} {r : List Value} {M : Mem} {Q : Outcome → Mem → Prop} (hd : 0 < d) (hw : Wp (d - 1) 189 0 [some (.ref a), some (.int z0), none, none, none, none, none, none] [] M (Cq d y pc ls r Q)) : Ca d y pc ls 189 [.ref a, .int z0] r M Q := ca_of (mq_get (by decide)) (by rfl) hd hw
/-! 190 PackedTreeModel.lineOff(I)V; loop heads [22] -/
set_option maxRecDepth 100000 in
theorem r_190_0 : ∀ (d : Nat) (l1 l2 l3 l4 : Option Value) (v : Nat) (st : List Value) (M : Mem) (Q : Outcome → Mem → Prop), Wp d 190 0 [some (.ref v), l1, l2, l3, l4] st M Q = Wp d 190 1 [some (.ref v), l1, l2, l3, l4] (.ref v :: st) M Q := fun d l1 l2 l3 l4 v st M Q => wA (show ins 190 0 = some (.aload_n 0, 1) by decide +kernel) rfl
set_option maxRecDepth 100000 in
theorem r_190_1 : ∀ (d : Nat) (l0 l2 l3 l4 : Option Value) (v : Int32) (st : List Value) (M : Mem) (Q : Outcome → Mem → Prop), Wp d 190 1 [l0, some (.int v), l2, l3, l4] st M Q = Wp d 190 2 [l0, some (.int v), l2, l3, l4] (.int v :: st) M Q := fun d l0 l2 l3 l4 v st M Q => wA (show ins 190 1 = some (.iload_n 1, 1) by decide +kernel) rfl
set_option maxRecDepth 100000 in
theorem r_190_2 : ∀ (d : Nat) (ls : Lc) (v0 : Value) (a : Nat) (st : List Value) (M : Mem) (Q : Outcome → Mem → Prop), (smallR st = true) → Wp d 190 2 ls (v0 :: .ref a :: st) M Q = (kO M a = 8 ∧ Ca d 190 2 ls 171 (.ref a :: [v0]) st M Q) := fun d ls v0 a st M Q h0 => w_virt1 (as := [v0]) (show ins 190 2 = some (.invokevirtual 55, 3) by decide +kernel) (show mRes (mC 190) 55 = some (3, 8, [(8, 171)]) by decide +kernel) (by decide +kernel) rfl (by decide +kernel) (by decide +kernel) h0
set_option maxRecDepth 100000 in
theorem r_190_5 : ∀ (d : Nat) (l0 l1 l2 l3 l4 : Option Value) (v : Int32) (st : List Value) (M : Mem) (Q : Outcome → Mem → Prop), (lo l1 = false) → Wp d 190 5 [l0, l1, l2, l3, l4] (.int v :: st) M Q = Wp d 190 6 [l0, l1, some (.int v), l3, l4] st M Q := fun d l0 l1 l2 l3 l4 v st M Q hl => w_istore_n (show ins 190 5 = some (.istore_n 2, 1) by decide +kernel) (st1_S rfl rfl hl)
set_option maxRecDepth 100000 in
theorem r_190_6 : ∀ (d : Nat) (ls : Lc) (st : List Value) (M : Mem) (Q : Outcome → Mem → Prop), Wp d 190 6 ls st M Q = Wp d 190 9 ls (.int (I 12300) :: st) M Q := fun d ls st M Q => w_sipush (show ins 190 6 = some (.sipush 12300, 3) by decide +kernel) (by decide)
set_option maxRecDepth 100000 in
theorem r_190_9 : ∀ (d : Nat) (ls : Lc) (st : List Value) (M : Mem) (Q : Outcome → Mem → Prop), Wp d 190 9 ls st M Q = Wp d 190 11 ls (.int (I 96) :: st) M Q := fun d ls st M Q => w_bipush (show ins 190 9 = some (.bipush 96, 2) by decide +kernel) (by decide)
set_option maxRecDepth 100000 in
theorem r_190_11 : ∀ (d : Nat) (l0 l1 l3 l4 : Option Value) (v : Int32) (st : List Value) (M : Mem) (Q : Outcome → Mem → Prop), Wp d 190 11 [l0, l1, some (.int v), l3, l4] st M Q = Wp d 190 12 [l0, l1, some (.int v), l3, l4] (.int v :: st) M Q := fun d l0 l1 l3 l4 v st M Q => wA (show ins 190 11 = some (.iload_n 2, 1) by decide +kernel) rfl
set_option maxRecDepth 100000 in
theorem r_190_12 : ∀ (d : Nat) (ls : Lc) (a b : Int) (st : List Value) (M : Mem) (Q : Outcome → Mem → Prop), Wp d 190 12 ls (.int (I b) :: .int (I a) :: st) M Q = Wp d 190 13 ls (.int (I (a * b)) :: st) M Q := fun d ls a b st M Q => w_imul (show ins 190 12 = some (.imul, 1) by decide +kernel)
set_option maxRecDepth 100000 in
theorem r_190_13 : ∀ (d : Nat) (ls : Lc) (a b : Int) (st : List Value) (M : Mem) (Q : Outcome → Mem → Prop), Wp d 190 13 ls (.int (I b) :: .int (I a) :: st) M Q = Wp d 190 14 ls (.int (I (a + b)) :: st) M Q := fun d ls a b st M Q => w_iadd (show ins 190 13 = some (.iadd, 1) by decide +kernel)
set_option maxRecDepth 100000 in
theorem r_190_14 : ∀ (d : Nat) (l0 l1 l2 l3 l4 : Option Value) (v : Int32) (st : List Value) (M : Mem) (Q : Outcome → Mem → Prop), (lo l2 = false) → Wp d 190 14 [l0, l1, l2, l3, l4] (.int v :: st) M Q = Wp d 190 15 [l0, l1, l2, some (.int v), l4] st M Q := fun d l0 l1 l2 l3 l4 v st M Q hl => w_istore_n (show ins 190 14 = some (.istore_n 3, 1) by decide +kernel) (st1_S rfl rfl hl)
set_option maxRecDepth 100000 in
theorem r_190_15 : ∀ (d : Nat) (l1 l2 l3 l4 : Option Value) (v : Nat) (st : List Value) (M : Mem) (Q : Outcome → Mem → Prop), Wp d 190 15 [some (.ref v), l1, l2, l3, l4] st M Q = Wp d 190 16 [some (.ref v), l1, l2, l3, l4] (.ref v :: st) M Q := fun d l1 l2 l3 l4 v st M Q => wA (show ins 190 15 = some (.aload_n 0, 1) by decide +kernel) rfl
set_option maxRecDepth 100000 in
theorem r_190_16 : ∀ (d : Nat) (l0 l2 l3 l4 : Option Value) (v : Int32) (st : List Value) (M : Mem) (Q : Outcome → Mem → Prop), Wp d 190 16 [l0, some (.int v), l2, l3, l4] st M Q = Wp d 190 17 [l0, some (.int v), l2, l3, l4] (.int v :: st) M Q := fun d l0 l2 l3 l4 v st M Q => wA (show ins 190 16 = some (.iload_n 1, 1) by decide +kernel) rfl
set_option maxRecDepth 100000 in
theorem r_190_17 : ∀ (d : Nat) (ls : Lc) (v0 : Value) (a : Nat) (st : List Value) (M : Mem) (Q : Outcome → Mem → Prop), (smallR st = true) → Wp d 190 17 ls (v0 :: .ref a :: st) M Q = (kO M a = 8 ∧ Ca d 190 17 ls 172 (.ref a :: [v0]) st M Q) := fun d ls v0 a st M Q h0 => w_virt1 (as := [v0]) (show ins 190 17 = some (.invokevirtual 59, 3) by decide +kernel) (show mRes (mC 190) 59 = some (3, 8, [(8, 172)]) by decide +kernel) (by decide +kernel) rfl (by decide +kernel) (by decide +kernel) h0
set_option maxRecDepth 100000 in
theorem r_190_20 : ∀ (d : Nat) (l0 l1 l2 l3 l4 : Option Value) (v : Int32) (st : List Value) (M : Mem) (Q : Outcome → Mem → Prop), (lo l3 = false) → Wp d 190 20 [l0, l1, l2, l3, l4] (.int v :: st) M Q = Wp d 190 22 [l0, l1, l2, l3, some (.int v)] st M Q := fun d l0 l1 l2 l3 l4 v st M Q hl => w_istore (show ins 190 20 = some (.istore 4, 2) by decide +kernel) (st1_S rfl rfl hl)
set_option maxRecDepth 100000 in
theorem r_190_22 : ∀ (d : Nat) (l0 l1 l2 l3 : Option Value) (v : Int32) (st : List Value) (M : Mem) (Q : Outcome → Mem → Prop), Wp d 190 22 [l0, l1, l2, l3, some (.int v)] st M Q = Wp d 190 24 [l0, l1, l2, l3, some (.int v)] (.int v :: st) M Q := fun d l0 l1 l2 l3 v st M Q => wA (show ins 190 22 = some (.iload 4, 2) by decide +kernel) rfl
set_option maxRecDepth 100000 in
theorem r_190_24 : ∀ (d : Nat) (ls : Lc) (st : List Value) (M : Mem) (Q : Outcome → Mem → Prop), Wp d 190 24 ls st M Q = Wp d 190 25 ls (.int (I 1) :: st) M Q := fun d ls st M Q => w_iconst (show ins 190 24 = some (.iconst 1, 1) by decide +kernel)
set_option maxRecDepth 100000 in
theorem r_190_25 : ∀ (d : Nat) (ls : Lc) (a b : Int) (st : List Value) (M : Mem) (Q : Outcome → Mem → Prop), Wp d 190 25 ls (.int (I b) :: .int (I a) :: st) M Q = Wp d 190 26 ls (.int (I (a + b)) :: st) M Q := fun d ls a b st M Q => w_iadd (show ins 190 25 = some (.iadd, 1) by decide +kernel)
set_option maxRecDepth 100000 in
theorem r_190_26 : ∀ (d : Nat) (l1 l2 l3 l4 : Option Value) (v : Nat) (st : List Value) (M : Mem) (Q : Outcome → Mem → Prop), Wp d 190 26 [some (.ref v), l1, l2, l3, l4] st M Q = Wp d 190 27 [some (.ref v), l1, l2, l3, l4] (.ref v :: st) M Q := fun d l1 l2 l3 l4 v st M Q => wA (show ins 190 26 = some (.aload_n 0, 1) by decide +kernel) rfl
set_option maxRecDepth 100000 in
theorem r_190_27 : ∀ (d : Nat) (ls : Lc) (a : Nat) (st : List Value) (M : Mem) (Q : Outcome → Mem → Prop), Wp d 190 27 ls (.ref a :: st) M Q = (fk 53 (kO M a) = true ∧ Wp d 190 30 ls (va_rf (mR M 53 a) :: st) M Q) := fun d ls a st M Q => w_getR (show ins 190 27 = some (.getfield 7, 3) by decide +kernel) (show fRes (mC 190) 7 = some (53, 8, false) by decide +kernel) (by decide +kernel)
set_option maxRecDepth 100000 in
theorem r_190_30 : ∀ (d : Nat) (ls : Lc) (st : List Value) (M : Mem) (Q : Outcome → Mem → Prop), Wp d 190 30 ls st M Q = Wp d 190 33 ls (.int (I 13068) :: st) M Q := fun d ls st M Q => w_sipush (show ins 190 30 = some (.sipush 13068, 3) by decide +kernel) (by decide)
set_option maxRecDepth 100000 in
theorem r_190_33 : ∀ (d : Nat) (l0 l1 l3 l4 : Option Value) (v : Int32) (st : List Value) (M : Mem) (Q : Outcome → Mem → Prop), Wp d 190 33 [l0, l1, some (.int v), l3, l4] st M Q = Wp d 190 34 [l0, l1, some (.int v), l3, l4] (.int v :: st) M Q := fun d l0 l1 l3 l4 v st M Q => wA (show ins 190 33 = some (.iload_n 2, 1) by decide +kernel) rfl
set_option maxRecDepth 100000 in
theorem r_190_34 : ∀ (d : Nat) (ls : Lc) (a b : Int) (st : List Value) (M : Mem) (Q : Outcome → Mem → Prop), Wp d 190 34 ls (.int (I b) :: .int (I a) :: st) M Q = Wp d 190 35 ls (.int (I (a + b)) :: st) M Q := fun d ls a b st M Q => w_iadd (show ins 190 34 = some (.iadd, 1) by decide +kernel)
set_option maxRecDepth 100000 in
theorem r_190_35 : ∀ (d : Nat) (ls : Lc) (a : Nat) (j : Int32) (st : List Value) (M : Mem) (Q : Outcome → Mem → Prop), Wp d 190 35 ls (.int j :: .ref a :: st) M Q = ((((kX M a).1 = 0 ∨ (kX M a).1 = 8) ∧ inB j (kX M a).2 = true) ∧ Wp d 190 36 ls (.int (mA M a j.toNatClampNeg) :: st) M Q) := fun d ls a j st M Q => w_iaload (show ins 190 35 = some (.iaload, 1) by decide +kernel)
set_option maxRecDepth 100000 in
theorem r_190_36 : ∀ (d : Nat) (ls : Lc) (a b : Int32) (st : List Value) (M : Mem) (Q : Outcome → Mem → Prop), Wp d 190 36 ls (.int b :: .int a :: st) M Q = Br (b ≤ a) d 190 65 39 ls st M Q := fun d ls a b st M Q => w_icmp (show ins 190 36 = some (.if_icmp .ge 29, 3) by decide +kernel) rfl rfl
set_option maxRecDepth 100000 in
theorem r_190_39 : ∀ (d : Nat) (l1 l2 l3 l4 : Option Value) (v : Nat) (st : List Value) (M : Mem) (Q : Outcome → Mem → Prop), Wp d 190 39 [some (.ref v), l1, l2, l3, l4] st M Q = Wp d 190 40 [some (.ref v), l1, l2, l3, l4] (.ref v :: st) M Q := fun d l1 l2 l3 l4 v st M Q => wA (show ins 190 39 = some (.aload_n 0, 1) by decide +kernel) rfl
set_option maxRecDepth 100000 in
theorem r_190_40 : ∀ (d : Nat) (ls : Lc) (a : Nat) (st : List Value) (M : Mem) (Q : Outcome → Mem → Prop), Wp d 190 40 ls (.ref a :: st) M Q = (fk 53 (kO M a) = true ∧ Wp d 190 43 ls (va_rf (mR M 53 a) :: st) M Q) := fun d ls a st M Q => w_getR (show ins 190 40 = some (.getfield 7, 3) by decide +kernel) (show fRes (mC 190) 7 = some (53, 8, false) by decide +kernel) (by decide +kernel)
set_option maxRecDepth 100000 in
theorem r_190_43 : ∀ (d : Nat) (l0 l1 l2 l4 : Option Value) (v : Int32) (st : List Value) (M : Mem) (Q : Outcome → Mem → Prop), Wp d 190 43 [l0, l1, l2, some (.int v), l4] st M Q = Wp d 190 44 [l0, l1, l2, some (.int v), l4] (.int v :: st) M Q := fun d l0 l1 l2 l4 v st M Q => wA (show ins 190 43 = some (.iload_n 3, 1) by decide +kernel) rfl
set_option maxRecDepth 100000 in
theorem r_190_44 : ∀ (d : Nat) (l0 l1 l2 l3 : Option Value) (v : Int32) (st : List Value) (M : Mem) (Q : Outcome → Mem → Prop), Wp d 190 44 [l0, l1, l2, l3, some (.int v)] st M Q = Wp d 190 46 [l0, l1, l2, l3, some (.int v)] (.int v :: st) M Q := fun d l0 l1 l2 l3 v st M Q => wA (show ins 190 44 = some (.iload 4, 2) by decide +kernel) rfl
set_option maxRecDepth 100000 in
theorem r_190_46 : ∀ (d : Nat) (ls : Lc) (a b : Int) (st : List Value) (M : Mem) (Q : Outcome → Mem → Prop), Wp d 190 46 ls (.int (I b) :: .int (I a) :: st) M Q = Wp d 190 47 ls (.int (I (a + b)) :: st) M Q := fun d ls a b st M Q => w_iadd (show ins 190 46 = some (.iadd, 1) by decide +kernel)
set_option maxRecDepth 100000 in
theorem r_190_47 : ∀ (d : Nat) (l1 l2 l3 l4 : Option Value) (v : Nat) (st : List Value) (M : Mem) (Q : Outcome → Mem → Prop), Wp d 190 47 [some (.ref v), l1, l2, l3, l4] st M Q = Wp d 190 48 [some (.ref v), l1, l2, l3, l4] (.ref v :: st) M Q := fun d l1 l2 l3 l4 v st M Q => wA (show ins 190 47 = some (.aload_n 0, 1) by decide +kernel) rfl
set_option maxRecDepth 100000 in
theorem r_190_48 : ∀ (d : Nat) (ls : Lc) (a : Nat) (st : List Value) (M : Mem) (Q : Outcome → Mem → Prop), Wp d 190 48 ls (.ref a :: st) M Q = (fk 53 (kO M a) = true ∧ Wp d 190 51 ls (va_rf (mR M 53 a) :: st) M Q) := fun d ls a st M Q => w_getR (show ins 190 48 = some (.getfield 7, 3) by decide +kernel) (show fRes (mC 190) 7 = some (53, 8, false) by decide +kernel) (by decide +kernel)
set_option maxRecDepth 100000 in
theorem r_190_51 : ∀ (d : Nat) (l0 l1 l2 l4 : Option Value) (v : Int32) (st : List Value) (M : Mem) (Q : Outcome → Mem → Prop), Wp d 190 51 [l0, l1, l2, some (.int v), l4] st M Q = Wp d 190 52 [l0, l1, l2, some (.int v), l4] (.int v :: st) M Q := fun d l0 l1 l2 l4 v st M Q => wA (show ins 190 51 = some (.iload_n 3, 1) by decide +kernel) rfl
set_option maxRecDepth 100000 in
theorem r_190_52 : ∀ (d : Nat) (l0 l1 l2 l3 : Option Value) (v : Int32) (st : List Value) (M : Mem) (Q : Outcome → Mem → Prop), Wp d 190 52 [l0, l1, l2, l3, some (.int v)] st M Q = Wp d 190 54 [l0, l1, l2, l3, some (.int v)] (.int v :: st) M Q := fun d l0 l1 l2 l3 v st M Q => wA (show ins 190 52 = some (.iload 4, 2) by decide +kernel) rfl
set_option maxRecDepth 100000 in
theorem r_190_54 : ∀ (d : Nat) (ls : Lc) (a b : Int) (st : List Value) (M : Mem) (Q : Outcome → Mem → Prop), Wp d 190 54 ls (.int (I b) :: .int (I a) :: st) M Q = Wp d 190 55 ls (.int (I (a + b)) :: st) M Q := fun d ls a b st M Q => w_iadd (show ins 190 54 = some (.iadd, 1) by decide +kernel)
set_option maxRecDepth 100000 in
theorem r_190_55 : ∀ (d : Nat) (ls : Lc) (st : List Value) (M : Mem) (Q : Outcome → Mem → Prop), Wp d 190 55 ls st M Q = Wp d 190 56 ls (.int (I 1) :: st) M Q := fun d ls st M Q => w_iconst (show ins 190 55 = some (.iconst 1, 1) by decide +kernel)
set_option maxRecDepth 100000 in
theorem r_190_56 : ∀ (d : Nat) (ls : Lc) (a b : Int) (st : List Value) (M : Mem) (Q : Outcome → Mem → Prop), Wp d 190 56 ls (.int (I b) :: .int (I a) :: st) M Q = Wp d 190 57 ls (.int (I (a + b)) :: st) M Q := fun d ls a b st M Q => w_iadd (show ins 190 56 = some (.iadd, 1) by decide +kernel)
set_option maxRecDepth 100000 in
theorem r_190_57 : ∀ (d : Nat) (ls : Lc) (a : Nat) (j : Int32) (st : List Value) (M : Mem) (Q : Outcome → Mem → Prop), Wp d 190 57 ls (.int j :: .ref a :: st) M Q = ((((kX M a).1 = 0 ∨ (kX M a).1 = 8) ∧ inB j (kX M a).2 = true) ∧ Wp d 190 58 ls (.int (mA M a j.toNatClampNeg) :: st) M Q) := fun d ls a j st M Q => w_iaload (show ins 190 57 = some (.iaload, 1) by decide +kernel)
set_option maxRecDepth 100000 in
theorem r_190_58 : ∀ (d : Nat) (ls : Lc) (a : Nat) (j v : Int32) (st : List Value) (M : Mem) (Q : Outcome → Mem → Prop), Wp d 190 58 ls (.int v :: .int j :: .ref a :: st) M Q = (((kX M a).1 = 0 ∧ inB j (kX M a).2 = true) ∧ Wp d 190 59 ls st (sA M a j.toNatClampNeg v) Q) := fun d ls a j v st M Q => w_iastore (show ins 190 58 = some (.iastore, 1) by decide +kernel)
set_option maxRecDepth 100000 in
theorem r_190_59 : ∀ (d : Nat) (l0 l1 l2 l3 : Option Value) (z : Int) (st : List Value) (M : Mem) (Q : Outcome → Mem → Prop), (lo l3 = false) → Wp d 190 59 [l0, l1, l2, l3, some (.int (I z))] st M Q = Wp d 190 62 [l0, l1, l2, l3, some (.int (I (z + 1)))] st M Q := fun d l0 l1 l2 l3 z st M Q hl => w_iinc (show ins 190 59 = some (.iinc 4 1, 3) by decide +kernel) rfl (st1_S rfl rfl hl)
set_option maxRecDepth 100000 in
theorem r_190_62 : ∀ (d : Nat) (ls : Lc) (st : List Value) (M : Mem) (Q : Outcome → Mem → Prop), Wp d 190 62 ls st M Q = Wp d 190 22 ls st M Q := fun d ls st M Q => w_goto (show ins 190 62 = some (.goto (-40), 3) by decide +kernel) rfl
set_option maxRecDepth 100000 in
theorem r_190_65 : ∀ (d : Nat) (l1 l2 l3 l4 : Option Value) (v : Nat) (st : List Value) (M : Mem) (Q : Outcome → Mem → Prop), Wp d 190 65 [some (.ref v), l1, l2, l3, l4] st M Q = Wp d 190 66 [some (.ref v), l1, l2, l3, l4] (.ref v :: st) M Q := fun d l1 l2 l3 l4 v st M Q => wA (show ins 190 65 = some (.aload_n 0, 1) by decide +kernel) rfl
set_option maxRecDepth 100000 in
theorem r_190_66 : ∀ (d : Nat) (ls : Lc) (a : Nat) (st : List Value) (M : Mem) (Q : Outcome → Mem → Prop), Wp d 190 66 ls (.ref a :: st) M Q = (fk 53 (kO M a) = true ∧ Wp d 190 69 ls (va_rf (mR M 53 a) :: st) M Q) := fun d ls a st M Q => w_getR (show ins 190 66 = some (.getfield 7, 3) by decide +kernel) (show fRes (mC 190) 7 = some (53, 8, false) by decide +kernel) (by decide +kernel)
set_option maxRecDepth 100000 in
theorem r_190_69 : ∀ (d : Nat) (ls : Lc) (st : List Value) (M : Mem) (Q : Outcome → Mem → Prop), Wp d 190 69 ls st M Q = Wp d 190 72 ls (.int (I 13068) :: st) M Q := fun d ls st M Q => w_sipush (show ins 190 69 = some (.sipush 13068, 3) by decide +kernel) (by decide)
set_option maxRecDepth 100000 in
theorem r_190_72 : ∀ (d : Nat) (l0 l1 l3 l4 : Option Value) (v : Int32) (st : List Value) (M : Mem) (Q : Outcome → Mem → Prop), Wp d 190 72 [l0, l1, some (.int v), l3, l4] st M Q = Wp d 190 73 [l0, l1, some (.int v), l3, l4] (.int v :: st) M Q := fun d l0 l1 l3 l4 v st M Q => wA (show ins 190 72 = some (.iload_n 2, 1) by decide +kernel) rfl
set_option maxRecDepth 100000 in
theorem r_190_73 : ∀ (d : Nat) (ls : Lc) (a b : Int) (st : List Value) (M : Mem) (Q : Outcome → Mem → Prop), Wp d 190 73 ls (.int (I b) :: .int (I a) :: st) M Q = Wp d 190 74 ls (.int (I (a + b)) :: st) M Q := fun d ls a b st M Q => w_iadd (show ins 190 73 = some (.iadd, 1) by decide +kernel)
set_option maxRecDepth 100000 in
theorem r_190_74 : ∀ (d : Nat) (ls : Lc) (v : Int32) (a : Nat) (st : List Value) (M : Mem) (Q : Outcome → Mem → Prop), Wp d 190 74 ls (.int v :: .ref a :: st) M Q = Wp d 190 75 ls (.int v :: .ref a :: .int v :: .ref a :: st) M Q := fun d ls v a st M Q => wA (show ins 190 74 = some (.dup2, 1) by decide +kernel) rfl
set_option maxRecDepth 100000 in
theorem r_190_75 : ∀ (d : Nat) (ls : Lc) (a : Nat) (j : Int32) (st : List Value) (M : Mem) (Q : Outcome → Mem → Prop), Wp d 190 75 ls (.int j :: .ref a :: st) M Q = ((((kX M a).1 = 0 ∨ (kX M a).1 = 8) ∧ inB j (kX M a).2 = true) ∧ Wp d 190 76 ls (.int (mA M a j.toNatClampNeg) :: st) M Q) := fun d ls a j st M Q => w_iaload (show ins 190 75 = some (.iaload, 1) by decide +kernel)
set_option maxRecDepth 100000 in
theorem r_190_76 : ∀ (d : Nat) (ls : Lc) (st : List Value) (M : Mem) (Q : Outcome → Mem → Prop), Wp d 190 76 ls st M Q = Wp d 190 77 ls (.int (I 1) :: st) M Q := fun d ls st M Q => w_iconst (show ins 190 76 = some (.iconst 1, 1) by decide +kernel)
set_option maxRecDepth 100000 in
theorem r_190_77 : ∀ (d : Nat) (ls : Lc) (a b : Int) (st : List Value) (M : Mem) (Q : Outcome → Mem → Prop), Wp d 190 77 ls (.int (I b) :: .int (I a) :: st) M Q = Wp d 190 78 ls (.int (I (a - b)) :: st) M Q := fun d ls a b st M Q => w_isub (show ins 190 77 = some (.isub, 1) by decide +kernel)
set_option maxRecDepth 100000 in
theorem r_190_78 : ∀ (d : Nat) (ls : Lc) (a : Nat) (j v : Int32) (st : List Value) (M : Mem) (Q : Outcome → Mem → Prop), Wp d 190 78 ls (.int v :: .int j :: .ref a :: st) M Q = (((kX M a).1 = 0 ∧ inB j (kX M a).2 = true) ∧ Wp d 190 79 ls st (sA M a j.toNatClampNeg v) Q) := fun d ls a j v st M Q => w_iastore (show ins 190 78 = some (.iastore, 1) by decide +kernel)
set_option maxRecDepth 100000 in
theorem r_190_79 : ∀ (d : Nat) (ls : Lc) (M : Mem) (Q : Outcome → Mem → Prop), Wp d 190 79 ls [] M Q = Q (.returned none) M := fun d ls M Q => w_return (show ins 190 79 = some (.return_, 1) by decide +kernel) (by decide +kernel)
set_option maxRecDepth 100000 in
theorem w_190_22 : (type_of% r_190_22) := r_190_22
set_option maxRecDepth 100000 in
theorem W_190 : (type_of% r_190_0) ∧ (type_of% r_190_1) ∧ (type_of% r_190_2) ∧ (type_of% r_190_5) ∧ (type_of% r_190_6) ∧ (type_of% r_190_9) ∧ (type_of% r_190_11) ∧ (type_of% r_190_12) ∧ (type_of% r_190_13) ∧ (type_of% r_190_14) ∧ (type_of% r_190_15) ∧ (type_of% r_190_16) ∧ (type_of% r_190_17) ∧ (type_of% r_190_20) ∧ (type_of% r_190_24) ∧ (type_of% r_190_25) ∧ (type_of% r_190_26) ∧ (type_of% r_190_27) ∧ (type_of% r_190_30) ∧ (type_of% r_190_33) ∧ (type_of% r_190_34) ∧ (type_of% r_190_35) ∧ (type_of% r_190_36) ∧ (type_of% r_190_39) ∧ (type_of% r_190_40) ∧ (type_of% r_190_43) ∧ (type_of% r_190_44) ∧ (type_of% r_190_46) ∧ (type_of% r_190_47) ∧ (type_of% r_190_48) ∧ (type_of% r_190_51) ∧ (type_of% r_190_52) ∧ (type_of% r_190_54) ∧ (type_of% r_190_55) ∧ (type_of% r_190_56) ∧ (type_of% r_190_57) ∧ (type_of% r_190_58) ∧ (type_of% r_190_59) ∧ (type_of% r_190_62) ∧ (type_of% r_190_65) ∧ (type_of% r_190_66) ∧ (type_of% r_190_69) ∧ (type_of% r_190_72) ∧ (type_of% r_190_73) ∧ (type_of% r_190_74) ∧ (type_of% r_190_75) ∧ (type_of% r_190_76) ∧ (type_of% r_190_77) ∧ (type_of% r_190_78) ∧ (type_of% r_190_79) := ⟨r_190_0, r_190_1, r_190_2, r_190_5, r_190_6, r_190_9, r_190_11, r_190_12, r_190_13, r_190_14, r_190_15, r_190_16, r_190_17, r_190_20, r_190_24, r_190_25, r_190_26, r_190_27, r_190_30, r_190_33, r_190_34, r_190_35, r_190_36, r_190_39, r_190_40, r_190_43, r_190_44, r_190_46, r_190_47, r_190_48, r_190_51, r_190_52, r_190_54, r_190_55, r_190_56, r_190_57, r_190_58, r_190_59, r_190_62, r_190_65, r_190_66, r_190_69, r_190_72, r_190_73, r_190_74, r_190_75, r_190_76, r_190_77, r_190_78, r_190_79⟩
set_option maxRecDepth 100000 in
theorem ca_190 {d y pc : Nat} {ls : Lc} {a : Nat} {z0 : Int32} {r : List Value} {M : Mem} {Q : Outcome → Mem → Prop} (hd : 0 < d) (hw : Wp (d - 1) 190 0 [some (.ref a), some (.int z0), none, none, none] [] M (Cq d y pc ls r Q)) : Ca d y pc ls 190 [.ref a, .int z0] r M Q := ca_of (mq_get (by decide)) (by rfl) hd hw
/-! 191 PackedTreeModel.free(I)V; loop heads [] -/
set_option maxRecDepth 100000 in
theorem r_191_0 : ∀ (d : Nat) (l1 : Option Value) (v : Nat) (st : List Value) (M : Mem) (Q : Outcome → Mem → Prop), Wp d 191 0 [some (.ref v), l1] st M Q = Wp d 191 1 [some (.ref v), l1] (.ref v :: st) M Q := fun d l1 v st M Q => wA (show ins 191 0 = some (.aload_n 0, 1) by decide +kernel) rfl
set_option maxRecDepth 100000 in
theorem r_191_1 : ∀ (d : Nat) (ls : Lc) (a : Nat) (st : List Value) (M : Mem) (Q : Outcome → Mem → Prop), Wp d 191 1 ls (.ref a :: st) M Q = (fk 53 (kO M a) = true ∧ Wp d 191 4 ls (va_rf (mR M 53 a) :: st) M Q) := fun d ls a st M Q => w_getR (show ins 191 1 = some (.getfield 7, 3) by decide +kernel) (show fRes (mC 191) 7 = some (53, 8, false) by decide +kernel) (by decide +kernel)
set_option maxRecDepth 100000 in
theorem r_191_4 : ∀ (d : Nat) (ls : Lc) (st : List Value) (M : Mem) (Q : Outcome → Mem → Prop), Wp d 191 4 ls st M Q = Wp d 191 5 ls (.int (I 0) :: st) M Q := fun d ls st M Q => w_iconst (show ins 191 4 = some (.iconst 0, 1) by decide +kernel)
set_option maxRecDepth 100000 in
theorem r_191_5 : ∀ (d : Nat) (l0 : Option Value) (v : Int32) (st : List Value) (M : Mem) (Q : Outcome → Mem → Prop), Wp d 191 5 [l0, some (.int v)] st M Q = Wp d 191 6 [l0, some (.int v)] (.int v :: st) M Q := fun d l0 v st M Q => wA (show ins 191 5 = some (.iload_n 1, 1) by decide +kernel) rfl
set_option maxRecDepth 100000 in
theorem r_191_6 : ∀ (d : Nat) (ls : Lc) (a b : Int) (st : List Value) (M : Mem) (Q : Outcome → Mem → Prop), Wp d 191 6 ls (.int (I b) :: .int (I a) :: st) M Q = Wp d 191 7 ls (.int (I (a + b)) :: st) M Q := fun d ls a b st M Q => w_iadd (show ins 191 6 = some (.iadd, 1) by decide +kernel)
set_option maxRecDepth 100000 in
theorem r_191_7 : ∀ (d : Nat) (ls : Lc) (st : List Value) (M : Mem) (Q : Outcome → Mem → Prop), Wp d 191 7 ls st M Q = Wp d 191 8 ls (.int (I 0) :: st) M Q := fun d ls st M Q => w_iconst (show ins 191 7 = some (.iconst 0, 1) by decide +kernel)
set_option maxRecDepth 100000 in
theorem r_191_8 : ∀ (d : Nat) (ls : Lc) (a : Nat) (j v : Int32) (st : List Value) (M : Mem) (Q : Outcome → Mem → Prop), Wp d 191 8 ls (.int v :: .int j :: .ref a :: st) M Q = (((kX M a).1 = 0 ∧ inB j (kX M a).2 = true) ∧ Wp d 191 9 ls st (sA M a j.toNatClampNeg v) Q) := fun d ls a j v st M Q => w_iastore (show ins 191 8 = some (.iastore, 1) by decide +kernel)
set_option maxRecDepth 100000 in
theorem r_191_9 : ∀ (d : Nat) (l1 : Option Value) (v : Nat) (st : List Value) (M : Mem) (Q : Outcome → Mem → Prop), Wp d 191 9 [some (.ref v), l1] st M Q = Wp d 191 10 [some (.ref v), l1] (.ref v :: st) M Q := fun d l1 v st M Q => wA (show ins 191 9 = some (.aload_n 0, 1) by decide +kernel) rfl
set_option maxRecDepth 100000 in
theorem r_191_10 : ∀ (d : Nat) (ls : Lc) (a : Nat) (st : List Value) (M : Mem) (Q : Outcome → Mem → Prop), Wp d 191 10 ls (.ref a :: st) M Q = (fk 53 (kO M a) = true ∧ Wp d 191 13 ls (va_rf (mR M 53 a) :: st) M Q) := fun d ls a st M Q => w_getR (show ins 191 10 = some (.getfield 7, 3) by decide +kernel) (show fRes (mC 191) 7 = some (53, 8, false) by decide +kernel) (by decide +kernel)
set_option maxRecDepth 100000 in
theorem r_191_13 : ∀ (d : Nat) (ls : Lc) (st : List Value) (M : Mem) (Q : Outcome → Mem → Prop), Wp d 191 13 ls st M Q = Wp d 191 16 ls (.int (I 3756) :: st) M Q := fun d ls st M Q => w_sipush (show ins 191 13 = some (.sipush 3756, 3) by decide +kernel) (by decide)
set_option maxRecDepth 100000 in
theorem r_191_16 : ∀ (d : Nat) (l0 : Option Value) (v : Int32) (st : List Value) (M : Mem) (Q : Outcome → Mem → Prop), Wp d 191 16 [l0, some (.int v)] st M Q = Wp d 191 17 [l0, some (.int v)] (.int v :: st) M Q := fun d l0 v st M Q => wA (show ins 191 16 = some (.iload_n 1, 1) by decide +kernel) rfl
set_option maxRecDepth 100000 in
theorem r_191_17 : ∀ (d : Nat) (ls : Lc) (a b : Int) (st : List Value) (M : Mem) (Q : Outcome → Mem → Prop), Wp d 191 17 ls (.int (I b) :: .int (I a) :: st) M Q = Wp d 191 18 ls (.int (I (a + b)) :: st) M Q := fun d ls a b st M Q => w_iadd (show ins 191 17 = some (.iadd, 1) by decide +kernel)
set_option maxRecDepth 100000 in
theorem r_191_18 : ∀ (d : Nat) (ls : Lc) (st : List Value) (M : Mem) (Q : Outcome → Mem → Prop), Wp d 191 18 ls st M Q = Wp d 191 19 ls (.int (I 0) :: st) M Q := fun d ls st M Q => w_iconst (show ins 191 18 = some (.iconst 0, 1) by decide +kernel)
set_option maxRecDepth 100000 in
theorem r_191_19 : ∀ (d : Nat) (ls : Lc) (a : Nat) (j v : Int32) (st : List Value) (M : Mem) (Q : Outcome → Mem → Prop), Wp d 191 19 ls (.int v :: .int j :: .ref a :: st) M Q = (((kX M a).1 = 0 ∧ inB j (kX M a).2 = true) ∧ Wp d 191 20 ls st (sA M a j.toNatClampNeg v) Q) := fun d ls a j v st M Q => w_iastore (show ins 191 19 = some (.iastore, 1) by decide +kernel)
set_option maxRecDepth 100000 in
theorem r_191_20 : ∀ (d : Nat) (l1 : Option Value) (v : Nat) (st : List Value) (M : Mem) (Q : Outcome → Mem → Prop), Wp d 191 20 [some (.ref v), l1] st M Q = Wp d 191 21 [some (.ref v), l1] (.ref v :: st) M Q := fun d l1 v st M Q => wA (show ins 191 20 = some (.aload_n 0, 1) by decide +kernel) rfl
set_option maxRecDepth 100000 in
theorem r_191_21 : ∀ (d : Nat) (ls : Lc) (a : Nat) (st : List Value) (M : Mem) (Q : Outcome → Mem → Prop), Wp d 191 21 ls (.ref a :: st) M Q = (fk 53 (kO M a) = true ∧ Wp d 191 24 ls (va_rf (mR M 53 a) :: st) M Q) := fun d ls a st M Q => w_getR (show ins 191 21 = some (.getfield 7, 3) by decide +kernel) (show fRes (mC 191) 7 = some (53, 8, false) by decide +kernel) (by decide +kernel)
set_option maxRecDepth 100000 in
theorem r_191_24 : ∀ (d : Nat) (ls : Lc) (st : List Value) (M : Mem) (Q : Outcome → Mem → Prop), Wp d 191 24 ls st M Q = Wp d 191 27 ls (.int (I 3852) :: st) M Q := fun d ls st M Q => w_sipush (show ins 191 24 = some (.sipush 3852, 3) by decide +kernel) (by decide)
set_option maxRecDepth 100000 in
theorem r_191_27 : ∀ (d : Nat) (l0 : Option Value) (v : Int32) (st : List Value) (M : Mem) (Q : Outcome → Mem → Prop), Wp d 191 27 [l0, some (.int v)] st M Q = Wp d 191 28 [l0, some (.int v)] (.int v :: st) M Q := fun d l0 v st M Q => wA (show ins 191 27 = some (.iload_n 1, 1) by decide +kernel) rfl
set_option maxRecDepth 100000 in
theorem r_191_28 : ∀ (d : Nat) (ls : Lc) (a b : Int) (st : List Value) (M : Mem) (Q : Outcome → Mem → Prop), Wp d 191 28 ls (.int (I b) :: .int (I a) :: st) M Q = Wp d 191 29 ls (.int (I (a + b)) :: st) M Q := fun d ls a b st M Q => w_iadd (show ins 191 28 = some (.iadd, 1) by decide +kernel)
set_option maxRecDepth 100000 in
theorem r_191_29 : ∀ (d : Nat) (ls : Lc) (st : List Value) (M : Mem) (Q : Outcome → Mem → Prop), Wp d 191 29 ls st M Q = Wp d 191 30 ls (.int (I 0) :: st) M Q := fun d ls st M Q => w_iconst (show ins 191 29 = some (.iconst 0, 1) by decide +kernel)
set_option maxRecDepth 100000 in
theorem r_191_30 : ∀ (d : Nat) (ls : Lc) (a : Nat) (j v : Int32) (st : List Value) (M : Mem) (Q : Outcome → Mem → Prop), Wp d 191 30 ls (.int v :: .int j :: .ref a :: st) M Q = (((kX M a).1 = 0 ∧ inB j (kX M a).2 = true) ∧ Wp d 191 31 ls st (sA M a j.toNatClampNeg v) Q) := fun d ls a j v st M Q => w_iastore (show ins 191 30 = some (.iastore, 1) by decide +kernel)
set_option maxRecDepth 100000 in
theorem r_191_31 : ∀ (d : Nat) (ls : Lc) (M : Mem) (Q : Outcome → Mem → Prop), Wp d 191 31 ls [] M Q = Q (.returned none) M := fun d ls M Q => w_return (show ins 191 31 = some (.return_, 1) by decide +kernel) (by decide +kernel)
set_option maxRecDepth 100000 in
theorem W_191 : (type_of% r_191_0) ∧ (type_of% r_191_1) ∧ (type_of% r_191_4) ∧ (type_of% r_191_5) ∧ (type_of% r_191_6) ∧ (type_of% r_191_7) ∧ (type_of% r_191_8) ∧ (type_of% r_191_9) ∧ (type_of% r_191_10) ∧ (type_of% r_191_13) ∧ (type_of% r_191_16) ∧ (type_of% r_191_17) ∧ (type_of% r_191_18) ∧ (type_of% r_191_19) ∧ (type_of% r_191_20) ∧ (type_of% r_191_21) ∧ (type_of% r_191_24) ∧ (type_of% r_191_27) ∧ (type_of% r_191_28) ∧ (type_of% r_191_29) ∧ (type_of% r_191_30) ∧ (type_of% r_191_31) := ⟨r_191_0, r_191_1, r_191_4, r_191_5, r_191_6, r_191_7, r_191_8, r_191_9, r_191_10, r_191_13, r_191_16, r_191_17, r_191_18, r_191_19, r_191_20, r_191_21, r_191_24, r_191_27, r_191_28, r_191_29, r_191_30, r_191_31⟩
set_option maxRecDepth 100000 in
theorem ca_191 {d y pc : Nat} {ls : Lc} {a : Nat} {z0 : Int32} {r : List Value} {M : Mem} {Q : Outcome → Mem → Prop} (hd : 0 < d) (hw : Wp (d - 1) 191 0 [some (.ref a), some (.int z0)] [] M (Cq d y pc ls r Q)) : Ca d y pc ls 191 [.ref a, .int z0] r M Q := ca_of (mq_get (by decide)) (by rfl) hd hw
/-! 192 PackedTreeModel.tailOf(I)I; loop heads [] -/
set_option maxRecDepth 100000 in
theorem r_192_0 : ∀ (d : Nat) (l1 : Option Value) (v : Int32) (st : List Value) (M : Mem) (Q : Outcome → Mem → Prop), Wp d 192 0 [some (.int v), l1] st M Q = Wp d 192 1 [some (.int v), l1] (.int v :: st) M Q := fun d l1 v st M Q => wA (show ins 192 0 = some (.iload_n 0, 1) by decide +kernel) rfl
set_option maxRecDepth 100000 in
theorem r_192_1 : ∀ (d : Nat) (ls : Lc) (st : List Value) (M : Mem) (Q : Outcome → Mem → Prop), Wp d 192 1 ls st M Q = Wp d 192 4 ls (.int (I 128) :: st) M Q := fun d ls st M Q => w_sipush (show ins 192 1 = some (.sipush 128, 3) by decide +kernel) (by decide)
set_option maxRecDepth 100000 in
theorem r_192_4 : ∀ (d : Nat) (ls : Lc) (a b : Int) (st : List Value) (M : Mem) (Q : Outcome → Mem → Prop), (0 ≤ a) → (a < 2147483648) → (0 < b) → (b < 2147483648) → Wp d 192 4 ls (.int (I b) :: .int (I a) :: st) M Q = Wp d 192 5 ls (.int (I (a % b)) :: st) M Q := fun d ls a b st M Q h0 h1 h2 h3 => w_irem (show ins 192 4 = some (.irem, 1) by decide +kernel) h0 h1 h2 h3
set_option maxRecDepth 100000 in
theorem r_192_5 : ∀ (d : Nat) (l0 l1 : Option Value) (v : Int32) (st : List Value) (M : Mem) (Q : Outcome → Mem → Prop), (lo l0 = false) → Wp d 192 5 [l0, l1] (.int v :: st) M Q = Wp d 192 6 [l0, some (.int v)] st M Q := fun d l0 l1 v st M Q hl => w_istore_n (show ins 192 5 = some (.istore_n 1, 1) by decide +kernel) (st1_S rfl rfl hl)
set_option maxRecDepth 100000 in
theorem r_192_6 : ∀ (d : Nat) (l0 : Option Value) (v : Int32) (st : List Value) (M : Mem) (Q : Outcome → Mem → Prop), Wp d 192 6 [l0, some (.int v)] st M Q = Wp d 192 7 [l0, some (.int v)] (.int v :: st) M Q := fun d l0 v st M Q => wA (show ins 192 6 = some (.iload_n 1, 1) by decide +kernel) rfl
set_option maxRecDepth 100000 in
theorem r_192_7 : ∀ (d : Nat) (ls : Lc) (st : List Value) (M : Mem) (Q : Outcome → Mem → Prop), Wp d 192 7 ls st M Q = Wp d 192 9 ls (.int (I 40) :: st) M Q := fun d ls st M Q => w_bipush (show ins 192 7 = some (.bipush 40, 2) by decide +kernel) (by decide)
set_option maxRecDepth 100000 in
theorem r_192_9 : ∀ (d : Nat) (ls : Lc) (a b : Int32) (st : List Value) (M : Mem) (Q : Outcome → Mem → Prop), Wp d 192 9 ls (.int b :: .int a :: st) M Q = Br (b < a) d 192 23 12 ls st M Q := fun d ls a b st M Q => w_icmp (show ins 192 9 = some (.if_icmp .gt 14, 3) by decide +kernel) rfl rfl
set_option maxRecDepth 100000 in
theorem r_192_12 : ∀ (d : Nat) (l1 : Option Value) (v : Int32) (st : List Value) (M : Mem) (Q : Outcome → Mem → Prop), Wp d 192 12 [some (.int v), l1] st M Q = Wp d 192 13 [some (.int v), l1] (.int v :: st) M Q := fun d l1 v st M Q => wA (show ins 192 12 = some (.iload_n 0, 1) by decide +kernel) rfl
set_option maxRecDepth 100000 in
theorem r_192_13 : ∀ (d : Nat) (ls : Lc) (st : List Value) (M : Mem) (Q : Outcome → Mem → Prop), Wp d 192 13 ls st M Q = Wp d 192 16 ls (.int (I 512) :: st) M Q := fun d ls st M Q => w_sipush (show ins 192 13 = some (.sipush 512, 3) by decide +kernel) (by decide)
set_option maxRecDepth 100000 in
theorem r_192_16 : ∀ (d : Nat) (ls : Lc) (a b : Int32) (st : List Value) (M : Mem) (Q : Outcome → Mem → Prop), Wp d 192 16 ls (.int b :: .int a :: st) M Q = Br (b < a) d 192 23 19 ls st M Q := fun d ls a b st M Q => w_icmp (show ins 192 16 = some (.if_icmp .gt 7, 3) by decide +kernel) rfl rfl
set_option maxRecDepth 100000 in
theorem r_192_19 : ∀ (d : Nat) (l0 : Option Value) (v : Int32) (st : List Value) (M : Mem) (Q : Outcome → Mem → Prop), Wp d 192 19 [l0, some (.int v)] st M Q = Wp d 192 20 [l0, some (.int v)] (.int v :: st) M Q := fun d l0 v st M Q => wA (show ins 192 19 = some (.iload_n 1, 1) by decide +kernel) rfl
set_option maxRecDepth 100000 in
theorem r_192_20 : ∀ (d : Nat) (ls : Lc) (st : List Value) (M : Mem) (Q : Outcome → Mem → Prop), Wp d 192 20 ls st M Q = Wp d 192 24 ls st M Q := fun d ls st M Q => w_goto (show ins 192 20 = some (.goto 4, 3) by decide +kernel) rfl
set_option maxRecDepth 100000 in
theorem r_192_23 : ∀ (d : Nat) (ls : Lc) (st : List Value) (M : Mem) (Q : Outcome → Mem → Prop), Wp d 192 23 ls st M Q = Wp d 192 24 ls (.int (I 0) :: st) M Q := fun d ls st M Q => w_iconst (show ins 192 23 = some (.iconst 0, 1) by decide +kernel)
set_option maxRecDepth 100000 in
theorem r_192_24 : ∀ (d : Nat) (ls : Lc) (v : Int32) (M : Mem) (Q : Outcome → Mem → Prop), Wp d 192 24 ls [.int v] M Q = Q (.returned (some (.int v))) M := fun d ls v M Q => w_ireturn (show ins 192 24 = some (.ireturn, 1) by decide +kernel) (by decide +kernel)
set_option maxRecDepth 100000 in
theorem W_192 : (type_of% r_192_0) ∧ (type_of% r_192_1) ∧ (type_of% r_192_4) ∧ (type_of% r_192_5) ∧ (type_of% r_192_6) ∧ (type_of% r_192_7) ∧ (type_of% r_192_9) ∧ (type_of% r_192_12) ∧ (type_of% r_192_13) ∧ (type_of% r_192_16) ∧ (type_of% r_192_19) ∧ (type_of% r_192_20) ∧ (type_of% r_192_23) ∧ (type_of% r_192_24) := ⟨r_192_0, r_192_1, r_192_4, r_192_5, r_192_6, r_192_7, r_192_9, r_192_12, r_192_13, r_192_16, r_192_19, r_192_20, r_192_23, r_192_24⟩
set_option maxRecDepth 100000 in
theorem ca_192 {d y pc : Nat} {ls : Lc} {z0 : Int32} {r : List Value} {M : Mem} {Q : Outcome → Mem → Prop} (hd : 0 < d) (hw : Wp (d - 1) 192 0 [some (.int z0), none] [] M (Cq d y pc ls r Q)) : Ca d y pc ls 192 [.int z0] r M Q := ca_of (mq_get (by decide)) (by rfl) hd hw
/-! 193 PackedTreeModel.resize(IIII)V; loop heads [] -/
set_option maxRecDepth 100000 in
theorem r_193_0 : ∀ (d : Nat) (l1 l2 l3 l4 l5 : Option Value) (v : Nat) (st : List Value) (M : Mem) (Q : Outcome → Mem → Prop), Wp d 193 0 [some (.ref v), l1, l2, l3, l4, l5] st M Q = Wp d 193 1 [some (.ref v), l1, l2, l3, l4, l5] (.ref v :: st) M Q := fun d l1 l2 l3 l4 l5 v st M Q => wA (show ins 193 0 = some (.aload_n 0, 1) by decide +kernel) rfl
set_option maxRecDepth 100000 in
theorem r_193_1 : ∀ (d : Nat) (ls : Lc) (a : Nat) (st : List Value) (M : Mem) (Q : Outcome → Mem → Prop), Wp d 193 1 ls (.ref a :: st) M Q = (fk 47 (kO M a) = true ∧ Wp d 193 4 ls (.int (mF M 47 a) :: st) M Q) := fun d ls a st M Q => w_getI (show ins 193 1 = some (.getfield 51, 3) by decide +kernel) (show fRes (mC 193) 51 = some (47, 8, false) by decide +kernel) (by decide +kernel)
set_option maxRecDepth 100000 in
theorem r_193_4 : ∀ (d : Nat) (ls : Lc) (a : Int32) (st : List Value) (M : Mem) (Q : Outcome → Mem → Prop), Wp d 193 4 ls (.int a :: st) M Q = Br (¬ a = I 0) d 193 13 7 ls st M Q := fun d ls a st M Q => w_if (show ins 193 4 = some (.ifCond .ne 9, 3) by decide +kernel) rfl rfl
set_option maxRecDepth 100000 in
theorem r_193_7 : ∀ (d : Nat) (l0 l1 l2 l4 l5 : Option Value) (v : Int32) (st : List Value) (M : Mem) (Q : Outcome → Mem → Prop), Wp d 193 7 [l0, l1, l2, some (.int v), l4, l5] st M Q = Wp d 193 8 [l0, l1, l2, some (.int v), l4, l5] (.int v :: st) M Q := fun d l0 l1 l2 l4 l5 v st M Q => wA (show ins 193 7 = some (.iload_n 3, 1) by decide +kernel) rfl
set_option maxRecDepth 100000 in
theorem r_193_8 : ∀ (d : Nat) (l0 l1 l2 l3 l5 : Option Value) (v : Int32) (st : List Value) (M : Mem) (Q : Outcome → Mem → Prop), Wp d 193 8 [l0, l1, l2, l3, some (.int v), l5] st M Q = Wp d 193 10 [l0, l1, l2, l3, some (.int v), l5] (.int v :: st) M Q := fun d l0 l1 l2 l3 l5 v st M Q => wA (show ins 193 8 = some (.iload 4, 2) by decide +kernel) rfl
set_option maxRecDepth 100000 in
theorem r_193_10 : ∀ (d : Nat) (ls : Lc) (a b : Int32) (st : List Value) (M : Mem) (Q : Outcome → Mem → Prop), Wp d 193 10 ls (.int b :: .int a :: st) M Q = Br (¬ a = b) d 193 14 13 ls st M Q := fun d ls a b st M Q => w_icmp (show ins 193 10 = some (.if_icmp .ne 4, 3) by decide +kernel) rfl rfl
set_option maxRecDepth 100000 in
theorem r_193_13 : ∀ (d : Nat) (ls : Lc) (M : Mem) (Q : Outcome → Mem → Prop), Wp d 193 13 ls [] M Q = Q (.returned none) M := fun d ls M Q => w_return (show ins 193 13 = some (.return_, 1) by decide +kernel) (by decide +kernel)
set_option maxRecDepth 100000 in
theorem r_193_14 : ∀ (d : Nat) (l0 l1 l2 l4 l5 : Option Value) (v : Int32) (st : List Value) (M : Mem) (Q : Outcome → Mem → Prop), Wp d 193 14 [l0, l1, l2, some (.int v), l4, l5] st M Q = Wp d 193 15 [l0, l1, l2, some (.int v), l4, l5] (.int v :: st) M Q := fun d l0 l1 l2 l4 l5 v st M Q => wA (show ins 193 14 = some (.iload_n 3, 1) by decide +kernel) rfl
set_option maxRecDepth 100000 in
theorem r_193_15 : ∀ (d : Nat) (ls : Lc) (a : Int32) (st : List Value) (M : Mem) (Q : Outcome → Mem → Prop), Wp d 193 15 ls (.int a :: st) M Q = Br (¬ a = I 0) d 193 31 18 ls st M Q := fun d ls a st M Q => w_if (show ins 193 15 = some (.ifCond .ne 16, 3) by decide +kernel) rfl rfl
set_option maxRecDepth 100000 in
theorem r_193_18 : ∀ (d : Nat) (l1 l2 l3 l4 l5 : Option Value) (v : Nat) (st : List Value) (M : Mem) (Q : Outcome → Mem → Prop), Wp d 193 18 [some (.ref v), l1, l2, l3, l4, l5] st M Q = Wp d 193 19 [some (.ref v), l1, l2, l3, l4, l5] (.ref v :: st) M Q := fun d l1 l2 l3 l4 l5 v st M Q => wA (show ins 193 18 = some (.aload_n 0, 1) by decide +kernel) rfl
set_option maxRecDepth 100000 in
theorem r_193_19 : ∀ (d : Nat) (l0 l2 l3 l4 l5 : Option Value) (v : Int32) (st : List Value) (M : Mem) (Q : Outcome → Mem → Prop), Wp d 193 19 [l0, some (.int v), l2, l3, l4, l5] st M Q = Wp d 193 20 [l0, some (.int v), l2, l3, l4, l5] (.int v :: st) M Q := fun d l0 l2 l3 l4 l5 v st M Q => wA (show ins 193 19 = some (.iload_n 1, 1) by decide +kernel) rfl
set_option maxRecDepth 100000 in
theorem r_193_20 : ∀ (d : Nat) (l0 l1 l3 l4 l5 : Option Value) (v : Int32) (st : List Value) (M : Mem) (Q : Outcome → Mem → Prop), Wp d 193 20 [l0, l1, some (.int v), l3, l4, l5] st M Q = Wp d 193 21 [l0, l1, some (.int v), l3, l4, l5] (.int v :: st) M Q := fun d l0 l1 l3 l4 l5 v st M Q => wA (show ins 193 20 = some (.iload_n 2, 1) by decide +kernel) rfl
set_option maxRecDepth 100000 in
theorem r_193_21 : ∀ (d : Nat) (ls : Lc) (st : List Value) (M : Mem) (Q : Outcome → Mem → Prop), Wp d 193 21 ls st M Q = Wp d 193 22 ls (.int (I 0) :: st) M Q := fun d ls st M Q => w_iconst (show ins 193 21 = some (.iconst 0, 1) by decide +kernel)
set_option maxRecDepth 100000 in
theorem r_193_22 : ∀ (d : Nat) (l0 l1 l2 l3 l5 : Option Value) (v : Int32) (st : List Value) (M : Mem) (Q : Outcome → Mem → Prop), Wp d 193 22 [l0, l1, l2, l3, some (.int v), l5] st M Q = Wp d 193 24 [l0, l1, l2, l3, some (.int v), l5] (.int v :: st) M Q := fun d l0 l1 l2 l3 l5 v st M Q => wA (show ins 193 22 = some (.iload 4, 2) by decide +kernel) rfl
set_option maxRecDepth 100000 in
theorem r_193_24 : ∀ (d : Nat) (ls : Lc) (st : List Value) (M : Mem) (Q : Outcome → Mem → Prop), Wp d 193 24 ls st M Q = Wp d 193 25 ls (.int (I 0) :: st) M Q := fun d ls st M Q => w_iconst (show ins 193 24 = some (.iconst 0, 1) by decide +kernel)
set_option maxRecDepth 100000 in
theorem r_193_25 : ∀ (d : Nat) (ls : Lc) (v0 v1 v2 v3 v4 : Value) (a : Nat) (st : List Value) (M : Mem) (Q : Outcome → Mem → Prop), (smallR st = true) → Wp d 193 25 ls (v4 :: v3 :: v2 :: v1 :: v0 :: .ref a :: st) M Q = (kO M a = 8 ∧ Ca d 193 25 ls 167 (.ref a :: [v0, v1, v2, v3, v4]) st M Q) := fun d ls v0 v1 v2 v3 v4 a st M Q h0 => w_virt1 (as := [v0, v1, v2, v3, v4]) (show ins 193 25 = some (.invokevirtual 130, 3) by decide +kernel) (show mRes (mC 193) 130 = some (3, 8, [(8, 167)]) by decide +kernel) (by decide +kernel) rfl (by decide +kernel) (by decide +kernel) h0
set_option maxRecDepth 100000 in
theorem r_193_28 : ∀ (d : Nat) (ls : Lc) (st : List Value) (M : Mem) (Q : Outcome → Mem → Prop), Wp d 193 28 ls st M Q = Wp d 193 100 ls st M Q := fun d ls st M Q => w_goto (show ins 193 28 = some (.goto 72, 3) by decide +kernel) rfl
set_option maxRecDepth 100000 in
theorem r_193_31 : ∀ (d : Nat) (l0 l1 l2 l3 l5 : Option Value) (v : Int32) (st : List Value) (M : Mem) (Q : Outcome → Mem → Prop), Wp d 193 31 [l0, l1, l2, l3, some (.int v), l5] st M Q = Wp d 193 33 [l0, l1, l2, l3, some (.int v), l5] (.int v :: st) M Q := fun d l0 l1 l2 l3 l5 v st M Q => wA (show ins 193 31 = some (.iload 4, 2) by decide +kernel) rfl
set_option maxRecDepth 100000 in
theorem r_193_33 : ∀ (d : Nat) (ls : Lc) (a : Int32) (st : List Value) (M : Mem) (Q : Outcome → Mem → Prop), Wp d 193 33 ls (.int a :: st) M Q = Br (¬ a = I 0) d 193 46 36 ls st M Q := fun d ls a st M Q => w_if (show ins 193 33 = some (.ifCond .ne 13, 3) by decide +kernel) rfl rfl
set_option maxRecDepth 100000 in
theorem r_193_36 : ∀ (d : Nat) (l1 l2 l3 l4 l5 : Option Value) (v : Nat) (st : List Value) (M : Mem) (Q : Outcome → Mem → Prop), Wp d 193 36 [some (.ref v), l1, l2, l3, l4, l5] st M Q = Wp d 193 37 [some (.ref v), l1, l2, l3, l4, l5] (.ref v :: st) M Q := fun d l1 l2 l3 l4 l5 v st M Q => wA (show ins 193 36 = some (.aload_n 0, 1) by decide +kernel) rfl
set_option maxRecDepth 100000 in
theorem r_193_37 : ∀ (d : Nat) (l0 l2 l3 l4 l5 : Option Value) (v : Int32) (st : List Value) (M : Mem) (Q : Outcome → Mem → Prop), Wp d 193 37 [l0, some (.int v), l2, l3, l4, l5] st M Q = Wp d 193 38 [l0, some (.int v), l2, l3, l4, l5] (.int v :: st) M Q := fun d l0 l2 l3 l4 l5 v st M Q => wA (show ins 193 37 = some (.iload_n 1, 1) by decide +kernel) rfl
set_option maxRecDepth 100000 in
theorem r_193_38 : ∀ (d : Nat) (l0 l1 l3 l4 l5 : Option Value) (v : Int32) (st : List Value) (M : Mem) (Q : Outcome → Mem → Prop), Wp d 193 38 [l0, l1, some (.int v), l3, l4, l5] st M Q = Wp d 193 39 [l0, l1, some (.int v), l3, l4, l5] (.int v :: st) M Q := fun d l0 l1 l3 l4 l5 v st M Q => wA (show ins 193 38 = some (.iload_n 2, 1) by decide +kernel) rfl
set_option maxRecDepth 100000 in
theorem r_193_39 : ∀ (d : Nat) (ls : Lc) (st : List Value) (M : Mem) (Q : Outcome → Mem → Prop), Wp d 193 39 ls st M Q = Wp d 193 40 ls (.int (I 0) :: st) M Q := fun d ls st M Q => w_iconst (show ins 193 39 = some (.iconst 0, 1) by decide +kernel)
set_option maxRecDepth 100000 in
theorem r_193_40 : ∀ (d : Nat) (ls : Lc) (v0 v1 v2 : Value) (a : Nat) (st : List Value) (M : Mem) (Q : Outcome → Mem → Prop), (smallR st = true) → Wp d 193 40 ls (v2 :: v1 :: v0 :: .ref a :: st) M Q = (kO M a = 8 ∧ Ca d 193 40 ls 187 (.ref a :: [v0, v1, v2]) st M Q) := fun d ls v0 v1 v2 a st M Q h0 => w_virt1 (as := [v0, v1, v2]) (show ins 193 40 = some (.invokevirtual 134, 3) by decide +kernel) (show mRes (mC 193) 134 = some (3, 8, [(8, 187)]) by decide +kernel) (by decide +kernel) rfl (by decide +kernel) (by decide +kernel) h0
set_option maxRecDepth 100000 in
theorem r_193_43 : ∀ (d : Nat) (ls : Lc) (st : List Value) (M : Mem) (Q : Outcome → Mem → Prop), Wp d 193 43 ls st M Q = Wp d 193 100 ls st M Q := fun d ls st M Q => w_goto (show ins 193 43 = some (.goto 57, 3) by decide +kernel) rfl
set_option maxRecDepth 100000 in
theorem r_193_46 : ∀ (d : Nat) (l1 l2 l3 l4 l5 : Option Value) (v : Nat) (st : List Value) (M : Mem) (Q : Outcome → Mem → Prop), Wp d 193 46 [some (.ref v), l1, l2, l3, l4, l5] st M Q = Wp d 193 47 [some (.ref v), l1, l2, l3, l4, l5] (.ref v :: st) M Q := fun d l1 l2 l3 l4 l5 v st M Q => wA (show ins 193 46 = some (.aload_n 0, 1) by decide +kernel) rfl
set_option maxRecDepth 100000 in
theorem r_193_47 : ∀ (d : Nat) (l0 l2 l3 l4 l5 : Option Value) (v : Int32) (st : List Value) (M : Mem) (Q : Outcome → Mem → Prop), Wp d 193 47 [l0, some (.int v), l2, l3, l4, l5] st M Q = Wp d 193 48 [l0, some (.int v), l2, l3, l4, l5] (.int v :: st) M Q := fun d l0 l2 l3 l4 l5 v st M Q => wA (show ins 193 47 = some (.iload_n 1, 1) by decide +kernel) rfl
set_option maxRecDepth 100000 in
theorem r_193_48 : ∀ (d : Nat) (l0 l1 l3 l4 l5 : Option Value) (v : Int32) (st : List Value) (M : Mem) (Q : Outcome → Mem → Prop), Wp d 193 48 [l0, l1, some (.int v), l3, l4, l5] st M Q = Wp d 193 49 [l0, l1, some (.int v), l3, l4, l5] (.int v :: st) M Q := fun d l0 l1 l3 l4 l5 v st M Q => wA (show ins 193 48 = some (.iload_n 2, 1) by decide +kernel) rfl
set_option maxRecDepth 100000 in
theorem r_193_49 : ∀ (d : Nat) (ls : Lc) (st : List Value) (M : Mem) (Q : Outcome → Mem → Prop), Wp d 193 49 ls st M Q = Wp d 193 50 ls (.int (I 0) :: st) M Q := fun d ls st M Q => w_iconst (show ins 193 49 = some (.iconst 0, 1) by decide +kernel)
set_option maxRecDepth 100000 in
theorem r_193_50 : ∀ (d : Nat) (ls : Lc) (v0 v1 v2 : Value) (a : Nat) (st : List Value) (M : Mem) (Q : Outcome → Mem → Prop), (smallR st = true) → Wp d 193 50 ls (v2 :: v1 :: v0 :: .ref a :: st) M Q = (kO M a = 8 ∧ Ca d 193 50 ls 163 (.ref a :: [v0, v1, v2]) st M Q) := fun d ls v0 v1 v2 a st M Q h0 => w_virt1 (as := [v0, v1, v2]) (show ins 193 50 = some (.invokevirtual 117, 3) by decide +kernel) (show mRes (mC 193) 117 = some (3, 8, [(8, 163)]) by decide +kernel) (by decide +kernel) rfl (by decide +kernel) (by decide +kernel) h0
set_option maxRecDepth 100000 in
theorem r_193_53 : ∀ (d : Nat) (l0 l1 l2 l3 l4 l5 : Option Value) (v : Int32) (st : List Value) (M : Mem) (Q : Outcome → Mem → Prop), (lo l4 = false) → Wp d 193 53 [l0, l1, l2, l3, l4, l5] (.int v :: st) M Q = Wp d 193 55 [l0, l1, l2, l3, l4, some (.int v)] st M Q := fun d l0 l1 l2 l3 l4 l5 v st M Q hl => w_istore (show ins 193 53 = some (.istore 5, 2) by decide +kernel) (st1_S rfl rfl hl)
set_option maxRecDepth 100000 in
theorem r_193_55 : ∀ (d : Nat) (l1 l2 l3 l4 l5 : Option Value) (v : Nat) (st : List Value) (M : Mem) (Q : Outcome → Mem → Prop), Wp d 193 55 [some (.ref v), l1, l2, l3, l4, l5] st M Q = Wp d 193 56 [some (.ref v), l1, l2, l3, l4, l5] (.ref v :: st) M Q := fun d l1 l2 l3 l4 l5 v st M Q => wA (show ins 193 55 = some (.aload_n 0, 1) by decide +kernel) rfl
set_option maxRecDepth 100000 in
theorem r_193_56 : ∀ (d : Nat) (ls : Lc) (a : Nat) (st : List Value) (M : Mem) (Q : Outcome → Mem → Prop), Wp d 193 56 ls (.ref a :: st) M Q = (fk 53 (kO M a) = true ∧ Wp d 193 59 ls (va_rf (mR M 53 a) :: st) M Q) := fun d ls a st M Q => w_getR (show ins 193 56 = some (.getfield 7, 3) by decide +kernel) (show fRes (mC 193) 7 = some (53, 8, false) by decide +kernel) (by decide +kernel)
set_option maxRecDepth 100000 in
theorem r_193_59 : ∀ (d : Nat) (ls : Lc) (st : List Value) (M : Mem) (Q : Outcome → Mem → Prop), Wp d 193 59 ls st M Q = Wp d 193 62 ls (.int (I 9228) :: st) M Q := fun d ls st M Q => w_sipush (show ins 193 59 = some (.sipush 9228, 3) by decide +kernel) (by decide)
set_option maxRecDepth 100000 in
theorem r_193_62 : ∀ (d : Nat) (ls : Lc) (st : List Value) (M : Mem) (Q : Outcome → Mem → Prop), Wp d 193 62 ls st M Q = Wp d 193 64 ls (.int (I 16) :: st) M Q := fun d ls st M Q => w_bipush (show ins 193 62 = some (.bipush 16, 2) by decide +kernel) (by decide)
set_option maxRecDepth 100000 in
theorem r_193_64 : ∀ (d : Nat) (l0 l1 l2 l3 l4 : Option Value) (v : Int32) (st : List Value) (M : Mem) (Q : Outcome → Mem → Prop), Wp d 193 64 [l0, l1, l2, l3, l4, some (.int v)] st M Q = Wp d 193 66 [l0, l1, l2, l3, l4, some (.int v)] (.int v :: st) M Q := fun d l0 l1 l2 l3 l4 v st M Q => wA (show ins 193 64 = some (.iload 5, 2) by decide +kernel) rfl
set_option maxRecDepth 100000 in
theorem r_193_66 : ∀ (d : Nat) (ls : Lc) (a b : Int) (st : List Value) (M : Mem) (Q : Outcome → Mem → Prop), Wp d 193 66 ls (.int (I b) :: .int (I a) :: st) M Q = Wp d 193 67 ls (.int (I (a * b)) :: st) M Q := fun d ls a b st M Q => w_imul (show ins 193 66 = some (.imul, 1) by decide +kernel)
set_option maxRecDepth 100000 in
theorem r_193_67 : ∀ (d : Nat) (ls : Lc) (a b : Int) (st : List Value) (M : Mem) (Q : Outcome → Mem → Prop), Wp d 193 67 ls (.int (I b) :: .int (I a) :: st) M Q = Wp d 193 68 ls (.int (I (a + b)) :: st) M Q := fun d ls a b st M Q => w_iadd (show ins 193 67 = some (.iadd, 1) by decide +kernel)
set_option maxRecDepth 100000 in
theorem r_193_68 : ∀ (d : Nat) (l1 l2 l3 l4 l5 : Option Value) (v : Nat) (st : List Value) (M : Mem) (Q : Outcome → Mem → Prop), Wp d 193 68 [some (.ref v), l1, l2, l3, l4, l5] st M Q = Wp d 193 69 [some (.ref v), l1, l2, l3, l4, l5] (.ref v :: st) M Q := fun d l1 l2 l3 l4 l5 v st M Q => wA (show ins 193 68 = some (.aload_n 0, 1) by decide +kernel) rfl
set_option maxRecDepth 100000 in
theorem r_193_69 : ∀ (d : Nat) (l0 l2 l3 l4 l5 : Option Value) (v : Int32) (st : List Value) (M : Mem) (Q : Outcome → Mem → Prop), Wp d 193 69 [l0, some (.int v), l2, l3, l4, l5] st M Q = Wp d 193 70 [l0, some (.int v), l2, l3, l4, l5] (.int v :: st) M Q := fun d l0 l2 l3 l4 l5 v st M Q => wA (show ins 193 69 = some (.iload_n 1, 1) by decide +kernel) rfl
set_option maxRecDepth 100000 in
theorem r_193_70 : ∀ (d : Nat) (l0 l1 l3 l4 l5 : Option Value) (v : Int32) (st : List Value) (M : Mem) (Q : Outcome → Mem → Prop), Wp d 193 70 [l0, l1, some (.int v), l3, l4, l5] st M Q = Wp d 193 71 [l0, l1, some (.int v), l3, l4, l5] (.int v :: st) M Q := fun d l0 l1 l3 l4 l5 v st M Q => wA (show ins 193 70 = some (.iload_n 2, 1) by decide +kernel) rfl
set_option maxRecDepth 100000 in
theorem r_193_71 : ∀ (d : Nat) (ls : Lc) (st : List Value) (M : Mem) (Q : Outcome → Mem → Prop), Wp d 193 71 ls st M Q = Wp d 193 72 ls (.int (I 0) :: st) M Q := fun d ls st M Q => w_iconst (show ins 193 71 = some (.iconst 0, 1) by decide +kernel)
set_option maxRecDepth 100000 in
theorem r_193_72 : ∀ (d : Nat) (ls : Lc) (v0 v1 v2 : Value) (a : Nat) (st : List Value) (M : Mem) (Q : Outcome → Mem → Prop), (smallR st = true) → Wp d 193 72 ls (v2 :: v1 :: v0 :: .ref a :: st) M Q = (kO M a = 8 ∧ Ca d 193 72 ls 162 (.ref a :: [v0, v1, v2]) st M Q) := fun d ls v0 v1 v2 a st M Q h0 => w_virt1 (as := [v0, v1, v2]) (show ins 193 72 = some (.invokevirtual 124, 3) by decide +kernel) (show mRes (mC 193) 124 = some (3, 8, [(8, 162)]) by decide +kernel) (by decide +kernel) rfl (by decide +kernel) (by decide +kernel) h0
set_option maxRecDepth 100000 in
theorem r_193_75 : ∀ (d : Nat) (ls : Lc) (a b : Int) (st : List Value) (M : Mem) (Q : Outcome → Mem → Prop), Wp d 193 75 ls (.int (I b) :: .int (I a) :: st) M Q = Wp d 193 76 ls (.int (I (a + b)) :: st) M Q := fun d ls a b st M Q => w_iadd (show ins 193 75 = some (.iadd, 1) by decide +kernel)
set_option maxRecDepth 100000 in
theorem r_193_76 : ∀ (d : Nat) (l0 l1 l2 l3 l5 : Option Value) (v : Int32) (st : List Value) (M : Mem) (Q : Outcome → Mem → Prop), Wp d 193 76 [l0, l1, l2, l3, some (.int v), l5] st M Q = Wp d 193 78 [l0, l1, l2, l3, some (.int v), l5] (.int v :: st) M Q := fun d l0 l1 l2 l3 l5 v st M Q => wA (show ins 193 76 = some (.iload 4, 2) by decide +kernel) rfl
set_option maxRecDepth 100000 in
theorem r_193_78 : ∀ (d : Nat) (ls : Lc) (a : Nat) (j v : Int32) (st : List Value) (M : Mem) (Q : Outcome → Mem → Prop), Wp d 193 78 ls (.int v :: .int j :: .ref a :: st) M Q = (((kX M a).1 = 0 ∧ inB j (kX M a).2 = true) ∧ Wp d 193 79 ls st (sA M a j.toNatClampNeg v) Q) := fun d ls a j v st M Q => w_iastore (show ins 193 78 = some (.iastore, 1) by decide +kernel)
set_option maxRecDepth 100000 in
theorem r_193_79 : ∀ (d : Nat) (l0 l1 l2 l3 l5 : Option Value) (v : Int32) (st : List Value) (M : Mem) (Q : Outcome → Mem → Prop), Wp d 193 79 [l0, l1, l2, l3, some (.int v), l5] st M Q = Wp d 193 81 [l0, l1, l2, l3, some (.int v), l5] (.int v :: st) M Q := fun d l0 l1 l2 l3 l5 v st M Q => wA (show ins 193 79 = some (.iload 4, 2) by decide +kernel) rfl
set_option maxRecDepth 100000 in
theorem r_193_81 : ∀ (d : Nat) (l0 l1 l2 l4 l5 : Option Value) (v : Int32) (st : List Value) (M : Mem) (Q : Outcome → Mem → Prop), Wp d 193 81 [l0, l1, l2, some (.int v), l4, l5] st M Q = Wp d 193 82 [l0, l1, l2, some (.int v), l4, l5] (.int v :: st) M Q := fun d l0 l1 l2 l4 l5 v st M Q => wA (show ins 193 81 = some (.iload_n 3, 1) by decide +kernel) rfl
set_option maxRecDepth 100000 in
theorem r_193_82 : ∀ (d : Nat) (ls : Lc) (a b : Int32) (st : List Value) (M : Mem) (Q : Outcome → Mem → Prop), Wp d 193 82 ls (.int b :: .int a :: st) M Q = Br (a ≤ b) d 193 94 85 ls st M Q := fun d ls a b st M Q => w_icmp (show ins 193 82 = some (.if_icmp .le 12, 3) by decide +kernel) rfl rfl
set_option maxRecDepth 100000 in
theorem r_193_85 : ∀ (d : Nat) (l1 l2 l3 l4 l5 : Option Value) (v : Nat) (st : List Value) (M : Mem) (Q : Outcome → Mem → Prop), Wp d 193 85 [some (.ref v), l1, l2, l3, l4, l5] st M Q = Wp d 193 86 [some (.ref v), l1, l2, l3, l4, l5] (.ref v :: st) M Q := fun d l1 l2 l3 l4 l5 v st M Q => wA (show ins 193 85 = some (.aload_n 0, 1) by decide +kernel) rfl
set_option maxRecDepth 100000 in
theorem r_193_86 : ∀ (d : Nat) (l0 l1 l2 l3 l4 : Option Value) (v : Int32) (st : List Value) (M : Mem) (Q : Outcome → Mem → Prop), Wp d 193 86 [l0, l1, l2, l3, l4, some (.int v)] st M Q = Wp d 193 88 [l0, l1, l2, l3, l4, some (.int v)] (.int v :: st) M Q := fun d l0 l1 l2 l3 l4 v st M Q => wA (show ins 193 86 = some (.iload 5, 2) by decide +kernel) rfl
set_option maxRecDepth 100000 in
theorem r_193_88 : ∀ (d : Nat) (ls : Lc) (v0 : Value) (a : Nat) (st : List Value) (M : Mem) (Q : Outcome → Mem → Prop), (smallR st = true) → Wp d 193 88 ls (v0 :: .ref a :: st) M Q = (kO M a = 8 ∧ Ca d 193 88 ls 169 (.ref a :: [v0]) st M Q) := fun d ls v0 a st M Q h0 => w_virt1 (as := [v0]) (show ins 193 88 = some (.invokevirtual 121, 3) by decide +kernel) (show mRes (mC 193) 121 = some (3, 8, [(8, 169)]) by decide +kernel) (by decide +kernel) rfl (by decide +kernel) (by decide +kernel) h0
set_option maxRecDepth 100000 in
theorem r_193_91 : ∀ (d : Nat) (ls : Lc) (st : List Value) (M : Mem) (Q : Outcome → Mem → Prop), Wp d 193 91 ls st M Q = Wp d 193 100 ls st M Q := fun d ls st M Q => w_goto (show ins 193 91 = some (.goto 9, 3) by decide +kernel) rfl
set_option maxRecDepth 100000 in
theorem r_193_94 : ∀ (d : Nat) (l1 l2 l3 l4 l5 : Option Value) (v : Nat) (st : List Value) (M : Mem) (Q : Outcome → Mem → Prop), Wp d 193 94 [some (.ref v), l1, l2, l3, l4, l5] st M Q = Wp d 193 95 [some (.ref v), l1, l2, l3, l4, l5] (.ref v :: st) M Q := fun d l1 l2 l3 l4 l5 v st M Q => wA (show ins 193 94 = some (.aload_n 0, 1) by decide +kernel) rfl
set_option maxRecDepth 100000 in
theorem r_193_95 : ∀ (d : Nat) (l0 l1 l2 l3 l4 : Option Value) (v : Int32) (st : List Value) (M : Mem) (Q : Outcome → Mem → Prop), Wp d 193 95 [l0, l1, l2, l3, l4, some (.int v)] st M Q = Wp d 193 97 [l0, l1, l2, l3, l4, some (.int v)] (.int v :: st) M Q := fun d l0 l1 l2 l3 l4 v st M Q => wA (show ins 193 95 = some (.iload 5, 2) by decide +kernel) rfl
set_option maxRecDepth 100000 in
theorem r_193_97 : ∀ (d : Nat) (ls : Lc) (v0 : Value) (a : Nat) (st : List Value) (M : Mem) (Q : Outcome → Mem → Prop), (smallR st = true) → Wp d 193 97 ls (v0 :: .ref a :: st) M Q = (kO M a = 8 ∧ Ca d 193 97 ls 188 (.ref a :: [v0]) st M Q) := fun d ls v0 a st M Q h0 => w_virt1 (as := [v0]) (show ins 193 97 = some (.invokevirtual 127, 3) by decide +kernel) (show mRes (mC 193) 127 = some (3, 8, [(8, 188)]) by decide +kernel) (by decide +kernel) rfl (by decide +kernel) (by decide +kernel) h0
set_option maxRecDepth 100000 in
theorem r_193_100 : ∀ (d : Nat) (ls : Lc) (M : Mem) (Q : Outcome → Mem → Prop), Wp d 193 100 ls [] M Q = Q (.returned none) M := fun d ls M Q => w_return (show ins 193 100 = some (.return_, 1) by decide +kernel) (by decide +kernel)
set_option maxRecDepth 100000 in
theorem W_193 : (type_of% r_193_0) ∧ (type_of% r_193_1) ∧ (type_of% r_193_4) ∧ (type_of% r_193_7) ∧ (type_of% r_193_8) ∧ (type_of% r_193_10) ∧ (type_of% r_193_13) ∧ (type_of% r_193_14) ∧ (type_of% r_193_15) ∧ (type_of% r_193_18) ∧ (type_of% r_193_19) ∧ (type_of% r_193_20) ∧ (type_of% r_193_21) ∧ (type_of% r_193_22) ∧ (type_of% r_193_24) ∧ (type_of% r_193_25) ∧ (type_of% r_193_28) ∧ (type_of% r_193_31) ∧ (type_of% r_193_33) ∧ (type_of% r_193_36) ∧ (type_of% r_193_37) ∧ (type_of% r_193_38) ∧ (type_of% r_193_39) ∧ (type_of% r_193_40) ∧ (type_of% r_193_43) ∧ (type_of% r_193_46) ∧ (type_of% r_193_47) ∧ (type_of% r_193_48) ∧ (type_of% r_193_49) ∧ (type_of% r_193_50) ∧ (type_of% r_193_53) ∧ (type_of% r_193_55) ∧ (type_of% r_193_56) ∧ (type_of% r_193_59) ∧ (type_of% r_193_62) ∧ (type_of% r_193_64) ∧ (type_of% r_193_66) ∧ (type_of% r_193_67) ∧ (type_of% r_193_68) ∧ (type_of% r_193_69) ∧ (type_of% r_193_70) ∧ (type_of% r_193_71) ∧ (type_of% r_193_72) ∧ (type_of% r_193_75) ∧ (type_of% r_193_76) ∧ (type_of% r_193_78) ∧ (type_of% r_193_79) ∧ (type_of% r_193_81) ∧ (type_of% r_193_82) ∧ (type_of% r_193_85) ∧ (type_of% r_193_86) ∧ (type_of% r_193_88) ∧ (type_of% r_193_91) ∧ (type_of% r_193_94) ∧ (type_of% r_193_95) ∧ (type_of% r_193_97) ∧ (type_of% r_193_100) := ⟨r_193_0, r_193_1, r_193_4, r_193_7, r_193_8, r_193_10, r_193_13, r_193_14, r_193_15, r_193_18, r_193_19, r_193_20, r_193_21, r_193_22, r_193_24, r_193_25, r_193_28, r_193_31, r_193_33, r_193_36, r_193_37, r_193_38, r_193_39, r_193_40, r_193_43, r_193_46, r_193_47, r_193_48, r_193_49, r_193_50, r_193_53, r_193_55, r_193_56, r_193_59, r_193_62, r_193_64, r_193_66, r_193_67, r_193_68, r_193_69, r_193_70, r_193_71, r_193_72, r_193_75, r_193_76, r_193_78, r_193_79, r_193_81, r_193_82, r_193_85, r_193_86, r_193_88, r_193_91, r_193_94, r_193_95, r_193_97, r_193_100⟩
set_option maxRecDepth 100000 in
theorem ca_193 {d y pc : Nat} {ls : Lc} {a : Nat} {z0 : Int32} {z1 : Int32} {z2 : Int32} {z3 : Int32} {r : List Value} {M : Mem} {Q : Outcome → Mem → Prop} (hd : 0 < d) (hw : Wp (d - 1) 193 0 [some (.ref a), some (.int z0), some (.int z1), some (.int z2), some (.int z3), none] [] M (Cq d y pc ls r Q)) : Ca d y pc ls 193 [.ref a, .int z0, .int z1, .int z2, .int z3] r M Q := ca_of (mq_get (by decide)) (by rfl) hd hw
/-! 194 PackedTreeModel.move(IIII)I; loop heads [] -/
set_option maxRecDepth 100000 in
theorem r_194_0 : ∀ (d : Nat) (l1 l2 l3 l4 l5 : Option Value) (v : Nat) (st : List Value) (M : Mem) (Q : Outcome → Mem → Prop), Wp d 194 0 [some (.ref v), l1, l2, l3, l4, l5] st M Q = Wp d 194 1 [some (.ref v), l1, l2, l3, l4, l5] (.ref v :: st) M Q := fun d l1 l2 l3 l4 l5 v st M Q => wA (show ins 194 0 = some (.aload_n 0, 1) by decide +kernel) rfl
set_option maxRecDepth 100000 in
theorem r_194_1 : ∀ (d : Nat) (ls : Lc) (a : Nat) (st : List Value) (M : Mem) (Q : Outcome → Mem → Prop), Wp d 194 1 ls (.ref a :: st) M Q = (fk 52 (kO M a) = true ∧ Wp d 194 4 ls (.int (mF M 52 a) :: st) M Q) := fun d ls a st M Q => w_getI (show ins 194 1 = some (.getfield 149, 3) by decide +kernel) (show fRes (mC 194) 149 = some (52, 8, false) by decide +kernel) (by decide +kernel)
set_option maxRecDepth 100000 in
theorem r_194_4 : ∀ (d : Nat) (ls : Lc) (a : Int32) (st : List Value) (M : Mem) (Q : Outcome → Mem → Prop), Wp d 194 4 ls (.int a :: st) M Q = Br (¬ a = I 0) d 194 15 7 ls st M Q := fun d ls a st M Q => w_if (show ins 194 4 = some (.ifCond .ne 11, 3) by decide +kernel) rfl rfl
set_option maxRecDepth 100000 in
theorem r_194_7 : ∀ (d : Nat) (l1 l2 l3 l4 l5 : Option Value) (v : Nat) (st : List Value) (M : Mem) (Q : Outcome → Mem → Prop), Wp d 194 7 [some (.ref v), l1, l2, l3, l4, l5] st M Q = Wp d 194 8 [some (.ref v), l1, l2, l3, l4, l5] (.ref v :: st) M Q := fun d l1 l2 l3 l4 l5 v st M Q => wA (show ins 194 7 = some (.aload_n 0, 1) by decide +kernel) rfl
set_option maxRecDepth 100000 in
theorem r_194_8 : ∀ (d : Nat) (l0 l2 l3 l4 l5 : Option Value) (v : Int32) (st : List Value) (M : Mem) (Q : Outcome → Mem → Prop), Wp d 194 8 [l0, some (.int v), l2, l3, l4, l5] st M Q = Wp d 194 9 [l0, some (.int v), l2, l3, l4, l5] (.int v :: st) M Q := fun d l0 l2 l3 l4 l5 v st M Q => wA (show ins 194 8 = some (.iload_n 1, 1) by decide +kernel) rfl
set_option maxRecDepth 100000 in
theorem r_194_9 : ∀ (d : Nat) (ls : Lc) (v0 : Value) (a : Nat) (st : List Value) (M : Mem) (Q : Outcome → Mem → Prop), (smallR st = true) → Wp d 194 9 ls (v0 :: .ref a :: st) M Q = (kO M a = 8 ∧ Ca d 194 9 ls 157 (.ref a :: [v0]) st M Q) := fun d ls v0 a st M Q h0 => w_virt1 (as := [v0]) (show ins 194 9 = some (.invokevirtual 152, 3) by decide +kernel) (show mRes (mC 194) 152 = some (3, 8, [(8, 157)]) by decide +kernel) (by decide +kernel) rfl (by decide +kernel) (by decide +kernel) h0
set_option maxRecDepth 100000 in
theorem r_194_12 : ∀ (d : Nat) (ls : Lc) (a : Int32) (st : List Value) (M : Mem) (Q : Outcome → Mem → Prop), Wp d 194 12 ls (.int a :: st) M Q = Br (¬ a = I 0) d 194 19 15 ls st M Q := fun d ls a st M Q => w_if (show ins 194 12 = some (.ifCond .ne 7, 3) by decide +kernel) rfl rfl
set_option maxRecDepth 100000 in
theorem r_194_15 : ∀ (d : Nat) (ls : Lc) (st : List Value) (M : Mem) (Q : Outcome → Mem → Prop), Wp d 194 15 ls st M Q = Wp d 194 16 ls (.int (I (-1)) :: st) M Q := fun d ls st M Q => w_iconst (show ins 194 15 = some (.iconst (-1), 1) by decide +kernel)
set_option maxRecDepth 100000 in
theorem r_194_16 : ∀ (d : Nat) (ls : Lc) (st : List Value) (M : Mem) (Q : Outcome → Mem → Prop), Wp d 194 16 ls st M Q = Wp d 194 25 ls st M Q := fun d ls st M Q => w_goto (show ins 194 16 = some (.goto 9, 3) by decide +kernel) rfl
set_option maxRecDepth 100000 in
theorem r_194_19 : ∀ (d : Nat) (l1 l2 l3 l4 l5 : Option Value) (v : Nat) (st : List Value) (M : Mem) (Q : Outcome → Mem → Prop), Wp d 194 19 [some (.ref v), l1, l2, l3, l4, l5] st M Q = Wp d 194 20 [some (.ref v), l1, l2, l3, l4, l5] (.ref v :: st) M Q := fun d l1 l2 l3 l4 l5 v st M Q => wA (show ins 194 19 = some (.aload_n 0, 1) by decide +kernel) rfl
set_option maxRecDepth 100000 in
theorem r_194_20 : ∀ (d : Nat) (l0 l2 l3 l4 l5 : Option Value) (v : Int32) (st : List Value) (M : Mem) (Q : Outcome → Mem → Prop), Wp d 194 20 [l0, some (.int v), l2, l3, l4, l5] st M Q = Wp d 194 21 [l0, some (.int v), l2, l3, l4, l5] (.int v :: st) M Q := fun d l0 l2 l3 l4 l5 v st M Q => wA (show ins 194 20 = some (.iload_n 1, 1) by decide +kernel) rfl
set_option maxRecDepth 100000 in
theorem r_194_21 : ∀ (d : Nat) (l0 l1 l3 l4 l5 : Option Value) (v : Int32) (st : List Value) (M : Mem) (Q : Outcome → Mem → Prop), Wp d 194 21 [l0, l1, some (.int v), l3, l4, l5] st M Q = Wp d 194 22 [l0, l1, some (.int v), l3, l4, l5] (.int v :: st) M Q := fun d l0 l1 l3 l4 l5 v st M Q => wA (show ins 194 21 = some (.iload_n 2, 1) by decide +kernel) rfl
set_option maxRecDepth 100000 in
theorem r_194_22 : ∀ (d : Nat) (ls : Lc) (v0 v1 : Value) (a : Nat) (st : List Value) (M : Mem) (Q : Outcome → Mem → Prop), (smallR st = true) → Wp d 194 22 ls (v1 :: v0 :: .ref a :: st) M Q = (kO M a = 8 ∧ Ca d 194 22 ls 161 (.ref a :: [v0, v1]) st M Q) := fun d ls v0 v1 a st M Q h0 => w_virt1 (as := [v0, v1]) (show ins 194 22 = some (.invokevirtual 158, 3) by decide +kernel) (show mRes (mC 194) 158 = some (3, 8, [(8, 161)]) by decide +kernel) (by decide +kernel) rfl (by decide +kernel) (by decide +kernel) h0
set_option maxRecDepth 100000 in
theorem r_194_25 : ∀ (d : Nat) (l0 l1 l2 l3 l4 l5 : Option Value) (v : Int32) (st : List Value) (M : Mem) (Q : Outcome → Mem → Prop), (lo l4 = false) → Wp d 194 25 [l0, l1, l2, l3, l4, l5] (.int v :: st) M Q = Wp d 194 27 [l0, l1, l2, l3, l4, some (.int v)] st M Q := fun d l0 l1 l2 l3 l4 l5 v st M Q hl => w_istore (show ins 194 25 = some (.istore 5, 2) by decide +kernel) (st1_S rfl rfl hl)
set_option maxRecDepth 100000 in
theorem r_194_27 : ∀ (d : Nat) (l1 l2 l3 l4 l5 : Option Value) (v : Nat) (st : List Value) (M : Mem) (Q : Outcome → Mem → Prop), Wp d 194 27 [some (.ref v), l1, l2, l3, l4, l5] st M Q = Wp d 194 28 [some (.ref v), l1, l2, l3, l4, l5] (.ref v :: st) M Q := fun d l1 l2 l3 l4 l5 v st M Q => wA (show ins 194 27 = some (.aload_n 0, 1) by decide +kernel) rfl
set_option maxRecDepth 100000 in
theorem r_194_28 : ∀ (d : Nat) (l1 l2 l3 l4 l5 : Option Value) (v : Nat) (st : List Value) (M : Mem) (Q : Outcome → Mem → Prop), Wp d 194 28 [some (.ref v), l1, l2, l3, l4, l5] st M Q = Wp d 194 29 [some (.ref v), l1, l2, l3, l4, l5] (.ref v :: st) M Q := fun d l1 l2 l3 l4 l5 v st M Q => wA (show ins 194 28 = some (.aload_n 0, 1) by decide +kernel) rfl
set_option maxRecDepth 100000 in
theorem r_194_29 : ∀ (d : Nat) (ls : Lc) (a : Nat) (st : List Value) (M : Mem) (Q : Outcome → Mem → Prop), Wp d 194 29 ls (.ref a :: st) M Q = (fk 52 (kO M a) = true ∧ Wp d 194 32 ls (.int (mF M 52 a) :: st) M Q) := fun d ls a st M Q => w_getI (show ins 194 29 = some (.getfield 149, 3) by decide +kernel) (show fRes (mC 194) 149 = some (52, 8, false) by decide +kernel) (by decide +kernel)
set_option maxRecDepth 100000 in
theorem r_194_32 : ∀ (d : Nat) (ls : Lc) (a : Int32) (st : List Value) (M : Mem) (Q : Outcome → Mem → Prop), Wp d 194 32 ls (.int a :: st) M Q = Br (a = I 0) d 194 39 35 ls st M Q := fun d ls a st M Q => w_if (show ins 194 32 = some (.ifCond .eq 7, 3) by decide +kernel) rfl rfl
set_option maxRecDepth 100000 in
theorem r_194_35 : ∀ (d : Nat) (ls : Lc) (st : List Value) (M : Mem) (Q : Outcome → Mem → Prop), Wp d 194 35 ls st M Q = Wp d 194 36 ls (.int (I 1) :: st) M Q := fun d ls st M Q => w_iconst (show ins 194 35 = some (.iconst 1, 1) by decide +kernel)
set_option maxRecDepth 100000 in
theorem r_194_36 : ∀ (d : Nat) (ls : Lc) (st : List Value) (M : Mem) (Q : Outcome → Mem → Prop), Wp d 194 36 ls st M Q = Wp d 194 108 ls st M Q := fun d ls st M Q => w_goto (show ins 194 36 = some (.goto 72, 3) by decide +kernel) rfl
set_option maxRecDepth 100000 in
theorem r_194_39 : ∀ (d : Nat) (l0 l1 l2 l3 l4 : Option Value) (v : Int32) (st : List Value) (M : Mem) (Q : Outcome → Mem → Prop), Wp d 194 39 [l0, l1, l2, l3, l4, some (.int v)] st M Q = Wp d 194 41 [l0, l1, l2, l3, l4, some (.int v)] (.int v :: st) M Q := fun d l0 l1 l2 l3 l4 v st M Q => wA (show ins 194 39 = some (.iload 5, 2) by decide +kernel) rfl
set_option maxRecDepth 100000 in
theorem r_194_41 : ∀ (d : Nat) (ls : Lc) (a : Int32) (st : List Value) (M : Mem) (Q : Outcome → Mem → Prop), Wp d 194 41 ls (.int a :: st) M Q = Br (a < I 0) d 194 52 44 ls st M Q := fun d ls a st M Q => w_if (show ins 194 41 = some (.ifCond .lt 11, 3) by decide +kernel) rfl rfl
set_option maxRecDepth 100000 in
theorem r_194_44 : ∀ (d : Nat) (l1 l2 l3 l4 l5 : Option Value) (v : Nat) (st : List Value) (M : Mem) (Q : Outcome → Mem → Prop), Wp d 194 44 [some (.ref v), l1, l2, l3, l4, l5] st M Q = Wp d 194 45 [some (.ref v), l1, l2, l3, l4, l5] (.ref v :: st) M Q := fun d l1 l2 l3 l4 l5 v st M Q => wA (show ins 194 44 = some (.aload_n 0, 1) by decide +kernel) rfl
set_option maxRecDepth 100000 in
theorem r_194_45 : ∀ (d : Nat) (l0 l1 l2 l4 l5 : Option Value) (v : Int32) (st : List Value) (M : Mem) (Q : Outcome → Mem → Prop), Wp d 194 45 [l0, l1, l2, some (.int v), l4, l5] st M Q = Wp d 194 46 [l0, l1, l2, some (.int v), l4, l5] (.int v :: st) M Q := fun d l0 l1 l2 l4 l5 v st M Q => wA (show ins 194 45 = some (.iload_n 3, 1) by decide +kernel) rfl
set_option maxRecDepth 100000 in
theorem r_194_46 : ∀ (d : Nat) (ls : Lc) (v0 : Value) (a : Nat) (st : List Value) (M : Mem) (Q : Outcome → Mem → Prop), (smallR st = true) → Wp d 194 46 ls (v0 :: .ref a :: st) M Q = (kO M a = 8 ∧ Ca d 194 46 ls 157 (.ref a :: [v0]) st M Q) := fun d ls v0 a st M Q h0 => w_virt1 (as := [v0]) (show ins 194 46 = some (.invokevirtual 152, 3) by decide +kernel) (show mRes (mC 194) 152 = some (3, 8, [(8, 157)]) by decide +kernel) (by decide +kernel) rfl (by decide +kernel) (by decide +kernel) h0
set_option maxRecDepth 100000 in
theorem r_194_49 : ∀ (d : Nat) (ls : Lc) (a : Int32) (st : List Value) (M : Mem) (Q : Outcome → Mem → Prop), Wp d 194 49 ls (.int a :: st) M Q = Br (¬ a = I 0) d 194 56 52 ls st M Q := fun d ls a st M Q => w_if (show ins 194 49 = some (.ifCond .ne 7, 3) by decide +kernel) rfl rfl
set_option maxRecDepth 100000 in
theorem r_194_52 : ∀ (d : Nat) (ls : Lc) (st : List Value) (M : Mem) (Q : Outcome → Mem → Prop), Wp d 194 52 ls st M Q = Wp d 194 53 ls (.int (I 2) :: st) M Q := fun d ls st M Q => w_iconst (show ins 194 52 = some (.iconst 2, 1) by decide +kernel)
set_option maxRecDepth 100000 in
theorem r_194_53 : ∀ (d : Nat) (ls : Lc) (st : List Value) (M : Mem) (Q : Outcome → Mem → Prop), Wp d 194 53 ls st M Q = Wp d 194 108 ls st M Q := fun d ls st M Q => w_goto (show ins 194 53 = some (.goto 55, 3) by decide +kernel) rfl
set_option maxRecDepth 100000 in
theorem r_194_56 : ∀ (d : Nat) (l1 l2 l3 l4 l5 : Option Value) (v : Nat) (st : List Value) (M : Mem) (Q : Outcome → Mem → Prop), Wp d 194 56 [some (.ref v), l1, l2, l3, l4, l5] st M Q = Wp d 194 57 [some (.ref v), l1, l2, l3, l4, l5] (.ref v :: st) M Q := fun d l1 l2 l3 l4 l5 v st M Q => wA (show ins 194 56 = some (.aload_n 0, 1) by decide +kernel) rfl
set_option maxRecDepth 100000 in
theorem r_194_57 : ∀ (d : Nat) (l0 l1 l2 l3 l5 : Option Value) (v : Int32) (st : List Value) (M : Mem) (Q : Outcome → Mem → Prop), Wp d 194 57 [l0, l1, l2, l3, some (.int v), l5] st M Q = Wp d 194 59 [l0, l1, l2, l3, some (.int v), l5] (.int v :: st) M Q := fun d l0 l1 l2 l3 l5 v st M Q => wA (show ins 194 57 = some (.iload 4, 2) by decide +kernel) rfl
set_option maxRecDepth 100000 in
theorem r_194_59 : ∀ (d : Nat) (ls : Lc) (v0 : Value) (a : Nat) (st : List Value) (M : Mem) (Q : Outcome → Mem → Prop), (smallR st = true) → Wp d 194 59 ls (v0 :: .ref a :: st) M Q = (kO M a = 8 ∧ Ca d 194 59 ls 160 (.ref a :: [v0]) st M Q) := fun d ls v0 a st M Q h0 => w_virt1 (as := [v0]) (show ins 194 59 = some (.invokevirtual 155, 3) by decide +kernel) (show mRes (mC 194) 155 = some (3, 8, [(8, 160)]) by decide +kernel) (by decide +kernel) rfl (by decide +kernel) (by decide +kernel) h0
set_option maxRecDepth 100000 in
theorem r_194_62 : ∀ (d : Nat) (ls : Lc) (a : Int32) (st : List Value) (M : Mem) (Q : Outcome → Mem → Prop), Wp d 194 62 ls (.int a :: st) M Q = Br (¬ a = I 0) d 194 69 65 ls st M Q := fun d ls a st M Q => w_if (show ins 194 62 = some (.ifCond .ne 7, 3) by decide +kernel) rfl rfl
set_option maxRecDepth 100000 in
theorem r_194_65 : ∀ (d : Nat) (ls : Lc) (st : List Value) (M : Mem) (Q : Outcome → Mem → Prop), Wp d 194 65 ls st M Q = Wp d 194 66 ls (.int (I 3) :: st) M Q := fun d ls st M Q => w_iconst (show ins 194 65 = some (.iconst 3, 1) by decide +kernel)
set_option maxRecDepth 100000 in
theorem r_194_66 : ∀ (d : Nat) (ls : Lc) (st : List Value) (M : Mem) (Q : Outcome → Mem → Prop), Wp d 194 66 ls st M Q = Wp d 194 108 ls st M Q := fun d ls st M Q => w_goto (show ins 194 66 = some (.goto 42, 3) by decide +kernel) rfl
set_option maxRecDepth 100000 in
theorem r_194_69 : ∀ (d : Nat) (l1 l2 l3 l4 l5 : Option Value) (v : Nat) (st : List Value) (M : Mem) (Q : Outcome → Mem → Prop), Wp d 194 69 [some (.ref v), l1, l2, l3, l4, l5] st M Q = Wp d 194 70 [some (.ref v), l1, l2, l3, l4, l5] (.ref v :: st) M Q := fun d l1 l2 l3 l4 l5 v st M Q => wA (show ins 194 69 = some (.aload_n 0, 1) by decide +kernel) rfl
set_option maxRecDepth 100000 in
theorem r_194_70 : ∀ (d : Nat) (l0 l1 l2 l4 l5 : Option Value) (v : Int32) (st : List Value) (M : Mem) (Q : Outcome → Mem → Prop), Wp d 194 70 [l0, l1, l2, some (.int v), l4, l5] st M Q = Wp d 194 71 [l0, l1, l2, some (.int v), l4, l5] (.int v :: st) M Q := fun d l0 l1 l2 l4 l5 v st M Q => wA (show ins 194 70 = some (.iload_n 3, 1) by decide +kernel) rfl
set_option maxRecDepth 100000 in
theorem r_194_71 : ∀ (d : Nat) (l0 l1 l2 l3 l5 : Option Value) (v : Int32) (st : List Value) (M : Mem) (Q : Outcome → Mem → Prop), Wp d 194 71 [l0, l1, l2, l3, some (.int v), l5] st M Q = Wp d 194 73 [l0, l1, l2, l3, some (.int v), l5] (.int v :: st) M Q := fun d l0 l1 l2 l3 l5 v st M Q => wA (show ins 194 71 = some (.iload 4, 2) by decide +kernel) rfl
set_option maxRecDepth 100000 in
theorem r_194_73 : ∀ (d : Nat) (ls : Lc) (v0 v1 : Value) (a : Nat) (st : List Value) (M : Mem) (Q : Outcome → Mem → Prop), (smallR st = true) → Wp d 194 73 ls (v1 :: v0 :: .ref a :: st) M Q = (kO M a = 8 ∧ Ca d 194 73 ls 161 (.ref a :: [v0, v1]) st M Q) := fun d ls v0 v1 a st M Q h0 => w_virt1 (as := [v0, v1]) (show ins 194 73 = some (.invokevirtual 158, 3) by decide +kernel) (show mRes (mC 194) 158 = some (3, 8, [(8, 161)]) by decide +kernel) (by decide +kernel) rfl (by decide +kernel) (by decide +kernel) h0
set_option maxRecDepth 100000 in
theorem r_194_76 : ∀ (d : Nat) (ls : Lc) (a : Int32) (st : List Value) (M : Mem) (Q : Outcome → Mem → Prop), Wp d 194 76 ls (.int a :: st) M Q = Br (I 0 ≤ a) d 194 103 79 ls st M Q := fun d ls a st M Q => w_if (show ins 194 76 = some (.ifCond .ge 27, 3) by decide +kernel) rfl rfl
set_option maxRecDepth 100000 in
theorem r_194_79 : ∀ (d : Nat) (l1 l2 l3 l4 l5 : Option Value) (v : Nat) (st : List Value) (M : Mem) (Q : Outcome → Mem → Prop), Wp d 194 79 [some (.ref v), l1, l2, l3, l4, l5] st M Q = Wp d 194 80 [some (.ref v), l1, l2, l3, l4, l5] (.ref v :: st) M Q := fun d l1 l2 l3 l4 l5 v st M Q => wA (show ins 194 79 = some (.aload_n 0, 1) by decide +kernel) rfl
set_option maxRecDepth 100000 in
theorem r_194_80 : ∀ (d : Nat) (ls : Lc) (a : Nat) (st : List Value) (M : Mem) (Q : Outcome → Mem → Prop), Wp d 194 80 ls (.ref a :: st) M Q = (fk 53 (kO M a) = true ∧ Wp d 194 83 ls (va_rf (mR M 53 a) :: st) M Q) := fun d ls a st M Q => w_getR (show ins 194 80 = some (.getfield 7, 3) by decide +kernel) (show fRes (mC 194) 7 = some (53, 8, false) by decide +kernel) (by decide +kernel)
set_option maxRecDepth 100000 in
theorem r_194_83 : ∀ (d : Nat) (ls : Lc) (st : List Value) (M : Mem) (Q : Outcome → Mem → Prop), Wp d 194 83 ls st M Q = Wp d 194 85 ls (.int (I 96) :: st) M Q := fun d ls st M Q => w_bipush (show ins 194 83 = some (.bipush 96, 2) by decide +kernel) (by decide)
set_option maxRecDepth 100000 in
theorem r_194_85 : ∀ (d : Nat) (l0 l1 l2 l3 l4 : Option Value) (v : Int32) (st : List Value) (M : Mem) (Q : Outcome → Mem → Prop), Wp d 194 85 [l0, l1, l2, l3, l4, some (.int v)] st M Q = Wp d 194 87 [l0, l1, l2, l3, l4, some (.int v)] (.int v :: st) M Q := fun d l0 l1 l2 l3 l4 v st M Q => wA (show ins 194 85 = some (.iload 5, 2) by decide +kernel) rfl
set_option maxRecDepth 100000 in
theorem r_194_87 : ∀ (d : Nat) (ls : Lc) (a b : Int) (st : List Value) (M : Mem) (Q : Outcome → Mem → Prop), Wp d 194 87 ls (.int (I b) :: .int (I a) :: st) M Q = Wp d 194 88 ls (.int (I (a + b)) :: st) M Q := fun d ls a b st M Q => w_iadd (show ins 194 87 = some (.iadd, 1) by decide +kernel)
set_option maxRecDepth 100000 in
theorem r_194_88 : ∀ (d : Nat) (ls : Lc) (a : Nat) (j : Int32) (st : List Value) (M : Mem) (Q : Outcome → Mem → Prop), Wp d 194 88 ls (.int j :: .ref a :: st) M Q = ((((kX M a).1 = 0 ∨ (kX M a).1 = 8) ∧ inB j (kX M a).2 = true) ∧ Wp d 194 89 ls (.int (mA M a j.toNatClampNeg) :: st) M Q) := fun d ls a j st M Q => w_iaload (show ins 194 88 = some (.iaload, 1) by decide +kernel)
set_option maxRecDepth 100000 in
theorem r_194_89 : ∀ (d : Nat) (ls : Lc) (st : List Value) (M : Mem) (Q : Outcome → Mem → Prop), Wp d 194 89 ls st M Q = Wp d 194 90 ls (.int (I 1) :: st) M Q := fun d ls st M Q => w_iconst (show ins 194 89 = some (.iconst 1, 1) by decide +kernel)
set_option maxRecDepth 100000 in
theorem r_194_90 : ∀ (d : Nat) (ls : Lc) (a b : Int32) (st : List Value) (M : Mem) (Q : Outcome → Mem → Prop), Wp d 194 90 ls (.int b :: .int a :: st) M Q = Br (¬ a = b) d 194 107 93 ls st M Q := fun d ls a b st M Q => w_icmp (show ins 194 90 = some (.if_icmp .ne 17, 3) by decide +kernel) rfl rfl
set_option maxRecDepth 100000 in
theorem r_194_93 : ∀ (d : Nat) (l1 l2 l3 l4 l5 : Option Value) (v : Nat) (st : List Value) (M : Mem) (Q : Outcome → Mem → Prop), Wp d 194 93 [some (.ref v), l1, l2, l3, l4, l5] st M Q = Wp d 194 94 [some (.ref v), l1, l2, l3, l4, l5] (.ref v :: st) M Q := fun d l1 l2 l3 l4 l5 v st M Q => wA (show ins 194 93 = some (.aload_n 0, 1) by decide +kernel) rfl
set_option maxRecDepth 100000 in
theorem r_194_94 : ∀ (d : Nat) (l0 l1 l2 l4 l5 : Option Value) (v : Int32) (st : List Value) (M : Mem) (Q : Outcome → Mem → Prop), Wp d 194 94 [l0, l1, l2, some (.int v), l4, l5] st M Q = Wp d 194 95 [l0, l1, l2, some (.int v), l4, l5] (.int v :: st) M Q := fun d l0 l1 l2 l4 l5 v st M Q => wA (show ins 194 94 = some (.iload_n 3, 1) by decide +kernel) rfl
set_option maxRecDepth 100000 in
theorem r_194_95 : ∀ (d : Nat) (l0 l1 l2 l3 l4 : Option Value) (v : Int32) (st : List Value) (M : Mem) (Q : Outcome → Mem → Prop), Wp d 194 95 [l0, l1, l2, l3, l4, some (.int v)] st M Q = Wp d 194 97 [l0, l1, l2, l3, l4, some (.int v)] (.int v :: st) M Q := fun d l0 l1 l2 l3 l4 v st M Q => wA (show ins 194 95 = some (.iload 5, 2) by decide +kernel) rfl
set_option maxRecDepth 100000 in
theorem r_194_97 : ∀ (d : Nat) (ls : Lc) (v0 v1 : Value) (a : Nat) (st : List Value) (M : Mem) (Q : Outcome → Mem → Prop), (smallR st = true) → Wp d 194 97 ls (v1 :: v0 :: .ref a :: st) M Q = (kO M a = 8 ∧ Ca d 194 97 ls 195 (.ref a :: [v0, v1]) st M Q) := fun d ls v0 v1 a st M Q h0 => w_virt1 (as := [v0, v1]) (show ins 194 97 = some (.invokevirtual 176, 3) by decide +kernel) (show mRes (mC 194) 176 = some (3, 8, [(8, 195)]) by decide +kernel) (by decide +kernel) rfl (by decide +kernel) (by decide +kernel) h0
set_option maxRecDepth 100000 in
theorem r_194_100 : ∀ (d : Nat) (ls : Lc) (a : Int32) (st : List Value) (M : Mem) (Q : Outcome → Mem → Prop), Wp d 194 100 ls (.int a :: st) M Q = Br (a = I 0) d 194 107 103 ls st M Q := fun d ls a st M Q => w_if (show ins 194 100 = some (.ifCond .eq 7, 3) by decide +kernel) rfl rfl
set_option maxRecDepth 100000 in
theorem r_194_103 : ∀ (d : Nat) (ls : Lc) (st : List Value) (M : Mem) (Q : Outcome → Mem → Prop), Wp d 194 103 ls st M Q = Wp d 194 104 ls (.int (I 4) :: st) M Q := fun d ls st M Q => w_iconst (show ins 194 103 = some (.iconst 4, 1) by decide +kernel)
set_option maxRecDepth 100000 in
theorem r_194_104 : ∀ (d : Nat) (ls : Lc) (st : List Value) (M : Mem) (Q : Outcome → Mem → Prop), Wp d 194 104 ls st M Q = Wp d 194 108 ls st M Q := fun d ls st M Q => w_goto (show ins 194 104 = some (.goto 4, 3) by decide +kernel) rfl
set_option maxRecDepth 100000 in
theorem r_194_107 : ∀ (d : Nat) (ls : Lc) (st : List Value) (M : Mem) (Q : Outcome → Mem → Prop), Wp d 194 107 ls st M Q = Wp d 194 108 ls (.int (I 0) :: st) M Q := fun d ls st M Q => w_iconst (show ins 194 107 = some (.iconst 0, 1) by decide +kernel)
set_option maxRecDepth 100000 in
theorem r_194_108 : ∀ (d : Nat) (ls : Lc) (a : Nat) (v : Int32) (st : List Value) (M : Mem) (Q : Outcome → Mem → Prop), Wp d 194 108 ls (.int v :: .ref a :: st) M Q = (fk 54 (kO M a) = true ∧ Wp d 194 111 ls st (sF M 54 a v) Q) := fun d ls a v st M Q => w_putI (show ins 194 108 = some (.putfield 40, 3) by decide +kernel) (show fRes (mC 194) 40 = some (54, 8, false) by decide +kernel) (by decide +kernel) (by decide +kernel)
set_option maxRecDepth 100000 in
theorem r_194_111 : ∀ (d : Nat) (l1 l2 l3 l4 l5 : Option Value) (v : Nat) (st : List Value) (M : Mem) (Q : Outcome → Mem → Prop), Wp d 194 111 [some (.ref v), l1, l2, l3, l4, l5] st M Q = Wp d 194 112 [some (.ref v), l1, l2, l3, l4, l5] (.ref v :: st) M Q := fun d l1 l2 l3 l4 l5 v st M Q => wA (show ins 194 111 = some (.aload_n 0, 1) by decide +kernel) rfl
set_option maxRecDepth 100000 in
theorem r_194_112 : ∀ (d : Nat) (ls : Lc) (a : Nat) (st : List Value) (M : Mem) (Q : Outcome → Mem → Prop), Wp d 194 112 ls (.ref a :: st) M Q = (fk 54 (kO M a) = true ∧ Wp d 194 115 ls (.int (mF M 54 a) :: st) M Q) := fun d ls a st M Q => w_getI (show ins 194 112 = some (.getfield 40, 3) by decide +kernel) (show fRes (mC 194) 40 = some (54, 8, false) by decide +kernel) (by decide +kernel)
set_option maxRecDepth 100000 in
theorem r_194_115 : ∀ (d : Nat) (ls : Lc) (a : Int32) (st : List Value) (M : Mem) (Q : Outcome → Mem → Prop), Wp d 194 115 ls (.int a :: st) M Q = Br (a ≤ I 0) d 194 120 118 ls st M Q := fun d ls a st M Q => w_if (show ins 194 115 = some (.ifCond .le 5, 3) by decide +kernel) rfl rfl
set_option maxRecDepth 100000 in
theorem r_194_118 : ∀ (d : Nat) (ls : Lc) (st : List Value) (M : Mem) (Q : Outcome → Mem → Prop), Wp d 194 118 ls st M Q = Wp d 194 119 ls (.int (I 0) :: st) M Q := fun d ls st M Q => w_iconst (show ins 194 118 = some (.iconst 0, 1) by decide +kernel)
set_option maxRecDepth 100000 in
theorem r_194_119 : ∀ (d : Nat) (ls : Lc) (v : Int32) (M : Mem) (Q : Outcome → Mem → Prop), Wp d 194 119 ls [.int v] M Q = Q (.returned (some (.int v))) M := fun d ls v M Q => w_ireturn (show ins 194 119 = some (.ireturn, 1) by decide +kernel) (by decide +kernel)
set_option maxRecDepth 100000 in
theorem r_194_120 : ∀ (d : Nat) (l1 l2 l3 l4 l5 : Option Value) (v : Nat) (st : List Value) (M : Mem) (Q : Outcome → Mem → Prop), Wp d 194 120 [some (.ref v), l1, l2, l3, l4, l5] st M Q = Wp d 194 121 [some (.ref v), l1, l2, l3, l4, l5] (.ref v :: st) M Q := fun d l1 l2 l3 l4 l5 v st M Q => wA (show ins 194 120 = some (.aload_n 0, 1) by decide +kernel) rfl
set_option maxRecDepth 100000 in
theorem r_194_121 : ∀ (d : Nat) (ls : Lc) (a : Nat) (st : List Value) (M : Mem) (Q : Outcome → Mem → Prop), (smallR st = true) → Wp d 194 121 ls (.ref a :: st) M Q = (kO M a = 8 ∧ Ca d 194 121 ls 166 (.ref a :: []) st M Q) := fun d ls a st M Q h0 => w_virt1 (as := []) (show ins 194 121 = some (.invokevirtual 164, 3) by decide +kernel) (show mRes (mC 194) 164 = some (3, 8, [(8, 166)]) by decide +kernel) (by decide +kernel) rfl (by decide +kernel) (by decide +kernel) h0
set_option maxRecDepth 100000 in
theorem r_194_124 : ∀ (d : Nat) (l1 l2 l3 l4 l5 : Option Value) (v : Nat) (st : List Value) (M : Mem) (Q : Outcome → Mem → Prop), Wp d 194 124 [some (.ref v), l1, l2, l3, l4, l5] st M Q = Wp d 194 125 [some (.ref v), l1, l2, l3, l4, l5] (.ref v :: st) M Q := fun d l1 l2 l3 l4 l5 v st M Q => wA (show ins 194 124 = some (.aload_n 0, 1) by decide +kernel) rfl
set_option maxRecDepth 100000 in
theorem r_194_125 : ∀ (d : Nat) (l0 l2 l3 l4 l5 : Option Value) (v : Int32) (st : List Value) (M : Mem) (Q : Outcome → Mem → Prop), Wp d 194 125 [l0, some (.int v), l2, l3, l4, l5] st M Q = Wp d 194 126 [l0, some (.int v), l2, l3, l4, l5] (.int v :: st) M Q := fun d l0 l2 l3 l4 l5 v st M Q => wA (show ins 194 125 = some (.iload_n 1, 1) by decide +kernel) rfl
set_option maxRecDepth 100000 in
theorem r_194_126 : ∀ (d : Nat) (ls : Lc) (st : List Value) (M : Mem) (Q : Outcome → Mem → Prop), Wp d 194 126 ls st M Q = Wp d 194 127 ls (.int (I 1) :: st) M Q := fun d ls st M Q => w_iconst (show ins 194 126 = some (.iconst 1, 1) by decide +kernel)
set_option maxRecDepth 100000 in
theorem r_194_127 : ∀ (d : Nat) (l0 l1 l3 l4 l5 : Option Value) (v : Int32) (st : List Value) (M : Mem) (Q : Outcome → Mem → Prop), Wp d 194 127 [l0, l1, some (.int v), l3, l4, l5] st M Q = Wp d 194 128 [l0, l1, some (.int v), l3, l4, l5] (.int v :: st) M Q := fun d l0 l1 l3 l4 l5 v st M Q => wA (show ins 194 127 = some (.iload_n 2, 1) by decide +kernel) rfl
set_option maxRecDepth 100000 in
theorem r_194_128 : ∀ (d : Nat) (ls : Lc) (v0 v1 v2 : Value) (a : Nat) (st : List Value) (M : Mem) (Q : Outcome → Mem → Prop), (smallR st = true) → Wp d 194 128 ls (v2 :: v1 :: v0 :: .ref a :: st) M Q = (kO M a = 8 ∧ Ca d 194 128 ls 187 (.ref a :: [v0, v1, v2]) st M Q) := fun d ls v0 v1 v2 a st M Q h0 => w_virt1 (as := [v0, v1, v2]) (show ins 194 128 = some (.invokevirtual 134, 3) by decide +kernel) (show mRes (mC 194) 134 = some (3, 8, [(8, 187)]) by decide +kernel) (by decide +kernel) rfl (by decide +kernel) (by decide +kernel) h0
set_option maxRecDepth 100000 in
theorem r_194_131 : ∀ (d : Nat) (l1 l2 l3 l4 l5 : Option Value) (v : Nat) (st : List Value) (M : Mem) (Q : Outcome → Mem → Prop), Wp d 194 131 [some (.ref v), l1, l2, l3, l4, l5] st M Q = Wp d 194 132 [some (.ref v), l1, l2, l3, l4, l5] (.ref v :: st) M Q := fun d l1 l2 l3 l4 l5 v st M Q => wA (show ins 194 131 = some (.aload_n 0, 1) by decide +kernel) rfl
set_option maxRecDepth 100000 in
theorem r_194_132 : ∀ (d : Nat) (ls : Lc) (a : Nat) (st : List Value) (M : Mem) (Q : Outcome → Mem → Prop), Wp d 194 132 ls (.ref a :: st) M Q = (fk 53 (kO M a) = true ∧ Wp d 194 135 ls (va_rf (mR M 53 a) :: st) M Q) := fun d ls a st M Q => w_getR (show ins 194 132 = some (.getfield 7, 3) by decide +kernel) (show fRes (mC 194) 7 = some (53, 8, false) by decide +kernel) (by decide +kernel)
set_option maxRecDepth 100000 in
theorem r_194_135 : ∀ (d : Nat) (ls : Lc) (st : List Value) (M : Mem) (Q : Outcome → Mem → Prop), Wp d 194 135 ls st M Q = Wp d 194 138 ls (.int (I 218) :: st) M Q := fun d ls st M Q => w_sipush (show ins 194 135 = some (.sipush 218, 3) by decide +kernel) (by decide)
set_option maxRecDepth 100000 in
theorem r_194_138 : ∀ (d : Nat) (l0 l2 l3 l4 l5 : Option Value) (v : Int32) (st : List Value) (M : Mem) (Q : Outcome → Mem → Prop), Wp d 194 138 [l0, some (.int v), l2, l3, l4, l5] st M Q = Wp d 194 139 [l0, some (.int v), l2, l3, l4, l5] (.int v :: st) M Q := fun d l0 l2 l3 l4 l5 v st M Q => wA (show ins 194 138 = some (.iload_n 1, 1) by decide +kernel) rfl
set_option maxRecDepth 100000 in
theorem r_194_139 : ∀ (d : Nat) (ls : Lc) (a b : Int) (st : List Value) (M : Mem) (Q : Outcome → Mem → Prop), Wp d 194 139 ls (.int (I b) :: .int (I a) :: st) M Q = Wp d 194 140 ls (.int (I (a + b)) :: st) M Q := fun d ls a b st M Q => w_iadd (show ins 194 139 = some (.iadd, 1) by decide +kernel)
set_option maxRecDepth 100000 in
theorem r_194_140 : ∀ (d : Nat) (ls : Lc) (v : Int32) (a : Nat) (st : List Value) (M : Mem) (Q : Outcome → Mem → Prop), Wp d 194 140 ls (.int v :: .ref a :: st) M Q = Wp d 194 141 ls (.int v :: .ref a :: .int v :: .ref a :: st) M Q := fun d ls v a st M Q => wA (show ins 194 140 = some (.dup2, 1) by decide +kernel) rfl
set_option maxRecDepth 100000 in
theorem r_194_141 : ∀ (d : Nat) (ls : Lc) (a : Nat) (j : Int32) (st : List Value) (M : Mem) (Q : Outcome → Mem → Prop), Wp d 194 141 ls (.int j :: .ref a :: st) M Q = ((((kX M a).1 = 0 ∨ (kX M a).1 = 8) ∧ inB j (kX M a).2 = true) ∧ Wp d 194 142 ls (.int (mA M a j.toNatClampNeg) :: st) M Q) := fun d ls a j st M Q => w_iaload (show ins 194 141 = some (.iaload, 1) by decide +kernel)
set_option maxRecDepth 100000 in
theorem r_194_142 : ∀ (d : Nat) (ls : Lc) (st : List Value) (M : Mem) (Q : Outcome → Mem → Prop), Wp d 194 142 ls st M Q = Wp d 194 143 ls (.int (I 1) :: st) M Q := fun d ls st M Q => w_iconst (show ins 194 142 = some (.iconst 1, 1) by decide +kernel)
set_option maxRecDepth 100000 in
theorem r_194_143 : ∀ (d : Nat) (ls : Lc) (a b : Int) (st : List Value) (M : Mem) (Q : Outcome → Mem → Prop), Wp d 194 143 ls (.int (I b) :: .int (I a) :: st) M Q = Wp d 194 144 ls (.int (I (a - b)) :: st) M Q := fun d ls a b st M Q => w_isub (show ins 194 143 = some (.isub, 1) by decide +kernel)
set_option maxRecDepth 100000 in
theorem r_194_144 : ∀ (d : Nat) (ls : Lc) (a : Nat) (j v : Int32) (st : List Value) (M : Mem) (Q : Outcome → Mem → Prop), Wp d 194 144 ls (.int v :: .int j :: .ref a :: st) M Q = (((kX M a).1 = 0 ∧ inB j (kX M a).2 = true) ∧ Wp d 194 145 ls st (sA M a j.toNatClampNeg v) Q) := fun d ls a j v st M Q => w_iastore (show ins 194 144 = some (.iastore, 1) by decide +kernel)
set_option maxRecDepth 100000 in
theorem r_194_145 : ∀ (d : Nat) (l1 l2 l3 l4 l5 : Option Value) (v : Nat) (st : List Value) (M : Mem) (Q : Outcome → Mem → Prop), Wp d 194 145 [some (.ref v), l1, l2, l3, l4, l5] st M Q = Wp d 194 146 [some (.ref v), l1, l2, l3, l4, l5] (.ref v :: st) M Q := fun d l1 l2 l3 l4 l5 v st M Q => wA (show ins 194 145 = some (.aload_n 0, 1) by decide +kernel) rfl
set_option maxRecDepth 100000 in
theorem r_194_146 : ∀ (d : Nat) (l0 l1 l2 l4 l5 : Option Value) (v : Int32) (st : List Value) (M : Mem) (Q : Outcome → Mem → Prop), Wp d 194 146 [l0, l1, l2, some (.int v), l4, l5] st M Q = Wp d 194 147 [l0, l1, l2, some (.int v), l4, l5] (.int v :: st) M Q := fun d l0 l1 l2 l4 l5 v st M Q => wA (show ins 194 146 = some (.iload_n 3, 1) by decide +kernel) rfl
set_option maxRecDepth 100000 in
theorem r_194_147 : ∀ (d : Nat) (ls : Lc) (st : List Value) (M : Mem) (Q : Outcome → Mem → Prop), Wp d 194 147 ls st M Q = Wp d 194 148 ls (.int (I 1) :: st) M Q := fun d ls st M Q => w_iconst (show ins 194 147 = some (.iconst 1, 1) by decide +kernel)
set_option maxRecDepth 100000 in
theorem r_194_148 : ∀ (d : Nat) (l0 l1 l2 l3 l5 : Option Value) (v : Int32) (st : List Value) (M : Mem) (Q : Outcome → Mem → Prop), Wp d 194 148 [l0, l1, l2, l3, some (.int v), l5] st M Q = Wp d 194 150 [l0, l1, l2, l3, some (.int v), l5] (.int v :: st) M Q := fun d l0 l1 l2 l3 l5 v st M Q => wA (show ins 194 148 = some (.iload 4, 2) by decide +kernel) rfl
set_option maxRecDepth 100000 in
theorem r_194_150 : ∀ (d : Nat) (ls : Lc) (st : List Value) (M : Mem) (Q : Outcome → Mem → Prop), Wp d 194 150 ls st M Q = Wp d 194 151 ls (.int (I 3) :: st) M Q := fun d ls st M Q => w_iconst (show ins 194 150 = some (.iconst 3, 1) by decide +kernel)
set_option maxRecDepth 100000 in
theorem r_194_151 : ∀ (d : Nat) (l0 l1 l2 l3 l4 : Option Value) (v : Int32) (st : List Value) (M : Mem) (Q : Outcome → Mem → Prop), Wp d 194 151 [l0, l1, l2, l3, l4, some (.int v)] st M Q = Wp d 194 153 [l0, l1, l2, l3, l4, some (.int v)] (.int v :: st) M Q := fun d l0 l1 l2 l3 l4 v st M Q => wA (show ins 194 151 = some (.iload 5, 2) by decide +kernel) rfl
set_option maxRecDepth 100000 in
theorem r_194_153 : ∀ (d : Nat) (ls : Lc) (v0 v1 v2 v3 v4 : Value) (a : Nat) (st : List Value) (M : Mem) (Q : Outcome → Mem → Prop), (smallR st = true) → Wp d 194 153 ls (v4 :: v3 :: v2 :: v1 :: v0 :: .ref a :: st) M Q = (kO M a = 8 ∧ Ca d 194 153 ls 167 (.ref a :: [v0, v1, v2, v3, v4]) st M Q) := fun d ls v0 v1 v2 v3 v4 a st M Q h0 => w_virt1 (as := [v0, v1, v2, v3, v4]) (show ins 194 153 = some (.invokevirtual 130, 3) by decide +kernel) (show mRes (mC 194) 130 = some (3, 8, [(8, 167)]) by decide +kernel) (by decide +kernel) rfl (by decide +kernel) (by decide +kernel) h0
set_option maxRecDepth 100000 in
theorem r_194_156 : ∀ (d : Nat) (l1 l2 l3 l4 l5 : Option Value) (v : Nat) (st : List Value) (M : Mem) (Q : Outcome → Mem → Prop), Wp d 194 156 [some (.ref v), l1, l2, l3, l4, l5] st M Q = Wp d 194 157 [some (.ref v), l1, l2, l3, l4, l5] (.ref v :: st) M Q := fun d l1 l2 l3 l4 l5 v st M Q => wA (show ins 194 156 = some (.aload_n 0, 1) by decide +kernel) rfl
set_option maxRecDepth 100000 in
theorem r_194_157 : ∀ (d : Nat) (ls : Lc) (a : Nat) (st : List Value) (M : Mem) (Q : Outcome → Mem → Prop), Wp d 194 157 ls (.ref a :: st) M Q = (fk 53 (kO M a) = true ∧ Wp d 194 160 ls (va_rf (mR M 53 a) :: st) M Q) := fun d ls a st M Q => w_getR (show ins 194 157 = some (.getfield 7, 3) by decide +kernel) (show fRes (mC 194) 7 = some (53, 8, false) by decide +kernel) (by decide +kernel)
set_option maxRecDepth 100000 in
theorem r_194_160 : ∀ (d : Nat) (ls : Lc) (st : List Value) (M : Mem) (Q : Outcome → Mem → Prop), Wp d 194 160 ls st M Q = Wp d 194 163 ls (.int (I 218) :: st) M Q := fun d ls st M Q => w_sipush (show ins 194 160 = some (.sipush 218, 3) by decide +kernel) (by decide)
set_option maxRecDepth 100000 in
theorem r_194_163 : ∀ (d : Nat) (l0 l1 l2 l4 l5 : Option Value) (v : Int32) (st : List Value) (M : Mem) (Q : Outcome → Mem → Prop), Wp d 194 163 [l0, l1, l2, some (.int v), l4, l5] st M Q = Wp d 194 164 [l0, l1, l2, some (.int v), l4, l5] (.int v :: st) M Q := fun d l0 l1 l2 l4 l5 v st M Q => wA (show ins 194 163 = some (.iload_n 3, 1) by decide +kernel) rfl
set_option maxRecDepth 100000 in
theorem r_194_164 : ∀ (d : Nat) (ls : Lc) (a b : Int) (st : List Value) (M : Mem) (Q : Outcome → Mem → Prop), Wp d 194 164 ls (.int (I b) :: .int (I a) :: st) M Q = Wp d 194 165 ls (.int (I (a + b)) :: st) M Q := fun d ls a b st M Q => w_iadd (show ins 194 164 = some (.iadd, 1) by decide +kernel)
set_option maxRecDepth 100000 in
theorem r_194_165 : ∀ (d : Nat) (ls : Lc) (v : Int32) (a : Nat) (st : List Value) (M : Mem) (Q : Outcome → Mem → Prop), Wp d 194 165 ls (.int v :: .ref a :: st) M Q = Wp d 194 166 ls (.int v :: .ref a :: .int v :: .ref a :: st) M Q := fun d ls v a st M Q => wA (show ins 194 165 = some (.dup2, 1) by decide +kernel) rfl
set_option maxRecDepth 100000 in
theorem r_194_166 : ∀ (d : Nat) (ls : Lc) (a : Nat) (j : Int32) (st : List Value) (M : Mem) (Q : Outcome → Mem → Prop), Wp d 194 166 ls (.int j :: .ref a :: st) M Q = ((((kX M a).1 = 0 ∨ (kX M a).1 = 8) ∧ inB j (kX M a).2 = true) ∧ Wp d 194 167 ls (.int (mA M a j.toNatClampNeg) :: st) M Q) := fun d ls a j st M Q => w_iaload (show ins 194 166 = some (.iaload, 1) by decide +kernel)
set_option maxRecDepth 100000 in
theorem r_194_167 : ∀ (d : Nat) (ls : Lc) (st : List Value) (M : Mem) (Q : Outcome → Mem → Prop), Wp d 194 167 ls st M Q = Wp d 194 168 ls (.int (I 1) :: st) M Q := fun d ls st M Q => w_iconst (show ins 194 167 = some (.iconst 1, 1) by decide +kernel)
set_option maxRecDepth 100000 in
theorem r_194_168 : ∀ (d : Nat) (ls : Lc) (a b : Int) (st : List Value) (M : Mem) (Q : Outcome → Mem → Prop), Wp d 194 168 ls (.int (I b) :: .int (I a) :: st) M Q = Wp d 194 169 ls (.int (I (a + b)) :: st) M Q := fun d ls a b st M Q => w_iadd (show ins 194 168 = some (.iadd, 1) by decide +kernel)
set_option maxRecDepth 100000 in
theorem r_194_169 : ∀ (d : Nat) (ls : Lc) (a : Nat) (j v : Int32) (st : List Value) (M : Mem) (Q : Outcome → Mem → Prop), Wp d 194 169 ls (.int v :: .int j :: .ref a :: st) M Q = (((kX M a).1 = 0 ∧ inB j (kX M a).2 = true) ∧ Wp d 194 170 ls st (sA M a j.toNatClampNeg v) Q) := fun d ls a j v st M Q => w_iastore (show ins 194 169 = some (.iastore, 1) by decide +kernel)
set_option maxRecDepth 100000 in
theorem r_194_170 : ∀ (d : Nat) (l1 l2 l3 l4 l5 : Option Value) (v : Nat) (st : List Value) (M : Mem) (Q : Outcome → Mem → Prop), Wp d 194 170 [some (.ref v), l1, l2, l3, l4, l5] st M Q = Wp d 194 171 [some (.ref v), l1, l2, l3, l4, l5] (.ref v :: st) M Q := fun d l1 l2 l3 l4 l5 v st M Q => wA (show ins 194 170 = some (.aload_n 0, 1) by decide +kernel) rfl
set_option maxRecDepth 100000 in
theorem r_194_171 : ∀ (d : Nat) (ls : Lc) (st : List Value) (M : Mem) (Q : Outcome → Mem → Prop), Wp d 194 171 ls st M Q = Wp d 194 172 ls (.int (I 4) :: st) M Q := fun d ls st M Q => w_iconst (show ins 194 171 = some (.iconst 4, 1) by decide +kernel)
set_option maxRecDepth 100000 in
theorem r_194_172 : ∀ (d : Nat) (ls : Lc) (v0 : Value) (a : Nat) (st : List Value) (M : Mem) (Q : Outcome → Mem → Prop), (smallR st = true) → Wp d 194 172 ls (v0 :: .ref a :: st) M Q = (kO M a = 8 ∧ Ca d 194 172 ls 183 (.ref a :: [v0]) st M Q) := fun d ls v0 a st M Q h0 => w_virt1 (as := [v0]) (show ins 194 172 = some (.invokevirtual 167, 3) by decide +kernel) (show mRes (mC 194) 167 = some (3, 8, [(8, 183)]) by decide +kernel) (by decide +kernel) rfl (by decide +kernel) (by decide +kernel) h0
set_option maxRecDepth 100000 in
theorem r_194_175 : ∀ (d : Nat) (ls : Lc) (a : Int32) (st : List Value) (M : Mem) (Q : Outcome → Mem → Prop), Wp d 194 175 ls (.int a :: st) M Q = Br (a = I 0) d 194 183 178 ls st M Q := fun d ls a st M Q => w_if (show ins 194 175 = some (.ifCond .eq 8, 3) by decide +kernel) rfl rfl
set_option maxRecDepth 100000 in
theorem r_194_178 : ∀ (d : Nat) (l0 l1 l2 l3 l4 : Option Value) (v : Int32) (st : List Value) (M : Mem) (Q : Outcome → Mem → Prop), Wp d 194 178 [l0, l1, l2, l3, l4, some (.int v)] st M Q = Wp d 194 180 [l0, l1, l2, l3, l4, some (.int v)] (.int v :: st) M Q := fun d l0 l1 l2 l3 l4 v st M Q => wA (show ins 194 178 = some (.iload 5, 2) by decide +kernel) rfl
set_option maxRecDepth 100000 in
theorem r_194_180 : ∀ (d : Nat) (ls : Lc) (st : List Value) (M : Mem) (Q : Outcome → Mem → Prop), Wp d 194 180 ls st M Q = Wp d 194 184 ls st M Q := fun d ls st M Q => w_goto (show ins 194 180 = some (.goto 4, 3) by decide +kernel) rfl
set_option maxRecDepth 100000 in
theorem r_194_183 : ∀ (d : Nat) (ls : Lc) (st : List Value) (M : Mem) (Q : Outcome → Mem → Prop), Wp d 194 183 ls st M Q = Wp d 194 184 ls (.int (I 0) :: st) M Q := fun d ls st M Q => w_iconst (show ins 194 183 = some (.iconst 0, 1) by decide +kernel)
set_option maxRecDepth 100000 in
theorem r_194_184 : ∀ (d : Nat) (ls : Lc) (v : Int32) (M : Mem) (Q : Outcome → Mem → Prop), Wp d 194 184 ls [.int v] M Q = Q (.returned (some (.int v))) M := fun d ls v M Q => w_ireturn (show ins 194 184 = some (.ireturn, 1) by decide +kernel) (by decide +kernel)
set_option maxRecDepth 100000 in
theorem W_194 : (type_of% r_194_0) ∧ (type_of% r_194_1) ∧ (type_of% r_194_4) ∧ (type_of% r_194_7) ∧ (type_of% r_194_8) ∧ (type_of% r_194_9) ∧ (type_of% r_194_12) ∧ (type_of% r_194_15) ∧ (type_of% r_194_16) ∧ (type_of% r_194_19) ∧ (type_of% r_194_20) ∧ (type_of% r_194_21) ∧ (type_of% r_194_22) ∧ (type_of% r_194_25) ∧ (type_of% r_194_27) ∧ (type_of% r_194_28) ∧ (type_of% r_194_29) ∧ (type_of% r_194_32) ∧ (type_of% r_194_35) ∧ (type_of% r_194_36) ∧ (type_of% r_194_39) ∧ (type_of% r_194_41) ∧ (type_of% r_194_44) ∧ (type_of% r_194_45) ∧ (type_of% r_194_46) ∧ (type_of% r_194_49) ∧ (type_of% r_194_52) ∧ (type_of% r_194_53) ∧ (type_of% r_194_56) ∧ (type_of% r_194_57) ∧ (type_of% r_194_59) ∧ (type_of% r_194_62) ∧ (type_of% r_194_65) ∧ (type_of% r_194_66) ∧ (type_of% r_194_69) ∧ (type_of% r_194_70) ∧ (type_of% r_194_71) ∧ (type_of% r_194_73) ∧ (type_of% r_194_76) ∧ (type_of% r_194_79) ∧ (type_of% r_194_80) ∧ (type_of% r_194_83) ∧ (type_of% r_194_85) ∧ (type_of% r_194_87) ∧ (type_of% r_194_88) ∧ (type_of% r_194_89) ∧ (type_of% r_194_90) ∧ (type_of% r_194_93) ∧ (type_of% r_194_94) ∧ (type_of% r_194_95) ∧ (type_of% r_194_97) ∧ (type_of% r_194_100) ∧ (type_of% r_194_103) ∧ (type_of% r_194_104) ∧ (type_of% r_194_107) ∧ (type_of% r_194_108) ∧ (type_of% r_194_111) ∧ (type_of% r_194_112) ∧ (type_of% r_194_115) ∧ (type_of% r_194_118) ∧ (type_of% r_194_119) ∧ (type_of% r_194_120) ∧ (type_of% r_194_121) ∧ (type_of% r_194_124) ∧ (type_of% r_194_125) ∧ (type_of% r_194_126) ∧ (type_of% r_194_127) ∧ (type_of% r_194_128) ∧ (type_of% r_194_131) ∧ (type_of% r_194_132) ∧ (type_of% r_194_135) ∧ (type_of% r_194_138) ∧ (type_of% r_194_139) ∧ (type_of% r_194_140) ∧ (type_of% r_194_141) ∧ (type_of% r_194_142) ∧ (type_of% r_194_143) ∧ (type_of% r_194_144) ∧ (type_of% r_194_145) ∧ (type_of% r_194_146) ∧ (type_of% r_194_147) ∧ (type_of% r_194_148) ∧ (type_of% r_194_150) ∧ (type_of% r_194_151) ∧ (type_of% r_194_153) ∧ (type_of% r_194_156) ∧ (type_of% r_194_157) ∧ (type_of% r_194_160) ∧ (type_of% r_194_163) ∧ (type_of% r_194_164) ∧ (type_of% r_194_165) ∧ (type_of% r_194_166) ∧ (type_of% r_194_167) ∧ (type_of% r_194_168) ∧ (type_of% r_194_169) ∧ (type_of% r_194_170) ∧ (type_of% r_194_171) ∧ (type_of% r_194_172) ∧ (type_of% r_194_175) ∧ (type_of% r_194_178) ∧ (type_of% r_194_180) ∧ (type_of% r_194_183) ∧ (type_of% r_194_184) := ⟨r_194_0, r_194_1, r_194_4, r_194_7, r_194_8, r_194_9, r_194_12, r_194_15, r_194_16, r_194_19, r_194_20, r_194_21, r_194_22, r_194_25, r_194_27, r_194_28, r_194_29, r_194_32, r_194_35, r_194_36, r_194_39, r_194_41, r_194_44, r_194_45, r_194_46, r_194_49, r_194_52, r_194_53, r_194_56, r_194_57, r_194_59, r_194_62, r_194_65, r_194_66, r_194_69, r_194_70, r_194_71, r_194_73, r_194_76, r_194_79, r_194_80, r_194_83, r_194_85, r_194_87, r_194_88, r_194_89, r_194_90, r_194_93, r_194_94, r_194_95, r_194_97, r_194_100, r_194_103, r_194_104, r_194_107, r_194_108, r_194_111, r_194_112, r_194_115, r_194_118, r_194_119, r_194_120, r_194_121, r_194_124, r_194_125, r_194_126, r_194_127, r_194_128, r_194_131, r_194_132, r_194_135, r_194_138, r_194_139, r_194_140, r_194_141, r_194_142, r_194_143, r_194_144, r_194_145, r_194_146, r_194_147, r_194_148, r_194_150, r_194_151, r_194_153, r_194_156, r_194_157, r_194_160, r_194_163, r_194_164, r_194_165, r_194_166, r_194_167, r_194_168, r_194_169, r_194_170, r_194_171, r_194_172, r_194_175, r_194_178, r_194_180, r_194_183, r_194_184⟩
set_option maxRecDepth 100000 in
theorem ca_194 {d y pc : Nat} {ls : Lc} {a : Nat} {z0 : Int32} {z1 : Int32} {z2 : Int32} {z3 : Int32} {r : List Value} {M : Mem} {Q : Outcome → Mem → Prop} (hd : 0 < d) (hw : Wp (d - 1) 194 0 [some (.ref a), some (.int z0), some (.int z1), some (.int z2), some (.int z3), none] [] M (Cq d y pc ls r Q)) : Ca d y pc ls 194 [.ref a, .int z0, .int z1, .int z2, .int z3] r M Q := ca_of (mq_get (by decide)) (by rfl) hd hw
/-! 195 PackedTreeModel.isWithin(II)Z; loop heads [2] -/
set_option maxRecDepth 100000 in
theorem r_195_0 : ∀ (d : Nat) (l0 l2 l3 : Option Value) (v : Int32) (st : List Value) (M : Mem) (Q : Outcome → Mem → Prop), Wp d 195 0 [l0, some (.int v), l2, l3] st M Q = Wp d 195 1 [l0, some (.int v), l2, l3] (.int v :: st) M Q := fun d l0 l2 l3 v st M Q => wA (show ins 195 0 = some (.iload_n 1, 1) by decide +kernel) rfl
set_option maxRecDepth 100000 in
theorem r_195_1 : ∀ (d : Nat) (l0 l1 l2 l3 : Option Value) (v : Int32) (st : List Value) (M : Mem) (Q : Outcome → Mem → Prop), (lo l2 = false) → Wp d 195 1 [l0, l1, l2, l3] (.int v :: st) M Q = Wp d 195 2 [l0, l1, l2, some (.int v)] st M Q := fun d l0 l1 l2 l3 v st M Q hl => w_istore_n (show ins 195 1 = some (.istore_n 3, 1) by decide +kernel) (st1_S rfl rfl hl)
set_option maxRecDepth 100000 in
theorem r_195_2 : ∀ (d : Nat) (l0 l1 l2 : Option Value) (v : Int32) (st : List Value) (M : Mem) (Q : Outcome → Mem → Prop), Wp d 195 2 [l0, l1, l2, some (.int v)] st M Q = Wp d 195 3 [l0, l1, l2, some (.int v)] (.int v :: st) M Q := fun d l0 l1 l2 v st M Q => wA (show ins 195 2 = some (.iload_n 3, 1) by decide +kernel) rfl
set_option maxRecDepth 100000 in
theorem r_195_3 : ∀ (d : Nat) (ls : Lc) (st : List Value) (M : Mem) (Q : Outcome → Mem → Prop), Wp d 195 3 ls st M Q = Wp d 195 4 ls (.int (I (-1)) :: st) M Q := fun d ls st M Q => w_iconst (show ins 195 3 = some (.iconst (-1), 1) by decide +kernel)
set_option maxRecDepth 100000 in
theorem r_195_4 : ∀ (d : Nat) (ls : Lc) (a b : Int32) (st : List Value) (M : Mem) (Q : Outcome → Mem → Prop), Wp d 195 4 ls (.int b :: .int a :: st) M Q = Br (a = b) d 195 21 7 ls st M Q := fun d ls a b st M Q => w_icmp (show ins 195 4 = some (.if_icmp .eq 17, 3) by decide +kernel) rfl rfl
set_option maxRecDepth 100000 in
theorem r_195_7 : ∀ (d : Nat) (l0 l1 l2 : Option Value) (v : Int32) (st : List Value) (M : Mem) (Q : Outcome → Mem → Prop), Wp d 195 7 [l0, l1, l2, some (.int v)] st M Q = Wp d 195 8 [l0, l1, l2, some (.int v)] (.int v :: st) M Q := fun d l0 l1 l2 v st M Q => wA (show ins 195 7 = some (.iload_n 3, 1) by decide +kernel) rfl
set_option maxRecDepth 100000 in
theorem r_195_8 : ∀ (d : Nat) (l0 l1 l3 : Option Value) (v : Int32) (st : List Value) (M : Mem) (Q : Outcome → Mem → Prop), Wp d 195 8 [l0, l1, some (.int v), l3] st M Q = Wp d 195 9 [l0, l1, some (.int v), l3] (.int v :: st) M Q := fun d l0 l1 l3 v st M Q => wA (show ins 195 8 = some (.iload_n 2, 1) by decide +kernel) rfl
set_option maxRecDepth 100000 in
theorem r_195_9 : ∀ (d : Nat) (ls : Lc) (a b : Int32) (st : List Value) (M : Mem) (Q : Outcome → Mem → Prop), Wp d 195 9 ls (.int b :: .int a :: st) M Q = Br (a = b) d 195 21 12 ls st M Q := fun d ls a b st M Q => w_icmp (show ins 195 9 = some (.if_icmp .eq 12, 3) by decide +kernel) rfl rfl
set_option maxRecDepth 100000 in
theorem r_195_12 : ∀ (d : Nat) (l1 l2 l3 : Option Value) (v : Nat) (st : List Value) (M : Mem) (Q : Outcome → Mem → Prop), Wp d 195 12 [some (.ref v), l1, l2, l3] st M Q = Wp d 195 13 [some (.ref v), l1, l2, l3] (.ref v :: st) M Q := fun d l1 l2 l3 v st M Q => wA (show ins 195 12 = some (.aload_n 0, 1) by decide +kernel) rfl
set_option maxRecDepth 100000 in
theorem r_195_13 : ∀ (d : Nat) (l0 l1 l2 : Option Value) (v : Int32) (st : List Value) (M : Mem) (Q : Outcome → Mem → Prop), Wp d 195 13 [l0, l1, l2, some (.int v)] st M Q = Wp d 195 14 [l0, l1, l2, some (.int v)] (.int v :: st) M Q := fun d l0 l1 l2 v st M Q => wA (show ins 195 13 = some (.iload_n 3, 1) by decide +kernel) rfl
set_option maxRecDepth 100000 in
theorem r_195_14 : ∀ (d : Nat) (ls : Lc) (v0 : Value) (a : Nat) (st : List Value) (M : Mem) (Q : Outcome → Mem → Prop), (smallR st = true) → Wp d 195 14 ls (v0 :: .ref a :: st) M Q = (kO M a = 8 ∧ Ca d 195 14 ls 196 (.ref a :: [v0]) st M Q) := fun d ls v0 a st M Q h0 => w_virt1 (as := [v0]) (show ins 195 14 = some (.invokevirtual 173, 3) by decide +kernel) (show mRes (mC 195) 173 = some (3, 8, [(8, 196)]) by decide +kernel) (by decide +kernel) rfl (by decide +kernel) (by decide +kernel) h0
set_option maxRecDepth 100000 in
theorem r_195_17 : ∀ (d : Nat) (l0 l1 l2 l3 : Option Value) (v : Int32) (st : List Value) (M : Mem) (Q : Outcome → Mem → Prop), (lo l2 = false) → Wp d 195 17 [l0, l1, l2, l3] (.int v :: st) M Q = Wp d 195 18 [l0, l1, l2, some (.int v)] st M Q := fun d l0 l1 l2 l3 v st M Q hl => w_istore_n (show ins 195 17 = some (.istore_n 3, 1) by decide +kernel) (st1_S rfl rfl hl)
set_option maxRecDepth 100000 in
theorem r_195_18 : ∀ (d : Nat) (ls : Lc) (st : List Value) (M : Mem) (Q : Outcome → Mem → Prop), Wp d 195 18 ls st M Q = Wp d 195 2 ls st M Q := fun d ls st M Q => w_goto (show ins 195 18 = some (.goto (-16), 3) by decide +kernel) rfl
set_option maxRecDepth 100000 in
theorem r_195_21 : ∀ (d : Nat) (l0 l1 l2 : Option Value) (v : Int32) (st : List Value) (M : Mem) (Q : Outcome → Mem → Prop), Wp d 195 21 [l0, l1, l2, some (.int v)] st M Q = Wp d 195 22 [l0, l1, l2, some (.int v)] (.int v :: st) M Q := fun d l0 l1 l2 v st M Q => wA (show ins 195 21 = some (.iload_n 3, 1) by decide +kernel) rfl
set_option maxRecDepth 100000 in
theorem r_195_22 : ∀ (d : Nat) (l0 l1 l3 : Option Value) (v : Int32) (st : List Value) (M : Mem) (Q : Outcome → Mem → Prop), Wp d 195 22 [l0, l1, some (.int v), l3] st M Q = Wp d 195 23 [l0, l1, some (.int v), l3] (.int v :: st) M Q := fun d l0 l1 l3 v st M Q => wA (show ins 195 22 = some (.iload_n 2, 1) by decide +kernel) rfl
set_option maxRecDepth 100000 in
theorem r_195_23 : ∀ (d : Nat) (ls : Lc) (a b : Int32) (st : List Value) (M : Mem) (Q : Outcome → Mem → Prop), Wp d 195 23 ls (.int b :: .int a :: st) M Q = Br (¬ a = b) d 195 30 26 ls st M Q := fun d ls a b st M Q => w_icmp (show ins 195 23 = some (.if_icmp .ne 7, 3) by decide +kernel) rfl rfl
set_option maxRecDepth 100000 in
theorem r_195_26 : ∀ (d : Nat) (ls : Lc) (st : List Value) (M : Mem) (Q : Outcome → Mem → Prop), Wp d 195 26 ls st M Q = Wp d 195 27 ls (.int (I 1) :: st) M Q := fun d ls st M Q => w_iconst (show ins 195 26 = some (.iconst 1, 1) by decide +kernel)
set_option maxRecDepth 100000 in
theorem r_195_27 : ∀ (d : Nat) (ls : Lc) (st : List Value) (M : Mem) (Q : Outcome → Mem → Prop), Wp d 195 27 ls st M Q = Wp d 195 31 ls st M Q := fun d ls st M Q => w_goto (show ins 195 27 = some (.goto 4, 3) by decide +kernel) rfl
set_option maxRecDepth 100000 in
theorem r_195_30 : ∀ (d : Nat) (ls : Lc) (st : List Value) (M : Mem) (Q : Outcome → Mem → Prop), Wp d 195 30 ls st M Q = Wp d 195 31 ls (.int (I 0) :: st) M Q := fun d ls st M Q => w_iconst (show ins 195 30 = some (.iconst 0, 1) by decide +kernel)
set_option maxRecDepth 100000 in
theorem r_195_31 : ∀ (d : Nat) (ls : Lc) (z : Int) (M : Mem) (Q : Outcome → Mem → Prop), (z = 0 ∨ z = 1) → Wp d 195 31 ls [.int (I z)] M Q = Q (.returned (some (.int (I z)))) M := fun d ls z M Q h0 => w_zretI (show ins 195 31 = some (.ireturn, 1) by decide +kernel) (by decide +kernel) h0
set_option maxRecDepth 100000 in
theorem r_195_31_1 : ∀ (d : Nat) (ls : Lc) (b : Bool) (M : Mem) (Q : Outcome → Mem → Prop), Wp d 195 31 ls [.int (I (bI b))] M Q = Q (.returned (some (.int (I (bI b))))) M := fun d ls b M Q => w_zretB (show ins 195 31 = some (.ireturn, 1) by decide +kernel) (by decide +kernel)
set_option maxRecDepth 100000 in
theorem w_195_2 : (type_of% r_195_2) := r_195_2
set_option maxRecDepth 100000 in
theorem W_195 : (type_of% r_195_0) ∧ (type_of% r_195_1) ∧ (type_of% r_195_3) ∧ (type_of% r_195_4) ∧ (type_of% r_195_7) ∧ (type_of% r_195_8) ∧ (type_of% r_195_9) ∧ (type_of% r_195_12) ∧ (type_of% r_195_13) ∧ (type_of% r_195_14) ∧ (type_of% r_195_17) ∧ (type_of% r_195_18) ∧ (type_of% r_195_21) ∧ (type_of% r_195_22) ∧ (type_of% r_195_23) ∧ (type_of% r_195_26) ∧ (type_of% r_195_27) ∧ (type_of% r_195_30) ∧ (type_of% r_195_31) ∧ (type_of% r_195_31_1) := ⟨r_195_0, r_195_1, r_195_3, r_195_4, r_195_7, r_195_8, r_195_9, r_195_12, r_195_13, r_195_14, r_195_17, r_195_18, r_195_21, r_195_22, r_195_23, r_195_26, r_195_27, r_195_30, r_195_31, r_195_31_1⟩
set_option maxRecDepth 100000 in
theorem ca_195 {d y pc : Nat} {ls : Lc} {a : Nat} {z0 : Int32} {z1 : Int32} {r : List Value} {M : Mem} {Q : Outcome → Mem → Prop} (hd : 0 < d) (hw : Wp (d - 1) 195 0 [some (.ref a), some (.int z0), some (.int z1), none] [] M (Cq d y pc ls r Q)) : Ca d y pc ls 195 [.ref a, .int z0, .int z1] r M Q := ca_of (mq_get (by decide)) (by rfl) hd hw
/-! 196 PackedTreeModel.above(I)I; loop heads [2, 28] -/
set_option maxRecDepth 100000 in
theorem r_196_0 : ∀ (d : Nat) (ls : Lc) (st : List Value) (M : Mem) (Q : Outcome → Mem → Prop), Wp d 196 0 ls st M Q = Wp d 196 1 ls (.int (I 0) :: st) M Q := fun d ls st M Q => w_iconst (show ins 196 0 = some (.iconst 0, 1) by decide +kernel)
set_option maxRecDepth 100000 in
theorem r_196_1 : ∀ (d : Nat) (l0 l1 l2 l3 l4 : Option Value) (v : Int32) (st : List Value) (M : Mem) (Q : Outcome → Mem → Prop), (lo l1 = false) → Wp d 196 1 [l0, l1, l2, l3, l4] (.int v :: st) M Q = Wp d 196 2 [l0, l1, some (.int v), l3, l4] st M Q := fun d l0 l1 l2 l3 l4 v st M Q hl => w_istore_n (show ins 196 1 = some (.istore_n 2, 1) by decide +kernel) (st1_S rfl rfl hl)
set_option maxRecDepth 100000 in
theorem r_196_2 : ∀ (d : Nat) (l0 l1 l3 l4 : Option Value) (v : Int32) (st : List Value) (M : Mem) (Q : Outcome → Mem → Prop), Wp d 196 2 [l0, l1, some (.int v), l3, l4] st M Q = Wp d 196 3 [l0, l1, some (.int v), l3, l4] (.int v :: st) M Q := fun d l0 l1 l3 l4 v st M Q => wA (show ins 196 2 = some (.iload_n 2, 1) by decide +kernel) rfl
set_option maxRecDepth 100000 in
theorem r_196_3 : ∀ (d : Nat) (l1 l2 l3 l4 : Option Value) (v : Nat) (st : List Value) (M : Mem) (Q : Outcome → Mem → Prop), Wp d 196 3 [some (.ref v), l1, l2, l3, l4] st M Q = Wp d 196 4 [some (.ref v), l1, l2, l3, l4] (.ref v :: st) M Q := fun d l1 l2 l3 l4 v st M Q => wA (show ins 196 3 = some (.aload_n 0, 1) by decide +kernel) rfl
set_option maxRecDepth 100000 in
theorem r_196_4 : ∀ (d : Nat) (ls : Lc) (a : Nat) (st : List Value) (M : Mem) (Q : Outcome → Mem → Prop), Wp d 196 4 ls (.ref a :: st) M Q = (fk 53 (kO M a) = true ∧ Wp d 196 7 ls (va_rf (mR M 53 a) :: st) M Q) := fun d ls a st M Q => w_getR (show ins 196 4 = some (.getfield 7, 3) by decide +kernel) (show fRes (mC 196) 7 = some (53, 8, false) by decide +kernel) (by decide +kernel)
set_option maxRecDepth 100000 in
theorem r_196_7 : ∀ (d : Nat) (ls : Lc) (st : List Value) (M : Mem) (Q : Outcome → Mem → Prop), Wp d 196 7 ls st M Q = Wp d 196 10 ls (.int (I 13068) :: st) M Q := fun d ls st M Q => w_sipush (show ins 196 7 = some (.sipush 13068, 3) by decide +kernel) (by decide)
set_option maxRecDepth 100000 in
theorem r_196_10 : ∀ (d : Nat) (ls : Lc) (a : Nat) (j : Int32) (st : List Value) (M : Mem) (Q : Outcome → Mem → Prop), Wp d 196 10 ls (.int j :: .ref a :: st) M Q = ((((kX M a).1 = 0 ∨ (kX M a).1 = 8) ∧ inB j (kX M a).2 = true) ∧ Wp d 196 11 ls (.int (mA M a j.toNatClampNeg) :: st) M Q) := fun d ls a j st M Q => w_iaload (show ins 196 10 = some (.iaload, 1) by decide +kernel)
set_option maxRecDepth 100000 in
theorem r_196_11 : ∀ (d : Nat) (ls : Lc) (a b : Int32) (st : List Value) (M : Mem) (Q : Outcome → Mem → Prop), Wp d 196 11 ls (.int b :: .int a :: st) M Q = Br (b ≤ a) d 196 112 14 ls st M Q := fun d ls a b st M Q => w_icmp (show ins 196 11 = some (.if_icmp .ge 101, 3) by decide +kernel) rfl rfl
set_option maxRecDepth 100000 in
theorem r_196_14 : ∀ (d : Nat) (l1 l2 l3 l4 : Option Value) (v : Nat) (st : List Value) (M : Mem) (Q : Outcome → Mem → Prop), Wp d 196 14 [some (.ref v), l1, l2, l3, l4] st M Q = Wp d 196 15 [some (.ref v), l1, l2, l3, l4] (.ref v :: st) M Q := fun d l1 l2 l3 l4 v st M Q => wA (show ins 196 14 = some (.aload_n 0, 1) by decide +kernel) rfl
set_option maxRecDepth 100000 in
theorem r_196_15 : ∀ (d : Nat) (ls : Lc) (a : Nat) (st : List Value) (M : Mem) (Q : Outcome → Mem → Prop), Wp d 196 15 ls (.ref a :: st) M Q = (fk 53 (kO M a) = true ∧ Wp d 196 18 ls (va_rf (mR M 53 a) :: st) M Q) := fun d ls a st M Q => w_getR (show ins 196 15 = some (.getfield 7, 3) by decide +kernel) (show fRes (mC 196) 7 = some (53, 8, false) by decide +kernel) (by decide +kernel)
set_option maxRecDepth 100000 in
theorem r_196_18 : ∀ (d : Nat) (ls : Lc) (st : List Value) (M : Mem) (Q : Outcome → Mem → Prop), Wp d 196 18 ls st M Q = Wp d 196 21 ls (.int (I 12300) :: st) M Q := fun d ls st M Q => w_sipush (show ins 196 18 = some (.sipush 12300, 3) by decide +kernel) (by decide)
set_option maxRecDepth 100000 in
theorem r_196_21 : ∀ (d : Nat) (l0 l1 l3 l4 : Option Value) (v : Int32) (st : List Value) (M : Mem) (Q : Outcome → Mem → Prop), Wp d 196 21 [l0, l1, some (.int v), l3, l4] st M Q = Wp d 196 22 [l0, l1, some (.int v), l3, l4] (.int v :: st) M Q := fun d l0 l1 l3 l4 v st M Q => wA (show ins 196 21 = some (.iload_n 2, 1) by decide +kernel) rfl
set_option maxRecDepth 100000 in
theorem r_196_22 : ∀ (d : Nat) (ls : Lc) (a b : Int) (st : List Value) (M : Mem) (Q : Outcome → Mem → Prop), Wp d 196 22 ls (.int (I b) :: .int (I a) :: st) M Q = Wp d 196 23 ls (.int (I (a + b)) :: st) M Q := fun d ls a b st M Q => w_iadd (show ins 196 22 = some (.iadd, 1) by decide +kernel)
set_option maxRecDepth 100000 in
theorem r_196_23 : ∀ (d : Nat) (ls : Lc) (a : Nat) (j : Int32) (st : List Value) (M : Mem) (Q : Outcome → Mem → Prop), Wp d 196 23 ls (.int j :: .ref a :: st) M Q = ((((kX M a).1 = 0 ∨ (kX M a).1 = 8) ∧ inB j (kX M a).2 = true) ∧ Wp d 196 24 ls (.int (mA M a j.toNatClampNeg) :: st) M Q) := fun d ls a j st M Q => w_iaload (show ins 196 23 = some (.iaload, 1) by decide +kernel)
set_option maxRecDepth 100000 in
theorem r_196_24 : ∀ (d : Nat) (l0 l1 l2 l3 l4 : Option Value) (v : Int32) (st : List Value) (M : Mem) (Q : Outcome → Mem → Prop), (lo l2 = false) → Wp d 196 24 [l0, l1, l2, l3, l4] (.int v :: st) M Q = Wp d 196 25 [l0, l1, l2, some (.int v), l4] st M Q := fun d l0 l1 l2 l3 l4 v st M Q hl => w_istore_n (show ins 196 24 = some (.istore_n 3, 1) by decide +kernel) (st1_S rfl rfl hl)
set_option maxRecDepth 100000 in
theorem r_196_25 : ∀ (d : Nat) (ls : Lc) (st : List Value) (M : Mem) (Q : Outcome → Mem → Prop), Wp d 196 25 ls st M Q = Wp d 196 26 ls (.int (I 0) :: st) M Q := fun d ls st M Q => w_iconst (show ins 196 25 = some (.iconst 0, 1) by decide +kernel)
set_option maxRecDepth 100000 in
theorem r_196_26 : ∀ (d : Nat) (l0 l1 l2 l3 l4 : Option Value) (v : Int32) (st : List Value) (M : Mem) (Q : Outcome → Mem → Prop), (lo l3 = false) → Wp d 196 26 [l0, l1, l2, l3, l4] (.int v :: st) M Q = Wp d 196 28 [l0, l1, l2, l3, some (.int v)] st M Q := fun d l0 l1 l2 l3 l4 v st M Q hl => w_istore (show ins 196 26 = some (.istore 4, 2) by decide +kernel) (st1_S rfl rfl hl)
set_option maxRecDepth 100000 in
theorem r_196_28 : ∀ (d : Nat) (l0 l1 l2 l3 : Option Value) (v : Int32) (st : List Value) (M : Mem) (Q : Outcome → Mem → Prop), Wp d 196 28 [l0, l1, l2, l3, some (.int v)] st M Q = Wp d 196 30 [l0, l1, l2, l3, some (.int v)] (.int v :: st) M Q := fun d l0 l1 l2 l3 v st M Q => wA (show ins 196 28 = some (.iload 4, 2) by decide +kernel) rfl
set_option maxRecDepth 100000 in
theorem r_196_30 : ∀ (d : Nat) (l1 l2 l3 l4 : Option Value) (v : Nat) (st : List Value) (M : Mem) (Q : Outcome → Mem → Prop), Wp d 196 30 [some (.ref v), l1, l2, l3, l4] st M Q = Wp d 196 31 [some (.ref v), l1, l2, l3, l4] (.ref v :: st) M Q := fun d l1 l2 l3 l4 v st M Q => wA (show ins 196 30 = some (.aload_n 0, 1) by decide +kernel) rfl
set_option maxRecDepth 100000 in
theorem r_196_31 : ∀ (d : Nat) (ls : Lc) (a : Nat) (st : List Value) (M : Mem) (Q : Outcome → Mem → Prop), Wp d 196 31 ls (.ref a :: st) M Q = (fk 53 (kO M a) = true ∧ Wp d 196 34 ls (va_rf (mR M 53 a) :: st) M Q) := fun d ls a st M Q => w_getR (show ins 196 31 = some (.getfield 7, 3) by decide +kernel) (show fRes (mC 196) 7 = some (53, 8, false) by decide +kernel) (by decide +kernel)
set_option maxRecDepth 100000 in
theorem r_196_34 : ∀ (d : Nat) (ls : Lc) (st : List Value) (M : Mem) (Q : Outcome → Mem → Prop), Wp d 196 34 ls st M Q = Wp d 196 37 ls (.int (I 3852) :: st) M Q := fun d ls st M Q => w_sipush (show ins 196 34 = some (.sipush 3852, 3) by decide +kernel) (by decide)
set_option maxRecDepth 100000 in
theorem r_196_37 : ∀ (d : Nat) (l0 l1 l2 l4 : Option Value) (v : Int32) (st : List Value) (M : Mem) (Q : Outcome → Mem → Prop), Wp d 196 37 [l0, l1, l2, some (.int v), l4] st M Q = Wp d 196 38 [l0, l1, l2, some (.int v), l4] (.int v :: st) M Q := fun d l0 l1 l2 l4 v st M Q => wA (show ins 196 37 = some (.iload_n 3, 1) by decide +kernel) rfl
set_option maxRecDepth 100000 in
theorem r_196_38 : ∀ (d : Nat) (ls : Lc) (a b : Int) (st : List Value) (M : Mem) (Q : Outcome → Mem → Prop), Wp d 196 38 ls (.int (I b) :: .int (I a) :: st) M Q = Wp d 196 39 ls (.int (I (a + b)) :: st) M Q := fun d ls a b st M Q => w_iadd (show ins 196 38 = some (.iadd, 1) by decide +kernel)
set_option maxRecDepth 100000 in
theorem r_196_39 : ∀ (d : Nat) (ls : Lc) (a : Nat) (j : Int32) (st : List Value) (M : Mem) (Q : Outcome → Mem → Prop), Wp d 196 39 ls (.int j :: .ref a :: st) M Q = ((((kX M a).1 = 0 ∨ (kX M a).1 = 8) ∧ inB j (kX M a).2 = true) ∧ Wp d 196 40 ls (.int (mA M a j.toNatClampNeg) :: st) M Q) := fun d ls a j st M Q => w_iaload (show ins 196 39 = some (.iaload, 1) by decide +kernel)
set_option maxRecDepth 100000 in
theorem r_196_40 : ∀ (d : Nat) (ls : Lc) (a b : Int32) (st : List Value) (M : Mem) (Q : Outcome → Mem → Prop), Wp d 196 40 ls (.int b :: .int a :: st) M Q = Br (b ≤ a) d 196 106 43 ls st M Q := fun d ls a b st M Q => w_icmp (show ins 196 40 = some (.if_icmp .ge 66, 3) by decide +kernel) rfl rfl
set_option maxRecDepth 100000 in
theorem r_196_43 : ∀ (d : Nat) (l1 l2 l3 l4 : Option Value) (v : Nat) (st : List Value) (M : Mem) (Q : Outcome → Mem → Prop), Wp d 196 43 [some (.ref v), l1, l2, l3, l4] st M Q = Wp d 196 44 [some (.ref v), l1, l2, l3, l4] (.ref v :: st) M Q := fun d l1 l2 l3 l4 v st M Q => wA (show ins 196 43 = some (.aload_n 0, 1) by decide +kernel) rfl
set_option maxRecDepth 100000 in
theorem r_196_44 : ∀ (d : Nat) (ls : Lc) (a : Nat) (st : List Value) (M : Mem) (Q : Outcome → Mem → Prop), Wp d 196 44 ls (.ref a :: st) M Q = (fk 53 (kO M a) = true ∧ Wp d 196 47 ls (va_rf (mR M 53 a) :: st) M Q) := fun d ls a st M Q => w_getR (show ins 196 44 = some (.getfield 7, 3) by decide +kernel) (show fRes (mC 196) 7 = some (53, 8, false) by decide +kernel) (by decide +kernel)
set_option maxRecDepth 100000 in
theorem r_196_47 : ∀ (d : Nat) (ls : Lc) (st : List Value) (M : Mem) (Q : Outcome → Mem → Prop), Wp d 196 47 ls st M Q = Wp d 196 50 ls (.int (I 6156) :: st) M Q := fun d ls st M Q => w_sipush (show ins 196 47 = some (.sipush 6156, 3) by decide +kernel) (by decide)
set_option maxRecDepth 100000 in
theorem r_196_50 : ∀ (d : Nat) (ls : Lc) (st : List Value) (M : Mem) (Q : Outcome → Mem → Prop), Wp d 196 50 ls st M Q = Wp d 196 52 ls (.int (I 16) :: st) M Q := fun d ls st M Q => w_bipush (show ins 196 50 = some (.bipush 16, 2) by decide +kernel) (by decide)
set_option maxRecDepth 100000 in
theorem r_196_52 : ∀ (d : Nat) (l0 l1 l2 l4 : Option Value) (v : Int32) (st : List Value) (M : Mem) (Q : Outcome → Mem → Prop), Wp d 196 52 [l0, l1, l2, some (.int v), l4] st M Q = Wp d 196 53 [l0, l1, l2, some (.int v), l4] (.int v :: st) M Q := fun d l0 l1 l2 l4 v st M Q => wA (show ins 196 52 = some (.iload_n 3, 1) by decide +kernel) rfl
set_option maxRecDepth 100000 in
theorem r_196_53 : ∀ (d : Nat) (ls : Lc) (a b : Int) (st : List Value) (M : Mem) (Q : Outcome → Mem → Prop), Wp d 196 53 ls (.int (I b) :: .int (I a) :: st) M Q = Wp d 196 54 ls (.int (I (a * b)) :: st) M Q := fun d ls a b st M Q => w_imul (show ins 196 53 = some (.imul, 1) by decide +kernel)
set_option maxRecDepth 100000 in
theorem r_196_54 : ∀ (d : Nat) (ls : Lc) (a b : Int) (st : List Value) (M : Mem) (Q : Outcome → Mem → Prop), Wp d 196 54 ls (.int (I b) :: .int (I a) :: st) M Q = Wp d 196 55 ls (.int (I (a + b)) :: st) M Q := fun d ls a b st M Q => w_iadd (show ins 196 54 = some (.iadd, 1) by decide +kernel)
set_option maxRecDepth 100000 in
theorem r_196_55 : ∀ (d : Nat) (l0 l1 l2 l3 : Option Value) (v : Int32) (st : List Value) (M : Mem) (Q : Outcome → Mem → Prop), Wp d 196 55 [l0, l1, l2, l3, some (.int v)] st M Q = Wp d 196 57 [l0, l1, l2, l3, some (.int v)] (.int v :: st) M Q := fun d l0 l1 l2 l3 v st M Q => wA (show ins 196 55 = some (.iload 4, 2) by decide +kernel) rfl
set_option maxRecDepth 100000 in
theorem r_196_57 : ∀ (d : Nat) (ls : Lc) (a b : Int) (st : List Value) (M : Mem) (Q : Outcome → Mem → Prop), Wp d 196 57 ls (.int (I b) :: .int (I a) :: st) M Q = Wp d 196 58 ls (.int (I (a + b)) :: st) M Q := fun d ls a b st M Q => w_iadd (show ins 196 57 = some (.iadd, 1) by decide +kernel)
set_option maxRecDepth 100000 in
theorem r_196_58 : ∀ (d : Nat) (ls : Lc) (a : Nat) (j : Int32) (st : List Value) (M : Mem) (Q : Outcome → Mem → Prop), Wp d 196 58 ls (.int j :: .ref a :: st) M Q = ((((kX M a).1 = 0 ∨ (kX M a).1 = 8) ∧ inB j (kX M a).2 = true) ∧ Wp d 196 59 ls (.int (mA M a j.toNatClampNeg) :: st) M Q) := fun d ls a j st M Q => w_iaload (show ins 196 58 = some (.iaload, 1) by decide +kernel)
set_option maxRecDepth 100000 in
theorem r_196_59 : ∀ (d : Nat) (ls : Lc) (st : List Value) (M : Mem) (Q : Outcome → Mem → Prop), Wp d 196 59 ls st M Q = Wp d 196 60 ls (.int (I 1) :: st) M Q := fun d ls st M Q => w_iconst (show ins 196 59 = some (.iconst 1, 1) by decide +kernel)
set_option maxRecDepth 100000 in
theorem r_196_60 : ∀ (d : Nat) (ls : Lc) (a b : Int32) (st : List Value) (M : Mem) (Q : Outcome → Mem → Prop), Wp d 196 60 ls (.int b :: .int a :: st) M Q = Br (¬ a = b) d 196 100 63 ls st M Q := fun d ls a b st M Q => w_icmp (show ins 196 60 = some (.if_icmp .ne 40, 3) by decide +kernel) rfl rfl
set_option maxRecDepth 100000 in
theorem r_196_63 : ∀ (d : Nat) (l1 l2 l3 l4 : Option Value) (v : Nat) (st : List Value) (M : Mem) (Q : Outcome → Mem → Prop), Wp d 196 63 [some (.ref v), l1, l2, l3, l4] st M Q = Wp d 196 64 [some (.ref v), l1, l2, l3, l4] (.ref v :: st) M Q := fun d l1 l2 l3 l4 v st M Q => wA (show ins 196 63 = some (.aload_n 0, 1) by decide +kernel) rfl
set_option maxRecDepth 100000 in
theorem r_196_64 : ∀ (d : Nat) (ls : Lc) (a : Nat) (st : List Value) (M : Mem) (Q : Outcome → Mem → Prop), Wp d 196 64 ls (.ref a :: st) M Q = (fk 53 (kO M a) = true ∧ Wp d 196 67 ls (va_rf (mR M 53 a) :: st) M Q) := fun d ls a st M Q => w_getR (show ins 196 64 = some (.getfield 7, 3) by decide +kernel) (show fRes (mC 196) 7 = some (53, 8, false) by decide +kernel) (by decide +kernel)
set_option maxRecDepth 100000 in
theorem r_196_67 : ∀ (d : Nat) (ls : Lc) (st : List Value) (M : Mem) (Q : Outcome → Mem → Prop), Wp d 196 67 ls st M Q = Wp d 196 70 ls (.int (I 10764) :: st) M Q := fun d ls st M Q => w_sipush (show ins 196 67 = some (.sipush 10764, 3) by decide +kernel) (by decide)
set_option maxRecDepth 100000 in
theorem r_196_70 : ∀ (d : Nat) (ls : Lc) (st : List Value) (M : Mem) (Q : Outcome → Mem → Prop), Wp d 196 70 ls st M Q = Wp d 196 72 ls (.int (I 16) :: st) M Q := fun d ls st M Q => w_bipush (show ins 196 70 = some (.bipush 16, 2) by decide +kernel) (by decide)
set_option maxRecDepth 100000 in
theorem r_196_72 : ∀ (d : Nat) (l0 l1 l2 l4 : Option Value) (v : Int32) (st : List Value) (M : Mem) (Q : Outcome → Mem → Prop), Wp d 196 72 [l0, l1, l2, some (.int v), l4] st M Q = Wp d 196 73 [l0, l1, l2, some (.int v), l4] (.int v :: st) M Q := fun d l0 l1 l2 l4 v st M Q => wA (show ins 196 72 = some (.iload_n 3, 1) by decide +kernel) rfl
set_option maxRecDepth 100000 in
theorem r_196_73 : ∀ (d : Nat) (ls : Lc) (a b : Int) (st : List Value) (M : Mem) (Q : Outcome → Mem → Prop), Wp d 196 73 ls (.int (I b) :: .int (I a) :: st) M Q = Wp d 196 74 ls (.int (I (a * b)) :: st) M Q := fun d ls a b st M Q => w_imul (show ins 196 73 = some (.imul, 1) by decide +kernel)
set_option maxRecDepth 100000 in
theorem r_196_74 : ∀ (d : Nat) (ls : Lc) (a b : Int) (st : List Value) (M : Mem) (Q : Outcome → Mem → Prop), Wp d 196 74 ls (.int (I b) :: .int (I a) :: st) M Q = Wp d 196 75 ls (.int (I (a + b)) :: st) M Q := fun d ls a b st M Q => w_iadd (show ins 196 74 = some (.iadd, 1) by decide +kernel)
set_option maxRecDepth 100000 in
theorem r_196_75 : ∀ (d : Nat) (l0 l1 l2 l3 : Option Value) (v : Int32) (st : List Value) (M : Mem) (Q : Outcome → Mem → Prop), Wp d 196 75 [l0, l1, l2, l3, some (.int v)] st M Q = Wp d 196 77 [l0, l1, l2, l3, some (.int v)] (.int v :: st) M Q := fun d l0 l1 l2 l3 v st M Q => wA (show ins 196 75 = some (.iload 4, 2) by decide +kernel) rfl
set_option maxRecDepth 100000 in
theorem r_196_77 : ∀ (d : Nat) (ls : Lc) (a b : Int) (st : List Value) (M : Mem) (Q : Outcome → Mem → Prop), Wp d 196 77 ls (.int (I b) :: .int (I a) :: st) M Q = Wp d 196 78 ls (.int (I (a + b)) :: st) M Q := fun d ls a b st M Q => w_iadd (show ins 196 77 = some (.iadd, 1) by decide +kernel)
set_option maxRecDepth 100000 in
theorem r_196_78 : ∀ (d : Nat) (ls : Lc) (a : Nat) (j : Int32) (st : List Value) (M : Mem) (Q : Outcome → Mem → Prop), Wp d 196 78 ls (.int j :: .ref a :: st) M Q = ((((kX M a).1 = 0 ∨ (kX M a).1 = 8) ∧ inB j (kX M a).2 = true) ∧ Wp d 196 79 ls (.int (mA M a j.toNatClampNeg) :: st) M Q) := fun d ls a j st M Q => w_iaload (show ins 196 78 = some (.iaload, 1) by decide +kernel)
set_option maxRecDepth 100000 in
theorem r_196_79 : ∀ (d : Nat) (l0 l2 l3 l4 : Option Value) (v : Int32) (st : List Value) (M : Mem) (Q : Outcome → Mem → Prop), Wp d 196 79 [l0, some (.int v), l2, l3, l4] st M Q = Wp d 196 80 [l0, some (.int v), l2, l3, l4] (.int v :: st) M Q := fun d l0 l2 l3 l4 v st M Q => wA (show ins 196 79 = some (.iload_n 1, 1) by decide +kernel) rfl
set_option maxRecDepth 100000 in
theorem r_196_80 : ∀ (d : Nat) (ls : Lc) (a b : Int32) (st : List Value) (M : Mem) (Q : Outcome → Mem → Prop), Wp d 196 80 ls (.int b :: .int a :: st) M Q = Br (¬ a = b) d 196 100 83 ls st M Q := fun d ls a b st M Q => w_icmp (show ins 196 80 = some (.if_icmp .ne 20, 3) by decide +kernel) rfl rfl
set_option maxRecDepth 100000 in
theorem r_196_83 : ∀ (d : Nat) (l1 l2 l3 l4 : Option Value) (v : Nat) (st : List Value) (M : Mem) (Q : Outcome → Mem → Prop), Wp d 196 83 [some (.ref v), l1, l2, l3, l4] st M Q = Wp d 196 84 [some (.ref v), l1, l2, l3, l4] (.ref v :: st) M Q := fun d l1 l2 l3 l4 v st M Q => wA (show ins 196 83 = some (.aload_n 0, 1) by decide +kernel) rfl
set_option maxRecDepth 100000 in
theorem r_196_84 : ∀ (d : Nat) (ls : Lc) (a : Nat) (st : List Value) (M : Mem) (Q : Outcome → Mem → Prop), Wp d 196 84 ls (.ref a :: st) M Q = (fk 53 (kO M a) = true ∧ Wp d 196 87 ls (va_rf (mR M 53 a) :: st) M Q) := fun d ls a st M Q => w_getR (show ins 196 84 = some (.getfield 7, 3) by decide +kernel) (show fRes (mC 196) 7 = some (53, 8, false) by decide +kernel) (by decide +kernel)
set_option maxRecDepth 100000 in
theorem r_196_87 : ∀ (d : Nat) (ls : Lc) (st : List Value) (M : Mem) (Q : Outcome → Mem → Prop), Wp d 196 87 ls st M Q = Wp d 196 90 ls (.int (I 4620) :: st) M Q := fun d ls st M Q => w_sipush (show ins 196 87 = some (.sipush 4620, 3) by decide +kernel) (by decide)
set_option maxRecDepth 100000 in
theorem r_196_90 : ∀ (d : Nat) (ls : Lc) (st : List Value) (M : Mem) (Q : Outcome → Mem → Prop), Wp d 196 90 ls st M Q = Wp d 196 92 ls (.int (I 16) :: st) M Q := fun d ls st M Q => w_bipush (show ins 196 90 = some (.bipush 16, 2) by decide +kernel) (by decide)
set_option maxRecDepth 100000 in
theorem r_196_92 : ∀ (d : Nat) (l0 l1 l2 l4 : Option Value) (v : Int32) (st : List Value) (M : Mem) (Q : Outcome → Mem → Prop), Wp d 196 92 [l0, l1, l2, some (.int v), l4] st M Q = Wp d 196 93 [l0, l1, l2, some (.int v), l4] (.int v :: st) M Q := fun d l0 l1 l2 l4 v st M Q => wA (show ins 196 92 = some (.iload_n 3, 1) by decide +kernel) rfl
set_option maxRecDepth 100000 in
theorem r_196_93 : ∀ (d : Nat) (ls : Lc) (a b : Int) (st : List Value) (M : Mem) (Q : Outcome → Mem → Prop), Wp d 196 93 ls (.int (I b) :: .int (I a) :: st) M Q = Wp d 196 94 ls (.int (I (a * b)) :: st) M Q := fun d ls a b st M Q => w_imul (show ins 196 93 = some (.imul, 1) by decide +kernel)
set_option maxRecDepth 100000 in
theorem r_196_94 : ∀ (d : Nat) (ls : Lc) (a b : Int) (st : List Value) (M : Mem) (Q : Outcome → Mem → Prop), Wp d 196 94 ls (.int (I b) :: .int (I a) :: st) M Q = Wp d 196 95 ls (.int (I (a + b)) :: st) M Q := fun d ls a b st M Q => w_iadd (show ins 196 94 = some (.iadd, 1) by decide +kernel)
set_option maxRecDepth 100000 in
theorem r_196_95 : ∀ (d : Nat) (l0 l1 l2 l3 : Option Value) (v : Int32) (st : List Value) (M : Mem) (Q : Outcome → Mem → Prop), Wp d 196 95 [l0, l1, l2, l3, some (.int v)] st M Q = Wp d 196 97 [l0, l1, l2, l3, some (.int v)] (.int v :: st) M Q := fun d l0 l1 l2 l3 v st M Q => wA (show ins 196 95 = some (.iload 4, 2) by decide +kernel) rfl
set_option maxRecDepth 100000 in
theorem r_196_97 : ∀ (d : Nat) (ls : Lc) (a b : Int) (st : List Value) (M : Mem) (Q : Outcome → Mem → Prop), Wp d 196 97 ls (.int (I b) :: .int (I a) :: st) M Q = Wp d 196 98 ls (.int (I (a + b)) :: st) M Q := fun d ls a b st M Q => w_iadd (show ins 196 97 = some (.iadd, 1) by decide +kernel)
set_option maxRecDepth 100000 in
theorem r_196_98 : ∀ (d : Nat) (ls : Lc) (a : Nat) (j : Int32) (st : List Value) (M : Mem) (Q : Outcome → Mem → Prop), Wp d 196 98 ls (.int j :: .ref a :: st) M Q = ((((kX M a).1 = 0 ∨ (kX M a).1 = 8) ∧ inB j (kX M a).2 = true) ∧ Wp d 196 99 ls (.int (mA M a j.toNatClampNeg) :: st) M Q) := fun d ls a j st M Q => w_iaload (show ins 196 98 = some (.iaload, 1) by decide +kernel)
set_option maxRecDepth 100000 in
theorem r_196_99 : ∀ (d : Nat) (ls : Lc) (v : Int32) (M : Mem) (Q : Outcome → Mem → Prop), Wp d 196 99 ls [.int v] M Q = Q (.returned (some (.int v))) M := fun d ls v M Q => w_ireturn (show ins 196 99 = some (.ireturn, 1) by decide +kernel) (by decide +kernel)
set_option maxRecDepth 100000 in
theorem r_196_100 : ∀ (d : Nat) (l0 l1 l2 l3 : Option Value) (z : Int) (st : List Value) (M : Mem) (Q : Outcome → Mem → Prop), (lo l3 = false) → Wp d 196 100 [l0, l1, l2, l3, some (.int (I z))] st M Q = Wp d 196 103 [l0, l1, l2, l3, some (.int (I (z + 1)))] st M Q := fun d l0 l1 l2 l3 z st M Q hl => w_iinc (show ins 196 100 = some (.iinc 4 1, 3) by decide +kernel) rfl (st1_S rfl rfl hl)
set_option maxRecDepth 100000 in
theorem r_196_103 : ∀ (d : Nat) (ls : Lc) (st : List Value) (M : Mem) (Q : Outcome → Mem → Prop), Wp d 196 103 ls st M Q = Wp d 196 28 ls st M Q := fun d ls st M Q => w_goto (show ins 196 103 = some (.goto (-75), 3) by decide +kernel) rfl
set_option maxRecDepth 100000 in
theorem r_196_106 : ∀ (d : Nat) (l0 l1 l3 l4 : Option Value) (z : Int) (st : List Value) (M : Mem) (Q : Outcome → Mem → Prop), (lo l1 = false) → Wp d 196 106 [l0, l1, some (.int (I z)), l3, l4] st M Q = Wp d 196 109 [l0, l1, some (.int (I (z + 1))), l3, l4] st M Q := fun d l0 l1 l3 l4 z st M Q hl => w_iinc (show ins 196 106 = some (.iinc 2 1, 3) by decide +kernel) rfl (st1_S rfl rfl hl)
set_option maxRecDepth 100000 in
theorem r_196_109 : ∀ (d : Nat) (ls : Lc) (st : List Value) (M : Mem) (Q : Outcome → Mem → Prop), Wp d 196 109 ls st M Q = Wp d 196 2 ls st M Q := fun d ls st M Q => w_goto (show ins 196 109 = some (.goto (-107), 3) by decide +kernel) rfl
set_option maxRecDepth 100000 in
theorem r_196_112 : ∀ (d : Nat) (ls : Lc) (st : List Value) (M : Mem) (Q : Outcome → Mem → Prop), Wp d 196 112 ls st M Q = Wp d 196 113 ls (.int (I (-1)) :: st) M Q := fun d ls st M Q => w_iconst (show ins 196 112 = some (.iconst (-1), 1) by decide +kernel)
set_option maxRecDepth 100000 in
theorem r_196_113 : ∀ (d : Nat) (ls : Lc) (v : Int32) (M : Mem) (Q : Outcome → Mem → Prop), Wp d 196 113 ls [.int v] M Q = Q (.returned (some (.int v))) M := fun d ls v M Q => w_ireturn (show ins 196 113 = some (.ireturn, 1) by decide +kernel) (by decide +kernel)
set_option maxRecDepth 100000 in
theorem w_196_2 : (type_of% r_196_2) := r_196_2
set_option maxRecDepth 100000 in
theorem w_196_28 : (type_of% r_196_28) := r_196_28
set_option maxRecDepth 100000 in
theorem W_196 : (type_of% r_196_0) ∧ (type_of% r_196_1) ∧ (type_of% r_196_3) ∧ (type_of% r_196_4) ∧ (type_of% r_196_7) ∧ (type_of% r_196_10) ∧ (type_of% r_196_11) ∧ (type_of% r_196_14) ∧ (type_of% r_196_15) ∧ (type_of% r_196_18) ∧ (type_of% r_196_21) ∧ (type_of% r_196_22) ∧ (type_of% r_196_23) ∧ (type_of% r_196_24) ∧ (type_of% r_196_25) ∧ (type_of% r_196_26) ∧ (type_of% r_196_30) ∧ (type_of% r_196_31) ∧ (type_of% r_196_34) ∧ (type_of% r_196_37) ∧ (type_of% r_196_38) ∧ (type_of% r_196_39) ∧ (type_of% r_196_40) ∧ (type_of% r_196_43) ∧ (type_of% r_196_44) ∧ (type_of% r_196_47) ∧ (type_of% r_196_50) ∧ (type_of% r_196_52) ∧ (type_of% r_196_53) ∧ (type_of% r_196_54) ∧ (type_of% r_196_55) ∧ (type_of% r_196_57) ∧ (type_of% r_196_58) ∧ (type_of% r_196_59) ∧ (type_of% r_196_60) ∧ (type_of% r_196_63) ∧ (type_of% r_196_64) ∧ (type_of% r_196_67) ∧ (type_of% r_196_70) ∧ (type_of% r_196_72) ∧ (type_of% r_196_73) ∧ (type_of% r_196_74) ∧ (type_of% r_196_75) ∧ (type_of% r_196_77) ∧ (type_of% r_196_78) ∧ (type_of% r_196_79) ∧ (type_of% r_196_80) ∧ (type_of% r_196_83) ∧ (type_of% r_196_84) ∧ (type_of% r_196_87) ∧ (type_of% r_196_90) ∧ (type_of% r_196_92) ∧ (type_of% r_196_93) ∧ (type_of% r_196_94) ∧ (type_of% r_196_95) ∧ (type_of% r_196_97) ∧ (type_of% r_196_98) ∧ (type_of% r_196_99) ∧ (type_of% r_196_100) ∧ (type_of% r_196_103) ∧ (type_of% r_196_106) ∧ (type_of% r_196_109) ∧ (type_of% r_196_112) ∧ (type_of% r_196_113) := ⟨r_196_0, r_196_1, r_196_3, r_196_4, r_196_7, r_196_10, r_196_11, r_196_14, r_196_15, r_196_18, r_196_21, r_196_22, r_196_23, r_196_24, r_196_25, r_196_26, r_196_30, r_196_31, r_196_34, r_196_37, r_196_38, r_196_39, r_196_40, r_196_43, r_196_44, r_196_47, r_196_50, r_196_52, r_196_53, r_196_54, r_196_55, r_196_57, r_196_58, r_196_59, r_196_60, r_196_63, r_196_64, r_196_67, r_196_70, r_196_72, r_196_73, r_196_74, r_196_75, r_196_77, r_196_78, r_196_79, r_196_80, r_196_83, r_196_84, r_196_87, r_196_90, r_196_92, r_196_93, r_196_94, r_196_95, r_196_97, r_196_98, r_196_99, r_196_100, r_196_103, r_196_106, r_196_109, r_196_112, r_196_113⟩
set_option maxRecDepth 100000 in
theorem ca_196 {d y pc : Nat} {ls : Lc} {a : Nat} {z0 : Int32} {r : List Value} {M : Mem} {Q : Outcome → Mem → Prop} (hd : 0 < d) (hw : Wp (d - 1) 196 0 [some (.ref a), some (.int z0), none, none, none] [] M (Cq d y pc ls r Q)) : Ca d y pc ls 196 [.ref a, .int z0] r M Q := ca_of (mq_get (by decide)) (by rfl) hd hw
/-! 197 PackedTreeModel.write(IIJI)I; loop heads [35] -/
set_option maxRecDepth 100000 in
theorem r_197_0 : ∀ (d : Nat) (l1 l2 l3 l4 l5 l6 : Option Value) (v : Nat) (st : List Value) (M : Mem) (Q : Outcome → Mem → Prop), Wp d 197 0 [some (.ref v), l1, l2, l3, l4, l5, l6] st M Q = Wp d 197 1 [some (.ref v), l1, l2, l3, l4, l5, l6] (.ref v :: st) M Q := fun d l1 l2 l3 l4 l5 l6 v st M Q => wA (show ins 197 0 = some (.aload_n 0, 1) by decide +kernel) rfl
set_option maxRecDepth 100000 in
theorem r_197_1 : ∀ (d : Nat) (l1 l2 l3 l4 l5 l6 : Option Value) (v : Nat) (st : List Value) (M : Mem) (Q : Outcome → Mem → Prop), Wp d 197 1 [some (.ref v), l1, l2, l3, l4, l5, l6] st M Q = Wp d 197 2 [some (.ref v), l1, l2, l3, l4, l5, l6] (.ref v :: st) M Q := fun d l1 l2 l3 l4 l5 l6 v st M Q => wA (show ins 197 1 = some (.aload_n 0, 1) by decide +kernel) rfl
set_option maxRecDepth 100000 in
theorem r_197_2 : ∀ (d : Nat) (l0 l2 l3 l4 l5 l6 : Option Value) (v : Int32) (st : List Value) (M : Mem) (Q : Outcome → Mem → Prop), Wp d 197 2 [l0, some (.int v), l2, l3, l4, l5, l6] st M Q = Wp d 197 3 [l0, some (.int v), l2, l3, l4, l5, l6] (.int v :: st) M Q := fun d l0 l2 l3 l4 l5 l6 v st M Q => wA (show ins 197 2 = some (.iload_n 1, 1) by decide +kernel) rfl
set_option maxRecDepth 100000 in
theorem r_197_3 : ∀ (d : Nat) (l0 l1 l3 l4 l5 l6 : Option Value) (v : Int32) (st : List Value) (M : Mem) (Q : Outcome → Mem → Prop), Wp d 197 3 [l0, l1, some (.int v), l3, l4, l5, l6] st M Q = Wp d 197 4 [l0, l1, some (.int v), l3, l4, l5, l6] (.int v :: st) M Q := fun d l0 l1 l3 l4 l5 l6 v st M Q => wA (show ins 197 3 = some (.iload_n 2, 1) by decide +kernel) rfl
set_option maxRecDepth 100000 in
theorem r_197_4 : ∀ (d : Nat) (l0 l1 l2 l3 l4 l6 : Option Value) (v : Int32) (st : List Value) (M : Mem) (Q : Outcome → Mem → Prop), Wp d 197 4 [l0, l1, l2, l3, l4, some (.int v), l6] st M Q = Wp d 197 6 [l0, l1, l2, l3, l4, some (.int v), l6] (.int v :: st) M Q := fun d l0 l1 l2 l3 l4 l6 v st M Q => wA (show ins 197 4 = some (.iload 5, 2) by decide +kernel) rfl
set_option maxRecDepth 100000 in
theorem r_197_6 : ∀ (d : Nat) (ls : Lc) (st : List Value) (M : Mem) (Q : Outcome → Mem → Prop), Wp d 197 6 ls st M Q = Wp d 197 8 ls (.int (I 8) :: st) M Q := fun d ls st M Q => w_bipush (show ins 197 6 = some (.bipush 8, 2) by decide +kernel) (by decide)
set_option maxRecDepth 100000 in
theorem r_197_8 : ∀ (d : Nat) (ls : Lc) (v0 v1 v2 v3 : Value) (a : Nat) (st : List Value) (M : Mem) (Q : Outcome → Mem → Prop), (smallR st = true) → Wp d 197 8 ls (v3 :: v2 :: v1 :: v0 :: .ref a :: st) M Q = (kO M a = 8 ∧ Ca d 197 8 ls 198 (.ref a :: [v0, v1, v2, v3]) st M Q) := fun d ls v0 v1 v2 v3 a st M Q h0 => w_virt1 (as := [v0, v1, v2, v3]) (show ins 197 8 = some (.invokevirtual 183, 3) by decide +kernel) (show mRes (mC 197) 183 = some (3, 8, [(8, 198)]) by decide +kernel) (by decide +kernel) rfl (by decide +kernel) (by decide +kernel) h0
set_option maxRecDepth 100000 in
theorem r_197_11 : ∀ (d : Nat) (ls : Lc) (a : Nat) (v : Int32) (st : List Value) (M : Mem) (Q : Outcome → Mem → Prop), Wp d 197 11 ls (.int v :: .ref a :: st) M Q = (fk 54 (kO M a) = true ∧ Wp d 197 14 ls st (sF M 54 a v) Q) := fun d ls a v st M Q => w_putI (show ins 197 11 = some (.putfield 40, 3) by decide +kernel) (show fRes (mC 197) 40 = some (54, 8, false) by decide +kernel) (by decide +kernel) (by decide +kernel)
set_option maxRecDepth 100000 in
theorem r_197_14 : ∀ (d : Nat) (l1 l2 l3 l4 l5 l6 : Option Value) (v : Nat) (st : List Value) (M : Mem) (Q : Outcome → Mem → Prop), Wp d 197 14 [some (.ref v), l1, l2, l3, l4, l5, l6] st M Q = Wp d 197 15 [some (.ref v), l1, l2, l3, l4, l5, l6] (.ref v :: st) M Q := fun d l1 l2 l3 l4 l5 l6 v st M Q => wA (show ins 197 14 = some (.aload_n 0, 1) by decide +kernel) rfl
set_option maxRecDepth 100000 in
theorem r_197_15 : ∀ (d : Nat) (ls : Lc) (a : Nat) (st : List Value) (M : Mem) (Q : Outcome → Mem → Prop), Wp d 197 15 ls (.ref a :: st) M Q = (fk 54 (kO M a) = true ∧ Wp d 197 18 ls (.int (mF M 54 a) :: st) M Q) := fun d ls a st M Q => w_getI (show ins 197 15 = some (.getfield 40, 3) by decide +kernel) (show fRes (mC 197) 40 = some (54, 8, false) by decide +kernel) (by decide +kernel)
set_option maxRecDepth 100000 in
theorem r_197_18 : ∀ (d : Nat) (ls : Lc) (a : Int32) (st : List Value) (M : Mem) (Q : Outcome → Mem → Prop), Wp d 197 18 ls (.int a :: st) M Q = Br (a ≤ I 0) d 197 23 21 ls st M Q := fun d ls a st M Q => w_if (show ins 197 18 = some (.ifCond .le 5, 3) by decide +kernel) rfl rfl
set_option maxRecDepth 100000 in
theorem r_197_21 : ∀ (d : Nat) (ls : Lc) (st : List Value) (M : Mem) (Q : Outcome → Mem → Prop), Wp d 197 21 ls st M Q = Wp d 197 22 ls (.int (I 0) :: st) M Q := fun d ls st M Q => w_iconst (show ins 197 21 = some (.iconst 0, 1) by decide +kernel)
set_option maxRecDepth 100000 in
theorem r_197_22 : ∀ (d : Nat) (ls : Lc) (v : Int32) (M : Mem) (Q : Outcome → Mem → Prop), Wp d 197 22 ls [.int v] M Q = Q (.returned (some (.int v))) M := fun d ls v M Q => w_ireturn (show ins 197 22 = some (.ireturn, 1) by decide +kernel) (by decide +kernel)
set_option maxRecDepth 100000 in
theorem r_197_23 : ∀ (d : Nat) (l1 l2 l3 l4 l5 l6 : Option Value) (v : Nat) (st : List Value) (M : Mem) (Q : Outcome → Mem → Prop), Wp d 197 23 [some (.ref v), l1, l2, l3, l4, l5, l6] st M Q = Wp d 197 24 [some (.ref v), l1, l2, l3, l4, l5, l6] (.ref v :: st) M Q := fun d l1 l2 l3 l4 l5 l6 v st M Q => wA (show ins 197 23 = some (.aload_n 0, 1) by decide +kernel) rfl
set_option maxRecDepth 100000 in
theorem r_197_24 : ∀ (d : Nat) (ls : Lc) (a : Nat) (st : List Value) (M : Mem) (Q : Outcome → Mem → Prop), (smallR st = true) → Wp d 197 24 ls (.ref a :: st) M Q = (kO M a = 8 ∧ Ca d 197 24 ls 166 (.ref a :: []) st M Q) := fun d ls a st M Q h0 => w_virt1 (as := []) (show ins 197 24 = some (.invokevirtual 164, 3) by decide +kernel) (show mRes (mC 197) 164 = some (3, 8, [(8, 166)]) by decide +kernel) (by decide +kernel) rfl (by decide +kernel) (by decide +kernel) h0
set_option maxRecDepth 100000 in
theorem r_197_27 : ∀ (d : Nat) (l1 l2 l3 l4 l5 l6 : Option Value) (v : Nat) (st : List Value) (M : Mem) (Q : Outcome → Mem → Prop), Wp d 197 27 [some (.ref v), l1, l2, l3, l4, l5, l6] st M Q = Wp d 197 28 [some (.ref v), l1, l2, l3, l4, l5, l6] (.ref v :: st) M Q := fun d l1 l2 l3 l4 l5 l6 v st M Q => wA (show ins 197 27 = some (.aload_n 0, 1) by decide +kernel) rfl
set_option maxRecDepth 100000 in
theorem r_197_28 : ∀ (d : Nat) (l0 l2 l3 l4 l5 l6 : Option Value) (v : Int32) (st : List Value) (M : Mem) (Q : Outcome → Mem → Prop), Wp d 197 28 [l0, some (.int v), l2, l3, l4, l5, l6] st M Q = Wp d 197 29 [l0, some (.int v), l2, l3, l4, l5, l6] (.int v :: st) M Q := fun d l0 l2 l3 l4 l5 l6 v st M Q => wA (show ins 197 28 = some (.iload_n 1, 1) by decide +kernel) rfl
set_option maxRecDepth 100000 in
theorem r_197_29 : ∀ (d : Nat) (ls : Lc) (v0 : Value) (a : Nat) (st : List Value) (M : Mem) (Q : Outcome → Mem → Prop), (smallR st = true) → Wp d 197 29 ls (v0 :: .ref a :: st) M Q = (kO M a = 8 ∧ Ca d 197 29 ls 199 (.ref a :: [v0]) st M Q) := fun d ls v0 a st M Q h0 => w_virt1 (as := [v0]) (show ins 197 29 = some (.invokevirtual 187, 3) by decide +kernel) (show mRes (mC 197) 187 = some (3, 8, [(8, 199)]) by decide +kernel) (by decide +kernel) rfl (by decide +kernel) (by decide +kernel) h0
set_option maxRecDepth 100000 in
theorem r_197_32 : ∀ (d : Nat) (ls : Lc) (st : List Value) (M : Mem) (Q : Outcome → Mem → Prop), Wp d 197 32 ls st M Q = Wp d 197 33 ls (.int (I 0) :: st) M Q := fun d ls st M Q => w_iconst (show ins 197 32 = some (.iconst 0, 1) by decide +kernel)
set_option maxRecDepth 100000 in
theorem r_197_33 : ∀ (d : Nat) (l0 l1 l2 l3 l4 l5 l6 : Option Value) (v : Int32) (st : List Value) (M : Mem) (Q : Outcome → Mem → Prop), (lo l5 = false) → Wp d 197 33 [l0, l1, l2, l3, l4, l5, l6] (.int v :: st) M Q = Wp d 197 35 [l0, l1, l2, l3, l4, l5, some (.int v)] st M Q := fun d l0 l1 l2 l3 l4 l5 l6 v st M Q hl => w_istore (show ins 197 33 = some (.istore 6, 2) by decide +kernel) (st1_S rfl rfl hl)
set_option maxRecDepth 100000 in
theorem r_197_35 : ∀ (d : Nat) (l0 l1 l2 l3 l4 l5 : Option Value) (v : Int32) (st : List Value) (M : Mem) (Q : Outcome → Mem → Prop), Wp d 197 35 [l0, l1, l2, l3, l4, l5, some (.int v)] st M Q = Wp d 197 37 [l0, l1, l2, l3, l4, l5, some (.int v)] (.int v :: st) M Q := fun d l0 l1 l2 l3 l4 l5 v st M Q => wA (show ins 197 35 = some (.iload 6, 2) by decide +kernel) rfl
set_option maxRecDepth 100000 in
theorem r_197_37 : ∀ (d : Nat) (l0 l1 l2 l3 l4 l6 : Option Value) (v : Int32) (st : List Value) (M : Mem) (Q : Outcome → Mem → Prop), Wp d 197 37 [l0, l1, l2, l3, l4, some (.int v), l6] st M Q = Wp d 197 39 [l0, l1, l2, l3, l4, some (.int v), l6] (.int v :: st) M Q := fun d l0 l1 l2 l3 l4 l6 v st M Q => wA (show ins 197 37 = some (.iload 5, 2) by decide +kernel) rfl
set_option maxRecDepth 100000 in
theorem r_197_39 : ∀ (d : Nat) (ls : Lc) (a b : Int32) (st : List Value) (M : Mem) (Q : Outcome → Mem → Prop), Wp d 197 39 ls (.int b :: .int a :: st) M Q = Br (b ≤ a) d 197 69 42 ls st M Q := fun d ls a b st M Q => w_icmp (show ins 197 39 = some (.if_icmp .ge 30, 3) by decide +kernel) rfl rfl
set_option maxRecDepth 100000 in
theorem r_197_42 : ∀ (d : Nat) (l1 l2 l3 l4 l5 l6 : Option Value) (v : Nat) (st : List Value) (M : Mem) (Q : Outcome → Mem → Prop), Wp d 197 42 [some (.ref v), l1, l2, l3, l4, l5, l6] st M Q = Wp d 197 43 [some (.ref v), l1, l2, l3, l4, l5, l6] (.ref v :: st) M Q := fun d l1 l2 l3 l4 l5 l6 v st M Q => wA (show ins 197 42 = some (.aload_n 0, 1) by decide +kernel) rfl
set_option maxRecDepth 100000 in
theorem r_197_43 : ∀ (d : Nat) (ls : Lc) (a : Nat) (st : List Value) (M : Mem) (Q : Outcome → Mem → Prop), Wp d 197 43 ls (.ref a :: st) M Q = (fk 51 (kO M a) = true ∧ Wp d 197 46 ls (va_rf (mR M 51 a) :: st) M Q) := fun d ls a st M Q => w_getR (show ins 197 43 = some (.getfield 19, 3) by decide +kernel) (show fRes (mC 197) 19 = some (51, 8, false) by decide +kernel) (by decide +kernel)
set_option maxRecDepth 100000 in
theorem r_197_46 : ∀ (d : Nat) (l0 l1 l3 l4 l5 l6 : Option Value) (v : Int32) (st : List Value) (M : Mem) (Q : Outcome → Mem → Prop), Wp d 197 46 [l0, l1, some (.int v), l3, l4, l5, l6] st M Q = Wp d 197 47 [l0, l1, some (.int v), l3, l4, l5, l6] (.int v :: st) M Q := fun d l0 l1 l3 l4 l5 l6 v st M Q => wA (show ins 197 46 = some (.iload_n 2, 1) by decide +kernel) rfl
set_option maxRecDepth 100000 in
theorem r_197_47 : ∀ (d : Nat) (l0 l1 l2 l3 l4 l5 : Option Value) (v : Int32) (st : List Value) (M : Mem) (Q : Outcome → Mem → Prop), Wp d 197 47 [l0, l1, l2, l3, l4, l5, some (.int v)] st M Q = Wp d 197 49 [l0, l1, l2, l3, l4, l5, some (.int v)] (.int v :: st) M Q := fun d l0 l1 l2 l3 l4 l5 v st M Q => wA (show ins 197 47 = some (.iload 6, 2) by decide +kernel) rfl
set_option maxRecDepth 100000 in
theorem r_197_49 : ∀ (d : Nat) (ls : Lc) (a b : Int) (st : List Value) (M : Mem) (Q : Outcome → Mem → Prop), Wp d 197 49 ls (.int (I b) :: .int (I a) :: st) M Q = Wp d 197 50 ls (.int (I (a + b)) :: st) M Q := fun d ls a b st M Q => w_iadd (show ins 197 49 = some (.iadd, 1) by decide +kernel)
set_option maxRecDepth 100000 in
theorem r_197_50 : ∀ (d : Nat) (l0 l1 l2 l4 l5 l6 : Option Value) (v : Int64) (st : List Value) (M : Mem) (Q : Outcome → Mem → Prop), Wp d 197 50 [l0, l1, l2, some (.long v), l4, l5, l6] st M Q = Wp d 197 51 [l0, l1, l2, some (.long v), l4, l5, l6] (.long v :: st) M Q := fun d l0 l1 l2 l4 l5 l6 v st M Q => wA (show ins 197 50 = some (.lload_n 3, 1) by decide +kernel) rfl
set_option maxRecDepth 100000 in
theorem r_197_51 : ∀ (d : Nat) (ls : Lc) (st : List Value) (M : Mem) (Q : Outcome → Mem → Prop), Wp d 197 51 ls st M Q = Wp d 197 53 ls (.int (I 8) :: st) M Q := fun d ls st M Q => w_bipush (show ins 197 51 = some (.bipush 8, 2) by decide +kernel) (by decide)
set_option maxRecDepth 100000 in
theorem r_197_53 : ∀ (d : Nat) (l0 l1 l2 l3 l4 l5 : Option Value) (v : Int32) (st : List Value) (M : Mem) (Q : Outcome → Mem → Prop), Wp d 197 53 [l0, l1, l2, l3, l4, l5, some (.int v)] st M Q = Wp d 197 55 [l0, l1, l2, l3, l4, l5, some (.int v)] (.int v :: st) M Q := fun d l0 l1 l2 l3 l4 l5 v st M Q => wA (show ins 197 53 = some (.iload 6, 2) by decide +kernel) rfl
set_option maxRecDepth 100000 in
theorem r_197_55 : ∀ (d : Nat) (ls : Lc) (a b : Int) (st : List Value) (M : Mem) (Q : Outcome → Mem → Prop), Wp d 197 55 ls (.int (I b) :: .int (I a) :: st) M Q = Wp d 197 56 ls (.int (I (a * b)) :: st) M Q := fun d ls a b st M Q => w_imul (show ins 197 55 = some (.imul, 1) by decide +kernel)
set_option maxRecDepth 100000 in
theorem r_197_56 : ∀ (d : Nat) (ls : Lc) (a : Int64) (b : Int32) (st : List Value) (M : Mem) (Q : Outcome → Mem → Prop), Wp d 197 56 ls (.int b :: .long a :: st) M Q = Wp d 197 57 ls (.long (a >>> (b.toInt64 &&& 63)) :: st) M Q := fun d ls a b st M Q => wA (show ins 197 56 = some (.lshr, 1) by decide +kernel) rfl
set_option maxRecDepth 100000 in
theorem r_197_57 : ∀ (d : Nat) (ls : Lc) (st : List Value) (M : Mem) (Q : Outcome → Mem → Prop), Wp d 197 57 ls st M Q = Wp d 197 60 ls (.long 255 :: st) M Q := fun d ls st M Q => w_ldc (show ins 197 57 = some (.ldc2_w 190, 3) by decide +kernel) (by decide +kernel)
set_option maxRecDepth 100000 in
theorem r_197_60 : ∀ (d : Nat) (ls : Lc) (a b : Int64) (st : List Value) (M : Mem) (Q : Outcome → Mem → Prop), Wp d 197 60 ls (.long b :: .long a :: st) M Q = Wp d 197 61 ls (.long (a &&& b) :: st) M Q := fun d ls a b st M Q => wA (show ins 197 60 = some (.land, 1) by decide +kernel) rfl
set_option maxRecDepth 100000 in
theorem r_197_61 : ∀ (d : Nat) (ls : Lc) (a : Int64) (st : List Value) (M : Mem) (Q : Outcome → Mem → Prop), Wp d 197 61 ls (.long a :: st) M Q = Wp d 197 62 ls (.int a.toInt32 :: st) M Q := fun d ls a st M Q => wA (show ins 197 61 = some (.l2i, 1) by decide +kernel) rfl
set_option maxRecDepth 100000 in
theorem r_197_62 : ∀ (d : Nat) (ls : Lc) (a : Nat) (j v : Int32) (st : List Value) (M : Mem) (Q : Outcome → Mem → Prop), Wp d 197 62 ls (.int v :: .int j :: .ref a :: st) M Q = (((kX M a).1 = 0 ∧ inB j (kX M a).2 = true) ∧ Wp d 197 63 ls st (sA M a j.toNatClampNeg v) Q) := fun d ls a j v st M Q => w_iastore (show ins 197 62 = some (.iastore, 1) by decide +kernel)
set_option maxRecDepth 100000 in
theorem r_197_63 : ∀ (d : Nat) (l0 l1 l2 l3 l4 l5 : Option Value) (z : Int) (st : List Value) (M : Mem) (Q : Outcome → Mem → Prop), (lo l5 = false) → Wp d 197 63 [l0, l1, l2, l3, l4, l5, some (.int (I z))] st M Q = Wp d 197 66 [l0, l1, l2, l3, l4, l5, some (.int (I (z + 1)))] st M Q := fun d l0 l1 l2 l3 l4 l5 z st M Q hl => w_iinc (show ins 197 63 = some (.iinc 6 1, 3) by decide +kernel) rfl (st1_S rfl rfl hl)
set_option maxRecDepth 100000 in
theorem r_197_66 : ∀ (d : Nat) (ls : Lc) (st : List Value) (M : Mem) (Q : Outcome → Mem → Prop), Wp d 197 66 ls st M Q = Wp d 197 35 ls st M Q := fun d ls st M Q => w_goto (show ins 197 66 = some (.goto (-31), 3) by decide +kernel) rfl
set_option maxRecDepth 100000 in
theorem r_197_69 : ∀ (d : Nat) (l1 l2 l3 l4 l5 l6 : Option Value) (v : Nat) (st : List Value) (M : Mem) (Q : Outcome → Mem → Prop), Wp d 197 69 [some (.ref v), l1, l2, l3, l4, l5, l6] st M Q = Wp d 197 70 [some (.ref v), l1, l2, l3, l4, l5, l6] (.ref v :: st) M Q := fun d l1 l2 l3 l4 l5 l6 v st M Q => wA (show ins 197 69 = some (.aload_n 0, 1) by decide +kernel) rfl
set_option maxRecDepth 100000 in
theorem r_197_70 : ∀ (d : Nat) (l0 l2 l3 l4 l5 l6 : Option Value) (v : Int32) (st : List Value) (M : Mem) (Q : Outcome → Mem → Prop), Wp d 197 70 [l0, some (.int v), l2, l3, l4, l5, l6] st M Q = Wp d 197 71 [l0, some (.int v), l2, l3, l4, l5, l6] (.int v :: st) M Q := fun d l0 l2 l3 l4 l5 l6 v st M Q => wA (show ins 197 70 = some (.iload_n 1, 1) by decide +kernel) rfl
set_option maxRecDepth 100000 in
theorem r_197_71 : ∀ (d : Nat) (l0 l1 l3 l4 l5 l6 : Option Value) (v : Int32) (st : List Value) (M : Mem) (Q : Outcome → Mem → Prop), Wp d 197 71 [l0, l1, some (.int v), l3, l4, l5, l6] st M Q = Wp d 197 72 [l0, l1, some (.int v), l3, l4, l5, l6] (.int v :: st) M Q := fun d l0 l1 l3 l4 l5 l6 v st M Q => wA (show ins 197 71 = some (.iload_n 2, 1) by decide +kernel) rfl
set_option maxRecDepth 100000 in
theorem r_197_72 : ∀ (d : Nat) (l0 l1 l2 l3 l4 l6 : Option Value) (v : Int32) (st : List Value) (M : Mem) (Q : Outcome → Mem → Prop), Wp d 197 72 [l0, l1, l2, l3, l4, some (.int v), l6] st M Q = Wp d 197 74 [l0, l1, l2, l3, l4, some (.int v), l6] (.int v :: st) M Q := fun d l0 l1 l2 l3 l4 l6 v st M Q => wA (show ins 197 72 = some (.iload 5, 2) by decide +kernel) rfl
set_option maxRecDepth 100000 in
theorem r_197_74 : ∀ (d : Nat) (ls : Lc) (a b : Int) (st : List Value) (M : Mem) (Q : Outcome → Mem → Prop), Wp d 197 74 ls (.int (I b) :: .int (I a) :: st) M Q = Wp d 197 75 ls (.int (I (a + b)) :: st) M Q := fun d ls a b st M Q => w_iadd (show ins 197 74 = some (.iadd, 1) by decide +kernel)
set_option maxRecDepth 100000 in
theorem r_197_75 : ∀ (d : Nat) (ls : Lc) (v0 v1 : Value) (a : Nat) (st : List Value) (M : Mem) (Q : Outcome → Mem → Prop), (smallR st = true) → Wp d 197 75 ls (v1 :: v0 :: .ref a :: st) M Q = (kO M a = 8 ∧ Ca d 197 75 ls 201 (.ref a :: [v0, v1]) st M Q) := fun d ls v0 v1 a st M Q h0 => w_virt1 (as := [v0, v1]) (show ins 197 75 = some (.invokevirtual 192, 3) by decide +kernel) (show mRes (mC 197) 192 = some (3, 8, [(8, 201)]) by decide +kernel) (by decide +kernel) rfl (by decide +kernel) (by decide +kernel) h0
set_option maxRecDepth 100000 in
theorem r_197_78 : ∀ (d : Nat) (ls : Lc) (v : Int32) (M : Mem) (Q : Outcome → Mem → Prop), Wp d 197 78 ls [.int v] M Q = Q (.returned (some (.int v))) M := fun d ls v M Q => w_ireturn (show ins 197 78 = some (.ireturn, 1) by decide +kernel) (by decide +kernel)
set_option maxRecDepth 100000 in
theorem w_197_35 : (type_of% r_197_35) := r_197_35
set_option maxRecDepth 100000 in
theorem W_197 : (type_of% r_197_0) ∧ (type_of% r_197_1) ∧ (type_of% r_197_2) ∧ (type_of% r_197_3) ∧ (type_of% r_197_4) ∧ (type_of% r_197_6) ∧ (type_of% r_197_8) ∧ (type_of% r_197_11) ∧ (type_of% r_197_14) ∧ (type_of% r_197_15) ∧ (type_of% r_197_18) ∧ (type_of% r_197_21) ∧ (type_of% r_197_22) ∧ (type_of% r_197_23) ∧ (type_of% r_197_24) ∧ (type_of% r_197_27) ∧ (type_of% r_197_28) ∧ (type_of% r_197_29) ∧ (type_of% r_197_32) ∧ (type_of% r_197_33) ∧ (type_of% r_197_37) ∧ (type_of% r_197_39) ∧ (type_of% r_197_42) ∧ (type_of% r_197_43) ∧ (type_of% r_197_46) ∧ (type_of% r_197_47) ∧ (type_of% r_197_49) ∧ (type_of% r_197_50) ∧ (type_of% r_197_51) ∧ (type_of% r_197_53) ∧ (type_of% r_197_55) ∧ (type_of% r_197_56) ∧ (type_of% r_197_57) ∧ (type_of% r_197_60) ∧ (type_of% r_197_61) ∧ (type_of% r_197_62) ∧ (type_of% r_197_63) ∧ (type_of% r_197_66) ∧ (type_of% r_197_69) ∧ (type_of% r_197_70) ∧ (type_of% r_197_71) ∧ (type_of% r_197_72) ∧ (type_of% r_197_74) ∧ (type_of% r_197_75) ∧ (type_of% r_197_78) := ⟨r_197_0, r_197_1, r_197_2, r_197_3, r_197_4, r_197_6, r_197_8, r_197_11, r_197_14, r_197_15, r_197_18, r_197_21, r_197_22, r_197_23, r_197_24, r_197_27, r_197_28, r_197_29, r_197_32, r_197_33, r_197_37, r_197_39, r_197_42, r_197_43, r_197_46, r_197_47, r_197_49, r_197_50, r_197_51, r_197_53, r_197_55, r_197_56, r_197_57, r_197_60, r_197_61, r_197_62, r_197_63, r_197_66, r_197_69, r_197_70, r_197_71, r_197_72, r_197_74, r_197_75, r_197_78⟩
set_option maxRecDepth 100000 in
theorem ca_197 {d y pc : Nat} {ls : Lc} {a : Nat} {z0 : Int32} {z1 : Int32} {z2 : Int64} {z3 : Int32} {r : List Value} {M : Mem} {Q : Outcome → Mem → Prop} (hd : 0 < d) (hw : Wp (d - 1) 197 0 [some (.ref a), some (.int z0), some (.int z1), some (.long z2), none, some (.int z3), none] [] M (Cq d y pc ls r Q)) : Ca d y pc ls 197 [.ref a, .int z0, .int z1, .long z2, .int z3] r M Q := ca_of (mq_get (by decide)) (by rfl) hd hw
/-! 198 PackedTreeModel.refused(IIII)I; loop heads [] -/
set_option maxRecDepth 100000 in
theorem r_198_0 : ∀ (d : Nat) (l1 l2 l3 l4 : Option Value) (v : Nat) (st : List Value) (M : Mem) (Q : Outcome → Mem → Prop), Wp d 198 0 [some (.ref v), l1, l2, l3, l4] st M Q = Wp d 198 1 [some (.ref v), l1, l2, l3, l4] (.ref v :: st) M Q := fun d l1 l2 l3 l4 v st M Q => wA (show ins 198 0 = some (.aload_n 0, 1) by decide +kernel) rfl
set_option maxRecDepth 100000 in
theorem r_198_1 : ∀ (d : Nat) (ls : Lc) (a : Nat) (st : List Value) (M : Mem) (Q : Outcome → Mem → Prop), Wp d 198 1 ls (.ref a :: st) M Q = (fk 52 (kO M a) = true ∧ Wp d 198 4 ls (.int (mF M 52 a) :: st) M Q) := fun d ls a st M Q => w_getI (show ins 198 1 = some (.getfield 149, 3) by decide +kernel) (show fRes (mC 198) 149 = some (52, 8, false) by decide +kernel) (by decide +kernel)
set_option maxRecDepth 100000 in
theorem r_198_4 : ∀ (d : Nat) (ls : Lc) (a : Int32) (st : List Value) (M : Mem) (Q : Outcome → Mem → Prop), Wp d 198 4 ls (.int a :: st) M Q = Br (a = I 0) d 198 11 7 ls st M Q := fun d ls a st M Q => w_if (show ins 198 4 = some (.ifCond .eq 7, 3) by decide +kernel) rfl rfl
set_option maxRecDepth 100000 in
theorem r_198_7 : ∀ (d : Nat) (ls : Lc) (st : List Value) (M : Mem) (Q : Outcome → Mem → Prop), Wp d 198 7 ls st M Q = Wp d 198 8 ls (.int (I 1) :: st) M Q := fun d ls st M Q => w_iconst (show ins 198 7 = some (.iconst 1, 1) by decide +kernel)
set_option maxRecDepth 100000 in
theorem r_198_8 : ∀ (d : Nat) (ls : Lc) (st : List Value) (M : Mem) (Q : Outcome → Mem → Prop), Wp d 198 8 ls st M Q = Wp d 198 65 ls st M Q := fun d ls st M Q => w_goto (show ins 198 8 = some (.goto 57, 3) by decide +kernel) rfl
set_option maxRecDepth 100000 in
theorem r_198_11 : ∀ (d : Nat) (l1 l2 l3 l4 : Option Value) (v : Nat) (st : List Value) (M : Mem) (Q : Outcome → Mem → Prop), Wp d 198 11 [some (.ref v), l1, l2, l3, l4] st M Q = Wp d 198 12 [some (.ref v), l1, l2, l3, l4] (.ref v :: st) M Q := fun d l1 l2 l3 l4 v st M Q => wA (show ins 198 11 = some (.aload_n 0, 1) by decide +kernel) rfl
set_option maxRecDepth 100000 in
theorem r_198_12 : ∀ (d : Nat) (l0 l2 l3 l4 : Option Value) (v : Int32) (st : List Value) (M : Mem) (Q : Outcome → Mem → Prop), Wp d 198 12 [l0, some (.int v), l2, l3, l4] st M Q = Wp d 198 13 [l0, some (.int v), l2, l3, l4] (.int v :: st) M Q := fun d l0 l2 l3 l4 v st M Q => wA (show ins 198 12 = some (.iload_n 1, 1) by decide +kernel) rfl
set_option maxRecDepth 100000 in
theorem r_198_13 : ∀ (d : Nat) (ls : Lc) (v0 : Value) (a : Nat) (st : List Value) (M : Mem) (Q : Outcome → Mem → Prop), (smallR st = true) → Wp d 198 13 ls (v0 :: .ref a :: st) M Q = (kO M a = 8 ∧ Ca d 198 13 ls 185 (.ref a :: [v0]) st M Q) := fun d ls v0 a st M Q h0 => w_virt1 (as := [v0]) (show ins 198 13 = some (.invokevirtual 170, 3) by decide +kernel) (show mRes (mC 198) 170 = some (3, 8, [(8, 185)]) by decide +kernel) (by decide +kernel) rfl (by decide +kernel) (by decide +kernel) h0
set_option maxRecDepth 100000 in
theorem r_198_16 : ∀ (d : Nat) (ls : Lc) (a : Int32) (st : List Value) (M : Mem) (Q : Outcome → Mem → Prop), Wp d 198 16 ls (.int a :: st) M Q = Br (a = I 0) d 198 37 19 ls st M Q := fun d ls a st M Q => w_if (show ins 198 16 = some (.ifCond .eq 21, 3) by decide +kernel) rfl rfl
set_option maxRecDepth 100000 in
theorem r_198_19 : ∀ (d : Nat) (l0 l1 l3 l4 : Option Value) (v : Int32) (st : List Value) (M : Mem) (Q : Outcome → Mem → Prop), Wp d 198 19 [l0, l1, some (.int v), l3, l4] st M Q = Wp d 198 20 [l0, l1, some (.int v), l3, l4] (.int v :: st) M Q := fun d l0 l1 l3 l4 v st M Q => wA (show ins 198 19 = some (.iload_n 2, 1) by decide +kernel) rfl
set_option maxRecDepth 100000 in
theorem r_198_20 : ∀ (d : Nat) (ls : Lc) (st : List Value) (M : Mem) (Q : Outcome → Mem → Prop), Wp d 198 20 ls st M Q = Wp d 198 21 ls (.int (I 0) :: st) M Q := fun d ls st M Q => w_iconst (show ins 198 20 = some (.iconst 0, 1) by decide +kernel)
set_option maxRecDepth 100000 in
theorem r_198_21 : ∀ (d : Nat) (l1 l2 l3 l4 : Option Value) (v : Nat) (st : List Value) (M : Mem) (Q : Outcome → Mem → Prop), Wp d 198 21 [some (.ref v), l1, l2, l3, l4] st M Q = Wp d 198 22 [some (.ref v), l1, l2, l3, l4] (.ref v :: st) M Q := fun d l1 l2 l3 l4 v st M Q => wA (show ins 198 21 = some (.aload_n 0, 1) by decide +kernel) rfl
set_option maxRecDepth 100000 in
theorem r_198_22 : ∀ (d : Nat) (ls : Lc) (a : Nat) (st : List Value) (M : Mem) (Q : Outcome → Mem → Prop), Wp d 198 22 ls (.ref a :: st) M Q = (fk 53 (kO M a) = true ∧ Wp d 198 25 ls (va_rf (mR M 53 a) :: st) M Q) := fun d ls a st M Q => w_getR (show ins 198 22 = some (.getfield 7, 3) by decide +kernel) (show fRes (mC 198) 7 = some (53, 8, false) by decide +kernel) (by decide +kernel)
set_option maxRecDepth 100000 in
theorem r_198_25 : ∀ (d : Nat) (ls : Lc) (st : List Value) (M : Mem) (Q : Outcome → Mem → Prop), Wp d 198 25 ls st M Q = Wp d 198 28 ls (.int (I 218) :: st) M Q := fun d ls st M Q => w_sipush (show ins 198 25 = some (.sipush 218, 3) by decide +kernel) (by decide)
set_option maxRecDepth 100000 in
theorem r_198_28 : ∀ (d : Nat) (l0 l2 l3 l4 : Option Value) (v : Int32) (st : List Value) (M : Mem) (Q : Outcome → Mem → Prop), Wp d 198 28 [l0, some (.int v), l2, l3, l4] st M Q = Wp d 198 29 [l0, some (.int v), l2, l3, l4] (.int v :: st) M Q := fun d l0 l2 l3 l4 v st M Q => wA (show ins 198 28 = some (.iload_n 1, 1) by decide +kernel) rfl
set_option maxRecDepth 100000 in
theorem r_198_29 : ∀ (d : Nat) (ls : Lc) (a b : Int) (st : List Value) (M : Mem) (Q : Outcome → Mem → Prop), Wp d 198 29 ls (.int (I b) :: .int (I a) :: st) M Q = Wp d 198 30 ls (.int (I (a + b)) :: st) M Q := fun d ls a b st M Q => w_iadd (show ins 198 29 = some (.iadd, 1) by decide +kernel)
set_option maxRecDepth 100000 in
theorem r_198_30 : ∀ (d : Nat) (ls : Lc) (a : Nat) (j : Int32) (st : List Value) (M : Mem) (Q : Outcome → Mem → Prop), Wp d 198 30 ls (.int j :: .ref a :: st) M Q = ((((kX M a).1 = 0 ∨ (kX M a).1 = 8) ∧ inB j (kX M a).2 = true) ∧ Wp d 198 31 ls (.int (mA M a j.toNatClampNeg) :: st) M Q) := fun d ls a j st M Q => w_iaload (show ins 198 30 = some (.iaload, 1) by decide +kernel)
set_option maxRecDepth 100000 in
theorem r_198_31 : ∀ (d : Nat) (ls : Lc) (v0 v1 v2 : Value)  (st : List Value) (M : Mem) (Q : Outcome → Mem → Prop), (smallR st = true) → Wp d 198 31 ls (v2 :: v1 :: v0 :: st) M Q = Ca d 198 31 ls 159 [v0, v1, v2] st M Q := fun d ls v0 v1 v2 st M Q h0 => w_stat (as := [v0, v1, v2]) (show ins 198 31 = some (.invokestatic 43, 3) by decide +kernel) (show mRes (mC 198) 43 = some (0, 8, [(0, 159)]) by decide +kernel) (by decide +kernel) (by decide +kernel) rfl h0
set_option maxRecDepth 100000 in
theorem r_198_34 : ∀ (d : Nat) (ls : Lc) (a : Int32) (st : List Value) (M : Mem) (Q : Outcome → Mem → Prop), Wp d 198 34 ls (.int a :: st) M Q = Br (¬ a = I 0) d 198 41 37 ls st M Q := fun d ls a st M Q => w_if (show ins 198 34 = some (.ifCond .ne 7, 3) by decide +kernel) rfl rfl
set_option maxRecDepth 100000 in
theorem r_198_37 : ∀ (d : Nat) (ls : Lc) (st : List Value) (M : Mem) (Q : Outcome → Mem → Prop), Wp d 198 37 ls st M Q = Wp d 198 38 ls (.int (I 2) :: st) M Q := fun d ls st M Q => w_iconst (show ins 198 37 = some (.iconst 2, 1) by decide +kernel)
set_option maxRecDepth 100000 in
theorem r_198_38 : ∀ (d : Nat) (ls : Lc) (st : List Value) (M : Mem) (Q : Outcome → Mem → Prop), Wp d 198 38 ls st M Q = Wp d 198 65 ls st M Q := fun d ls st M Q => w_goto (show ins 198 38 = some (.goto 27, 3) by decide +kernel) rfl
set_option maxRecDepth 100000 in
theorem r_198_41 : ∀ (d : Nat) (l0 l1 l2 l4 : Option Value) (v : Int32) (st : List Value) (M : Mem) (Q : Outcome → Mem → Prop), Wp d 198 41 [l0, l1, l2, some (.int v), l4] st M Q = Wp d 198 42 [l0, l1, l2, some (.int v), l4] (.int v :: st) M Q := fun d l0 l1 l2 l4 v st M Q => wA (show ins 198 41 = some (.iload_n 3, 1) by decide +kernel) rfl
set_option maxRecDepth 100000 in
theorem r_198_42 : ∀ (d : Nat) (ls : Lc) (st : List Value) (M : Mem) (Q : Outcome → Mem → Prop), Wp d 198 42 ls st M Q = Wp d 198 43 ls (.int (I 1) :: st) M Q := fun d ls st M Q => w_iconst (show ins 198 42 = some (.iconst 1, 1) by decide +kernel)
set_option maxRecDepth 100000 in
theorem r_198_43 : ∀ (d : Nat) (l0 l1 l2 l3 : Option Value) (v : Int32) (st : List Value) (M : Mem) (Q : Outcome → Mem → Prop), Wp d 198 43 [l0, l1, l2, l3, some (.int v)] st M Q = Wp d 198 45 [l0, l1, l2, l3, some (.int v)] (.int v :: st) M Q := fun d l0 l1 l2 l3 v st M Q => wA (show ins 198 43 = some (.iload 4, 2) by decide +kernel) rfl
set_option maxRecDepth 100000 in
theorem r_198_45 : ∀ (d : Nat) (ls : Lc) (v0 v1 v2 : Value)  (st : List Value) (M : Mem) (Q : Outcome → Mem → Prop), (smallR st = true) → Wp d 198 45 ls (v2 :: v1 :: v0 :: st) M Q = Ca d 198 45 ls 159 [v0, v1, v2] st M Q := fun d ls v0 v1 v2 st M Q h0 => w_stat (as := [v0, v1, v2]) (show ins 198 45 = some (.invokestatic 43, 3) by decide +kernel) (show mRes (mC 198) 43 = some (0, 8, [(0, 159)]) by decide +kernel) (by decide +kernel) (by decide +kernel) rfl h0
set_option maxRecDepth 100000 in
theorem r_198_48 : ∀ (d : Nat) (ls : Lc) (a : Int32) (st : List Value) (M : Mem) (Q : Outcome → Mem → Prop), Wp d 198 48 ls (.int a :: st) M Q = Br (a = I 0) d 198 60 51 ls st M Q := fun d ls a st M Q => w_if (show ins 198 48 = some (.ifCond .eq 12, 3) by decide +kernel) rfl rfl
set_option maxRecDepth 100000 in
theorem r_198_51 : ∀ (d : Nat) (l0 l1 l3 l4 : Option Value) (v : Int32) (st : List Value) (M : Mem) (Q : Outcome → Mem → Prop), Wp d 198 51 [l0, l1, some (.int v), l3, l4] st M Q = Wp d 198 52 [l0, l1, some (.int v), l3, l4] (.int v :: st) M Q := fun d l0 l1 l3 l4 v st M Q => wA (show ins 198 51 = some (.iload_n 2, 1) by decide +kernel) rfl
set_option maxRecDepth 100000 in
theorem r_198_52 : ∀ (d : Nat) (l0 l1 l2 l4 : Option Value) (v : Int32) (st : List Value) (M : Mem) (Q : Outcome → Mem → Prop), Wp d 198 52 [l0, l1, l2, some (.int v), l4] st M Q = Wp d 198 53 [l0, l1, l2, some (.int v), l4] (.int v :: st) M Q := fun d l0 l1 l2 l4 v st M Q => wA (show ins 198 52 = some (.iload_n 3, 1) by decide +kernel) rfl
set_option maxRecDepth 100000 in
theorem r_198_53 : ∀ (d : Nat) (ls : Lc) (a b : Int) (st : List Value) (M : Mem) (Q : Outcome → Mem → Prop), Wp d 198 53 ls (.int (I b) :: .int (I a) :: st) M Q = Wp d 198 54 ls (.int (I (a + b)) :: st) M Q := fun d ls a b st M Q => w_iadd (show ins 198 53 = some (.iadd, 1) by decide +kernel)
set_option maxRecDepth 100000 in
theorem r_198_54 : ∀ (d : Nat) (ls : Lc) (st : List Value) (M : Mem) (Q : Outcome → Mem → Prop), Wp d 198 54 ls st M Q = Wp d 198 57 ls (.int (I 2048) :: st) M Q := fun d ls st M Q => w_sipush (show ins 198 54 = some (.sipush 2048, 3) by decide +kernel) (by decide)
set_option maxRecDepth 100000 in
theorem r_198_57 : ∀ (d : Nat) (ls : Lc) (a b : Int32) (st : List Value) (M : Mem) (Q : Outcome → Mem → Prop), Wp d 198 57 ls (.int b :: .int a :: st) M Q = Br (a ≤ b) d 198 64 60 ls st M Q := fun d ls a b st M Q => w_icmp (show ins 198 57 = some (.if_icmp .le 7, 3) by decide +kernel) rfl rfl
set_option maxRecDepth 100000 in
theorem r_198_60 : ∀ (d : Nat) (ls : Lc) (st : List Value) (M : Mem) (Q : Outcome → Mem → Prop), Wp d 198 60 ls st M Q = Wp d 198 61 ls (.int (I 3) :: st) M Q := fun d ls st M Q => w_iconst (show ins 198 60 = some (.iconst 3, 1) by decide +kernel)
set_option maxRecDepth 100000 in
theorem r_198_61 : ∀ (d : Nat) (ls : Lc) (st : List Value) (M : Mem) (Q : Outcome → Mem → Prop), Wp d 198 61 ls st M Q = Wp d 198 65 ls st M Q := fun d ls st M Q => w_goto (show ins 198 61 = some (.goto 4, 3) by decide +kernel) rfl
set_option maxRecDepth 100000 in
theorem r_198_64 : ∀ (d : Nat) (ls : Lc) (st : List Value) (M : Mem) (Q : Outcome → Mem → Prop), Wp d 198 64 ls st M Q = Wp d 198 65 ls (.int (I 0) :: st) M Q := fun d ls st M Q => w_iconst (show ins 198 64 = some (.iconst 0, 1) by decide +kernel)
set_option maxRecDepth 100000 in
theorem r_198_65 : ∀ (d : Nat) (ls : Lc) (v : Int32) (M : Mem) (Q : Outcome → Mem → Prop), Wp d 198 65 ls [.int v] M Q = Q (.returned (some (.int v))) M := fun d ls v M Q => w_ireturn (show ins 198 65 = some (.ireturn, 1) by decide +kernel) (by decide +kernel)
set_option maxRecDepth 100000 in
theorem W_198 : (type_of% r_198_0) ∧ (type_of% r_198_1) ∧ (type_of% r_198_4) ∧ (type_of% r_198_7) ∧ (type_of% r_198_8) ∧ (type_of% r_198_11) ∧ (type_of% r_198_12) ∧ (type_of% r_198_13) ∧ (type_of% r_198_16) ∧ (type_of% r_198_19) ∧ (type_of% r_198_20) ∧ (type_of% r_198_21) ∧ (type_of% r_198_22) ∧ (type_of% r_198_25) ∧ (type_of% r_198_28) ∧ (type_of% r_198_29) ∧ (type_of% r_198_30) ∧ (type_of% r_198_31) ∧ (type_of% r_198_34) ∧ (type_of% r_198_37) ∧ (type_of% r_198_38) ∧ (type_of% r_198_41) ∧ (type_of% r_198_42) ∧ (type_of% r_198_43) ∧ (type_of% r_198_45) ∧ (type_of% r_198_48) ∧ (type_of% r_198_51) ∧ (type_of% r_198_52) ∧ (type_of% r_198_53) ∧ (type_of% r_198_54) ∧ (type_of% r_198_57) ∧ (type_of% r_198_60) ∧ (type_of% r_198_61) ∧ (type_of% r_198_64) ∧ (type_of% r_198_65) := ⟨r_198_0, r_198_1, r_198_4, r_198_7, r_198_8, r_198_11, r_198_12, r_198_13, r_198_16, r_198_19, r_198_20, r_198_21, r_198_22, r_198_25, r_198_28, r_198_29, r_198_30, r_198_31, r_198_34, r_198_37, r_198_38, r_198_41, r_198_42, r_198_43, r_198_45, r_198_48, r_198_51, r_198_52, r_198_53, r_198_54, r_198_57, r_198_60, r_198_61, r_198_64, r_198_65⟩
set_option maxRecDepth 100000 in
theorem ca_198 {d y pc : Nat} {ls : Lc} {a : Nat} {z0 : Int32} {z1 : Int32} {z2 : Int32} {z3 : Int32} {r : List Value} {M : Mem} {Q : Outcome → Mem → Prop} (hd : 0 < d) (hw : Wp (d - 1) 198 0 [some (.ref a), some (.int z0), some (.int z1), some (.int z2), some (.int z3)] [] M (Cq d y pc ls r Q)) : Ca d y pc ls 198 [.ref a, .int z0, .int z1, .int z2, .int z3] r M Q := ca_of (mq_get (by decide)) (by rfl) hd hw
/-! 199 PackedTreeModel.gather(I)V; loop heads [2] -/
set_option maxRecDepth 100000 in
theorem r_199_0 : ∀ (d : Nat) (ls : Lc) (st : List Value) (M : Mem) (Q : Outcome → Mem → Prop), Wp d 199 0 ls st M Q = Wp d 199 1 ls (.int (I 0) :: st) M Q := fun d ls st M Q => w_iconst (show ins 199 0 = some (.iconst 0, 1) by decide +kernel)
set_option maxRecDepth 100000 in
theorem r_199_1 : ∀ (d : Nat) (l0 l1 l2 : Option Value) (v : Int32) (st : List Value) (M : Mem) (Q : Outcome → Mem → Prop), (lo l1 = false) → Wp d 199 1 [l0, l1, l2] (.int v :: st) M Q = Wp d 199 2 [l0, l1, some (.int v)] st M Q := fun d l0 l1 l2 v st M Q hl => w_istore_n (show ins 199 1 = some (.istore_n 2, 1) by decide +kernel) (st1_S rfl rfl hl)
set_option maxRecDepth 100000 in
theorem r_199_2 : ∀ (d : Nat) (l0 l1 : Option Value) (v : Int32) (st : List Value) (M : Mem) (Q : Outcome → Mem → Prop), Wp d 199 2 [l0, l1, some (.int v)] st M Q = Wp d 199 3 [l0, l1, some (.int v)] (.int v :: st) M Q := fun d l0 l1 v st M Q => wA (show ins 199 2 = some (.iload_n 2, 1) by decide +kernel) rfl
set_option maxRecDepth 100000 in
theorem r_199_3 : ∀ (d : Nat) (ls : Lc) (st : List Value) (M : Mem) (Q : Outcome → Mem → Prop), Wp d 199 3 ls st M Q = Wp d 199 6 ls (.int (I 2560) :: st) M Q := fun d ls st M Q => w_sipush (show ins 199 3 = some (.sipush 2560, 3) by decide +kernel) (by decide)
set_option maxRecDepth 100000 in
theorem r_199_6 : ∀ (d : Nat) (ls : Lc) (a b : Int32) (st : List Value) (M : Mem) (Q : Outcome → Mem → Prop), Wp d 199 6 ls (.int b :: .int a :: st) M Q = Br (b ≤ a) d 199 45 9 ls st M Q := fun d ls a b st M Q => w_icmp (show ins 199 6 = some (.if_icmp .ge 39, 3) by decide +kernel) rfl rfl
set_option maxRecDepth 100000 in
theorem r_199_9 : ∀ (d : Nat) (l1 l2 : Option Value) (v : Nat) (st : List Value) (M : Mem) (Q : Outcome → Mem → Prop), Wp d 199 9 [some (.ref v), l1, l2] st M Q = Wp d 199 10 [some (.ref v), l1, l2] (.ref v :: st) M Q := fun d l1 l2 v st M Q => wA (show ins 199 9 = some (.aload_n 0, 1) by decide +kernel) rfl
set_option maxRecDepth 100000 in
theorem r_199_10 : ∀ (d : Nat) (ls : Lc) (a : Nat) (st : List Value) (M : Mem) (Q : Outcome → Mem → Prop), Wp d 199 10 ls (.ref a :: st) M Q = (fk 51 (kO M a) = true ∧ Wp d 199 13 ls (va_rf (mR M 51 a) :: st) M Q) := fun d ls a st M Q => w_getR (show ins 199 10 = some (.getfield 19, 3) by decide +kernel) (show fRes (mC 199) 19 = some (51, 8, false) by decide +kernel) (by decide +kernel)
set_option maxRecDepth 100000 in
theorem r_199_13 : ∀ (d : Nat) (l0 l1 : Option Value) (v : Int32) (st : List Value) (M : Mem) (Q : Outcome → Mem → Prop), Wp d 199 13 [l0, l1, some (.int v)] st M Q = Wp d 199 14 [l0, l1, some (.int v)] (.int v :: st) M Q := fun d l0 l1 v st M Q => wA (show ins 199 13 = some (.iload_n 2, 1) by decide +kernel) rfl
set_option maxRecDepth 100000 in
theorem r_199_14 : ∀ (d : Nat) (l0 l1 : Option Value) (v : Int32) (st : List Value) (M : Mem) (Q : Outcome → Mem → Prop), Wp d 199 14 [l0, l1, some (.int v)] st M Q = Wp d 199 15 [l0, l1, some (.int v)] (.int v :: st) M Q := fun d l0 l1 v st M Q => wA (show ins 199 14 = some (.iload_n 2, 1) by decide +kernel) rfl
set_option maxRecDepth 100000 in
theorem r_199_15 : ∀ (d : Nat) (l1 l2 : Option Value) (v : Nat) (st : List Value) (M : Mem) (Q : Outcome → Mem → Prop), Wp d 199 15 [some (.ref v), l1, l2] st M Q = Wp d 199 16 [some (.ref v), l1, l2] (.ref v :: st) M Q := fun d l1 l2 v st M Q => wA (show ins 199 15 = some (.aload_n 0, 1) by decide +kernel) rfl
set_option maxRecDepth 100000 in
theorem r_199_16 : ∀ (d : Nat) (ls : Lc) (a : Nat) (st : List Value) (M : Mem) (Q : Outcome → Mem → Prop), Wp d 199 16 ls (.ref a :: st) M Q = (fk 53 (kO M a) = true ∧ Wp d 199 19 ls (va_rf (mR M 53 a) :: st) M Q) := fun d ls a st M Q => w_getR (show ins 199 16 = some (.getfield 7, 3) by decide +kernel) (show fRes (mC 199) 7 = some (53, 8, false) by decide +kernel) (by decide +kernel)
set_option maxRecDepth 100000 in
theorem r_199_19 : ∀ (d : Nat) (ls : Lc) (st : List Value) (M : Mem) (Q : Outcome → Mem → Prop), Wp d 199 19 ls st M Q = Wp d 199 22 ls (.int (I 218) :: st) M Q := fun d ls st M Q => w_sipush (show ins 199 19 = some (.sipush 218, 3) by decide +kernel) (by decide)
set_option maxRecDepth 100000 in
theorem r_199_22 : ∀ (d : Nat) (l0 l2 : Option Value) (v : Int32) (st : List Value) (M : Mem) (Q : Outcome → Mem → Prop), Wp d 199 22 [l0, some (.int v), l2] st M Q = Wp d 199 23 [l0, some (.int v), l2] (.int v :: st) M Q := fun d l0 l2 v st M Q => wA (show ins 199 22 = some (.iload_n 1, 1) by decide +kernel) rfl
set_option maxRecDepth 100000 in
theorem r_199_23 : ∀ (d : Nat) (ls : Lc) (a b : Int) (st : List Value) (M : Mem) (Q : Outcome → Mem → Prop), Wp d 199 23 ls (.int (I b) :: .int (I a) :: st) M Q = Wp d 199 24 ls (.int (I (a + b)) :: st) M Q := fun d ls a b st M Q => w_iadd (show ins 199 23 = some (.iadd, 1) by decide +kernel)
set_option maxRecDepth 100000 in
theorem r_199_24 : ∀ (d : Nat) (ls : Lc) (a : Nat) (j : Int32) (st : List Value) (M : Mem) (Q : Outcome → Mem → Prop), Wp d 199 24 ls (.int j :: .ref a :: st) M Q = ((((kX M a).1 = 0 ∨ (kX M a).1 = 8) ∧ inB j (kX M a).2 = true) ∧ Wp d 199 25 ls (.int (mA M a j.toNatClampNeg) :: st) M Q) := fun d ls a j st M Q => w_iaload (show ins 199 24 = some (.iaload, 1) by decide +kernel)
set_option maxRecDepth 100000 in
theorem r_199_25 : ∀ (d : Nat) (ls : Lc) (a b : Int32) (st : List Value) (M : Mem) (Q : Outcome → Mem → Prop), Wp d 199 25 ls (.int b :: .int a :: st) M Q = Br (b ≤ a) d 199 37 28 ls st M Q := fun d ls a b st M Q => w_icmp (show ins 199 25 = some (.if_icmp .ge 12, 3) by decide +kernel) rfl rfl
set_option maxRecDepth 100000 in
theorem r_199_28 : ∀ (d : Nat) (l1 l2 : Option Value) (v : Nat) (st : List Value) (M : Mem) (Q : Outcome → Mem → Prop), Wp d 199 28 [some (.ref v), l1, l2] st M Q = Wp d 199 29 [some (.ref v), l1, l2] (.ref v :: st) M Q := fun d l1 l2 v st M Q => wA (show ins 199 28 = some (.aload_n 0, 1) by decide +kernel) rfl
set_option maxRecDepth 100000 in
theorem r_199_29 : ∀ (d : Nat) (l0 l2 : Option Value) (v : Int32) (st : List Value) (M : Mem) (Q : Outcome → Mem → Prop), Wp d 199 29 [l0, some (.int v), l2] st M Q = Wp d 199 30 [l0, some (.int v), l2] (.int v :: st) M Q := fun d l0 l2 v st M Q => wA (show ins 199 29 = some (.iload_n 1, 1) by decide +kernel) rfl
set_option maxRecDepth 100000 in
theorem r_199_30 : ∀ (d : Nat) (l0 l1 : Option Value) (v : Int32) (st : List Value) (M : Mem) (Q : Outcome → Mem → Prop), Wp d 199 30 [l0, l1, some (.int v)] st M Q = Wp d 199 31 [l0, l1, some (.int v)] (.int v :: st) M Q := fun d l0 l1 v st M Q => wA (show ins 199 30 = some (.iload_n 2, 1) by decide +kernel) rfl
set_option maxRecDepth 100000 in
theorem r_199_31 : ∀ (d : Nat) (ls : Lc) (v0 v1 : Value) (a : Nat) (st : List Value) (M : Mem) (Q : Outcome → Mem → Prop), (smallR st = true) → Wp d 199 31 ls (v1 :: v0 :: .ref a :: st) M Q = (kO M a = 8 ∧ Ca d 199 31 ls 200 (.ref a :: [v0, v1]) st M Q) := fun d ls v0 v1 a st M Q h0 => w_virt1 (as := [v0, v1]) (show ins 199 31 = some (.invokevirtual 140, 3) by decide +kernel) (show mRes (mC 199) 140 = some (3, 8, [(8, 200)]) by decide +kernel) (by decide +kernel) rfl (by decide +kernel) (by decide +kernel) h0
set_option maxRecDepth 100000 in
theorem r_199_34 : ∀ (d : Nat) (ls : Lc) (st : List Value) (M : Mem) (Q : Outcome → Mem → Prop), Wp d 199 34 ls st M Q = Wp d 199 38 ls st M Q := fun d ls st M Q => w_goto (show ins 199 34 = some (.goto 4, 3) by decide +kernel) rfl
set_option maxRecDepth 100000 in
theorem r_199_37 : ∀ (d : Nat) (ls : Lc) (st : List Value) (M : Mem) (Q : Outcome → Mem → Prop), Wp d 199 37 ls st M Q = Wp d 199 38 ls (.int (I 0) :: st) M Q := fun d ls st M Q => w_iconst (show ins 199 37 = some (.iconst 0, 1) by decide +kernel)
set_option maxRecDepth 100000 in
theorem r_199_38 : ∀ (d : Nat) (ls : Lc) (a : Nat) (j v : Int32) (st : List Value) (M : Mem) (Q : Outcome → Mem → Prop), Wp d 199 38 ls (.int v :: .int j :: .ref a :: st) M Q = (((kX M a).1 = 0 ∧ inB j (kX M a).2 = true) ∧ Wp d 199 39 ls st (sA M a j.toNatClampNeg v) Q) := fun d ls a j v st M Q => w_iastore (show ins 199 38 = some (.iastore, 1) by decide +kernel)
set_option maxRecDepth 100000 in
theorem r_199_39 : ∀ (d : Nat) (l0 l1 : Option Value) (z : Int) (st : List Value) (M : Mem) (Q : Outcome → Mem → Prop), (lo l1 = false) → Wp d 199 39 [l0, l1, some (.int (I z))] st M Q = Wp d 199 42 [l0, l1, some (.int (I (z + 1)))] st M Q := fun d l0 l1 z st M Q hl => w_iinc (show ins 199 39 = some (.iinc 2 1, 3) by decide +kernel) rfl (st1_S rfl rfl hl)
set_option maxRecDepth 100000 in
theorem r_199_42 : ∀ (d : Nat) (ls : Lc) (st : List Value) (M : Mem) (Q : Outcome → Mem → Prop), Wp d 199 42 ls st M Q = Wp d 199 2 ls st M Q := fun d ls st M Q => w_goto (show ins 199 42 = some (.goto (-40), 3) by decide +kernel) rfl
set_option maxRecDepth 100000 in
theorem r_199_45 : ∀ (d : Nat) (ls : Lc) (M : Mem) (Q : Outcome → Mem → Prop), Wp d 199 45 ls [] M Q = Q (.returned none) M := fun d ls M Q => w_return (show ins 199 45 = some (.return_, 1) by decide +kernel) (by decide +kernel)
set_option maxRecDepth 100000 in
theorem w_199_2 : (type_of% r_199_2) := r_199_2
set_option maxRecDepth 100000 in
theorem W_199 : (type_of% r_199_0) ∧ (type_of% r_199_1) ∧ (type_of% r_199_3) ∧ (type_of% r_199_6) ∧ (type_of% r_199_9) ∧ (type_of% r_199_10) ∧ (type_of% r_199_13) ∧ (type_of% r_199_14) ∧ (type_of% r_199_15) ∧ (type_of% r_199_16) ∧ (type_of% r_199_19) ∧ (type_of% r_199_22) ∧ (type_of% r_199_23) ∧ (type_of% r_199_24) ∧ (type_of% r_199_25) ∧ (type_of% r_199_28) ∧ (type_of% r_199_29) ∧ (type_of% r_199_30) ∧ (type_of% r_199_31) ∧ (type_of% r_199_34) ∧ (type_of% r_199_37) ∧ (type_of% r_199_38) ∧ (type_of% r_199_39) ∧ (type_of% r_199_42) ∧ (type_of% r_199_45) := ⟨r_199_0, r_199_1, r_199_3, r_199_6, r_199_9, r_199_10, r_199_13, r_199_14, r_199_15, r_199_16, r_199_19, r_199_22, r_199_23, r_199_24, r_199_25, r_199_28, r_199_29, r_199_30, r_199_31, r_199_34, r_199_37, r_199_38, r_199_39, r_199_42, r_199_45⟩
set_option maxRecDepth 100000 in
theorem ca_199 {d y pc : Nat} {ls : Lc} {a : Nat} {z0 : Int32} {r : List Value} {M : Mem} {Q : Outcome → Mem → Prop} (hd : 0 < d) (hw : Wp (d - 1) 199 0 [some (.ref a), some (.int z0), none] [] M (Cq d y pc ls r Q)) : Ca d y pc ls 199 [.ref a, .int z0] r M Q := ca_of (mq_get (by decide)) (by rfl) hd hw
/-! 200 PackedTreeModel.byteOf(II)I; loop heads [] -/
set_option maxRecDepth 100000 in
theorem r_200_0 : ∀ (d : Nat) (l0 l1 : Option Value) (v : Int32) (st : List Value) (M : Mem) (Q : Outcome → Mem → Prop), Wp d 200 0 [l0, l1, some (.int v)] st M Q = Wp d 200 1 [l0, l1, some (.int v)] (.int v :: st) M Q := fun d l0 l1 v st M Q => wA (show ins 200 0 = some (.iload_n 2, 1) by decide +kernel) rfl
set_option maxRecDepth 100000 in
theorem r_200_1 : ∀ (d : Nat) (ls : Lc) (st : List Value) (M : Mem) (Q : Outcome → Mem → Prop), Wp d 200 1 ls st M Q = Wp d 200 4 ls (.int (I 128) :: st) M Q := fun d ls st M Q => w_sipush (show ins 200 1 = some (.sipush 128, 3) by decide +kernel) (by decide)
set_option maxRecDepth 100000 in
theorem r_200_4 : ∀ (d : Nat) (ls : Lc) (a b : Int) (st : List Value) (M : Mem) (Q : Outcome → Mem → Prop), (0 ≤ a) → (a < 2147483648) → (0 < b) → (b < 2147483648) → Wp d 200 4 ls (.int (I b) :: .int (I a) :: st) M Q = Wp d 200 5 ls (.int (I (a / b)) :: st) M Q := fun d ls a b st M Q h0 h1 h2 h3 => w_idiv (show ins 200 4 = some (.idiv, 1) by decide +kernel) h0 h1 h2 h3
set_option maxRecDepth 100000 in
theorem r_200_5 : ∀ (d : Nat) (l1 l2 : Option Value) (v : Nat) (st : List Value) (M : Mem) (Q : Outcome → Mem → Prop), Wp d 200 5 [some (.ref v), l1, l2] st M Q = Wp d 200 6 [some (.ref v), l1, l2] (.ref v :: st) M Q := fun d l1 l2 v st M Q => wA (show ins 200 5 = some (.aload_n 0, 1) by decide +kernel) rfl
set_option maxRecDepth 100000 in
theorem r_200_6 : ∀ (d : Nat) (ls : Lc) (a : Nat) (st : List Value) (M : Mem) (Q : Outcome → Mem → Prop), Wp d 200 6 ls (.ref a :: st) M Q = (fk 53 (kO M a) = true ∧ Wp d 200 9 ls (va_rf (mR M 53 a) :: st) M Q) := fun d ls a st M Q => w_getR (show ins 200 6 = some (.getfield 7, 3) by decide +kernel) (show fRes (mC 200) 7 = some (53, 8, false) by decide +kernel) (by decide +kernel)
set_option maxRecDepth 100000 in
theorem r_200_9 : ∀ (d : Nat) (ls : Lc) (st : List Value) (M : Mem) (Q : Outcome → Mem → Prop), Wp d 200 9 ls st M Q = Wp d 200 12 ls (.int (I 279) :: st) M Q := fun d ls st M Q => w_sipush (show ins 200 9 = some (.sipush 279, 3) by decide +kernel) (by decide)
set_option maxRecDepth 100000 in
theorem r_200_12 : ∀ (d : Nat) (l0 l2 : Option Value) (v : Int32) (st : List Value) (M : Mem) (Q : Outcome → Mem → Prop), Wp d 200 12 [l0, some (.int v), l2] st M Q = Wp d 200 13 [l0, some (.int v), l2] (.int v :: st) M Q := fun d l0 l2 v st M Q => wA (show ins 200 12 = some (.iload_n 1, 1) by decide +kernel) rfl
set_option maxRecDepth 100000 in
theorem r_200_13 : ∀ (d : Nat) (ls : Lc) (a b : Int) (st : List Value) (M : Mem) (Q : Outcome → Mem → Prop), Wp d 200 13 ls (.int (I b) :: .int (I a) :: st) M Q = Wp d 200 14 ls (.int (I (a + b)) :: st) M Q := fun d ls a b st M Q => w_iadd (show ins 200 13 = some (.iadd, 1) by decide +kernel)
set_option maxRecDepth 100000 in
theorem r_200_14 : ∀ (d : Nat) (ls : Lc) (a : Nat) (j : Int32) (st : List Value) (M : Mem) (Q : Outcome → Mem → Prop), Wp d 200 14 ls (.int j :: .ref a :: st) M Q = ((((kX M a).1 = 0 ∨ (kX M a).1 = 8) ∧ inB j (kX M a).2 = true) ∧ Wp d 200 15 ls (.int (mA M a j.toNatClampNeg) :: st) M Q) := fun d ls a j st M Q => w_iaload (show ins 200 14 = some (.iaload, 1) by decide +kernel)
set_option maxRecDepth 100000 in
theorem r_200_15 : ∀ (d : Nat) (ls : Lc) (a b : Int32) (st : List Value) (M : Mem) (Q : Outcome → Mem → Prop), Wp d 200 15 ls (.int b :: .int a :: st) M Q = Br (b ≤ a) d 200 59 18 ls st M Q := fun d ls a b st M Q => w_icmp (show ins 200 15 = some (.if_icmp .ge 44, 3) by decide +kernel) rfl rfl
set_option maxRecDepth 100000 in
theorem r_200_18 : ∀ (d : Nat) (l1 l2 : Option Value) (v : Nat) (st : List Value) (M : Mem) (Q : Outcome → Mem → Prop), Wp d 200 18 [some (.ref v), l1, l2] st M Q = Wp d 200 19 [some (.ref v), l1, l2] (.ref v :: st) M Q := fun d l1 l2 v st M Q => wA (show ins 200 18 = some (.aload_n 0, 1) by decide +kernel) rfl
set_option maxRecDepth 100000 in
theorem r_200_19 : ∀ (d : Nat) (ls : Lc) (a : Nat) (st : List Value) (M : Mem) (Q : Outcome → Mem → Prop), Wp d 200 19 ls (.ref a :: st) M Q = (fk 53 (kO M a) = true ∧ Wp d 200 22 ls (va_rf (mR M 53 a) :: st) M Q) := fun d ls a st M Q => w_getR (show ins 200 19 = some (.getfield 7, 3) by decide +kernel) (show fRes (mC 200) 7 = some (53, 8, false) by decide +kernel) (by decide +kernel)
set_option maxRecDepth 100000 in
theorem r_200_22 : ∀ (d : Nat) (ls : Lc) (st : List Value) (M : Mem) (Q : Outcome → Mem → Prop), Wp d 200 22 ls st M Q = Wp d 200 25 ls (.int (I 13078) :: st) M Q := fun d ls st M Q => w_sipush (show ins 200 22 = some (.sipush 13078, 3) by decide +kernel) (by decide)
set_option maxRecDepth 100000 in
theorem r_200_25 : ∀ (d : Nat) (ls : Lc) (st : List Value) (M : Mem) (Q : Outcome → Mem → Prop), Wp d 200 25 ls st M Q = Wp d 200 28 ls (.int (I 128) :: st) M Q := fun d ls st M Q => w_sipush (show ins 200 25 = some (.sipush 128, 3) by decide +kernel) (by decide)
set_option maxRecDepth 100000 in
theorem r_200_28 : ∀ (d : Nat) (l1 l2 : Option Value) (v : Nat) (st : List Value) (M : Mem) (Q : Outcome → Mem → Prop), Wp d 200 28 [some (.ref v), l1, l2] st M Q = Wp d 200 29 [some (.ref v), l1, l2] (.ref v :: st) M Q := fun d l1 l2 v st M Q => wA (show ins 200 28 = some (.aload_n 0, 1) by decide +kernel) rfl
set_option maxRecDepth 100000 in
theorem r_200_29 : ∀ (d : Nat) (ls : Lc) (a : Nat) (st : List Value) (M : Mem) (Q : Outcome → Mem → Prop), Wp d 200 29 ls (.ref a :: st) M Q = (fk 53 (kO M a) = true ∧ Wp d 200 32 ls (va_rf (mR M 53 a) :: st) M Q) := fun d ls a st M Q => w_getR (show ins 200 29 = some (.getfield 7, 3) by decide +kernel) (show fRes (mC 200) 7 = some (53, 8, false) by decide +kernel) (by decide +kernel)
set_option maxRecDepth 100000 in
theorem r_200_32 : ∀ (d : Nat) (ls : Lc) (st : List Value) (M : Mem) (Q : Outcome → Mem → Prop), Wp d 200 32 ls st M Q = Wp d 200 35 ls (.int (I 340) :: st) M Q := fun d ls st M Q => w_sipush (show ins 200 32 = some (.sipush 340, 3) by decide +kernel) (by decide)
set_option maxRecDepth 100000 in
theorem r_200_35 : ∀ (d : Nat) (ls : Lc) (st : List Value) (M : Mem) (Q : Outcome → Mem → Prop), Wp d 200 35 ls st M Q = Wp d 200 37 ls (.int (I 16) :: st) M Q := fun d ls st M Q => w_bipush (show ins 200 35 = some (.bipush 16, 2) by decide +kernel) (by decide)
set_option maxRecDepth 100000 in
theorem r_200_37 : ∀ (d : Nat) (l0 l2 : Option Value) (v : Int32) (st : List Value) (M : Mem) (Q : Outcome → Mem → Prop), Wp d 200 37 [l0, some (.int v), l2] st M Q = Wp d 200 38 [l0, some (.int v), l2] (.int v :: st) M Q := fun d l0 l2 v st M Q => wA (show ins 200 37 = some (.iload_n 1, 1) by decide +kernel) rfl
set_option maxRecDepth 100000 in
theorem r_200_38 : ∀ (d : Nat) (ls : Lc) (a b : Int) (st : List Value) (M : Mem) (Q : Outcome → Mem → Prop), Wp d 200 38 ls (.int (I b) :: .int (I a) :: st) M Q = Wp d 200 39 ls (.int (I (a * b)) :: st) M Q := fun d ls a b st M Q => w_imul (show ins 200 38 = some (.imul, 1) by decide +kernel)
set_option maxRecDepth 100000 in
theorem r_200_39 : ∀ (d : Nat) (ls : Lc) (a b : Int) (st : List Value) (M : Mem) (Q : Outcome → Mem → Prop), Wp d 200 39 ls (.int (I b) :: .int (I a) :: st) M Q = Wp d 200 40 ls (.int (I (a + b)) :: st) M Q := fun d ls a b st M Q => w_iadd (show ins 200 39 = some (.iadd, 1) by decide +kernel)
set_option maxRecDepth 100000 in
theorem r_200_40 : ∀ (d : Nat) (l0 l1 : Option Value) (v : Int32) (st : List Value) (M : Mem) (Q : Outcome → Mem → Prop), Wp d 200 40 [l0, l1, some (.int v)] st M Q = Wp d 200 41 [l0, l1, some (.int v)] (.int v :: st) M Q := fun d l0 l1 v st M Q => wA (show ins 200 40 = some (.iload_n 2, 1) by decide +kernel) rfl
set_option maxRecDepth 100000 in
theorem r_200_41 : ∀ (d : Nat) (ls : Lc) (st : List Value) (M : Mem) (Q : Outcome → Mem → Prop), Wp d 200 41 ls st M Q = Wp d 200 44 ls (.int (I 128) :: st) M Q := fun d ls st M Q => w_sipush (show ins 200 41 = some (.sipush 128, 3) by decide +kernel) (by decide)
set_option maxRecDepth 100000 in
theorem r_200_44 : ∀ (d : Nat) (ls : Lc) (a b : Int) (st : List Value) (M : Mem) (Q : Outcome → Mem → Prop), (0 ≤ a) → (a < 2147483648) → (0 < b) → (b < 2147483648) → Wp d 200 44 ls (.int (I b) :: .int (I a) :: st) M Q = Wp d 200 45 ls (.int (I (a / b)) :: st) M Q := fun d ls a b st M Q h0 h1 h2 h3 => w_idiv (show ins 200 44 = some (.idiv, 1) by decide +kernel) h0 h1 h2 h3
set_option maxRecDepth 100000 in
theorem r_200_45 : ∀ (d : Nat) (ls : Lc) (a b : Int) (st : List Value) (M : Mem) (Q : Outcome → Mem → Prop), Wp d 200 45 ls (.int (I b) :: .int (I a) :: st) M Q = Wp d 200 46 ls (.int (I (a + b)) :: st) M Q := fun d ls a b st M Q => w_iadd (show ins 200 45 = some (.iadd, 1) by decide +kernel)
set_option maxRecDepth 100000 in
theorem r_200_46 : ∀ (d : Nat) (ls : Lc) (a : Nat) (j : Int32) (st : List Value) (M : Mem) (Q : Outcome → Mem → Prop), Wp d 200 46 ls (.int j :: .ref a :: st) M Q = ((((kX M a).1 = 0 ∨ (kX M a).1 = 8) ∧ inB j (kX M a).2 = true) ∧ Wp d 200 47 ls (.int (mA M a j.toNatClampNeg) :: st) M Q) := fun d ls a j st M Q => w_iaload (show ins 200 46 = some (.iaload, 1) by decide +kernel)
set_option maxRecDepth 100000 in
theorem r_200_47 : ∀ (d : Nat) (ls : Lc) (a b : Int) (st : List Value) (M : Mem) (Q : Outcome → Mem → Prop), Wp d 200 47 ls (.int (I b) :: .int (I a) :: st) M Q = Wp d 200 48 ls (.int (I (a * b)) :: st) M Q := fun d ls a b st M Q => w_imul (show ins 200 47 = some (.imul, 1) by decide +kernel)
set_option maxRecDepth 100000 in
theorem r_200_48 : ∀ (d : Nat) (ls : Lc) (a b : Int) (st : List Value) (M : Mem) (Q : Outcome → Mem → Prop), Wp d 200 48 ls (.int (I b) :: .int (I a) :: st) M Q = Wp d 200 49 ls (.int (I (a + b)) :: st) M Q := fun d ls a b st M Q => w_iadd (show ins 200 48 = some (.iadd, 1) by decide +kernel)
set_option maxRecDepth 100000 in
theorem r_200_49 : ∀ (d : Nat) (l0 l1 : Option Value) (v : Int32) (st : List Value) (M : Mem) (Q : Outcome → Mem → Prop), Wp d 200 49 [l0, l1, some (.int v)] st M Q = Wp d 200 50 [l0, l1, some (.int v)] (.int v :: st) M Q := fun d l0 l1 v st M Q => wA (show ins 200 49 = some (.iload_n 2, 1) by decide +kernel) rfl
set_option maxRecDepth 100000 in
theorem r_200_50 : ∀ (d : Nat) (ls : Lc) (st : List Value) (M : Mem) (Q : Outcome → Mem → Prop), Wp d 200 50 ls st M Q = Wp d 200 53 ls (.int (I 128) :: st) M Q := fun d ls st M Q => w_sipush (show ins 200 50 = some (.sipush 128, 3) by decide +kernel) (by decide)
set_option maxRecDepth 100000 in
theorem r_200_53 : ∀ (d : Nat) (ls : Lc) (a b : Int) (st : List Value) (M : Mem) (Q : Outcome → Mem → Prop), (0 ≤ a) → (a < 2147483648) → (0 < b) → (b < 2147483648) → Wp d 200 53 ls (.int (I b) :: .int (I a) :: st) M Q = Wp d 200 54 ls (.int (I (a % b)) :: st) M Q := fun d ls a b st M Q h0 h1 h2 h3 => w_irem (show ins 200 53 = some (.irem, 1) by decide +kernel) h0 h1 h2 h3
set_option maxRecDepth 100000 in
theorem r_200_54 : ∀ (d : Nat) (ls : Lc) (a b : Int) (st : List Value) (M : Mem) (Q : Outcome → Mem → Prop), Wp d 200 54 ls (.int (I b) :: .int (I a) :: st) M Q = Wp d 200 55 ls (.int (I (a + b)) :: st) M Q := fun d ls a b st M Q => w_iadd (show ins 200 54 = some (.iadd, 1) by decide +kernel)
set_option maxRecDepth 100000 in
theorem r_200_55 : ∀ (d : Nat) (ls : Lc) (a : Nat) (j : Int32) (st : List Value) (M : Mem) (Q : Outcome → Mem → Prop), Wp d 200 55 ls (.int j :: .ref a :: st) M Q = ((((kX M a).1 = 0 ∨ (kX M a).1 = 8) ∧ inB j (kX M a).2 = true) ∧ Wp d 200 56 ls (.int (mA M a j.toNatClampNeg) :: st) M Q) := fun d ls a j st M Q => w_iaload (show ins 200 55 = some (.iaload, 1) by decide +kernel)
set_option maxRecDepth 100000 in
theorem r_200_56 : ∀ (d : Nat) (ls : Lc) (st : List Value) (M : Mem) (Q : Outcome → Mem → Prop), Wp d 200 56 ls st M Q = Wp d 200 78 ls st M Q := fun d ls st M Q => w_goto (show ins 200 56 = some (.goto 22, 3) by decide +kernel) rfl
set_option maxRecDepth 100000 in
theorem r_200_59 : ∀ (d : Nat) (l1 l2 : Option Value) (v : Nat) (st : List Value) (M : Mem) (Q : Outcome → Mem → Prop), Wp d 200 59 [some (.ref v), l1, l2] st M Q = Wp d 200 60 [some (.ref v), l1, l2] (.ref v :: st) M Q := fun d l1 l2 v st M Q => wA (show ins 200 59 = some (.aload_n 0, 1) by decide +kernel) rfl
set_option maxRecDepth 100000 in
theorem r_200_60 : ∀ (d : Nat) (ls : Lc) (a : Nat) (st : List Value) (M : Mem) (Q : Outcome → Mem → Prop), Wp d 200 60 ls (.ref a :: st) M Q = (fk 53 (kO M a) = true ∧ Wp d 200 63 ls (va_rf (mR M 53 a) :: st) M Q) := fun d ls a st M Q => w_getR (show ins 200 60 = some (.getfield 7, 3) by decide +kernel) (show fRes (mC 200) 7 = some (53, 8, false) by decide +kernel) (by decide +kernel)
set_option maxRecDepth 100000 in
theorem r_200_63 : ∀ (d : Nat) (ls : Lc) (st : List Value) (M : Mem) (Q : Outcome → Mem → Prop), Wp d 200 63 ls st M Q = Wp d 200 66 ls (.int (I 1316) :: st) M Q := fun d ls st M Q => w_sipush (show ins 200 63 = some (.sipush 1316, 3) by decide +kernel) (by decide)
set_option maxRecDepth 100000 in
theorem r_200_66 : ∀ (d : Nat) (ls : Lc) (st : List Value) (M : Mem) (Q : Outcome → Mem → Prop), Wp d 200 66 ls st M Q = Wp d 200 68 ls (.int (I 40) :: st) M Q := fun d ls st M Q => w_bipush (show ins 200 66 = some (.bipush 40, 2) by decide +kernel) (by decide)
set_option maxRecDepth 100000 in
theorem r_200_68 : ∀ (d : Nat) (l0 l2 : Option Value) (v : Int32) (st : List Value) (M : Mem) (Q : Outcome → Mem → Prop), Wp d 200 68 [l0, some (.int v), l2] st M Q = Wp d 200 69 [l0, some (.int v), l2] (.int v :: st) M Q := fun d l0 l2 v st M Q => wA (show ins 200 68 = some (.iload_n 1, 1) by decide +kernel) rfl
set_option maxRecDepth 100000 in
theorem r_200_69 : ∀ (d : Nat) (ls : Lc) (a b : Int) (st : List Value) (M : Mem) (Q : Outcome → Mem → Prop), Wp d 200 69 ls (.int (I b) :: .int (I a) :: st) M Q = Wp d 200 70 ls (.int (I (a * b)) :: st) M Q := fun d ls a b st M Q => w_imul (show ins 200 69 = some (.imul, 1) by decide +kernel)
set_option maxRecDepth 100000 in
theorem r_200_70 : ∀ (d : Nat) (ls : Lc) (a b : Int) (st : List Value) (M : Mem) (Q : Outcome → Mem → Prop), Wp d 200 70 ls (.int (I b) :: .int (I a) :: st) M Q = Wp d 200 71 ls (.int (I (a + b)) :: st) M Q := fun d ls a b st M Q => w_iadd (show ins 200 70 = some (.iadd, 1) by decide +kernel)
set_option maxRecDepth 100000 in
theorem r_200_71 : ∀ (d : Nat) (l0 l1 : Option Value) (v : Int32) (st : List Value) (M : Mem) (Q : Outcome → Mem → Prop), Wp d 200 71 [l0, l1, some (.int v)] st M Q = Wp d 200 72 [l0, l1, some (.int v)] (.int v :: st) M Q := fun d l0 l1 v st M Q => wA (show ins 200 71 = some (.iload_n 2, 1) by decide +kernel) rfl
set_option maxRecDepth 100000 in
theorem r_200_72 : ∀ (d : Nat) (ls : Lc) (st : List Value) (M : Mem) (Q : Outcome → Mem → Prop), Wp d 200 72 ls st M Q = Wp d 200 75 ls (.int (I 128) :: st) M Q := fun d ls st M Q => w_sipush (show ins 200 72 = some (.sipush 128, 3) by decide +kernel) (by decide)
set_option maxRecDepth 100000 in
theorem r_200_75 : ∀ (d : Nat) (ls : Lc) (a b : Int) (st : List Value) (M : Mem) (Q : Outcome → Mem → Prop), (0 ≤ a) → (a < 2147483648) → (0 < b) → (b < 2147483648) → Wp d 200 75 ls (.int (I b) :: .int (I a) :: st) M Q = Wp d 200 76 ls (.int (I (a % b)) :: st) M Q := fun d ls a b st M Q h0 h1 h2 h3 => w_irem (show ins 200 75 = some (.irem, 1) by decide +kernel) h0 h1 h2 h3
set_option maxRecDepth 100000 in
theorem r_200_76 : ∀ (d : Nat) (ls : Lc) (a b : Int) (st : List Value) (M : Mem) (Q : Outcome → Mem → Prop), Wp d 200 76 ls (.int (I b) :: .int (I a) :: st) M Q = Wp d 200 77 ls (.int (I (a + b)) :: st) M Q := fun d ls a b st M Q => w_iadd (show ins 200 76 = some (.iadd, 1) by decide +kernel)
set_option maxRecDepth 100000 in
theorem r_200_77 : ∀ (d : Nat) (ls : Lc) (a : Nat) (j : Int32) (st : List Value) (M : Mem) (Q : Outcome → Mem → Prop), Wp d 200 77 ls (.int j :: .ref a :: st) M Q = ((((kX M a).1 = 0 ∨ (kX M a).1 = 8) ∧ inB j (kX M a).2 = true) ∧ Wp d 200 78 ls (.int (mA M a j.toNatClampNeg) :: st) M Q) := fun d ls a j st M Q => w_iaload (show ins 200 77 = some (.iaload, 1) by decide +kernel)
set_option maxRecDepth 100000 in
theorem r_200_78 : ∀ (d : Nat) (ls : Lc) (v : Int32) (M : Mem) (Q : Outcome → Mem → Prop), Wp d 200 78 ls [.int v] M Q = Q (.returned (some (.int v))) M := fun d ls v M Q => w_ireturn (show ins 200 78 = some (.ireturn, 1) by decide +kernel) (by decide +kernel)
set_option maxRecDepth 100000 in
theorem W_200 : (type_of% r_200_0) ∧ (type_of% r_200_1) ∧ (type_of% r_200_4) ∧ (type_of% r_200_5) ∧ (type_of% r_200_6) ∧ (type_of% r_200_9) ∧ (type_of% r_200_12) ∧ (type_of% r_200_13) ∧ (type_of% r_200_14) ∧ (type_of% r_200_15) ∧ (type_of% r_200_18) ∧ (type_of% r_200_19) ∧ (type_of% r_200_22) ∧ (type_of% r_200_25) ∧ (type_of% r_200_28) ∧ (type_of% r_200_29) ∧ (type_of% r_200_32) ∧ (type_of% r_200_35) ∧ (type_of% r_200_37) ∧ (type_of% r_200_38) ∧ (type_of% r_200_39) ∧ (type_of% r_200_40) ∧ (type_of% r_200_41) ∧ (type_of% r_200_44) ∧ (type_of% r_200_45) ∧ (type_of% r_200_46) ∧ (type_of% r_200_47) ∧ (type_of% r_200_48) ∧ (type_of% r_200_49) ∧ (type_of% r_200_50) ∧ (type_of% r_200_53) ∧ (type_of% r_200_54) ∧ (type_of% r_200_55) ∧ (type_of% r_200_56) ∧ (type_of% r_200_59) ∧ (type_of% r_200_60) ∧ (type_of% r_200_63) ∧ (type_of% r_200_66) ∧ (type_of% r_200_68) ∧ (type_of% r_200_69) ∧ (type_of% r_200_70) ∧ (type_of% r_200_71) ∧ (type_of% r_200_72) ∧ (type_of% r_200_75) ∧ (type_of% r_200_76) ∧ (type_of% r_200_77) ∧ (type_of% r_200_78) := ⟨r_200_0, r_200_1, r_200_4, r_200_5, r_200_6, r_200_9, r_200_12, r_200_13, r_200_14, r_200_15, r_200_18, r_200_19, r_200_22, r_200_25, r_200_28, r_200_29, r_200_32, r_200_35, r_200_37, r_200_38, r_200_39, r_200_40, r_200_41, r_200_44, r_200_45, r_200_46, r_200_47, r_200_48, r_200_49, r_200_50, r_200_53, r_200_54, r_200_55, r_200_56, r_200_59, r_200_60, r_200_63, r_200_66, r_200_68, r_200_69, r_200_70, r_200_71, r_200_72, r_200_75, r_200_76, r_200_77, r_200_78⟩
set_option maxRecDepth 100000 in
theorem ca_200 {d y pc : Nat} {ls : Lc} {a : Nat} {z0 : Int32} {z1 : Int32} {r : List Value} {M : Mem} {Q : Outcome → Mem → Prop} (hd : 0 < d) (hw : Wp (d - 1) 200 0 [some (.ref a), some (.int z0), some (.int z1)] [] M (Cq d y pc ls r Q)) : Ca d y pc ls 200 [.ref a, .int z0, .int z1] r M Q := ca_of (mq_get (by decide)) (by rfl) hd hw
/-! 201 PackedTreeModel.change(II)I; loop heads [] -/
set_option maxRecDepth 100000 in
theorem r_201_0 : ∀ (d : Nat) (l1 l2 : Option Value) (v : Nat) (st : List Value) (M : Mem) (Q : Outcome → Mem → Prop), Wp d 201 0 [some (.ref v), l1, l2] st M Q = Wp d 201 1 [some (.ref v), l1, l2] (.ref v :: st) M Q := fun d l1 l2 v st M Q => wA (show ins 201 0 = some (.aload_n 0, 1) by decide +kernel) rfl
set_option maxRecDepth 100000 in
theorem r_201_1 : ∀ (d : Nat) (l0 l2 : Option Value) (v : Int32) (st : List Value) (M : Mem) (Q : Outcome → Mem → Prop), Wp d 201 1 [l0, some (.int v), l2] st M Q = Wp d 201 2 [l0, some (.int v), l2] (.int v :: st) M Q := fun d l0 l2 v st M Q => wA (show ins 201 1 = some (.iload_n 1, 1) by decide +kernel) rfl
set_option maxRecDepth 100000 in
theorem r_201_2 : ∀ (d : Nat) (l0 l1 : Option Value) (v : Int32) (st : List Value) (M : Mem) (Q : Outcome → Mem → Prop), Wp d 201 2 [l0, l1, some (.int v)] st M Q = Wp d 201 3 [l0, l1, some (.int v)] (.int v :: st) M Q := fun d l0 l1 v st M Q => wA (show ins 201 2 = some (.iload_n 2, 1) by decide +kernel) rfl
set_option maxRecDepth 100000 in
theorem r_201_3 : ∀ (d : Nat) (l1 l2 : Option Value) (v : Nat) (st : List Value) (M : Mem) (Q : Outcome → Mem → Prop), Wp d 201 3 [some (.ref v), l1, l2] st M Q = Wp d 201 4 [some (.ref v), l1, l2] (.ref v :: st) M Q := fun d l1 l2 v st M Q => wA (show ins 201 3 = some (.aload_n 0, 1) by decide +kernel) rfl
set_option maxRecDepth 100000 in
theorem r_201_4 : ∀ (d : Nat) (ls : Lc) (a : Nat) (st : List Value) (M : Mem) (Q : Outcome → Mem → Prop), Wp d 201 4 ls (.ref a :: st) M Q = (fk 53 (kO M a) = true ∧ Wp d 201 7 ls (va_rf (mR M 53 a) :: st) M Q) := fun d ls a st M Q => w_getR (show ins 201 4 = some (.getfield 7, 3) by decide +kernel) (show fRes (mC 201) 7 = some (53, 8, false) by decide +kernel) (by decide +kernel)
set_option maxRecDepth 100000 in
theorem r_201_7 : ∀ (d : Nat) (ls : Lc) (st : List Value) (M : Mem) (Q : Outcome → Mem → Prop), Wp d 201 7 ls st M Q = Wp d 201 10 ls (.int (I 218) :: st) M Q := fun d ls st M Q => w_sipush (show ins 201 7 = some (.sipush 218, 3) by decide +kernel) (by decide)
set_option maxRecDepth 100000 in
theorem r_201_10 : ∀ (d : Nat) (l0 l2 : Option Value) (v : Int32) (st : List Value) (M : Mem) (Q : Outcome → Mem → Prop), Wp d 201 10 [l0, some (.int v), l2] st M Q = Wp d 201 11 [l0, some (.int v), l2] (.int v :: st) M Q := fun d l0 l2 v st M Q => wA (show ins 201 10 = some (.iload_n 1, 1) by decide +kernel) rfl
set_option maxRecDepth 100000 in
theorem r_201_11 : ∀ (d : Nat) (ls : Lc) (a b : Int) (st : List Value) (M : Mem) (Q : Outcome → Mem → Prop), Wp d 201 11 ls (.int (I b) :: .int (I a) :: st) M Q = Wp d 201 12 ls (.int (I (a + b)) :: st) M Q := fun d ls a b st M Q => w_iadd (show ins 201 11 = some (.iadd, 1) by decide +kernel)
set_option maxRecDepth 100000 in
theorem r_201_12 : ∀ (d : Nat) (ls : Lc) (a : Nat) (j : Int32) (st : List Value) (M : Mem) (Q : Outcome → Mem → Prop), Wp d 201 12 ls (.int j :: .ref a :: st) M Q = ((((kX M a).1 = 0 ∨ (kX M a).1 = 8) ∧ inB j (kX M a).2 = true) ∧ Wp d 201 13 ls (.int (mA M a j.toNatClampNeg) :: st) M Q) := fun d ls a j st M Q => w_iaload (show ins 201 12 = some (.iaload, 1) by decide +kernel)
set_option maxRecDepth 100000 in
theorem r_201_13 : ∀ (d : Nat) (ls : Lc) (a b : Int32) (st : List Value) (M : Mem) (Q : Outcome → Mem → Prop), Wp d 201 13 ls (.int b :: .int a :: st) M Q = Br (a ≤ b) d 201 20 16 ls st M Q := fun d ls a b st M Q => w_icmp (show ins 201 13 = some (.if_icmp .le 7, 3) by decide +kernel) rfl rfl
set_option maxRecDepth 100000 in
theorem r_201_16 : ∀ (d : Nat) (l0 l1 : Option Value) (v : Int32) (st : List Value) (M : Mem) (Q : Outcome → Mem → Prop), Wp d 201 16 [l0, l1, some (.int v)] st M Q = Wp d 201 17 [l0, l1, some (.int v)] (.int v :: st) M Q := fun d l0 l1 v st M Q => wA (show ins 201 16 = some (.iload_n 2, 1) by decide +kernel) rfl
set_option maxRecDepth 100000 in
theorem r_201_17 : ∀ (d : Nat) (ls : Lc) (st : List Value) (M : Mem) (Q : Outcome → Mem → Prop), Wp d 201 17 ls st M Q = Wp d 201 30 ls st M Q := fun d ls st M Q => w_goto (show ins 201 17 = some (.goto 13, 3) by decide +kernel) rfl
set_option maxRecDepth 100000 in
theorem r_201_20 : ∀ (d : Nat) (l1 l2 : Option Value) (v : Nat) (st : List Value) (M : Mem) (Q : Outcome → Mem → Prop), Wp d 201 20 [some (.ref v), l1, l2] st M Q = Wp d 201 21 [some (.ref v), l1, l2] (.ref v :: st) M Q := fun d l1 l2 v st M Q => wA (show ins 201 20 = some (.aload_n 0, 1) by decide +kernel) rfl
set_option maxRecDepth 100000 in
theorem r_201_21 : ∀ (d : Nat) (ls : Lc) (a : Nat) (st : List Value) (M : Mem) (Q : Outcome → Mem → Prop), Wp d 201 21 ls (.ref a :: st) M Q = (fk 53 (kO M a) = true ∧ Wp d 201 24 ls (va_rf (mR M 53 a) :: st) M Q) := fun d ls a st M Q => w_getR (show ins 201 21 = some (.getfield 7, 3) by decide +kernel) (show fRes (mC 201) 7 = some (53, 8, false) by decide +kernel) (by decide +kernel)
set_option maxRecDepth 100000 in
theorem r_201_24 : ∀ (d : Nat) (ls : Lc) (st : List Value) (M : Mem) (Q : Outcome → Mem → Prop), Wp d 201 24 ls st M Q = Wp d 201 27 ls (.int (I 218) :: st) M Q := fun d ls st M Q => w_sipush (show ins 201 24 = some (.sipush 218, 3) by decide +kernel) (by decide)
set_option maxRecDepth 100000 in
theorem r_201_27 : ∀ (d : Nat) (l0 l2 : Option Value) (v : Int32) (st : List Value) (M : Mem) (Q : Outcome → Mem → Prop), Wp d 201 27 [l0, some (.int v), l2] st M Q = Wp d 201 28 [l0, some (.int v), l2] (.int v :: st) M Q := fun d l0 l2 v st M Q => wA (show ins 201 27 = some (.iload_n 1, 1) by decide +kernel) rfl
set_option maxRecDepth 100000 in
theorem r_201_28 : ∀ (d : Nat) (ls : Lc) (a b : Int) (st : List Value) (M : Mem) (Q : Outcome → Mem → Prop), Wp d 201 28 ls (.int (I b) :: .int (I a) :: st) M Q = Wp d 201 29 ls (.int (I (a + b)) :: st) M Q := fun d ls a b st M Q => w_iadd (show ins 201 28 = some (.iadd, 1) by decide +kernel)
set_option maxRecDepth 100000 in
theorem r_201_29 : ∀ (d : Nat) (ls : Lc) (a : Nat) (j : Int32) (st : List Value) (M : Mem) (Q : Outcome → Mem → Prop), Wp d 201 29 ls (.int j :: .ref a :: st) M Q = ((((kX M a).1 = 0 ∨ (kX M a).1 = 8) ∧ inB j (kX M a).2 = true) ∧ Wp d 201 30 ls (.int (mA M a j.toNatClampNeg) :: st) M Q) := fun d ls a j st M Q => w_iaload (show ins 201 29 = some (.iaload, 1) by decide +kernel)
set_option maxRecDepth 100000 in
theorem r_201_30 : ∀ (d : Nat) (ls : Lc) (v0 v1 : Value) (a : Nat) (st : List Value) (M : Mem) (Q : Outcome → Mem → Prop), (smallR st = true) → Wp d 201 30 ls (v1 :: v0 :: .ref a :: st) M Q = (kO M a = 8 ∧ Ca d 201 30 ls 202 (.ref a :: [v0, v1]) st M Q) := fun d ls v0 v1 a st M Q h0 => w_virt1 (as := [v0, v1]) (show ins 201 30 = some (.invokevirtual 180, 3) by decide +kernel) (show mRes (mC 201) 180 = some (3, 8, [(8, 202)]) by decide +kernel) (by decide +kernel) rfl (by decide +kernel) (by decide +kernel) h0
set_option maxRecDepth 100000 in
theorem r_201_33 : ∀ (d : Nat) (l1 l2 : Option Value) (v : Nat) (st : List Value) (M : Mem) (Q : Outcome → Mem → Prop), Wp d 201 33 [some (.ref v), l1, l2] st M Q = Wp d 201 34 [some (.ref v), l1, l2] (.ref v :: st) M Q := fun d l1 l2 v st M Q => wA (show ins 201 33 = some (.aload_n 0, 1) by decide +kernel) rfl
set_option maxRecDepth 100000 in
theorem r_201_34 : ∀ (d : Nat) (ls : Lc) (st : List Value) (M : Mem) (Q : Outcome → Mem → Prop), Wp d 201 34 ls st M Q = Wp d 201 35 ls (.int (I 4) :: st) M Q := fun d ls st M Q => w_iconst (show ins 201 34 = some (.iconst 4, 1) by decide +kernel)
set_option maxRecDepth 100000 in
theorem r_201_35 : ∀ (d : Nat) (ls : Lc) (v0 : Value) (a : Nat) (st : List Value) (M : Mem) (Q : Outcome → Mem → Prop), (smallR st = true) → Wp d 201 35 ls (v0 :: .ref a :: st) M Q = (kO M a = 8 ∧ Ca d 201 35 ls 183 (.ref a :: [v0]) st M Q) := fun d ls v0 a st M Q h0 => w_virt1 (as := [v0]) (show ins 201 35 = some (.invokevirtual 167, 3) by decide +kernel) (show mRes (mC 201) 167 = some (3, 8, [(8, 183)]) by decide +kernel) (by decide +kernel) rfl (by decide +kernel) (by decide +kernel) h0
set_option maxRecDepth 100000 in
theorem r_201_38 : ∀ (d : Nat) (ls : Lc) (a : Int32) (st : List Value) (M : Mem) (Q : Outcome → Mem → Prop), Wp d 201 38 ls (.int a :: st) M Q = Br (a = I 0) d 201 54 41 ls st M Q := fun d ls a st M Q => w_if (show ins 201 38 = some (.ifCond .eq 16, 3) by decide +kernel) rfl rfl
set_option maxRecDepth 100000 in
theorem r_201_41 : ∀ (d : Nat) (l1 l2 : Option Value) (v : Nat) (st : List Value) (M : Mem) (Q : Outcome → Mem → Prop), Wp d 201 41 [some (.ref v), l1, l2] st M Q = Wp d 201 42 [some (.ref v), l1, l2] (.ref v :: st) M Q := fun d l1 l2 v st M Q => wA (show ins 201 41 = some (.aload_n 0, 1) by decide +kernel) rfl
set_option maxRecDepth 100000 in
theorem r_201_42 : ∀ (d : Nat) (ls : Lc) (a : Nat) (st : List Value) (M : Mem) (Q : Outcome → Mem → Prop), Wp d 201 42 ls (.ref a :: st) M Q = (fk 53 (kO M a) = true ∧ Wp d 201 45 ls (va_rf (mR M 53 a) :: st) M Q) := fun d ls a st M Q => w_getR (show ins 201 42 = some (.getfield 7, 3) by decide +kernel) (show fRes (mC 201) 7 = some (53, 8, false) by decide +kernel) (by decide +kernel)
set_option maxRecDepth 100000 in
theorem r_201_45 : ∀ (d : Nat) (ls : Lc) (st : List Value) (M : Mem) (Q : Outcome → Mem → Prop), Wp d 201 45 ls st M Q = Wp d 201 48 ls (.int (I 218) :: st) M Q := fun d ls st M Q => w_sipush (show ins 201 45 = some (.sipush 218, 3) by decide +kernel) (by decide)
set_option maxRecDepth 100000 in
theorem r_201_48 : ∀ (d : Nat) (l0 l2 : Option Value) (v : Int32) (st : List Value) (M : Mem) (Q : Outcome → Mem → Prop), Wp d 201 48 [l0, some (.int v), l2] st M Q = Wp d 201 49 [l0, some (.int v), l2] (.int v :: st) M Q := fun d l0 l2 v st M Q => wA (show ins 201 48 = some (.iload_n 1, 1) by decide +kernel) rfl
set_option maxRecDepth 100000 in
theorem r_201_49 : ∀ (d : Nat) (ls : Lc) (a b : Int) (st : List Value) (M : Mem) (Q : Outcome → Mem → Prop), Wp d 201 49 ls (.int (I b) :: .int (I a) :: st) M Q = Wp d 201 50 ls (.int (I (a + b)) :: st) M Q := fun d ls a b st M Q => w_iadd (show ins 201 49 = some (.iadd, 1) by decide +kernel)
set_option maxRecDepth 100000 in
theorem r_201_50 : ∀ (d : Nat) (ls : Lc) (a : Nat) (j : Int32) (st : List Value) (M : Mem) (Q : Outcome → Mem → Prop), Wp d 201 50 ls (.int j :: .ref a :: st) M Q = ((((kX M a).1 = 0 ∨ (kX M a).1 = 8) ∧ inB j (kX M a).2 = true) ∧ Wp d 201 51 ls (.int (mA M a j.toNatClampNeg) :: st) M Q) := fun d ls a j st M Q => w_iaload (show ins 201 50 = some (.iaload, 1) by decide +kernel)
set_option maxRecDepth 100000 in
theorem r_201_51 : ∀ (d : Nat) (ls : Lc) (st : List Value) (M : Mem) (Q : Outcome → Mem → Prop), Wp d 201 51 ls st M Q = Wp d 201 55 ls st M Q := fun d ls st M Q => w_goto (show ins 201 51 = some (.goto 4, 3) by decide +kernel) rfl
set_option maxRecDepth 100000 in
theorem r_201_54 : ∀ (d : Nat) (ls : Lc) (st : List Value) (M : Mem) (Q : Outcome → Mem → Prop), Wp d 201 54 ls st M Q = Wp d 201 55 ls (.int (I 0) :: st) M Q := fun d ls st M Q => w_iconst (show ins 201 54 = some (.iconst 0, 1) by decide +kernel)
set_option maxRecDepth 100000 in
theorem r_201_55 : ∀ (d : Nat) (ls : Lc) (v : Int32) (M : Mem) (Q : Outcome → Mem → Prop), Wp d 201 55 ls [.int v] M Q = Q (.returned (some (.int v))) M := fun d ls v M Q => w_ireturn (show ins 201 55 = some (.ireturn, 1) by decide +kernel) (by decide +kernel)
set_option maxRecDepth 100000 in
theorem W_201 : (type_of% r_201_0) ∧ (type_of% r_201_1) ∧ (type_of% r_201_2) ∧ (type_of% r_201_3) ∧ (type_of% r_201_4) ∧ (type_of% r_201_7) ∧ (type_of% r_201_10) ∧ (type_of% r_201_11) ∧ (type_of% r_201_12) ∧ (type_of% r_201_13) ∧ (type_of% r_201_16) ∧ (type_of% r_201_17) ∧ (type_of% r_201_20) ∧ (type_of% r_201_21) ∧ (type_of% r_201_24) ∧ (type_of% r_201_27) ∧ (type_of% r_201_28) ∧ (type_of% r_201_29) ∧ (type_of% r_201_30) ∧ (type_of% r_201_33) ∧ (type_of% r_201_34) ∧ (type_of% r_201_35) ∧ (type_of% r_201_38) ∧ (type_of% r_201_41) ∧ (type_of% r_201_42) ∧ (type_of% r_201_45) ∧ (type_of% r_201_48) ∧ (type_of% r_201_49) ∧ (type_of% r_201_50) ∧ (type_of% r_201_51) ∧ (type_of% r_201_54) ∧ (type_of% r_201_55) := ⟨r_201_0, r_201_1, r_201_2, r_201_3, r_201_4, r_201_7, r_201_10, r_201_11, r_201_12, r_201_13, r_201_16, r_201_17, r_201_20, r_201_21, r_201_24, r_201_27, r_201_28, r_201_29, r_201_30, r_201_33, r_201_34, r_201_35, r_201_38, r_201_41, r_201_42, r_201_45, r_201_48, r_201_49, r_201_50, r_201_51, r_201_54, r_201_55⟩
set_option maxRecDepth 100000 in
theorem ca_201 {d y pc : Nat} {ls : Lc} {a : Nat} {z0 : Int32} {z1 : Int32} {r : List Value} {M : Mem} {Q : Outcome → Mem → Prop} (hd : 0 < d) (hw : Wp (d - 1) 201 0 [some (.ref a), some (.int z0), some (.int z1)] [] M (Cq d y pc ls r Q)) : Ca d y pc ls 201 [.ref a, .int z0, .int z1] r M Q := ca_of (mq_get (by decide)) (by rfl) hd hw
/-! 202 PackedTreeModel.lay(II)V; loop heads [32, 122, 185, 262] -/
set_option maxRecDepth 100000 in
theorem r_202_0 : ∀ (d : Nat) (l1 l2 l3 l4 l5 l6 : Option Value) (v : Nat) (st : List Value) (M : Mem) (Q : Outcome → Mem → Prop), Wp d 202 0 [some (.ref v), l1, l2, l3, l4, l5, l6] st M Q = Wp d 202 1 [some (.ref v), l1, l2, l3, l4, l5, l6] (.ref v :: st) M Q := fun d l1 l2 l3 l4 l5 l6 v st M Q => wA (show ins 202 0 = some (.aload_n 0, 1) by decide +kernel) rfl
set_option maxRecDepth 100000 in
theorem r_202_1 : ∀ (d : Nat) (ls : Lc) (a : Nat) (st : List Value) (M : Mem) (Q : Outcome → Mem → Prop), Wp d 202 1 ls (.ref a :: st) M Q = (fk 53 (kO M a) = true ∧ Wp d 202 4 ls (va_rf (mR M 53 a) :: st) M Q) := fun d ls a st M Q => w_getR (show ins 202 1 = some (.getfield 7, 3) by decide +kernel) (show fRes (mC 202) 7 = some (53, 8, false) by decide +kernel) (by decide +kernel)
set_option maxRecDepth 100000 in
theorem r_202_4 : ∀ (d : Nat) (ls : Lc) (st : List Value) (M : Mem) (Q : Outcome → Mem → Prop), Wp d 202 4 ls st M Q = Wp d 202 7 ls (.int (I 279) :: st) M Q := fun d ls st M Q => w_sipush (show ins 202 4 = some (.sipush 279, 3) by decide +kernel) (by decide)
set_option maxRecDepth 100000 in
theorem r_202_7 : ∀ (d : Nat) (l0 l2 l3 l4 l5 l6 : Option Value) (v : Int32) (st : List Value) (M : Mem) (Q : Outcome → Mem → Prop), Wp d 202 7 [l0, some (.int v), l2, l3, l4, l5, l6] st M Q = Wp d 202 8 [l0, some (.int v), l2, l3, l4, l5, l6] (.int v :: st) M Q := fun d l0 l2 l3 l4 l5 l6 v st M Q => wA (show ins 202 7 = some (.iload_n 1, 1) by decide +kernel) rfl
set_option maxRecDepth 100000 in
theorem r_202_8 : ∀ (d : Nat) (ls : Lc) (a b : Int) (st : List Value) (M : Mem) (Q : Outcome → Mem → Prop), Wp d 202 8 ls (.int (I b) :: .int (I a) :: st) M Q = Wp d 202 9 ls (.int (I (a + b)) :: st) M Q := fun d ls a b st M Q => w_iadd (show ins 202 8 = some (.iadd, 1) by decide +kernel)
set_option maxRecDepth 100000 in
theorem r_202_9 : ∀ (d : Nat) (ls : Lc) (a : Nat) (j : Int32) (st : List Value) (M : Mem) (Q : Outcome → Mem → Prop), Wp d 202 9 ls (.int j :: .ref a :: st) M Q = ((((kX M a).1 = 0 ∨ (kX M a).1 = 8) ∧ inB j (kX M a).2 = true) ∧ Wp d 202 10 ls (.int (mA M a j.toNatClampNeg) :: st) M Q) := fun d ls a j st M Q => w_iaload (show ins 202 9 = some (.iaload, 1) by decide +kernel)
set_option maxRecDepth 100000 in
theorem r_202_10 : ∀ (d : Nat) (l0 l1 l2 l3 l4 l5 l6 : Option Value) (v : Int32) (st : List Value) (M : Mem) (Q : Outcome → Mem → Prop), (lo l2 = false) → Wp d 202 10 [l0, l1, l2, l3, l4, l5, l6] (.int v :: st) M Q = Wp d 202 11 [l0, l1, l2, some (.int v), l4, l5, l6] st M Q := fun d l0 l1 l2 l3 l4 l5 l6 v st M Q hl => w_istore_n (show ins 202 10 = some (.istore_n 3, 1) by decide +kernel) (st1_S rfl rfl hl)
set_option maxRecDepth 100000 in
theorem r_202_11 : ∀ (d : Nat) (l1 l2 l3 l4 l5 l6 : Option Value) (v : Nat) (st : List Value) (M : Mem) (Q : Outcome → Mem → Prop), Wp d 202 11 [some (.ref v), l1, l2, l3, l4, l5, l6] st M Q = Wp d 202 12 [some (.ref v), l1, l2, l3, l4, l5, l6] (.ref v :: st) M Q := fun d l1 l2 l3 l4 l5 l6 v st M Q => wA (show ins 202 11 = some (.aload_n 0, 1) by decide +kernel) rfl
set_option maxRecDepth 100000 in
theorem r_202_12 : ∀ (d : Nat) (ls : Lc) (a : Nat) (st : List Value) (M : Mem) (Q : Outcome → Mem → Prop), Wp d 202 12 ls (.ref a :: st) M Q = (fk 53 (kO M a) = true ∧ Wp d 202 15 ls (va_rf (mR M 53 a) :: st) M Q) := fun d ls a st M Q => w_getR (show ins 202 12 = some (.getfield 7, 3) by decide +kernel) (show fRes (mC 202) 7 = some (53, 8, false) by decide +kernel) (by decide +kernel)
set_option maxRecDepth 100000 in
theorem r_202_15 : ∀ (d : Nat) (ls : Lc) (st : List Value) (M : Mem) (Q : Outcome → Mem → Prop), Wp d 202 15 ls st M Q = Wp d 202 18 ls (.int (I 218) :: st) M Q := fun d ls st M Q => w_sipush (show ins 202 15 = some (.sipush 218, 3) by decide +kernel) (by decide)
set_option maxRecDepth 100000 in
theorem r_202_18 : ∀ (d : Nat) (l0 l2 l3 l4 l5 l6 : Option Value) (v : Int32) (st : List Value) (M : Mem) (Q : Outcome → Mem → Prop), Wp d 202 18 [l0, some (.int v), l2, l3, l4, l5, l6] st M Q = Wp d 202 19 [l0, some (.int v), l2, l3, l4, l5, l6] (.int v :: st) M Q := fun d l0 l2 l3 l4 l5 l6 v st M Q => wA (show ins 202 18 = some (.iload_n 1, 1) by decide +kernel) rfl
set_option maxRecDepth 100000 in
theorem r_202_19 : ∀ (d : Nat) (ls : Lc) (a b : Int) (st : List Value) (M : Mem) (Q : Outcome → Mem → Prop), Wp d 202 19 ls (.int (I b) :: .int (I a) :: st) M Q = Wp d 202 20 ls (.int (I (a + b)) :: st) M Q := fun d ls a b st M Q => w_iadd (show ins 202 19 = some (.iadd, 1) by decide +kernel)
set_option maxRecDepth 100000 in
theorem r_202_20 : ∀ (d : Nat) (ls : Lc) (a : Nat) (j : Int32) (st : List Value) (M : Mem) (Q : Outcome → Mem → Prop), Wp d 202 20 ls (.int j :: .ref a :: st) M Q = ((((kX M a).1 = 0 ∨ (kX M a).1 = 8) ∧ inB j (kX M a).2 = true) ∧ Wp d 202 21 ls (.int (mA M a j.toNatClampNeg) :: st) M Q) := fun d ls a j st M Q => w_iaload (show ins 202 20 = some (.iaload, 1) by decide +kernel)
set_option maxRecDepth 100000 in
theorem r_202_21 : ∀ (d : Nat) (ls : Lc) (v0 : Value)  (st : List Value) (M : Mem) (Q : Outcome → Mem → Prop), (smallR st = true) → Wp d 202 21 ls (v0 :: st) M Q = Ca d 202 21 ls 192 [v0] st M Q := fun d ls v0 st M Q h0 => w_stat (as := [v0]) (show ins 202 21 = some (.invokestatic 137, 3) by decide +kernel) (show mRes (mC 202) 137 = some (0, 8, [(0, 192)]) by decide +kernel) (by decide +kernel) (by decide +kernel) rfl h0
set_option maxRecDepth 100000 in
theorem r_202_24 : ∀ (d : Nat) (l0 l1 l2 l3 l4 l5 l6 : Option Value) (v : Int32) (st : List Value) (M : Mem) (Q : Outcome → Mem → Prop), (lo l3 = false) → Wp d 202 24 [l0, l1, l2, l3, l4, l5, l6] (.int v :: st) M Q = Wp d 202 26 [l0, l1, l2, l3, some (.int v), l5, l6] st M Q := fun d l0 l1 l2 l3 l4 l5 l6 v st M Q hl => w_istore (show ins 202 24 = some (.istore 4, 2) by decide +kernel) (st1_S rfl rfl hl)
set_option maxRecDepth 100000 in
theorem r_202_26 : ∀ (d : Nat) (l0 l1 l3 l4 l5 l6 : Option Value) (v : Int32) (st : List Value) (M : Mem) (Q : Outcome → Mem → Prop), Wp d 202 26 [l0, l1, some (.int v), l3, l4, l5, l6] st M Q = Wp d 202 27 [l0, l1, some (.int v), l3, l4, l5, l6] (.int v :: st) M Q := fun d l0 l1 l3 l4 l5 l6 v st M Q => wA (show ins 202 26 = some (.iload_n 2, 1) by decide +kernel) rfl
set_option maxRecDepth 100000 in
theorem r_202_27 : ∀ (d : Nat) (ls : Lc) (v0 : Value)  (st : List Value) (M : Mem) (Q : Outcome → Mem → Prop), (smallR st = true) → Wp d 202 27 ls (v0 :: st) M Q = Ca d 202 27 ls 203 [v0] st M Q := fun d ls v0 st M Q h0 => w_stat (as := [v0]) (show ins 202 27 = some (.invokestatic 143, 3) by decide +kernel) (show mRes (mC 202) 143 = some (0, 8, [(0, 203)]) by decide +kernel) (by decide +kernel) (by decide +kernel) rfl h0
set_option maxRecDepth 100000 in
theorem r_202_30 : ∀ (d : Nat) (l0 l1 l2 l3 l4 l5 l6 : Option Value) (v : Int32) (st : List Value) (M : Mem) (Q : Outcome → Mem → Prop), (lo l4 = false) → Wp d 202 30 [l0, l1, l2, l3, l4, l5, l6] (.int v :: st) M Q = Wp d 202 32 [l0, l1, l2, l3, l4, some (.int v), l6] st M Q := fun d l0 l1 l2 l3 l4 l5 l6 v st M Q hl => w_istore (show ins 202 30 = some (.istore 5, 2) by decide +kernel) (st1_S rfl rfl hl)
set_option maxRecDepth 100000 in
theorem r_202_32 : ∀ (d : Nat) (l1 l2 l3 l4 l5 l6 : Option Value) (v : Nat) (st : List Value) (M : Mem) (Q : Outcome → Mem → Prop), Wp d 202 32 [some (.ref v), l1, l2, l3, l4, l5, l6] st M Q = Wp d 202 33 [some (.ref v), l1, l2, l3, l4, l5, l6] (.ref v :: st) M Q := fun d l1 l2 l3 l4 l5 l6 v st M Q => wA (show ins 202 32 = some (.aload_n 0, 1) by decide +kernel) rfl
set_option maxRecDepth 100000 in
theorem r_202_33 : ∀ (d : Nat) (ls : Lc) (a : Nat) (st : List Value) (M : Mem) (Q : Outcome → Mem → Prop), Wp d 202 33 ls (.ref a :: st) M Q = (fk 53 (kO M a) = true ∧ Wp d 202 36 ls (va_rf (mR M 53 a) :: st) M Q) := fun d ls a st M Q => w_getR (show ins 202 33 = some (.getfield 7, 3) by decide +kernel) (show fRes (mC 202) 7 = some (53, 8, false) by decide +kernel) (by decide +kernel)
set_option maxRecDepth 100000 in
theorem r_202_36 : ∀ (d : Nat) (ls : Lc) (st : List Value) (M : Mem) (Q : Outcome → Mem → Prop), Wp d 202 36 ls st M Q = Wp d 202 39 ls (.int (I 279) :: st) M Q := fun d ls st M Q => w_sipush (show ins 202 36 = some (.sipush 279, 3) by decide +kernel) (by decide)
set_option maxRecDepth 100000 in
theorem r_202_39 : ∀ (d : Nat) (l0 l2 l3 l4 l5 l6 : Option Value) (v : Int32) (st : List Value) (M : Mem) (Q : Outcome → Mem → Prop), Wp d 202 39 [l0, some (.int v), l2, l3, l4, l5, l6] st M Q = Wp d 202 40 [l0, some (.int v), l2, l3, l4, l5, l6] (.int v :: st) M Q := fun d l0 l2 l3 l4 l5 l6 v st M Q => wA (show ins 202 39 = some (.iload_n 1, 1) by decide +kernel) rfl
set_option maxRecDepth 100000 in
theorem r_202_40 : ∀ (d : Nat) (ls : Lc) (a b : Int) (st : List Value) (M : Mem) (Q : Outcome → Mem → Prop), Wp d 202 40 ls (.int (I b) :: .int (I a) :: st) M Q = Wp d 202 41 ls (.int (I (a + b)) :: st) M Q := fun d ls a b st M Q => w_iadd (show ins 202 40 = some (.iadd, 1) by decide +kernel)
set_option maxRecDepth 100000 in
theorem r_202_41 : ∀ (d : Nat) (ls : Lc) (a : Nat) (j : Int32) (st : List Value) (M : Mem) (Q : Outcome → Mem → Prop), Wp d 202 41 ls (.int j :: .ref a :: st) M Q = ((((kX M a).1 = 0 ∨ (kX M a).1 = 8) ∧ inB j (kX M a).2 = true) ∧ Wp d 202 42 ls (.int (mA M a j.toNatClampNeg) :: st) M Q) := fun d ls a j st M Q => w_iaload (show ins 202 41 = some (.iaload, 1) by decide +kernel)
set_option maxRecDepth 100000 in
theorem r_202_42 : ∀ (d : Nat) (l0 l1 l2 l3 l4 l6 : Option Value) (v : Int32) (st : List Value) (M : Mem) (Q : Outcome → Mem → Prop), Wp d 202 42 [l0, l1, l2, l3, l4, some (.int v), l6] st M Q = Wp d 202 44 [l0, l1, l2, l3, l4, some (.int v), l6] (.int v :: st) M Q := fun d l0 l1 l2 l3 l4 l6 v st M Q => wA (show ins 202 42 = some (.iload 5, 2) by decide +kernel) rfl
set_option maxRecDepth 100000 in
theorem r_202_44 : ∀ (d : Nat) (ls : Lc) (a b : Int32) (st : List Value) (M : Mem) (Q : Outcome → Mem → Prop), Wp d 202 44 ls (.int b :: .int a :: st) M Q = Br (b ≤ a) d 202 114 47 ls st M Q := fun d ls a b st M Q => w_icmp (show ins 202 44 = some (.if_icmp .ge 70, 3) by decide +kernel) rfl rfl
set_option maxRecDepth 100000 in
theorem r_202_47 : ∀ (d : Nat) (l1 l2 l3 l4 l5 l6 : Option Value) (v : Nat) (st : List Value) (M : Mem) (Q : Outcome → Mem → Prop), Wp d 202 47 [some (.ref v), l1, l2, l3, l4, l5, l6] st M Q = Wp d 202 48 [some (.ref v), l1, l2, l3, l4, l5, l6] (.ref v :: st) M Q := fun d l1 l2 l3 l4 l5 l6 v st M Q => wA (show ins 202 47 = some (.aload_n 0, 1) by decide +kernel) rfl
set_option maxRecDepth 100000 in
theorem r_202_48 : ∀ (d : Nat) (ls : Lc) (a : Nat) (st : List Value) (M : Mem) (Q : Outcome → Mem → Prop), Wp d 202 48 ls (.ref a :: st) M Q = (fk 47 (kO M a) = true ∧ Wp d 202 51 ls (.int (mF M 47 a) :: st) M Q) := fun d ls a st M Q => w_getI (show ins 202 48 = some (.getfield 51, 3) by decide +kernel) (show fRes (mC 202) 51 = some (47, 8, false) by decide +kernel) (by decide +kernel)
set_option maxRecDepth 100000 in
theorem r_202_51 : ∀ (d : Nat) (ls : Lc) (a : Int32) (st : List Value) (M : Mem) (Q : Outcome → Mem → Prop), Wp d 202 51 ls (.int a :: st) M Q = Br (¬ a = I 0) d 202 114 54 ls st M Q := fun d ls a st M Q => w_if (show ins 202 51 = some (.ifCond .ne 63, 3) by decide +kernel) rfl rfl
set_option maxRecDepth 100000 in
theorem r_202_54 : ∀ (d : Nat) (l1 l2 l3 l4 l5 l6 : Option Value) (v : Nat) (st : List Value) (M : Mem) (Q : Outcome → Mem → Prop), Wp d 202 54 [some (.ref v), l1, l2, l3, l4, l5, l6] st M Q = Wp d 202 55 [some (.ref v), l1, l2, l3, l4, l5, l6] (.ref v :: st) M Q := fun d l1 l2 l3 l4 l5 l6 v st M Q => wA (show ins 202 54 = some (.aload_n 0, 1) by decide +kernel) rfl
set_option maxRecDepth 100000 in
theorem r_202_55 : ∀ (d : Nat) (ls : Lc) (a : Nat) (st : List Value) (M : Mem) (Q : Outcome → Mem → Prop), (smallR st = true) → Wp d 202 55 ls (.ref a :: st) M Q = (kO M a = 8 ∧ Ca d 202 55 ls 177 (.ref a :: []) st M Q) := fun d ls a st M Q h0 => w_virt1 (as := []) (show ins 202 55 = some (.invokevirtual 62, 3) by decide +kernel) (show mRes (mC 202) 62 = some (3, 8, [(8, 177)]) by decide +kernel) (by decide +kernel) rfl (by decide +kernel) (by decide +kernel) h0
set_option maxRecDepth 100000 in
theorem r_202_58 : ∀ (d : Nat) (l0 l1 l2 l3 l4 l5 l6 : Option Value) (v : Int32) (st : List Value) (M : Mem) (Q : Outcome → Mem → Prop), (lo l5 = false) → Wp d 202 58 [l0, l1, l2, l3, l4, l5, l6] (.int v :: st) M Q = Wp d 202 60 [l0, l1, l2, l3, l4, l5, some (.int v)] st M Q := fun d l0 l1 l2 l3 l4 l5 l6 v st M Q hl => w_istore (show ins 202 58 = some (.istore 6, 2) by decide +kernel) (st1_S rfl rfl hl)
set_option maxRecDepth 100000 in
theorem r_202_60 : ∀ (d : Nat) (l1 l2 l3 l4 l5 l6 : Option Value) (v : Nat) (st : List Value) (M : Mem) (Q : Outcome → Mem → Prop), Wp d 202 60 [some (.ref v), l1, l2, l3, l4, l5, l6] st M Q = Wp d 202 61 [some (.ref v), l1, l2, l3, l4, l5, l6] (.ref v :: st) M Q := fun d l1 l2 l3 l4 l5 l6 v st M Q => wA (show ins 202 60 = some (.aload_n 0, 1) by decide +kernel) rfl
set_option maxRecDepth 100000 in
theorem r_202_61 : ∀ (d : Nat) (ls : Lc) (a : Nat) (st : List Value) (M : Mem) (Q : Outcome → Mem → Prop), Wp d 202 61 ls (.ref a :: st) M Q = (fk 53 (kO M a) = true ∧ Wp d 202 64 ls (va_rf (mR M 53 a) :: st) M Q) := fun d ls a st M Q => w_getR (show ins 202 61 = some (.getfield 7, 3) by decide +kernel) (show fRes (mC 202) 7 = some (53, 8, false) by decide +kernel) (by decide +kernel)
set_option maxRecDepth 100000 in
theorem r_202_64 : ∀ (d : Nat) (ls : Lc) (st : List Value) (M : Mem) (Q : Outcome → Mem → Prop), Wp d 202 64 ls st M Q = Wp d 202 67 ls (.int (I 340) :: st) M Q := fun d ls st M Q => w_sipush (show ins 202 64 = some (.sipush 340, 3) by decide +kernel) (by decide)
set_option maxRecDepth 100000 in
theorem r_202_67 : ∀ (d : Nat) (ls : Lc) (st : List Value) (M : Mem) (Q : Outcome → Mem → Prop), Wp d 202 67 ls st M Q = Wp d 202 69 ls (.int (I 16) :: st) M Q := fun d ls st M Q => w_bipush (show ins 202 67 = some (.bipush 16, 2) by decide +kernel) (by decide)
set_option maxRecDepth 100000 in
theorem r_202_69 : ∀ (d : Nat) (l0 l2 l3 l4 l5 l6 : Option Value) (v : Int32) (st : List Value) (M : Mem) (Q : Outcome → Mem → Prop), Wp d 202 69 [l0, some (.int v), l2, l3, l4, l5, l6] st M Q = Wp d 202 70 [l0, some (.int v), l2, l3, l4, l5, l6] (.int v :: st) M Q := fun d l0 l2 l3 l4 l5 l6 v st M Q => wA (show ins 202 69 = some (.iload_n 1, 1) by decide +kernel) rfl
set_option maxRecDepth 100000 in
theorem r_202_70 : ∀ (d : Nat) (ls : Lc) (a b : Int) (st : List Value) (M : Mem) (Q : Outcome → Mem → Prop), Wp d 202 70 ls (.int (I b) :: .int (I a) :: st) M Q = Wp d 202 71 ls (.int (I (a * b)) :: st) M Q := fun d ls a b st M Q => w_imul (show ins 202 70 = some (.imul, 1) by decide +kernel)
set_option maxRecDepth 100000 in
theorem r_202_71 : ∀ (d : Nat) (ls : Lc) (a b : Int) (st : List Value) (M : Mem) (Q : Outcome → Mem → Prop), Wp d 202 71 ls (.int (I b) :: .int (I a) :: st) M Q = Wp d 202 72 ls (.int (I (a + b)) :: st) M Q := fun d ls a b st M Q => w_iadd (show ins 202 71 = some (.iadd, 1) by decide +kernel)
set_option maxRecDepth 100000 in
theorem r_202_72 : ∀ (d : Nat) (l1 l2 l3 l4 l5 l6 : Option Value) (v : Nat) (st : List Value) (M : Mem) (Q : Outcome → Mem → Prop), Wp d 202 72 [some (.ref v), l1, l2, l3, l4, l5, l6] st M Q = Wp d 202 73 [some (.ref v), l1, l2, l3, l4, l5, l6] (.ref v :: st) M Q := fun d l1 l2 l3 l4 l5 l6 v st M Q => wA (show ins 202 72 = some (.aload_n 0, 1) by decide +kernel) rfl
set_option maxRecDepth 100000 in
theorem r_202_73 : ∀ (d : Nat) (ls : Lc) (a : Nat) (st : List Value) (M : Mem) (Q : Outcome → Mem → Prop), Wp d 202 73 ls (.ref a :: st) M Q = (fk 53 (kO M a) = true ∧ Wp d 202 76 ls (va_rf (mR M 53 a) :: st) M Q) := fun d ls a st M Q => w_getR (show ins 202 73 = some (.getfield 7, 3) by decide +kernel) (show fRes (mC 202) 7 = some (53, 8, false) by decide +kernel) (by decide +kernel)
set_option maxRecDepth 100000 in
theorem r_202_76 : ∀ (d : Nat) (ls : Lc) (st : List Value) (M : Mem) (Q : Outcome → Mem → Prop), Wp d 202 76 ls st M Q = Wp d 202 79 ls (.int (I 279) :: st) M Q := fun d ls st M Q => w_sipush (show ins 202 76 = some (.sipush 279, 3) by decide +kernel) (by decide)
set_option maxRecDepth 100000 in
theorem r_202_79 : ∀ (d : Nat) (l0 l2 l3 l4 l5 l6 : Option Value) (v : Int32) (st : List Value) (M : Mem) (Q : Outcome → Mem → Prop), Wp d 202 79 [l0, some (.int v), l2, l3, l4, l5, l6] st M Q = Wp d 202 80 [l0, some (.int v), l2, l3, l4, l5, l6] (.int v :: st) M Q := fun d l0 l2 l3 l4 l5 l6 v st M Q => wA (show ins 202 79 = some (.iload_n 1, 1) by decide +kernel) rfl
set_option maxRecDepth 100000 in
theorem r_202_80 : ∀ (d : Nat) (ls : Lc) (a b : Int) (st : List Value) (M : Mem) (Q : Outcome → Mem → Prop), Wp d 202 80 ls (.int (I b) :: .int (I a) :: st) M Q = Wp d 202 81 ls (.int (I (a + b)) :: st) M Q := fun d ls a b st M Q => w_iadd (show ins 202 80 = some (.iadd, 1) by decide +kernel)
set_option maxRecDepth 100000 in
theorem r_202_81 : ∀ (d : Nat) (ls : Lc) (a : Nat) (j : Int32) (st : List Value) (M : Mem) (Q : Outcome → Mem → Prop), Wp d 202 81 ls (.int j :: .ref a :: st) M Q = ((((kX M a).1 = 0 ∨ (kX M a).1 = 8) ∧ inB j (kX M a).2 = true) ∧ Wp d 202 82 ls (.int (mA M a j.toNatClampNeg) :: st) M Q) := fun d ls a j st M Q => w_iaload (show ins 202 81 = some (.iaload, 1) by decide +kernel)
set_option maxRecDepth 100000 in
theorem r_202_82 : ∀ (d : Nat) (ls : Lc) (a b : Int) (st : List Value) (M : Mem) (Q : Outcome → Mem → Prop), Wp d 202 82 ls (.int (I b) :: .int (I a) :: st) M Q = Wp d 202 83 ls (.int (I (a + b)) :: st) M Q := fun d ls a b st M Q => w_iadd (show ins 202 82 = some (.iadd, 1) by decide +kernel)
set_option maxRecDepth 100000 in
theorem r_202_83 : ∀ (d : Nat) (l0 l1 l2 l3 l4 l5 : Option Value) (v : Int32) (st : List Value) (M : Mem) (Q : Outcome → Mem → Prop), Wp d 202 83 [l0, l1, l2, l3, l4, l5, some (.int v)] st M Q = Wp d 202 85 [l0, l1, l2, l3, l4, l5, some (.int v)] (.int v :: st) M Q := fun d l0 l1 l2 l3 l4 l5 v st M Q => wA (show ins 202 83 = some (.iload 6, 2) by decide +kernel) rfl
set_option maxRecDepth 100000 in
theorem r_202_85 : ∀ (d : Nat) (ls : Lc) (a : Nat) (j v : Int32) (st : List Value) (M : Mem) (Q : Outcome → Mem → Prop), Wp d 202 85 ls (.int v :: .int j :: .ref a :: st) M Q = (((kX M a).1 = 0 ∧ inB j (kX M a).2 = true) ∧ Wp d 202 86 ls st (sA M a j.toNatClampNeg v) Q) := fun d ls a j v st M Q => w_iastore (show ins 202 85 = some (.iastore, 1) by decide +kernel)
set_option maxRecDepth 100000 in
theorem r_202_86 : ∀ (d : Nat) (l1 l2 l3 l4 l5 l6 : Option Value) (v : Nat) (st : List Value) (M : Mem) (Q : Outcome → Mem → Prop), Wp d 202 86 [some (.ref v), l1, l2, l3, l4, l5, l6] st M Q = Wp d 202 87 [some (.ref v), l1, l2, l3, l4, l5, l6] (.ref v :: st) M Q := fun d l1 l2 l3 l4 l5 l6 v st M Q => wA (show ins 202 86 = some (.aload_n 0, 1) by decide +kernel) rfl
set_option maxRecDepth 100000 in
theorem r_202_87 : ∀ (d : Nat) (ls : Lc) (a : Nat) (st : List Value) (M : Mem) (Q : Outcome → Mem → Prop), Wp d 202 87 ls (.ref a :: st) M Q = (fk 53 (kO M a) = true ∧ Wp d 202 90 ls (va_rf (mR M 53 a) :: st) M Q) := fun d ls a st M Q => w_getR (show ins 202 87 = some (.getfield 7, 3) by decide +kernel) (show fRes (mC 202) 7 = some (53, 8, false) by decide +kernel) (by decide +kernel)
set_option maxRecDepth 100000 in
theorem r_202_90 : ∀ (d : Nat) (ls : Lc) (st : List Value) (M : Mem) (Q : Outcome → Mem → Prop), Wp d 202 90 ls st M Q = Wp d 202 93 ls (.int (I 279) :: st) M Q := fun d ls st M Q => w_sipush (show ins 202 90 = some (.sipush 279, 3) by decide +kernel) (by decide)
set_option maxRecDepth 100000 in
theorem r_202_93 : ∀ (d : Nat) (l0 l2 l3 l4 l5 l6 : Option Value) (v : Int32) (st : List Value) (M : Mem) (Q : Outcome → Mem → Prop), Wp d 202 93 [l0, some (.int v), l2, l3, l4, l5, l6] st M Q = Wp d 202 94 [l0, some (.int v), l2, l3, l4, l5, l6] (.int v :: st) M Q := fun d l0 l2 l3 l4 l5 l6 v st M Q => wA (show ins 202 93 = some (.iload_n 1, 1) by decide +kernel) rfl
set_option maxRecDepth 100000 in
theorem r_202_94 : ∀ (d : Nat) (ls : Lc) (a b : Int) (st : List Value) (M : Mem) (Q : Outcome → Mem → Prop), Wp d 202 94 ls (.int (I b) :: .int (I a) :: st) M Q = Wp d 202 95 ls (.int (I (a + b)) :: st) M Q := fun d ls a b st M Q => w_iadd (show ins 202 94 = some (.iadd, 1) by decide +kernel)
set_option maxRecDepth 100000 in
theorem r_202_95 : ∀ (d : Nat) (ls : Lc) (v : Int32) (a : Nat) (st : List Value) (M : Mem) (Q : Outcome → Mem → Prop), Wp d 202 95 ls (.int v :: .ref a :: st) M Q = Wp d 202 96 ls (.int v :: .ref a :: .int v :: .ref a :: st) M Q := fun d ls v a st M Q => wA (show ins 202 95 = some (.dup2, 1) by decide +kernel) rfl
set_option maxRecDepth 100000 in
theorem r_202_96 : ∀ (d : Nat) (ls : Lc) (a : Nat) (j : Int32) (st : List Value) (M : Mem) (Q : Outcome → Mem → Prop), Wp d 202 96 ls (.int j :: .ref a :: st) M Q = ((((kX M a).1 = 0 ∨ (kX M a).1 = 8) ∧ inB j (kX M a).2 = true) ∧ Wp d 202 97 ls (.int (mA M a j.toNatClampNeg) :: st) M Q) := fun d ls a j st M Q => w_iaload (show ins 202 96 = some (.iaload, 1) by decide +kernel)
set_option maxRecDepth 100000 in
theorem r_202_97 : ∀ (d : Nat) (l1 l2 l3 l4 l5 l6 : Option Value) (v : Nat) (st : List Value) (M : Mem) (Q : Outcome → Mem → Prop), Wp d 202 97 [some (.ref v), l1, l2, l3, l4, l5, l6] st M Q = Wp d 202 98 [some (.ref v), l1, l2, l3, l4, l5, l6] (.ref v :: st) M Q := fun d l1 l2 l3 l4 l5 l6 v st M Q => wA (show ins 202 97 = some (.aload_n 0, 1) by decide +kernel) rfl
set_option maxRecDepth 100000 in
theorem r_202_98 : ∀ (d : Nat) (ls : Lc) (a : Nat) (st : List Value) (M : Mem) (Q : Outcome → Mem → Prop), Wp d 202 98 ls (.ref a :: st) M Q = (fk 47 (kO M a) = true ∧ Wp d 202 101 ls (.int (mF M 47 a) :: st) M Q) := fun d ls a st M Q => w_getI (show ins 202 98 = some (.getfield 51, 3) by decide +kernel) (show fRes (mC 202) 51 = some (47, 8, false) by decide +kernel) (by decide +kernel)
set_option maxRecDepth 100000 in
theorem r_202_101 : ∀ (d : Nat) (ls : Lc) (a : Int32) (st : List Value) (M : Mem) (Q : Outcome → Mem → Prop), Wp d 202 101 ls (.int a :: st) M Q = Br (a = I 0) d 202 108 104 ls st M Q := fun d ls a st M Q => w_if (show ins 202 101 = some (.ifCond .eq 7, 3) by decide +kernel) rfl rfl
set_option maxRecDepth 100000 in
theorem r_202_104 : ∀ (d : Nat) (ls : Lc) (st : List Value) (M : Mem) (Q : Outcome → Mem → Prop), Wp d 202 104 ls st M Q = Wp d 202 105 ls (.int (I 0) :: st) M Q := fun d ls st M Q => w_iconst (show ins 202 104 = some (.iconst 0, 1) by decide +kernel)
set_option maxRecDepth 100000 in
theorem r_202_105 : ∀ (d : Nat) (ls : Lc) (st : List Value) (M : Mem) (Q : Outcome → Mem → Prop), Wp d 202 105 ls st M Q = Wp d 202 109 ls st M Q := fun d ls st M Q => w_goto (show ins 202 105 = some (.goto 4, 3) by decide +kernel) rfl
set_option maxRecDepth 100000 in
theorem r_202_108 : ∀ (d : Nat) (ls : Lc) (st : List Value) (M : Mem) (Q : Outcome → Mem → Prop), Wp d 202 108 ls st M Q = Wp d 202 109 ls (.int (I 1) :: st) M Q := fun d ls st M Q => w_iconst (show ins 202 108 = some (.iconst 1, 1) by decide +kernel)
set_option maxRecDepth 100000 in
theorem r_202_109 : ∀ (d : Nat) (ls : Lc) (a b : Int) (st : List Value) (M : Mem) (Q : Outcome → Mem → Prop), Wp d 202 109 ls (.int (I b) :: .int (I a) :: st) M Q = Wp d 202 110 ls (.int (I (a + b)) :: st) M Q := fun d ls a b st M Q => w_iadd (show ins 202 109 = some (.iadd, 1) by decide +kernel)
set_option maxRecDepth 100000 in
theorem r_202_110 : ∀ (d : Nat) (ls : Lc) (a : Nat) (j v : Int32) (st : List Value) (M : Mem) (Q : Outcome → Mem → Prop), Wp d 202 110 ls (.int v :: .int j :: .ref a :: st) M Q = (((kX M a).1 = 0 ∧ inB j (kX M a).2 = true) ∧ Wp d 202 111 ls st (sA M a j.toNatClampNeg v) Q) := fun d ls a j v st M Q => w_iastore (show ins 202 110 = some (.iastore, 1) by decide +kernel)
set_option maxRecDepth 100000 in
theorem r_202_111 : ∀ (d : Nat) (ls : Lc) (st : List Value) (M : Mem) (Q : Outcome → Mem → Prop), Wp d 202 111 ls st M Q = Wp d 202 32 ls st M Q := fun d ls st M Q => w_goto (show ins 202 111 = some (.goto (-79), 3) by decide +kernel) rfl
set_option maxRecDepth 100000 in
theorem r_202_114 : ∀ (d : Nat) (l1 l2 l3 l4 l5 l6 : Option Value) (v : Nat) (st : List Value) (M : Mem) (Q : Outcome → Mem → Prop), Wp d 202 114 [some (.ref v), l1, l2, l3, l4, l5, l6] st M Q = Wp d 202 115 [some (.ref v), l1, l2, l3, l4, l5, l6] (.ref v :: st) M Q := fun d l1 l2 l3 l4 l5 l6 v st M Q => wA (show ins 202 114 = some (.aload_n 0, 1) by decide +kernel) rfl
set_option maxRecDepth 100000 in
theorem r_202_115 : ∀ (d : Nat) (ls : Lc) (a : Nat) (st : List Value) (M : Mem) (Q : Outcome → Mem → Prop), Wp d 202 115 ls (.ref a :: st) M Q = (fk 47 (kO M a) = true ∧ Wp d 202 118 ls (.int (mF M 47 a) :: st) M Q) := fun d ls a st M Q => w_getI (show ins 202 115 = some (.getfield 51, 3) by decide +kernel) (show fRes (mC 202) 51 = some (47, 8, false) by decide +kernel) (by decide +kernel)
set_option maxRecDepth 100000 in
theorem r_202_118 : ∀ (d : Nat) (ls : Lc) (a : Int32) (st : List Value) (M : Mem) (Q : Outcome → Mem → Prop), Wp d 202 118 ls (.int a :: st) M Q = Br (a = I 0) d 202 122 121 ls st M Q := fun d ls a st M Q => w_if (show ins 202 118 = some (.ifCond .eq 4, 3) by decide +kernel) rfl rfl
set_option maxRecDepth 100000 in
theorem r_202_121 : ∀ (d : Nat) (ls : Lc) (M : Mem) (Q : Outcome → Mem → Prop), Wp d 202 121 ls [] M Q = Q (.returned none) M := fun d ls M Q => w_return (show ins 202 121 = some (.return_, 1) by decide +kernel) (by decide +kernel)
set_option maxRecDepth 100000 in
theorem r_202_122 : ∀ (d : Nat) (l1 l2 l3 l4 l5 l6 : Option Value) (v : Nat) (st : List Value) (M : Mem) (Q : Outcome → Mem → Prop), Wp d 202 122 [some (.ref v), l1, l2, l3, l4, l5, l6] st M Q = Wp d 202 123 [some (.ref v), l1, l2, l3, l4, l5, l6] (.ref v :: st) M Q := fun d l1 l2 l3 l4 l5 l6 v st M Q => wA (show ins 202 122 = some (.aload_n 0, 1) by decide +kernel) rfl
set_option maxRecDepth 100000 in
theorem r_202_123 : ∀ (d : Nat) (ls : Lc) (a : Nat) (st : List Value) (M : Mem) (Q : Outcome → Mem → Prop), Wp d 202 123 ls (.ref a :: st) M Q = (fk 53 (kO M a) = true ∧ Wp d 202 126 ls (va_rf (mR M 53 a) :: st) M Q) := fun d ls a st M Q => w_getR (show ins 202 123 = some (.getfield 7, 3) by decide +kernel) (show fRes (mC 202) 7 = some (53, 8, false) by decide +kernel) (by decide +kernel)
set_option maxRecDepth 100000 in
theorem r_202_126 : ∀ (d : Nat) (ls : Lc) (st : List Value) (M : Mem) (Q : Outcome → Mem → Prop), Wp d 202 126 ls st M Q = Wp d 202 129 ls (.int (I 279) :: st) M Q := fun d ls st M Q => w_sipush (show ins 202 126 = some (.sipush 279, 3) by decide +kernel) (by decide)
set_option maxRecDepth 100000 in
theorem r_202_129 : ∀ (d : Nat) (l0 l2 l3 l4 l5 l6 : Option Value) (v : Int32) (st : List Value) (M : Mem) (Q : Outcome → Mem → Prop), Wp d 202 129 [l0, some (.int v), l2, l3, l4, l5, l6] st M Q = Wp d 202 130 [l0, some (.int v), l2, l3, l4, l5, l6] (.int v :: st) M Q := fun d l0 l2 l3 l4 l5 l6 v st M Q => wA (show ins 202 129 = some (.iload_n 1, 1) by decide +kernel) rfl
set_option maxRecDepth 100000 in
theorem r_202_130 : ∀ (d : Nat) (ls : Lc) (a b : Int) (st : List Value) (M : Mem) (Q : Outcome → Mem → Prop), Wp d 202 130 ls (.int (I b) :: .int (I a) :: st) M Q = Wp d 202 131 ls (.int (I (a + b)) :: st) M Q := fun d ls a b st M Q => w_iadd (show ins 202 130 = some (.iadd, 1) by decide +kernel)
set_option maxRecDepth 100000 in
theorem r_202_131 : ∀ (d : Nat) (ls : Lc) (a : Nat) (j : Int32) (st : List Value) (M : Mem) (Q : Outcome → Mem → Prop), Wp d 202 131 ls (.int j :: .ref a :: st) M Q = ((((kX M a).1 = 0 ∨ (kX M a).1 = 8) ∧ inB j (kX M a).2 = true) ∧ Wp d 202 132 ls (.int (mA M a j.toNatClampNeg) :: st) M Q) := fun d ls a j st M Q => w_iaload (show ins 202 131 = some (.iaload, 1) by decide +kernel)
set_option maxRecDepth 100000 in
theorem r_202_132 : ∀ (d : Nat) (l0 l1 l2 l3 l4 l6 : Option Value) (v : Int32) (st : List Value) (M : Mem) (Q : Outcome → Mem → Prop), Wp d 202 132 [l0, l1, l2, l3, l4, some (.int v), l6] st M Q = Wp d 202 134 [l0, l1, l2, l3, l4, some (.int v), l6] (.int v :: st) M Q := fun d l0 l1 l2 l3 l4 l6 v st M Q => wA (show ins 202 132 = some (.iload 5, 2) by decide +kernel) rfl
set_option maxRecDepth 100000 in
theorem r_202_134 : ∀ (d : Nat) (ls : Lc) (a b : Int32) (st : List Value) (M : Mem) (Q : Outcome → Mem → Prop), Wp d 202 134 ls (.int b :: .int a :: st) M Q = Br (a ≤ b) d 202 182 137 ls st M Q := fun d ls a b st M Q => w_icmp (show ins 202 134 = some (.if_icmp .le 48, 3) by decide +kernel) rfl rfl
set_option maxRecDepth 100000 in
theorem r_202_137 : ∀ (d : Nat) (l1 l2 l3 l4 l5 l6 : Option Value) (v : Nat) (st : List Value) (M : Mem) (Q : Outcome → Mem → Prop), Wp d 202 137 [some (.ref v), l1, l2, l3, l4, l5, l6] st M Q = Wp d 202 138 [some (.ref v), l1, l2, l3, l4, l5, l6] (.ref v :: st) M Q := fun d l1 l2 l3 l4 l5 l6 v st M Q => wA (show ins 202 137 = some (.aload_n 0, 1) by decide +kernel) rfl
set_option maxRecDepth 100000 in
theorem r_202_138 : ∀ (d : Nat) (ls : Lc) (a : Nat) (st : List Value) (M : Mem) (Q : Outcome → Mem → Prop), Wp d 202 138 ls (.ref a :: st) M Q = (fk 53 (kO M a) = true ∧ Wp d 202 141 ls (va_rf (mR M 53 a) :: st) M Q) := fun d ls a st M Q => w_getR (show ins 202 138 = some (.getfield 7, 3) by decide +kernel) (show fRes (mC 202) 7 = some (53, 8, false) by decide +kernel) (by decide +kernel)
set_option maxRecDepth 100000 in
theorem r_202_141 : ∀ (d : Nat) (ls : Lc) (st : List Value) (M : Mem) (Q : Outcome → Mem → Prop), Wp d 202 141 ls st M Q = Wp d 202 144 ls (.int (I 279) :: st) M Q := fun d ls st M Q => w_sipush (show ins 202 141 = some (.sipush 279, 3) by decide +kernel) (by decide)
set_option maxRecDepth 100000 in
theorem r_202_144 : ∀ (d : Nat) (l0 l2 l3 l4 l5 l6 : Option Value) (v : Int32) (st : List Value) (M : Mem) (Q : Outcome → Mem → Prop), Wp d 202 144 [l0, some (.int v), l2, l3, l4, l5, l6] st M Q = Wp d 202 145 [l0, some (.int v), l2, l3, l4, l5, l6] (.int v :: st) M Q := fun d l0 l2 l3 l4 l5 l6 v st M Q => wA (show ins 202 144 = some (.iload_n 1, 1) by decide +kernel) rfl
set_option maxRecDepth 100000 in
theorem r_202_145 : ∀ (d : Nat) (ls : Lc) (a b : Int) (st : List Value) (M : Mem) (Q : Outcome → Mem → Prop), Wp d 202 145 ls (.int (I b) :: .int (I a) :: st) M Q = Wp d 202 146 ls (.int (I (a + b)) :: st) M Q := fun d ls a b st M Q => w_iadd (show ins 202 145 = some (.iadd, 1) by decide +kernel)
set_option maxRecDepth 100000 in
theorem r_202_146 : ∀ (d : Nat) (ls : Lc) (v : Int32) (a : Nat) (st : List Value) (M : Mem) (Q : Outcome → Mem → Prop), Wp d 202 146 ls (.int v :: .ref a :: st) M Q = Wp d 202 147 ls (.int v :: .ref a :: .int v :: .ref a :: st) M Q := fun d ls v a st M Q => wA (show ins 202 146 = some (.dup2, 1) by decide +kernel) rfl
set_option maxRecDepth 100000 in
theorem r_202_147 : ∀ (d : Nat) (ls : Lc) (a : Nat) (j : Int32) (st : List Value) (M : Mem) (Q : Outcome → Mem → Prop), Wp d 202 147 ls (.int j :: .ref a :: st) M Q = ((((kX M a).1 = 0 ∨ (kX M a).1 = 8) ∧ inB j (kX M a).2 = true) ∧ Wp d 202 148 ls (.int (mA M a j.toNatClampNeg) :: st) M Q) := fun d ls a j st M Q => w_iaload (show ins 202 147 = some (.iaload, 1) by decide +kernel)
set_option maxRecDepth 100000 in
theorem r_202_148 : ∀ (d : Nat) (ls : Lc) (st : List Value) (M : Mem) (Q : Outcome → Mem → Prop), Wp d 202 148 ls st M Q = Wp d 202 149 ls (.int (I 1) :: st) M Q := fun d ls st M Q => w_iconst (show ins 202 148 = some (.iconst 1, 1) by decide +kernel)
set_option maxRecDepth 100000 in
theorem r_202_149 : ∀ (d : Nat) (ls : Lc) (a b : Int) (st : List Value) (M : Mem) (Q : Outcome → Mem → Prop), Wp d 202 149 ls (.int (I b) :: .int (I a) :: st) M Q = Wp d 202 150 ls (.int (I (a - b)) :: st) M Q := fun d ls a b st M Q => w_isub (show ins 202 149 = some (.isub, 1) by decide +kernel)
set_option maxRecDepth 100000 in
theorem r_202_150 : ∀ (d : Nat) (ls : Lc) (a : Nat) (j v : Int32) (st : List Value) (M : Mem) (Q : Outcome → Mem → Prop), Wp d 202 150 ls (.int v :: .int j :: .ref a :: st) M Q = (((kX M a).1 = 0 ∧ inB j (kX M a).2 = true) ∧ Wp d 202 151 ls st (sA M a j.toNatClampNeg v) Q) := fun d ls a j v st M Q => w_iastore (show ins 202 150 = some (.iastore, 1) by decide +kernel)
set_option maxRecDepth 100000 in
theorem r_202_151 : ∀ (d : Nat) (l1 l2 l3 l4 l5 l6 : Option Value) (v : Nat) (st : List Value) (M : Mem) (Q : Outcome → Mem → Prop), Wp d 202 151 [some (.ref v), l1, l2, l3, l4, l5, l6] st M Q = Wp d 202 152 [some (.ref v), l1, l2, l3, l4, l5, l6] (.ref v :: st) M Q := fun d l1 l2 l3 l4 l5 l6 v st M Q => wA (show ins 202 151 = some (.aload_n 0, 1) by decide +kernel) rfl
set_option maxRecDepth 100000 in
theorem r_202_152 : ∀ (d : Nat) (l1 l2 l3 l4 l5 l6 : Option Value) (v : Nat) (st : List Value) (M : Mem) (Q : Outcome → Mem → Prop), Wp d 202 152 [some (.ref v), l1, l2, l3, l4, l5, l6] st M Q = Wp d 202 153 [some (.ref v), l1, l2, l3, l4, l5, l6] (.ref v :: st) M Q := fun d l1 l2 l3 l4 l5 l6 v st M Q => wA (show ins 202 152 = some (.aload_n 0, 1) by decide +kernel) rfl
set_option maxRecDepth 100000 in
theorem r_202_153 : ∀ (d : Nat) (ls : Lc) (a : Nat) (st : List Value) (M : Mem) (Q : Outcome → Mem → Prop), Wp d 202 153 ls (.ref a :: st) M Q = (fk 53 (kO M a) = true ∧ Wp d 202 156 ls (va_rf (mR M 53 a) :: st) M Q) := fun d ls a st M Q => w_getR (show ins 202 153 = some (.getfield 7, 3) by decide +kernel) (show fRes (mC 202) 7 = some (53, 8, false) by decide +kernel) (by decide +kernel)
set_option maxRecDepth 100000 in
theorem r_202_156 : ∀ (d : Nat) (ls : Lc) (st : List Value) (M : Mem) (Q : Outcome → Mem → Prop), Wp d 202 156 ls st M Q = Wp d 202 159 ls (.int (I 340) :: st) M Q := fun d ls st M Q => w_sipush (show ins 202 156 = some (.sipush 340, 3) by decide +kernel) (by decide)
set_option maxRecDepth 100000 in
theorem r_202_159 : ∀ (d : Nat) (ls : Lc) (st : List Value) (M : Mem) (Q : Outcome → Mem → Prop), Wp d 202 159 ls st M Q = Wp d 202 161 ls (.int (I 16) :: st) M Q := fun d ls st M Q => w_bipush (show ins 202 159 = some (.bipush 16, 2) by decide +kernel) (by decide)
set_option maxRecDepth 100000 in
theorem r_202_161 : ∀ (d : Nat) (l0 l2 l3 l4 l5 l6 : Option Value) (v : Int32) (st : List Value) (M : Mem) (Q : Outcome → Mem → Prop), Wp d 202 161 [l0, some (.int v), l2, l3, l4, l5, l6] st M Q = Wp d 202 162 [l0, some (.int v), l2, l3, l4, l5, l6] (.int v :: st) M Q := fun d l0 l2 l3 l4 l5 l6 v st M Q => wA (show ins 202 161 = some (.iload_n 1, 1) by decide +kernel) rfl
set_option maxRecDepth 100000 in
theorem r_202_162 : ∀ (d : Nat) (ls : Lc) (a b : Int) (st : List Value) (M : Mem) (Q : Outcome → Mem → Prop), Wp d 202 162 ls (.int (I b) :: .int (I a) :: st) M Q = Wp d 202 163 ls (.int (I (a * b)) :: st) M Q := fun d ls a b st M Q => w_imul (show ins 202 162 = some (.imul, 1) by decide +kernel)
set_option maxRecDepth 100000 in
theorem r_202_163 : ∀ (d : Nat) (ls : Lc) (a b : Int) (st : List Value) (M : Mem) (Q : Outcome → Mem → Prop), Wp d 202 163 ls (.int (I b) :: .int (I a) :: st) M Q = Wp d 202 164 ls (.int (I (a + b)) :: st) M Q := fun d ls a b st M Q => w_iadd (show ins 202 163 = some (.iadd, 1) by decide +kernel)
set_option maxRecDepth 100000 in
theorem r_202_164 : ∀ (d : Nat) (l1 l2 l3 l4 l5 l6 : Option Value) (v : Nat) (st : List Value) (M : Mem) (Q : Outcome → Mem → Prop), Wp d 202 164 [some (.ref v), l1, l2, l3, l4, l5, l6] st M Q = Wp d 202 165 [some (.ref v), l1, l2, l3, l4, l5, l6] (.ref v :: st) M Q := fun d l1 l2 l3 l4 l5 l6 v st M Q => wA (show ins 202 164 = some (.aload_n 0, 1) by decide +kernel) rfl
set_option maxRecDepth 100000 in
theorem r_202_165 : ∀ (d : Nat) (ls : Lc) (a : Nat) (st : List Value) (M : Mem) (Q : Outcome → Mem → Prop), Wp d 202 165 ls (.ref a :: st) M Q = (fk 53 (kO M a) = true ∧ Wp d 202 168 ls (va_rf (mR M 53 a) :: st) M Q) := fun d ls a st M Q => w_getR (show ins 202 165 = some (.getfield 7, 3) by decide +kernel) (show fRes (mC 202) 7 = some (53, 8, false) by decide +kernel) (by decide +kernel)
set_option maxRecDepth 100000 in
theorem r_202_168 : ∀ (d : Nat) (ls : Lc) (st : List Value) (M : Mem) (Q : Outcome → Mem → Prop), Wp d 202 168 ls st M Q = Wp d 202 171 ls (.int (I 279) :: st) M Q := fun d ls st M Q => w_sipush (show ins 202 168 = some (.sipush 279, 3) by decide +kernel) (by decide)
set_option maxRecDepth 100000 in
theorem r_202_171 : ∀ (d : Nat) (l0 l2 l3 l4 l5 l6 : Option Value) (v : Int32) (st : List Value) (M : Mem) (Q : Outcome → Mem → Prop), Wp d 202 171 [l0, some (.int v), l2, l3, l4, l5, l6] st M Q = Wp d 202 172 [l0, some (.int v), l2, l3, l4, l5, l6] (.int v :: st) M Q := fun d l0 l2 l3 l4 l5 l6 v st M Q => wA (show ins 202 171 = some (.iload_n 1, 1) by decide +kernel) rfl
set_option maxRecDepth 100000 in
theorem r_202_172 : ∀ (d : Nat) (ls : Lc) (a b : Int) (st : List Value) (M : Mem) (Q : Outcome → Mem → Prop), Wp d 202 172 ls (.int (I b) :: .int (I a) :: st) M Q = Wp d 202 173 ls (.int (I (a + b)) :: st) M Q := fun d ls a b st M Q => w_iadd (show ins 202 172 = some (.iadd, 1) by decide +kernel)
set_option maxRecDepth 100000 in
theorem r_202_173 : ∀ (d : Nat) (ls : Lc) (a : Nat) (j : Int32) (st : List Value) (M : Mem) (Q : Outcome → Mem → Prop), Wp d 202 173 ls (.int j :: .ref a :: st) M Q = ((((kX M a).1 = 0 ∨ (kX M a).1 = 8) ∧ inB j (kX M a).2 = true) ∧ Wp d 202 174 ls (.int (mA M a j.toNatClampNeg) :: st) M Q) := fun d ls a j st M Q => w_iaload (show ins 202 173 = some (.iaload, 1) by decide +kernel)
set_option maxRecDepth 100000 in
theorem r_202_174 : ∀ (d : Nat) (ls : Lc) (a b : Int) (st : List Value) (M : Mem) (Q : Outcome → Mem → Prop), Wp d 202 174 ls (.int (I b) :: .int (I a) :: st) M Q = Wp d 202 175 ls (.int (I (a + b)) :: st) M Q := fun d ls a b st M Q => w_iadd (show ins 202 174 = some (.iadd, 1) by decide +kernel)
set_option maxRecDepth 100000 in
theorem r_202_175 : ∀ (d : Nat) (ls : Lc) (a : Nat) (j : Int32) (st : List Value) (M : Mem) (Q : Outcome → Mem → Prop), Wp d 202 175 ls (.int j :: .ref a :: st) M Q = ((((kX M a).1 = 0 ∨ (kX M a).1 = 8) ∧ inB j (kX M a).2 = true) ∧ Wp d 202 176 ls (.int (mA M a j.toNatClampNeg) :: st) M Q) := fun d ls a j st M Q => w_iaload (show ins 202 175 = some (.iaload, 1) by decide +kernel)
set_option maxRecDepth 100000 in
theorem r_202_176 : ∀ (d : Nat) (ls : Lc) (v0 : Value) (a : Nat) (st : List Value) (M : Mem) (Q : Outcome → Mem → Prop), (smallR st = true) → Wp d 202 176 ls (v0 :: .ref a :: st) M Q = (kO M a = 8 ∧ Ca d 202 176 ls 191 (.ref a :: [v0]) st M Q) := fun d ls v0 a st M Q h0 => w_virt1 (as := [v0]) (show ins 202 176 = some (.invokevirtual 85, 3) by decide +kernel) (show mRes (mC 202) 85 = some (3, 8, [(8, 191)]) by decide +kernel) (by decide +kernel) rfl (by decide +kernel) (by decide +kernel) h0
set_option maxRecDepth 100000 in
theorem r_202_179 : ∀ (d : Nat) (ls : Lc) (st : List Value) (M : Mem) (Q : Outcome → Mem → Prop), Wp d 202 179 ls st M Q = Wp d 202 122 ls st M Q := fun d ls st M Q => w_goto (show ins 202 179 = some (.goto (-57), 3) by decide +kernel) rfl
set_option maxRecDepth 100000 in
theorem r_202_182 : ∀ (d : Nat) (ls : Lc) (st : List Value) (M : Mem) (Q : Outcome → Mem → Prop), Wp d 202 182 ls st M Q = Wp d 202 183 ls (.int (I 0) :: st) M Q := fun d ls st M Q => w_iconst (show ins 202 182 = some (.iconst 0, 1) by decide +kernel)
set_option maxRecDepth 100000 in
theorem r_202_183 : ∀ (d : Nat) (l0 l1 l2 l3 l4 l5 l6 : Option Value) (v : Int32) (st : List Value) (M : Mem) (Q : Outcome → Mem → Prop), (lo l5 = false) → Wp d 202 183 [l0, l1, l2, l3, l4, l5, l6] (.int v :: st) M Q = Wp d 202 185 [l0, l1, l2, l3, l4, l5, some (.int v)] st M Q := fun d l0 l1 l2 l3 l4 l5 l6 v st M Q hl => w_istore (show ins 202 183 = some (.istore 6, 2) by decide +kernel) (st1_S rfl rfl hl)
set_option maxRecDepth 100000 in
theorem r_202_185 : ∀ (d : Nat) (l0 l1 l2 l3 l4 l5 : Option Value) (v : Int32) (st : List Value) (M : Mem) (Q : Outcome → Mem → Prop), Wp d 202 185 [l0, l1, l2, l3, l4, l5, some (.int v)] st M Q = Wp d 202 187 [l0, l1, l2, l3, l4, l5, some (.int v)] (.int v :: st) M Q := fun d l0 l1 l2 l3 l4 l5 v st M Q => wA (show ins 202 185 = some (.iload 6, 2) by decide +kernel) rfl
set_option maxRecDepth 100000 in
theorem r_202_187 : ∀ (d : Nat) (ls : Lc) (st : List Value) (M : Mem) (Q : Outcome → Mem → Prop), Wp d 202 187 ls st M Q = Wp d 202 190 ls (.int (I 128) :: st) M Q := fun d ls st M Q => w_sipush (show ins 202 187 = some (.sipush 128, 3) by decide +kernel) (by decide)
set_option maxRecDepth 100000 in
theorem r_202_190 : ∀ (d : Nat) (l0 l1 l2 l3 l4 l6 : Option Value) (v : Int32) (st : List Value) (M : Mem) (Q : Outcome → Mem → Prop), Wp d 202 190 [l0, l1, l2, l3, l4, some (.int v), l6] st M Q = Wp d 202 192 [l0, l1, l2, l3, l4, some (.int v), l6] (.int v :: st) M Q := fun d l0 l1 l2 l3 l4 l6 v st M Q => wA (show ins 202 190 = some (.iload 5, 2) by decide +kernel) rfl
set_option maxRecDepth 100000 in
theorem r_202_192 : ∀ (d : Nat) (ls : Lc) (a b : Int) (st : List Value) (M : Mem) (Q : Outcome → Mem → Prop), Wp d 202 192 ls (.int (I b) :: .int (I a) :: st) M Q = Wp d 202 193 ls (.int (I (a * b)) :: st) M Q := fun d ls a b st M Q => w_imul (show ins 202 192 = some (.imul, 1) by decide +kernel)
set_option maxRecDepth 100000 in
theorem r_202_193 : ∀ (d : Nat) (ls : Lc) (a b : Int32) (st : List Value) (M : Mem) (Q : Outcome → Mem → Prop), Wp d 202 193 ls (.int b :: .int a :: st) M Q = Br (b ≤ a) d 202 259 196 ls st M Q := fun d ls a b st M Q => w_icmp (show ins 202 193 = some (.if_icmp .ge 66, 3) by decide +kernel) rfl rfl
set_option maxRecDepth 100000 in
theorem r_202_196 : ∀ (d : Nat) (l1 l2 l3 l4 l5 l6 : Option Value) (v : Nat) (st : List Value) (M : Mem) (Q : Outcome → Mem → Prop), Wp d 202 196 [some (.ref v), l1, l2, l3, l4, l5, l6] st M Q = Wp d 202 197 [some (.ref v), l1, l2, l3, l4, l5, l6] (.ref v :: st) M Q := fun d l1 l2 l3 l4 l5 l6 v st M Q => wA (show ins 202 196 = some (.aload_n 0, 1) by decide +kernel) rfl
set_option maxRecDepth 100000 in
theorem r_202_197 : ∀ (d : Nat) (ls : Lc) (a : Nat) (st : List Value) (M : Mem) (Q : Outcome → Mem → Prop), Wp d 202 197 ls (.ref a :: st) M Q = (fk 53 (kO M a) = true ∧ Wp d 202 200 ls (va_rf (mR M 53 a) :: st) M Q) := fun d ls a st M Q => w_getR (show ins 202 197 = some (.getfield 7, 3) by decide +kernel) (show fRes (mC 202) 7 = some (53, 8, false) by decide +kernel) (by decide +kernel)
set_option maxRecDepth 100000 in
theorem r_202_200 : ∀ (d : Nat) (ls : Lc) (st : List Value) (M : Mem) (Q : Outcome → Mem → Prop), Wp d 202 200 ls st M Q = Wp d 202 203 ls (.int (I 13078) :: st) M Q := fun d ls st M Q => w_sipush (show ins 202 200 = some (.sipush 13078, 3) by decide +kernel) (by decide)
set_option maxRecDepth 100000 in
theorem r_202_203 : ∀ (d : Nat) (ls : Lc) (st : List Value) (M : Mem) (Q : Outcome → Mem → Prop), Wp d 202 203 ls st M Q = Wp d 202 206 ls (.int (I 128) :: st) M Q := fun d ls st M Q => w_sipush (show ins 202 203 = some (.sipush 128, 3) by decide +kernel) (by decide)
set_option maxRecDepth 100000 in
theorem r_202_206 : ∀ (d : Nat) (l1 l2 l3 l4 l5 l6 : Option Value) (v : Nat) (st : List Value) (M : Mem) (Q : Outcome → Mem → Prop), Wp d 202 206 [some (.ref v), l1, l2, l3, l4, l5, l6] st M Q = Wp d 202 207 [some (.ref v), l1, l2, l3, l4, l5, l6] (.ref v :: st) M Q := fun d l1 l2 l3 l4 l5 l6 v st M Q => wA (show ins 202 206 = some (.aload_n 0, 1) by decide +kernel) rfl
set_option maxRecDepth 100000 in
theorem r_202_207 : ∀ (d : Nat) (ls : Lc) (a : Nat) (st : List Value) (M : Mem) (Q : Outcome → Mem → Prop), Wp d 202 207 ls (.ref a :: st) M Q = (fk 53 (kO M a) = true ∧ Wp d 202 210 ls (va_rf (mR M 53 a) :: st) M Q) := fun d ls a st M Q => w_getR (show ins 202 207 = some (.getfield 7, 3) by decide +kernel) (show fRes (mC 202) 7 = some (53, 8, false) by decide +kernel) (by decide +kernel)
set_option maxRecDepth 100000 in
theorem r_202_210 : ∀ (d : Nat) (ls : Lc) (st : List Value) (M : Mem) (Q : Outcome → Mem → Prop), Wp d 202 210 ls st M Q = Wp d 202 213 ls (.int (I 340) :: st) M Q := fun d ls st M Q => w_sipush (show ins 202 210 = some (.sipush 340, 3) by decide +kernel) (by decide)
set_option maxRecDepth 100000 in
theorem r_202_213 : ∀ (d : Nat) (ls : Lc) (st : List Value) (M : Mem) (Q : Outcome → Mem → Prop), Wp d 202 213 ls st M Q = Wp d 202 215 ls (.int (I 16) :: st) M Q := fun d ls st M Q => w_bipush (show ins 202 213 = some (.bipush 16, 2) by decide +kernel) (by decide)
set_option maxRecDepth 100000 in
theorem r_202_215 : ∀ (d : Nat) (l0 l2 l3 l4 l5 l6 : Option Value) (v : Int32) (st : List Value) (M : Mem) (Q : Outcome → Mem → Prop), Wp d 202 215 [l0, some (.int v), l2, l3, l4, l5, l6] st M Q = Wp d 202 216 [l0, some (.int v), l2, l3, l4, l5, l6] (.int v :: st) M Q := fun d l0 l2 l3 l4 l5 l6 v st M Q => wA (show ins 202 215 = some (.iload_n 1, 1) by decide +kernel) rfl
set_option maxRecDepth 100000 in
theorem r_202_216 : ∀ (d : Nat) (ls : Lc) (a b : Int) (st : List Value) (M : Mem) (Q : Outcome → Mem → Prop), Wp d 202 216 ls (.int (I b) :: .int (I a) :: st) M Q = Wp d 202 217 ls (.int (I (a * b)) :: st) M Q := fun d ls a b st M Q => w_imul (show ins 202 216 = some (.imul, 1) by decide +kernel)
set_option maxRecDepth 100000 in
theorem r_202_217 : ∀ (d : Nat) (ls : Lc) (a b : Int) (st : List Value) (M : Mem) (Q : Outcome → Mem → Prop), Wp d 202 217 ls (.int (I b) :: .int (I a) :: st) M Q = Wp d 202 218 ls (.int (I (a + b)) :: st) M Q := fun d ls a b st M Q => w_iadd (show ins 202 217 = some (.iadd, 1) by decide +kernel)
set_option maxRecDepth 100000 in
theorem r_202_218 : ∀ (d : Nat) (l0 l1 l2 l3 l4 l5 : Option Value) (v : Int32) (st : List Value) (M : Mem) (Q : Outcome → Mem → Prop), Wp d 202 218 [l0, l1, l2, l3, l4, l5, some (.int v)] st M Q = Wp d 202 220 [l0, l1, l2, l3, l4, l5, some (.int v)] (.int v :: st) M Q := fun d l0 l1 l2 l3 l4 l5 v st M Q => wA (show ins 202 218 = some (.iload 6, 2) by decide +kernel) rfl
set_option maxRecDepth 100000 in
theorem r_202_220 : ∀ (d : Nat) (ls : Lc) (st : List Value) (M : Mem) (Q : Outcome → Mem → Prop), Wp d 202 220 ls st M Q = Wp d 202 223 ls (.int (I 128) :: st) M Q := fun d ls st M Q => w_sipush (show ins 202 220 = some (.sipush 128, 3) by decide +kernel) (by decide)
set_option maxRecDepth 100000 in
theorem r_202_223 : ∀ (d : Nat) (ls : Lc) (a b : Int) (st : List Value) (M : Mem) (Q : Outcome → Mem → Prop), (0 ≤ a) → (a < 2147483648) → (0 < b) → (b < 2147483648) → Wp d 202 223 ls (.int (I b) :: .int (I a) :: st) M Q = Wp d 202 224 ls (.int (I (a / b)) :: st) M Q := fun d ls a b st M Q h0 h1 h2 h3 => w_idiv (show ins 202 223 = some (.idiv, 1) by decide +kernel) h0 h1 h2 h3
set_option maxRecDepth 100000 in
theorem r_202_224 : ∀ (d : Nat) (ls : Lc) (a b : Int) (st : List Value) (M : Mem) (Q : Outcome → Mem → Prop), Wp d 202 224 ls (.int (I b) :: .int (I a) :: st) M Q = Wp d 202 225 ls (.int (I (a + b)) :: st) M Q := fun d ls a b st M Q => w_iadd (show ins 202 224 = some (.iadd, 1) by decide +kernel)
set_option maxRecDepth 100000 in
theorem r_202_225 : ∀ (d : Nat) (ls : Lc) (a : Nat) (j : Int32) (st : List Value) (M : Mem) (Q : Outcome → Mem → Prop), Wp d 202 225 ls (.int j :: .ref a :: st) M Q = ((((kX M a).1 = 0 ∨ (kX M a).1 = 8) ∧ inB j (kX M a).2 = true) ∧ Wp d 202 226 ls (.int (mA M a j.toNatClampNeg) :: st) M Q) := fun d ls a j st M Q => w_iaload (show ins 202 225 = some (.iaload, 1) by decide +kernel)
set_option maxRecDepth 100000 in
theorem r_202_226 : ∀ (d : Nat) (ls : Lc) (a b : Int) (st : List Value) (M : Mem) (Q : Outcome → Mem → Prop), Wp d 202 226 ls (.int (I b) :: .int (I a) :: st) M Q = Wp d 202 227 ls (.int (I (a * b)) :: st) M Q := fun d ls a b st M Q => w_imul (show ins 202 226 = some (.imul, 1) by decide +kernel)
set_option maxRecDepth 100000 in
theorem r_202_227 : ∀ (d : Nat) (ls : Lc) (a b : Int) (st : List Value) (M : Mem) (Q : Outcome → Mem → Prop), Wp d 202 227 ls (.int (I b) :: .int (I a) :: st) M Q = Wp d 202 228 ls (.int (I (a + b)) :: st) M Q := fun d ls a b st M Q => w_iadd (show ins 202 227 = some (.iadd, 1) by decide +kernel)
set_option maxRecDepth 100000 in
theorem r_202_228 : ∀ (d : Nat) (l0 l1 l2 l3 l4 l5 : Option Value) (v : Int32) (st : List Value) (M : Mem) (Q : Outcome → Mem → Prop), Wp d 202 228 [l0, l1, l2, l3, l4, l5, some (.int v)] st M Q = Wp d 202 230 [l0, l1, l2, l3, l4, l5, some (.int v)] (.int v :: st) M Q := fun d l0 l1 l2 l3 l4 l5 v st M Q => wA (show ins 202 228 = some (.iload 6, 2) by decide +kernel) rfl
set_option maxRecDepth 100000 in
theorem r_202_230 : ∀ (d : Nat) (ls : Lc) (st : List Value) (M : Mem) (Q : Outcome → Mem → Prop), Wp d 202 230 ls st M Q = Wp d 202 233 ls (.int (I 128) :: st) M Q := fun d ls st M Q => w_sipush (show ins 202 230 = some (.sipush 128, 3) by decide +kernel) (by decide)
set_option maxRecDepth 100000 in
theorem r_202_233 : ∀ (d : Nat) (ls : Lc) (a b : Int) (st : List Value) (M : Mem) (Q : Outcome → Mem → Prop), (0 ≤ a) → (a < 2147483648) → (0 < b) → (b < 2147483648) → Wp d 202 233 ls (.int (I b) :: .int (I a) :: st) M Q = Wp d 202 234 ls (.int (I (a % b)) :: st) M Q := fun d ls a b st M Q h0 h1 h2 h3 => w_irem (show ins 202 233 = some (.irem, 1) by decide +kernel) h0 h1 h2 h3
set_option maxRecDepth 100000 in
theorem r_202_234 : ∀ (d : Nat) (ls : Lc) (a b : Int) (st : List Value) (M : Mem) (Q : Outcome → Mem → Prop), Wp d 202 234 ls (.int (I b) :: .int (I a) :: st) M Q = Wp d 202 235 ls (.int (I (a + b)) :: st) M Q := fun d ls a b st M Q => w_iadd (show ins 202 234 = some (.iadd, 1) by decide +kernel)
set_option maxRecDepth 100000 in
theorem r_202_235 : ∀ (d : Nat) (l0 l1 l2 l3 l4 l5 : Option Value) (v : Int32) (st : List Value) (M : Mem) (Q : Outcome → Mem → Prop), Wp d 202 235 [l0, l1, l2, l3, l4, l5, some (.int v)] st M Q = Wp d 202 237 [l0, l1, l2, l3, l4, l5, some (.int v)] (.int v :: st) M Q := fun d l0 l1 l2 l3 l4 l5 v st M Q => wA (show ins 202 235 = some (.iload 6, 2) by decide +kernel) rfl
set_option maxRecDepth 100000 in
theorem r_202_237 : ∀ (d : Nat) (l0 l1 l3 l4 l5 l6 : Option Value) (v : Int32) (st : List Value) (M : Mem) (Q : Outcome → Mem → Prop), Wp d 202 237 [l0, l1, some (.int v), l3, l4, l5, l6] st M Q = Wp d 202 238 [l0, l1, some (.int v), l3, l4, l5, l6] (.int v :: st) M Q := fun d l0 l1 l3 l4 l5 l6 v st M Q => wA (show ins 202 237 = some (.iload_n 2, 1) by decide +kernel) rfl
set_option maxRecDepth 100000 in
theorem r_202_238 : ∀ (d : Nat) (ls : Lc) (a b : Int32) (st : List Value) (M : Mem) (Q : Outcome → Mem → Prop), Wp d 202 238 ls (.int b :: .int a :: st) M Q = Br (b ≤ a) d 202 251 241 ls st M Q := fun d ls a b st M Q => w_icmp (show ins 202 238 = some (.if_icmp .ge 13, 3) by decide +kernel) rfl rfl
set_option maxRecDepth 100000 in
theorem r_202_241 : ∀ (d : Nat) (l1 l2 l3 l4 l5 l6 : Option Value) (v : Nat) (st : List Value) (M : Mem) (Q : Outcome → Mem → Prop), Wp d 202 241 [some (.ref v), l1, l2, l3, l4, l5, l6] st M Q = Wp d 202 242 [some (.ref v), l1, l2, l3, l4, l5, l6] (.ref v :: st) M Q := fun d l1 l2 l3 l4 l5 l6 v st M Q => wA (show ins 202 241 = some (.aload_n 0, 1) by decide +kernel) rfl
set_option maxRecDepth 100000 in
theorem r_202_242 : ∀ (d : Nat) (ls : Lc) (a : Nat) (st : List Value) (M : Mem) (Q : Outcome → Mem → Prop), Wp d 202 242 ls (.ref a :: st) M Q = (fk 51 (kO M a) = true ∧ Wp d 202 245 ls (va_rf (mR M 51 a) :: st) M Q) := fun d ls a st M Q => w_getR (show ins 202 242 = some (.getfield 19, 3) by decide +kernel) (show fRes (mC 202) 19 = some (51, 8, false) by decide +kernel) (by decide +kernel)
set_option maxRecDepth 100000 in
theorem r_202_245 : ∀ (d : Nat) (l0 l1 l2 l3 l4 l5 : Option Value) (v : Int32) (st : List Value) (M : Mem) (Q : Outcome → Mem → Prop), Wp d 202 245 [l0, l1, l2, l3, l4, l5, some (.int v)] st M Q = Wp d 202 247 [l0, l1, l2, l3, l4, l5, some (.int v)] (.int v :: st) M Q := fun d l0 l1 l2 l3 l4 l5 v st M Q => wA (show ins 202 245 = some (.iload 6, 2) by decide +kernel) rfl
set_option maxRecDepth 100000 in
theorem r_202_247 : ∀ (d : Nat) (ls : Lc) (a : Nat) (j : Int32) (st : List Value) (M : Mem) (Q : Outcome → Mem → Prop), Wp d 202 247 ls (.int j :: .ref a :: st) M Q = ((((kX M a).1 = 0 ∨ (kX M a).1 = 8) ∧ inB j (kX M a).2 = true) ∧ Wp d 202 248 ls (.int (mA M a j.toNatClampNeg) :: st) M Q) := fun d ls a j st M Q => w_iaload (show ins 202 247 = some (.iaload, 1) by decide +kernel)
set_option maxRecDepth 100000 in
theorem r_202_248 : ∀ (d : Nat) (ls : Lc) (st : List Value) (M : Mem) (Q : Outcome → Mem → Prop), Wp d 202 248 ls st M Q = Wp d 202 252 ls st M Q := fun d ls st M Q => w_goto (show ins 202 248 = some (.goto 4, 3) by decide +kernel) rfl
set_option maxRecDepth 100000 in
theorem r_202_251 : ∀ (d : Nat) (ls : Lc) (st : List Value) (M : Mem) (Q : Outcome → Mem → Prop), Wp d 202 251 ls st M Q = Wp d 202 252 ls (.int (I 0) :: st) M Q := fun d ls st M Q => w_iconst (show ins 202 251 = some (.iconst 0, 1) by decide +kernel)
set_option maxRecDepth 100000 in
theorem r_202_252 : ∀ (d : Nat) (ls : Lc) (a : Nat) (j v : Int32) (st : List Value) (M : Mem) (Q : Outcome → Mem → Prop), Wp d 202 252 ls (.int v :: .int j :: .ref a :: st) M Q = (((kX M a).1 = 0 ∧ inB j (kX M a).2 = true) ∧ Wp d 202 253 ls st (sA M a j.toNatClampNeg v) Q) := fun d ls a j v st M Q => w_iastore (show ins 202 252 = some (.iastore, 1) by decide +kernel)
set_option maxRecDepth 100000 in
theorem r_202_253 : ∀ (d : Nat) (l0 l1 l2 l3 l4 l5 : Option Value) (z : Int) (st : List Value) (M : Mem) (Q : Outcome → Mem → Prop), (lo l5 = false) → Wp d 202 253 [l0, l1, l2, l3, l4, l5, some (.int (I z))] st M Q = Wp d 202 256 [l0, l1, l2, l3, l4, l5, some (.int (I (z + 1)))] st M Q := fun d l0 l1 l2 l3 l4 l5 z st M Q hl => w_iinc (show ins 202 253 = some (.iinc 6 1, 3) by decide +kernel) rfl (st1_S rfl rfl hl)
set_option maxRecDepth 100000 in
theorem r_202_256 : ∀ (d : Nat) (ls : Lc) (st : List Value) (M : Mem) (Q : Outcome → Mem → Prop), Wp d 202 256 ls st M Q = Wp d 202 185 ls st M Q := fun d ls st M Q => w_goto (show ins 202 256 = some (.goto (-71), 3) by decide +kernel) rfl
set_option maxRecDepth 100000 in
theorem r_202_259 : ∀ (d : Nat) (ls : Lc) (st : List Value) (M : Mem) (Q : Outcome → Mem → Prop), Wp d 202 259 ls st M Q = Wp d 202 260 ls (.int (I 0) :: st) M Q := fun d ls st M Q => w_iconst (show ins 202 259 = some (.iconst 0, 1) by decide +kernel)
set_option maxRecDepth 100000 in
theorem r_202_260 : ∀ (d : Nat) (l0 l1 l2 l3 l4 l5 l6 : Option Value) (v : Int32) (st : List Value) (M : Mem) (Q : Outcome → Mem → Prop), (lo l5 = false) → Wp d 202 260 [l0, l1, l2, l3, l4, l5, l6] (.int v :: st) M Q = Wp d 202 262 [l0, l1, l2, l3, l4, l5, some (.int v)] st M Q := fun d l0 l1 l2 l3 l4 l5 l6 v st M Q hl => w_istore (show ins 202 260 = some (.istore 6, 2) by decide +kernel) (st1_S rfl rfl hl)
set_option maxRecDepth 100000 in
theorem r_202_262 : ∀ (d : Nat) (l0 l1 l2 l3 l4 l5 : Option Value) (v : Int32) (st : List Value) (M : Mem) (Q : Outcome → Mem → Prop), Wp d 202 262 [l0, l1, l2, l3, l4, l5, some (.int v)] st M Q = Wp d 202 264 [l0, l1, l2, l3, l4, l5, some (.int v)] (.int v :: st) M Q := fun d l0 l1 l2 l3 l4 l5 v st M Q => wA (show ins 202 262 = some (.iload 6, 2) by decide +kernel) rfl
set_option maxRecDepth 100000 in
theorem r_202_264 : ∀ (d : Nat) (ls : Lc) (st : List Value) (M : Mem) (Q : Outcome → Mem → Prop), Wp d 202 264 ls st M Q = Wp d 202 266 ls (.int (I 40) :: st) M Q := fun d ls st M Q => w_bipush (show ins 202 264 = some (.bipush 40, 2) by decide +kernel) (by decide)
set_option maxRecDepth 100000 in
theorem r_202_266 : ∀ (d : Nat) (ls : Lc) (a b : Int32) (st : List Value) (M : Mem) (Q : Outcome → Mem → Prop), Wp d 202 266 ls (.int b :: .int a :: st) M Q = Br (b ≤ a) d 202 318 269 ls st M Q := fun d ls a b st M Q => w_icmp (show ins 202 266 = some (.if_icmp .ge 52, 3) by decide +kernel) rfl rfl
set_option maxRecDepth 100000 in
theorem r_202_269 : ∀ (d : Nat) (l1 l2 l3 l4 l5 l6 : Option Value) (v : Nat) (st : List Value) (M : Mem) (Q : Outcome → Mem → Prop), Wp d 202 269 [some (.ref v), l1, l2, l3, l4, l5, l6] st M Q = Wp d 202 270 [some (.ref v), l1, l2, l3, l4, l5, l6] (.ref v :: st) M Q := fun d l1 l2 l3 l4 l5 l6 v st M Q => wA (show ins 202 269 = some (.aload_n 0, 1) by decide +kernel) rfl
set_option maxRecDepth 100000 in
theorem r_202_270 : ∀ (d : Nat) (ls : Lc) (a : Nat) (st : List Value) (M : Mem) (Q : Outcome → Mem → Prop), Wp d 202 270 ls (.ref a :: st) M Q = (fk 53 (kO M a) = true ∧ Wp d 202 273 ls (va_rf (mR M 53 a) :: st) M Q) := fun d ls a st M Q => w_getR (show ins 202 270 = some (.getfield 7, 3) by decide +kernel) (show fRes (mC 202) 7 = some (53, 8, false) by decide +kernel) (by decide +kernel)
set_option maxRecDepth 100000 in
theorem r_202_273 : ∀ (d : Nat) (ls : Lc) (st : List Value) (M : Mem) (Q : Outcome → Mem → Prop), Wp d 202 273 ls st M Q = Wp d 202 276 ls (.int (I 1316) :: st) M Q := fun d ls st M Q => w_sipush (show ins 202 273 = some (.sipush 1316, 3) by decide +kernel) (by decide)
set_option maxRecDepth 100000 in
theorem r_202_276 : ∀ (d : Nat) (ls : Lc) (st : List Value) (M : Mem) (Q : Outcome → Mem → Prop), Wp d 202 276 ls st M Q = Wp d 202 278 ls (.int (I 40) :: st) M Q := fun d ls st M Q => w_bipush (show ins 202 276 = some (.bipush 40, 2) by decide +kernel) (by decide)
set_option maxRecDepth 100000 in
theorem r_202_278 : ∀ (d : Nat) (l0 l2 l3 l4 l5 l6 : Option Value) (v : Int32) (st : List Value) (M : Mem) (Q : Outcome → Mem → Prop), Wp d 202 278 [l0, some (.int v), l2, l3, l4, l5, l6] st M Q = Wp d 202 279 [l0, some (.int v), l2, l3, l4, l5, l6] (.int v :: st) M Q := fun d l0 l2 l3 l4 l5 l6 v st M Q => wA (show ins 202 278 = some (.iload_n 1, 1) by decide +kernel) rfl
set_option maxRecDepth 100000 in
theorem r_202_279 : ∀ (d : Nat) (ls : Lc) (a b : Int) (st : List Value) (M : Mem) (Q : Outcome → Mem → Prop), Wp d 202 279 ls (.int (I b) :: .int (I a) :: st) M Q = Wp d 202 280 ls (.int (I (a * b)) :: st) M Q := fun d ls a b st M Q => w_imul (show ins 202 279 = some (.imul, 1) by decide +kernel)
set_option maxRecDepth 100000 in
theorem r_202_280 : ∀ (d : Nat) (ls : Lc) (a b : Int) (st : List Value) (M : Mem) (Q : Outcome → Mem → Prop), Wp d 202 280 ls (.int (I b) :: .int (I a) :: st) M Q = Wp d 202 281 ls (.int (I (a + b)) :: st) M Q := fun d ls a b st M Q => w_iadd (show ins 202 280 = some (.iadd, 1) by decide +kernel)
set_option maxRecDepth 100000 in
theorem r_202_281 : ∀ (d : Nat) (l0 l1 l2 l3 l4 l5 : Option Value) (v : Int32) (st : List Value) (M : Mem) (Q : Outcome → Mem → Prop), Wp d 202 281 [l0, l1, l2, l3, l4, l5, some (.int v)] st M Q = Wp d 202 283 [l0, l1, l2, l3, l4, l5, some (.int v)] (.int v :: st) M Q := fun d l0 l1 l2 l3 l4 l5 v st M Q => wA (show ins 202 281 = some (.iload 6, 2) by decide +kernel) rfl
set_option maxRecDepth 100000 in
theorem r_202_283 : ∀ (d : Nat) (ls : Lc) (a b : Int) (st : List Value) (M : Mem) (Q : Outcome → Mem → Prop), Wp d 202 283 ls (.int (I b) :: .int (I a) :: st) M Q = Wp d 202 284 ls (.int (I (a + b)) :: st) M Q := fun d ls a b st M Q => w_iadd (show ins 202 283 = some (.iadd, 1) by decide +kernel)
set_option maxRecDepth 100000 in
theorem r_202_284 : ∀ (d : Nat) (l0 l1 l2 l3 l4 l5 : Option Value) (v : Int32) (st : List Value) (M : Mem) (Q : Outcome → Mem → Prop), Wp d 202 284 [l0, l1, l2, l3, l4, l5, some (.int v)] st M Q = Wp d 202 286 [l0, l1, l2, l3, l4, l5, some (.int v)] (.int v :: st) M Q := fun d l0 l1 l2 l3 l4 l5 v st M Q => wA (show ins 202 284 = some (.iload 6, 2) by decide +kernel) rfl
set_option maxRecDepth 100000 in
theorem r_202_286 : ∀ (d : Nat) (l0 l1 l3 l4 l5 l6 : Option Value) (v : Int32) (st : List Value) (M : Mem) (Q : Outcome → Mem → Prop), Wp d 202 286 [l0, l1, some (.int v), l3, l4, l5, l6] st M Q = Wp d 202 287 [l0, l1, some (.int v), l3, l4, l5, l6] (.int v :: st) M Q := fun d l0 l1 l3 l4 l5 l6 v st M Q => wA (show ins 202 286 = some (.iload_n 2, 1) by decide +kernel) rfl
set_option maxRecDepth 100000 in
theorem r_202_287 : ∀ (d : Nat) (ls : Lc) (v0 : Value)  (st : List Value) (M : Mem) (Q : Outcome → Mem → Prop), (smallR st = true) → Wp d 202 287 ls (v0 :: st) M Q = Ca d 202 287 ls 192 [v0] st M Q := fun d ls v0 st M Q h0 => w_stat (as := [v0]) (show ins 202 287 = some (.invokestatic 137, 3) by decide +kernel) (show mRes (mC 202) 137 = some (0, 8, [(0, 192)]) by decide +kernel) (by decide +kernel) (by decide +kernel) rfl h0
set_option maxRecDepth 100000 in
theorem r_202_290 : ∀ (d : Nat) (ls : Lc) (a b : Int32) (st : List Value) (M : Mem) (Q : Outcome → Mem → Prop), Wp d 202 290 ls (.int b :: .int a :: st) M Q = Br (b ≤ a) d 202 310 293 ls st M Q := fun d ls a b st M Q => w_icmp (show ins 202 290 = some (.if_icmp .ge 20, 3) by decide +kernel) rfl rfl
set_option maxRecDepth 100000 in
theorem r_202_293 : ∀ (d : Nat) (l1 l2 l3 l4 l5 l6 : Option Value) (v : Nat) (st : List Value) (M : Mem) (Q : Outcome → Mem → Prop), Wp d 202 293 [some (.ref v), l1, l2, l3, l4, l5, l6] st M Q = Wp d 202 294 [some (.ref v), l1, l2, l3, l4, l5, l6] (.ref v :: st) M Q := fun d l1 l2 l3 l4 l5 l6 v st M Q => wA (show ins 202 293 = some (.aload_n 0, 1) by decide +kernel) rfl
set_option maxRecDepth 100000 in
theorem r_202_294 : ∀ (d : Nat) (ls : Lc) (a : Nat) (st : List Value) (M : Mem) (Q : Outcome → Mem → Prop), Wp d 202 294 ls (.ref a :: st) M Q = (fk 51 (kO M a) = true ∧ Wp d 202 297 ls (va_rf (mR M 51 a) :: st) M Q) := fun d ls a st M Q => w_getR (show ins 202 294 = some (.getfield 19, 3) by decide +kernel) (show fRes (mC 202) 19 = some (51, 8, false) by decide +kernel) (by decide +kernel)
set_option maxRecDepth 100000 in
theorem r_202_297 : ∀ (d : Nat) (ls : Lc) (st : List Value) (M : Mem) (Q : Outcome → Mem → Prop), Wp d 202 297 ls st M Q = Wp d 202 300 ls (.int (I 128) :: st) M Q := fun d ls st M Q => w_sipush (show ins 202 297 = some (.sipush 128, 3) by decide +kernel) (by decide)
set_option maxRecDepth 100000 in
theorem r_202_300 : ∀ (d : Nat) (l0 l1 l2 l3 l4 l6 : Option Value) (v : Int32) (st : List Value) (M : Mem) (Q : Outcome → Mem → Prop), Wp d 202 300 [l0, l1, l2, l3, l4, some (.int v), l6] st M Q = Wp d 202 302 [l0, l1, l2, l3, l4, some (.int v), l6] (.int v :: st) M Q := fun d l0 l1 l2 l3 l4 l6 v st M Q => wA (show ins 202 300 = some (.iload 5, 2) by decide +kernel) rfl
set_option maxRecDepth 100000 in
theorem r_202_302 : ∀ (d : Nat) (ls : Lc) (a b : Int) (st : List Value) (M : Mem) (Q : Outcome → Mem → Prop), Wp d 202 302 ls (.int (I b) :: .int (I a) :: st) M Q = Wp d 202 303 ls (.int (I (a * b)) :: st) M Q := fun d ls a b st M Q => w_imul (show ins 202 302 = some (.imul, 1) by decide +kernel)
set_option maxRecDepth 100000 in
theorem r_202_303 : ∀ (d : Nat) (l0 l1 l2 l3 l4 l5 : Option Value) (v : Int32) (st : List Value) (M : Mem) (Q : Outcome → Mem → Prop), Wp d 202 303 [l0, l1, l2, l3, l4, l5, some (.int v)] st M Q = Wp d 202 305 [l0, l1, l2, l3, l4, l5, some (.int v)] (.int v :: st) M Q := fun d l0 l1 l2 l3 l4 l5 v st M Q => wA (show ins 202 303 = some (.iload 6, 2) by decide +kernel) rfl
set_option maxRecDepth 100000 in
theorem r_202_305 : ∀ (d : Nat) (ls : Lc) (a b : Int) (st : List Value) (M : Mem) (Q : Outcome → Mem → Prop), Wp d 202 305 ls (.int (I b) :: .int (I a) :: st) M Q = Wp d 202 306 ls (.int (I (a + b)) :: st) M Q := fun d ls a b st M Q => w_iadd (show ins 202 305 = some (.iadd, 1) by decide +kernel)
set_option maxRecDepth 100000 in
theorem r_202_306 : ∀ (d : Nat) (ls : Lc) (a : Nat) (j : Int32) (st : List Value) (M : Mem) (Q : Outcome → Mem → Prop), Wp d 202 306 ls (.int j :: .ref a :: st) M Q = ((((kX M a).1 = 0 ∨ (kX M a).1 = 8) ∧ inB j (kX M a).2 = true) ∧ Wp d 202 307 ls (.int (mA M a j.toNatClampNeg) :: st) M Q) := fun d ls a j st M Q => w_iaload (show ins 202 306 = some (.iaload, 1) by decide +kernel)
set_option maxRecDepth 100000 in
theorem r_202_307 : ∀ (d : Nat) (ls : Lc) (st : List Value) (M : Mem) (Q : Outcome → Mem → Prop), Wp d 202 307 ls st M Q = Wp d 202 311 ls st M Q := fun d ls st M Q => w_goto (show ins 202 307 = some (.goto 4, 3) by decide +kernel) rfl
set_option maxRecDepth 100000 in
theorem r_202_310 : ∀ (d : Nat) (ls : Lc) (st : List Value) (M : Mem) (Q : Outcome → Mem → Prop), Wp d 202 310 ls st M Q = Wp d 202 311 ls (.int (I 0) :: st) M Q := fun d ls st M Q => w_iconst (show ins 202 310 = some (.iconst 0, 1) by decide +kernel)
set_option maxRecDepth 100000 in
theorem r_202_311 : ∀ (d : Nat) (ls : Lc) (a : Nat) (j v : Int32) (st : List Value) (M : Mem) (Q : Outcome → Mem → Prop), Wp d 202 311 ls (.int v :: .int j :: .ref a :: st) M Q = (((kX M a).1 = 0 ∧ inB j (kX M a).2 = true) ∧ Wp d 202 312 ls st (sA M a j.toNatClampNeg v) Q) := fun d ls a j v st M Q => w_iastore (show ins 202 311 = some (.iastore, 1) by decide +kernel)
set_option maxRecDepth 100000 in
theorem r_202_312 : ∀ (d : Nat) (l0 l1 l2 l3 l4 l5 : Option Value) (z : Int) (st : List Value) (M : Mem) (Q : Outcome → Mem → Prop), (lo l5 = false) → Wp d 202 312 [l0, l1, l2, l3, l4, l5, some (.int (I z))] st M Q = Wp d 202 315 [l0, l1, l2, l3, l4, l5, some (.int (I (z + 1)))] st M Q := fun d l0 l1 l2 l3 l4 l5 z st M Q hl => w_iinc (show ins 202 312 = some (.iinc 6 1, 3) by decide +kernel) rfl (st1_S rfl rfl hl)
set_option maxRecDepth 100000 in
theorem r_202_315 : ∀ (d : Nat) (ls : Lc) (st : List Value) (M : Mem) (Q : Outcome → Mem → Prop), Wp d 202 315 ls st M Q = Wp d 202 262 ls st M Q := fun d ls st M Q => w_goto (show ins 202 315 = some (.goto (-53), 3) by decide +kernel) rfl
set_option maxRecDepth 100000 in
theorem r_202_318 : ∀ (d : Nat) (l1 l2 l3 l4 l5 l6 : Option Value) (v : Nat) (st : List Value) (M : Mem) (Q : Outcome → Mem → Prop), Wp d 202 318 [some (.ref v), l1, l2, l3, l4, l5, l6] st M Q = Wp d 202 319 [some (.ref v), l1, l2, l3, l4, l5, l6] (.ref v :: st) M Q := fun d l1 l2 l3 l4 l5 l6 v st M Q => wA (show ins 202 318 = some (.aload_n 0, 1) by decide +kernel) rfl
set_option maxRecDepth 100000 in
theorem r_202_319 : ∀ (d : Nat) (ls : Lc) (a : Nat) (st : List Value) (M : Mem) (Q : Outcome → Mem → Prop), Wp d 202 319 ls (.ref a :: st) M Q = (fk 53 (kO M a) = true ∧ Wp d 202 322 ls (va_rf (mR M 53 a) :: st) M Q) := fun d ls a st M Q => w_getR (show ins 202 319 = some (.getfield 7, 3) by decide +kernel) (show fRes (mC 202) 7 = some (53, 8, false) by decide +kernel) (by decide +kernel)
set_option maxRecDepth 100000 in
theorem r_202_322 : ∀ (d : Nat) (ls : Lc) (st : List Value) (M : Mem) (Q : Outcome → Mem → Prop), Wp d 202 322 ls st M Q = Wp d 202 325 ls (.int (I 218) :: st) M Q := fun d ls st M Q => w_sipush (show ins 202 322 = some (.sipush 218, 3) by decide +kernel) (by decide)
set_option maxRecDepth 100000 in
theorem r_202_325 : ∀ (d : Nat) (l0 l2 l3 l4 l5 l6 : Option Value) (v : Int32) (st : List Value) (M : Mem) (Q : Outcome → Mem → Prop), Wp d 202 325 [l0, some (.int v), l2, l3, l4, l5, l6] st M Q = Wp d 202 326 [l0, some (.int v), l2, l3, l4, l5, l6] (.int v :: st) M Q := fun d l0 l2 l3 l4 l5 l6 v st M Q => wA (show ins 202 325 = some (.iload_n 1, 1) by decide +kernel) rfl
set_option maxRecDepth 100000 in
theorem r_202_326 : ∀ (d : Nat) (ls : Lc) (a b : Int) (st : List Value) (M : Mem) (Q : Outcome → Mem → Prop), Wp d 202 326 ls (.int (I b) :: .int (I a) :: st) M Q = Wp d 202 327 ls (.int (I (a + b)) :: st) M Q := fun d ls a b st M Q => w_iadd (show ins 202 326 = some (.iadd, 1) by decide +kernel)
set_option maxRecDepth 100000 in
theorem r_202_327 : ∀ (d : Nat) (l0 l1 l3 l4 l5 l6 : Option Value) (v : Int32) (st : List Value) (M : Mem) (Q : Outcome → Mem → Prop), Wp d 202 327 [l0, l1, some (.int v), l3, l4, l5, l6] st M Q = Wp d 202 328 [l0, l1, some (.int v), l3, l4, l5, l6] (.int v :: st) M Q := fun d l0 l1 l3 l4 l5 l6 v st M Q => wA (show ins 202 327 = some (.iload_n 2, 1) by decide +kernel) rfl
set_option maxRecDepth 100000 in
theorem r_202_328 : ∀ (d : Nat) (ls : Lc) (a : Nat) (j v : Int32) (st : List Value) (M : Mem) (Q : Outcome → Mem → Prop), Wp d 202 328 ls (.int v :: .int j :: .ref a :: st) M Q = (((kX M a).1 = 0 ∧ inB j (kX M a).2 = true) ∧ Wp d 202 329 ls st (sA M a j.toNatClampNeg v) Q) := fun d ls a j v st M Q => w_iastore (show ins 202 328 = some (.iastore, 1) by decide +kernel)
set_option maxRecDepth 100000 in
theorem r_202_329 : ∀ (d : Nat) (l1 l2 l3 l4 l5 l6 : Option Value) (v : Nat) (st : List Value) (M : Mem) (Q : Outcome → Mem → Prop), Wp d 202 329 [some (.ref v), l1, l2, l3, l4, l5, l6] st M Q = Wp d 202 330 [some (.ref v), l1, l2, l3, l4, l5, l6] (.ref v :: st) M Q := fun d l1 l2 l3 l4 l5 l6 v st M Q => wA (show ins 202 329 = some (.aload_n 0, 1) by decide +kernel) rfl
set_option maxRecDepth 100000 in
theorem r_202_330 : ∀ (d : Nat) (l0 l2 l3 l4 l5 l6 : Option Value) (v : Int32) (st : List Value) (M : Mem) (Q : Outcome → Mem → Prop), Wp d 202 330 [l0, some (.int v), l2, l3, l4, l5, l6] st M Q = Wp d 202 331 [l0, some (.int v), l2, l3, l4, l5, l6] (.int v :: st) M Q := fun d l0 l2 l3 l4 l5 l6 v st M Q => wA (show ins 202 330 = some (.iload_n 1, 1) by decide +kernel) rfl
set_option maxRecDepth 100000 in
theorem r_202_331 : ∀ (d : Nat) (ls : Lc) (st : List Value) (M : Mem) (Q : Outcome → Mem → Prop), Wp d 202 331 ls st M Q = Wp d 202 332 ls (.int (I 2) :: st) M Q := fun d ls st M Q => w_iconst (show ins 202 331 = some (.iconst 2, 1) by decide +kernel)
set_option maxRecDepth 100000 in
theorem r_202_332 : ∀ (d : Nat) (ls : Lc) (st : List Value) (M : Mem) (Q : Outcome → Mem → Prop), Wp d 202 332 ls st M Q = Wp d 202 333 ls (.int (I 2) :: st) M Q := fun d ls st M Q => w_iconst (show ins 202 332 = some (.iconst 2, 1) by decide +kernel)
set_option maxRecDepth 100000 in
theorem r_202_333 : ∀ (d : Nat) (l0 l1 l2 l4 l5 l6 : Option Value) (v : Int32) (st : List Value) (M : Mem) (Q : Outcome → Mem → Prop), Wp d 202 333 [l0, l1, l2, some (.int v), l4, l5, l6] st M Q = Wp d 202 334 [l0, l1, l2, some (.int v), l4, l5, l6] (.int v :: st) M Q := fun d l0 l1 l2 l4 l5 l6 v st M Q => wA (show ins 202 333 = some (.iload_n 3, 1) by decide +kernel) rfl
set_option maxRecDepth 100000 in
theorem r_202_334 : ∀ (d : Nat) (ls : Lc) (a b : Int) (st : List Value) (M : Mem) (Q : Outcome → Mem → Prop), Wp d 202 334 ls (.int (I b) :: .int (I a) :: st) M Q = Wp d 202 335 ls (.int (I (a * b)) :: st) M Q := fun d ls a b st M Q => w_imul (show ins 202 334 = some (.imul, 1) by decide +kernel)
set_option maxRecDepth 100000 in
theorem r_202_335 : ∀ (d : Nat) (ls : Lc) (st : List Value) (M : Mem) (Q : Outcome → Mem → Prop), Wp d 202 335 ls st M Q = Wp d 202 336 ls (.int (I 2) :: st) M Q := fun d ls st M Q => w_iconst (show ins 202 335 = some (.iconst 2, 1) by decide +kernel)
set_option maxRecDepth 100000 in
theorem r_202_336 : ∀ (d : Nat) (l0 l1 l2 l3 l4 l6 : Option Value) (v : Int32) (st : List Value) (M : Mem) (Q : Outcome → Mem → Prop), Wp d 202 336 [l0, l1, l2, l3, l4, some (.int v), l6] st M Q = Wp d 202 338 [l0, l1, l2, l3, l4, some (.int v), l6] (.int v :: st) M Q := fun d l0 l1 l2 l3 l4 l6 v st M Q => wA (show ins 202 336 = some (.iload 5, 2) by decide +kernel) rfl
set_option maxRecDepth 100000 in
theorem r_202_338 : ∀ (d : Nat) (ls : Lc) (a b : Int) (st : List Value) (M : Mem) (Q : Outcome → Mem → Prop), Wp d 202 338 ls (.int (I b) :: .int (I a) :: st) M Q = Wp d 202 339 ls (.int (I (a * b)) :: st) M Q := fun d ls a b st M Q => w_imul (show ins 202 338 = some (.imul, 1) by decide +kernel)
set_option maxRecDepth 100000 in
theorem r_202_339 : ∀ (d : Nat) (ls : Lc) (v0 v1 v2 v3 : Value) (a : Nat) (st : List Value) (M : Mem) (Q : Outcome → Mem → Prop), (smallR st = true) → Wp d 202 339 ls (v3 :: v2 :: v1 :: v0 :: .ref a :: st) M Q = (kO M a = 8 ∧ Ca d 202 339 ls 193 (.ref a :: [v0, v1, v2, v3]) st M Q) := fun d ls v0 v1 v2 v3 a st M Q h0 => w_virt1 (as := [v0, v1, v2, v3]) (show ins 202 339 = some (.invokevirtual 146, 3) by decide +kernel) (show mRes (mC 202) 146 = some (3, 8, [(8, 193)]) by decide +kernel) (by decide +kernel) rfl (by decide +kernel) (by decide +kernel) h0
set_option maxRecDepth 100000 in
theorem r_202_342 : ∀ (d : Nat) (l1 l2 l3 l4 l5 l6 : Option Value) (v : Nat) (st : List Value) (M : Mem) (Q : Outcome → Mem → Prop), Wp d 202 342 [some (.ref v), l1, l2, l3, l4, l5, l6] st M Q = Wp d 202 343 [some (.ref v), l1, l2, l3, l4, l5, l6] (.ref v :: st) M Q := fun d l1 l2 l3 l4 l5 l6 v st M Q => wA (show ins 202 342 = some (.aload_n 0, 1) by decide +kernel) rfl
set_option maxRecDepth 100000 in
theorem r_202_343 : ∀ (d : Nat) (l0 l2 l3 l4 l5 l6 : Option Value) (v : Int32) (st : List Value) (M : Mem) (Q : Outcome → Mem → Prop), Wp d 202 343 [l0, some (.int v), l2, l3, l4, l5, l6] st M Q = Wp d 202 344 [l0, some (.int v), l2, l3, l4, l5, l6] (.int v :: st) M Q := fun d l0 l2 l3 l4 l5 l6 v st M Q => wA (show ins 202 343 = some (.iload_n 1, 1) by decide +kernel) rfl
set_option maxRecDepth 100000 in
theorem r_202_344 : ∀ (d : Nat) (ls : Lc) (st : List Value) (M : Mem) (Q : Outcome → Mem → Prop), Wp d 202 344 ls st M Q = Wp d 202 345 ls (.int (I 3) :: st) M Q := fun d ls st M Q => w_iconst (show ins 202 344 = some (.iconst 3, 1) by decide +kernel)
set_option maxRecDepth 100000 in
theorem r_202_345 : ∀ (d : Nat) (l0 l1 l2 l3 l5 l6 : Option Value) (v : Int32) (st : List Value) (M : Mem) (Q : Outcome → Mem → Prop), Wp d 202 345 [l0, l1, l2, l3, some (.int v), l5, l6] st M Q = Wp d 202 347 [l0, l1, l2, l3, some (.int v), l5, l6] (.int v :: st) M Q := fun d l0 l1 l2 l3 l5 l6 v st M Q => wA (show ins 202 345 = some (.iload 4, 2) by decide +kernel) rfl
set_option maxRecDepth 100000 in
theorem r_202_347 : ∀ (d : Nat) (l0 l1 l3 l4 l5 l6 : Option Value) (v : Int32) (st : List Value) (M : Mem) (Q : Outcome → Mem → Prop), Wp d 202 347 [l0, l1, some (.int v), l3, l4, l5, l6] st M Q = Wp d 202 348 [l0, l1, some (.int v), l3, l4, l5, l6] (.int v :: st) M Q := fun d l0 l1 l3 l4 l5 l6 v st M Q => wA (show ins 202 347 = some (.iload_n 2, 1) by decide +kernel) rfl
set_option maxRecDepth 100000 in
theorem r_202_348 : ∀ (d : Nat) (ls : Lc) (v0 : Value)  (st : List Value) (M : Mem) (Q : Outcome → Mem → Prop), (smallR st = true) → Wp d 202 348 ls (v0 :: st) M Q = Ca d 202 348 ls 192 [v0] st M Q := fun d ls v0 st M Q h0 => w_stat (as := [v0]) (show ins 202 348 = some (.invokestatic 137, 3) by decide +kernel) (show mRes (mC 202) 137 = some (0, 8, [(0, 192)]) by decide +kernel) (by decide +kernel) (by decide +kernel) rfl h0
set_option maxRecDepth 100000 in
theorem r_202_351 : ∀ (d : Nat) (ls : Lc) (v0 v1 v2 v3 : Value) (a : Nat) (st : List Value) (M : Mem) (Q : Outcome → Mem → Prop), (smallR st = true) → Wp d 202 351 ls (v3 :: v2 :: v1 :: v0 :: .ref a :: st) M Q = (kO M a = 8 ∧ Ca d 202 351 ls 193 (.ref a :: [v0, v1, v2, v3]) st M Q) := fun d ls v0 v1 v2 v3 a st M Q h0 => w_virt1 (as := [v0, v1, v2, v3]) (show ins 202 351 = some (.invokevirtual 146, 3) by decide +kernel) (show mRes (mC 202) 146 = some (3, 8, [(8, 193)]) by decide +kernel) (by decide +kernel) rfl (by decide +kernel) (by decide +kernel) h0
set_option maxRecDepth 100000 in
theorem r_202_354 : ∀ (d : Nat) (ls : Lc) (M : Mem) (Q : Outcome → Mem → Prop), Wp d 202 354 ls [] M Q = Q (.returned none) M := fun d ls M Q => w_return (show ins 202 354 = some (.return_, 1) by decide +kernel) (by decide +kernel)
set_option maxRecDepth 100000 in
theorem w_202_32 : (type_of% r_202_32) := r_202_32
set_option maxRecDepth 100000 in
theorem w_202_122 : (type_of% r_202_122) := r_202_122
set_option maxRecDepth 100000 in
theorem w_202_185 : (type_of% r_202_185) := r_202_185
set_option maxRecDepth 100000 in
theorem w_202_262 : (type_of% r_202_262) := r_202_262
set_option maxRecDepth 100000 in
theorem W_202 : (type_of% r_202_0) ∧ (type_of% r_202_1) ∧ (type_of% r_202_4) ∧ (type_of% r_202_7) ∧ (type_of% r_202_8) ∧ (type_of% r_202_9) ∧ (type_of% r_202_10) ∧ (type_of% r_202_11) ∧ (type_of% r_202_12) ∧ (type_of% r_202_15) ∧ (type_of% r_202_18) ∧ (type_of% r_202_19) ∧ (type_of% r_202_20) ∧ (type_of% r_202_21) ∧ (type_of% r_202_24) ∧ (type_of% r_202_26) ∧ (type_of% r_202_27) ∧ (type_of% r_202_30) ∧ (type_of% r_202_33) ∧ (type_of% r_202_36) ∧ (type_of% r_202_39) ∧ (type_of% r_202_40) ∧ (type_of% r_202_41) ∧ (type_of% r_202_42) ∧ (type_of% r_202_44) ∧ (type_of% r_202_47) ∧ (type_of% r_202_48) ∧ (type_of% r_202_51) ∧ (type_of% r_202_54) ∧ (type_of% r_202_55) ∧ (type_of% r_202_58) ∧ (type_of% r_202_60) ∧ (type_of% r_202_61) ∧ (type_of% r_202_64) ∧ (type_of% r_202_67) ∧ (type_of% r_202_69) ∧ (type_of% r_202_70) ∧ (type_of% r_202_71) ∧ (type_of% r_202_72) ∧ (type_of% r_202_73) ∧ (type_of% r_202_76) ∧ (type_of% r_202_79) ∧ (type_of% r_202_80) ∧ (type_of% r_202_81) ∧ (type_of% r_202_82) ∧ (type_of% r_202_83) ∧ (type_of% r_202_85) ∧ (type_of% r_202_86) ∧ (type_of% r_202_87) ∧ (type_of% r_202_90) ∧ (type_of% r_202_93) ∧ (type_of% r_202_94) ∧ (type_of% r_202_95) ∧ (type_of% r_202_96) ∧ (type_of% r_202_97) ∧ (type_of% r_202_98) ∧ (type_of% r_202_101) ∧ (type_of% r_202_104) ∧ (type_of% r_202_105) ∧ (type_of% r_202_108) ∧ (type_of% r_202_109) ∧ (type_of% r_202_110) ∧ (type_of% r_202_111) ∧ (type_of% r_202_114) ∧ (type_of% r_202_115) ∧ (type_of% r_202_118) ∧ (type_of% r_202_121) ∧ (type_of% r_202_123) ∧ (type_of% r_202_126) ∧ (type_of% r_202_129) ∧ (type_of% r_202_130) ∧ (type_of% r_202_131) ∧ (type_of% r_202_132) ∧ (type_of% r_202_134) ∧ (type_of% r_202_137) ∧ (type_of% r_202_138) ∧ (type_of% r_202_141) ∧ (type_of% r_202_144) ∧ (type_of% r_202_145) ∧ (type_of% r_202_146) ∧ (type_of% r_202_147) ∧ (type_of% r_202_148) ∧ (type_of% r_202_149) ∧ (type_of% r_202_150) ∧ (type_of% r_202_151) ∧ (type_of% r_202_152) ∧ (type_of% r_202_153) ∧ (type_of% r_202_156) ∧ (type_of% r_202_159) ∧ (type_of% r_202_161) ∧ (type_of% r_202_162) ∧ (type_of% r_202_163) ∧ (type_of% r_202_164) ∧ (type_of% r_202_165) ∧ (type_of% r_202_168) ∧ (type_of% r_202_171) ∧ (type_of% r_202_172) ∧ (type_of% r_202_173) ∧ (type_of% r_202_174) ∧ (type_of% r_202_175) ∧ (type_of% r_202_176) ∧ (type_of% r_202_179) ∧ (type_of% r_202_182) ∧ (type_of% r_202_183) ∧ (type_of% r_202_187) ∧ (type_of% r_202_190) ∧ (type_of% r_202_192) ∧ (type_of% r_202_193) ∧ (type_of% r_202_196) ∧ (type_of% r_202_197) ∧ (type_of% r_202_200) ∧ (type_of% r_202_203) ∧ (type_of% r_202_206) ∧ (type_of% r_202_207) ∧ (type_of% r_202_210) ∧ (type_of% r_202_213) ∧ (type_of% r_202_215) ∧ (type_of% r_202_216) ∧ (type_of% r_202_217) ∧ (type_of% r_202_218) ∧ (type_of% r_202_220) ∧ (type_of% r_202_223) ∧ (type_of% r_202_224) ∧ (type_of% r_202_225) ∧ (type_of% r_202_226) ∧ (type_of% r_202_227) ∧ (type_of% r_202_228) ∧ (type_of% r_202_230) ∧ (type_of% r_202_233) ∧ (type_of% r_202_234) ∧ (type_of% r_202_235) ∧ (type_of% r_202_237) ∧ (type_of% r_202_238) ∧ (type_of% r_202_241) ∧ (type_of% r_202_242) ∧ (type_of% r_202_245) ∧ (type_of% r_202_247) ∧ (type_of% r_202_248) ∧ (type_of% r_202_251) ∧ (type_of% r_202_252) ∧ (type_of% r_202_253) ∧ (type_of% r_202_256) ∧ (type_of% r_202_259) ∧ (type_of% r_202_260) ∧ (type_of% r_202_264) ∧ (type_of% r_202_266) ∧ (type_of% r_202_269) ∧ (type_of% r_202_270) ∧ (type_of% r_202_273) ∧ (type_of% r_202_276) ∧ (type_of% r_202_278) ∧ (type_of% r_202_279) ∧ (type_of% r_202_280) ∧ (type_of% r_202_281) ∧ (type_of% r_202_283) ∧ (type_of% r_202_284) ∧ (type_of% r_202_286) ∧ (type_of% r_202_287) ∧ (type_of% r_202_290) ∧ (type_of% r_202_293) ∧ (type_of% r_202_294) ∧ (type_of% r_202_297) ∧ (type_of% r_202_300) ∧ (type_of% r_202_302) ∧ (type_of% r_202_303) ∧ (type_of% r_202_305) ∧ (type_of% r_202_306) ∧ (type_of% r_202_307) ∧ (type_of% r_202_310) ∧ (type_of% r_202_311) ∧ (type_of% r_202_312) ∧ (type_of% r_202_315) ∧ (type_of% r_202_318) ∧ (type_of% r_202_319) ∧ (type_of% r_202_322) ∧ (type_of% r_202_325) ∧ (type_of% r_202_326) ∧ (type_of% r_202_327) ∧ (type_of% r_202_328) ∧ (type_of% r_202_329) ∧ (type_of% r_202_330) ∧ (type_of% r_202_331) ∧ (type_of% r_202_332) ∧ (type_of% r_202_333) ∧ (type_of% r_202_334) ∧ (type_of% r_202_335) ∧ (type_of% r_202_336) ∧ (type_of% r_202_338) ∧ (type_of% r_202_339) ∧ (type_of% r_202_342) ∧ (type_of% r_202_343) ∧ (type_of% r_202_344) ∧ (type_of% r_202_345) ∧ (type_of% r_202_347) ∧ (type_of% r_202_348) ∧ (type_of% r_202_351) ∧ (type_of% r_202_354) := ⟨r_202_0, r_202_1, r_202_4, r_202_7, r_202_8, r_202_9, r_202_10, r_202_11, r_202_12, r_202_15, r_202_18, r_202_19, r_202_20, r_202_21, r_202_24, r_202_26, r_202_27, r_202_30, r_202_33, r_202_36, r_202_39, r_202_40, r_202_41, r_202_42, r_202_44, r_202_47, r_202_48, r_202_51, r_202_54, r_202_55, r_202_58, r_202_60, r_202_61, r_202_64, r_202_67, r_202_69, r_202_70, r_202_71, r_202_72, r_202_73, r_202_76, r_202_79, r_202_80, r_202_81, r_202_82, r_202_83, r_202_85, r_202_86, r_202_87, r_202_90, r_202_93, r_202_94, r_202_95, r_202_96, r_202_97, r_202_98, r_202_101, r_202_104, r_202_105, r_202_108, r_202_109, r_202_110, r_202_111, r_202_114, r_202_115, r_202_118, r_202_121, r_202_123, r_202_126, r_202_129, r_202_130, r_202_131, r_202_132, r_202_134, r_202_137, r_202_138, r_202_141, r_202_144, r_202_145, r_202_146, r_202_147, r_202_148, r_202_149, r_202_150, r_202_151, r_202_152, r_202_153, r_202_156, r_202_159, r_202_161, r_202_162, r_202_163, r_202_164, r_202_165, r_202_168, r_202_171, r_202_172, r_202_173, r_202_174, r_202_175, r_202_176, r_202_179, r_202_182, r_202_183, r_202_187, r_202_190, r_202_192, r_202_193, r_202_196, r_202_197, r_202_200, r_202_203, r_202_206, r_202_207, r_202_210, r_202_213, r_202_215, r_202_216, r_202_217, r_202_218, r_202_220, r_202_223, r_202_224, r_202_225, r_202_226, r_202_227, r_202_228, r_202_230, r_202_233, r_202_234, r_202_235, r_202_237, r_202_238, r_202_241, r_202_242, r_202_245, r_202_247, r_202_248, r_202_251, r_202_252, r_202_253, r_202_256, r_202_259, r_202_260, r_202_264, r_202_266, r_202_269, r_202_270, r_202_273, r_202_276, r_202_278, r_202_279, r_202_280, r_202_281, r_202_283, r_202_284, r_202_286, r_202_287, r_202_290, r_202_293, r_202_294, r_202_297, r_202_300, r_202_302, r_202_303, r_202_305, r_202_306, r_202_307, r_202_310, r_202_311, r_202_312, r_202_315, r_202_318, r_202_319, r_202_322, r_202_325, r_202_326, r_202_327, r_202_328, r_202_329, r_202_330, r_202_331, r_202_332, r_202_333, r_202_334, r_202_335, r_202_336, r_202_338, r_202_339, r_202_342, r_202_343, r_202_344, r_202_345, r_202_347, r_202_348, r_202_351, r_202_354⟩
set_option maxRecDepth 100000 in
theorem ca_202 {d y pc : Nat} {ls : Lc} {a : Nat} {z0 : Int32} {z1 : Int32} {r : List Value} {M : Mem} {Q : Outcome → Mem → Prop} (hd : 0 < d) (hw : Wp (d - 1) 202 0 [some (.ref a), some (.int z0), some (.int z1), none, none, none, none] [] M (Cq d y pc ls r Q)) : Ca d y pc ls 202 [.ref a, .int z0, .int z1] r M Q := ca_of (mq_get (by decide)) (by rfl) hd hw
/-! 203 PackedTreeModel.datasOf(I)I; loop heads [] -/
set_option maxRecDepth 100000 in
theorem r_203_0 : ∀ (d : Nat) (v : Int32) (st : List Value) (M : Mem) (Q : Outcome → Mem → Prop), Wp d 203 0 [some (.int v)] st M Q = Wp d 203 1 [some (.int v)] (.int v :: st) M Q := fun d v st M Q => wA (show ins 203 0 = some (.iload_n 0, 1) by decide +kernel) rfl
set_option maxRecDepth 100000 in
theorem r_203_1 : ∀ (d : Nat) (ls : Lc) (st : List Value) (M : Mem) (Q : Outcome → Mem → Prop), Wp d 203 1 ls st M Q = Wp d 203 4 ls (.int (I 128) :: st) M Q := fun d ls st M Q => w_sipush (show ins 203 1 = some (.sipush 128, 3) by decide +kernel) (by decide)
set_option maxRecDepth 100000 in
theorem r_203_4 : ∀ (d : Nat) (ls : Lc) (a b : Int) (st : List Value) (M : Mem) (Q : Outcome → Mem → Prop), (0 ≤ a) → (a < 2147483648) → (0 < b) → (b < 2147483648) → Wp d 203 4 ls (.int (I b) :: .int (I a) :: st) M Q = Wp d 203 5 ls (.int (I (a / b)) :: st) M Q := fun d ls a b st M Q h0 h1 h2 h3 => w_idiv (show ins 203 4 = some (.idiv, 1) by decide +kernel) h0 h1 h2 h3
set_option maxRecDepth 100000 in
theorem r_203_5 : ∀ (d : Nat) (v : Int32) (st : List Value) (M : Mem) (Q : Outcome → Mem → Prop), Wp d 203 5 [some (.int v)] st M Q = Wp d 203 6 [some (.int v)] (.int v :: st) M Q := fun d v st M Q => wA (show ins 203 5 = some (.iload_n 0, 1) by decide +kernel) rfl
set_option maxRecDepth 100000 in
theorem r_203_6 : ∀ (d : Nat) (ls : Lc) (st : List Value) (M : Mem) (Q : Outcome → Mem → Prop), Wp d 203 6 ls st M Q = Wp d 203 9 ls (.int (I 128) :: st) M Q := fun d ls st M Q => w_sipush (show ins 203 6 = some (.sipush 128, 3) by decide +kernel) (by decide)
set_option maxRecDepth 100000 in
theorem r_203_9 : ∀ (d : Nat) (ls : Lc) (a b : Int) (st : List Value) (M : Mem) (Q : Outcome → Mem → Prop), (0 ≤ a) → (a < 2147483648) → (0 < b) → (b < 2147483648) → Wp d 203 9 ls (.int (I b) :: .int (I a) :: st) M Q = Wp d 203 10 ls (.int (I (a % b)) :: st) M Q := fun d ls a b st M Q h0 h1 h2 h3 => w_irem (show ins 203 9 = some (.irem, 1) by decide +kernel) h0 h1 h2 h3
set_option maxRecDepth 100000 in
theorem r_203_10 : ∀ (d : Nat) (ls : Lc) (a : Int32) (st : List Value) (M : Mem) (Q : Outcome → Mem → Prop), Wp d 203 10 ls (.int a :: st) M Q = Br (a ≤ I 0) d 203 24 13 ls st M Q := fun d ls a st M Q => w_if (show ins 203 10 = some (.ifCond .le 14, 3) by decide +kernel) rfl rfl
set_option maxRecDepth 100000 in
theorem r_203_13 : ∀ (d : Nat) (v : Int32) (st : List Value) (M : Mem) (Q : Outcome → Mem → Prop), Wp d 203 13 [some (.int v)] st M Q = Wp d 203 14 [some (.int v)] (.int v :: st) M Q := fun d v st M Q => wA (show ins 203 13 = some (.iload_n 0, 1) by decide +kernel) rfl
set_option maxRecDepth 100000 in
theorem r_203_14 : ∀ (d : Nat) (ls : Lc) (v0 : Value)  (st : List Value) (M : Mem) (Q : Outcome → Mem → Prop), (smallR st = true) → Wp d 203 14 ls (v0 :: st) M Q = Ca d 203 14 ls 192 [v0] st M Q := fun d ls v0 st M Q h0 => w_stat (as := [v0]) (show ins 203 14 = some (.invokestatic 137, 3) by decide +kernel) (show mRes (mC 203) 137 = some (0, 8, [(0, 192)]) by decide +kernel) (by decide +kernel) (by decide +kernel) rfl h0
set_option maxRecDepth 100000 in
theorem r_203_17 : ∀ (d : Nat) (ls : Lc) (a : Int32) (st : List Value) (M : Mem) (Q : Outcome → Mem → Prop), Wp d 203 17 ls (.int a :: st) M Q = Br (¬ a = I 0) d 203 24 20 ls st M Q := fun d ls a st M Q => w_if (show ins 203 17 = some (.ifCond .ne 7, 3) by decide +kernel) rfl rfl
set_option maxRecDepth 100000 in
theorem r_203_20 : ∀ (d : Nat) (ls : Lc) (st : List Value) (M : Mem) (Q : Outcome → Mem → Prop), Wp d 203 20 ls st M Q = Wp d 203 21 ls (.int (I 1) :: st) M Q := fun d ls st M Q => w_iconst (show ins 203 20 = some (.iconst 1, 1) by decide +kernel)
set_option maxRecDepth 100000 in
theorem r_203_21 : ∀ (d : Nat) (ls : Lc) (st : List Value) (M : Mem) (Q : Outcome → Mem → Prop), Wp d 203 21 ls st M Q = Wp d 203 25 ls st M Q := fun d ls st M Q => w_goto (show ins 203 21 = some (.goto 4, 3) by decide +kernel) rfl
set_option maxRecDepth 100000 in
theorem r_203_24 : ∀ (d : Nat) (ls : Lc) (st : List Value) (M : Mem) (Q : Outcome → Mem → Prop), Wp d 203 24 ls st M Q = Wp d 203 25 ls (.int (I 0) :: st) M Q := fun d ls st M Q => w_iconst (show ins 203 24 = some (.iconst 0, 1) by decide +kernel)
set_option maxRecDepth 100000 in
theorem r_203_25 : ∀ (d : Nat) (ls : Lc) (a b : Int) (st : List Value) (M : Mem) (Q : Outcome → Mem → Prop), Wp d 203 25 ls (.int (I b) :: .int (I a) :: st) M Q = Wp d 203 26 ls (.int (I (a + b)) :: st) M Q := fun d ls a b st M Q => w_iadd (show ins 203 25 = some (.iadd, 1) by decide +kernel)
set_option maxRecDepth 100000 in
theorem r_203_26 : ∀ (d : Nat) (ls : Lc) (v : Int32) (M : Mem) (Q : Outcome → Mem → Prop), Wp d 203 26 ls [.int v] M Q = Q (.returned (some (.int v))) M := fun d ls v M Q => w_ireturn (show ins 203 26 = some (.ireturn, 1) by decide +kernel) (by decide +kernel)
set_option maxRecDepth 100000 in
theorem W_203 : (type_of% r_203_0) ∧ (type_of% r_203_1) ∧ (type_of% r_203_4) ∧ (type_of% r_203_5) ∧ (type_of% r_203_6) ∧ (type_of% r_203_9) ∧ (type_of% r_203_10) ∧ (type_of% r_203_13) ∧ (type_of% r_203_14) ∧ (type_of% r_203_17) ∧ (type_of% r_203_20) ∧ (type_of% r_203_21) ∧ (type_of% r_203_24) ∧ (type_of% r_203_25) ∧ (type_of% r_203_26) := ⟨r_203_0, r_203_1, r_203_4, r_203_5, r_203_6, r_203_9, r_203_10, r_203_13, r_203_14, r_203_17, r_203_20, r_203_21, r_203_24, r_203_25, r_203_26⟩
set_option maxRecDepth 100000 in
theorem ca_203 {d y pc : Nat} {ls : Lc} {z0 : Int32} {r : List Value} {M : Mem} {Q : Outcome → Mem → Prop} (hd : 0 < d) (hw : Wp (d - 1) 203 0 [some (.int z0)] [] M (Cq d y pc ls r Q)) : Ca d y pc ls 203 [.int z0] r M Q := ca_of (mq_get (by decide)) (by rfl) hd hw
/-! 204 PackedTreeModel.fill(IIII)I; loop heads [36] -/
set_option maxRecDepth 100000 in
theorem r_204_0 : ∀ (d : Nat) (l1 l2 l3 l4 l5 : Option Value) (v : Nat) (st : List Value) (M : Mem) (Q : Outcome → Mem → Prop), Wp d 204 0 [some (.ref v), l1, l2, l3, l4, l5] st M Q = Wp d 204 1 [some (.ref v), l1, l2, l3, l4, l5] (.ref v :: st) M Q := fun d l1 l2 l3 l4 l5 v st M Q => wA (show ins 204 0 = some (.aload_n 0, 1) by decide +kernel) rfl
set_option maxRecDepth 100000 in
theorem r_204_1 : ∀ (d : Nat) (l1 l2 l3 l4 l5 : Option Value) (v : Nat) (st : List Value) (M : Mem) (Q : Outcome → Mem → Prop), Wp d 204 1 [some (.ref v), l1, l2, l3, l4, l5] st M Q = Wp d 204 2 [some (.ref v), l1, l2, l3, l4, l5] (.ref v :: st) M Q := fun d l1 l2 l3 l4 l5 v st M Q => wA (show ins 204 1 = some (.aload_n 0, 1) by decide +kernel) rfl
set_option maxRecDepth 100000 in
theorem r_204_2 : ∀ (d : Nat) (l0 l2 l3 l4 l5 : Option Value) (v : Int32) (st : List Value) (M : Mem) (Q : Outcome → Mem → Prop), Wp d 204 2 [l0, some (.int v), l2, l3, l4, l5] st M Q = Wp d 204 3 [l0, some (.int v), l2, l3, l4, l5] (.int v :: st) M Q := fun d l0 l2 l3 l4 l5 v st M Q => wA (show ins 204 2 = some (.iload_n 1, 1) by decide +kernel) rfl
set_option maxRecDepth 100000 in
theorem r_204_3 : ∀ (d : Nat) (l0 l1 l3 l4 l5 : Option Value) (v : Int32) (st : List Value) (M : Mem) (Q : Outcome → Mem → Prop), Wp d 204 3 [l0, l1, some (.int v), l3, l4, l5] st M Q = Wp d 204 4 [l0, l1, some (.int v), l3, l4, l5] (.int v :: st) M Q := fun d l0 l1 l3 l4 l5 v st M Q => wA (show ins 204 3 = some (.iload_n 2, 1) by decide +kernel) rfl
set_option maxRecDepth 100000 in
theorem r_204_4 : ∀ (d : Nat) (l0 l1 l2 l3 l5 : Option Value) (v : Int32) (st : List Value) (M : Mem) (Q : Outcome → Mem → Prop), Wp d 204 4 [l0, l1, l2, l3, some (.int v), l5] st M Q = Wp d 204 6 [l0, l1, l2, l3, some (.int v), l5] (.int v :: st) M Q := fun d l0 l1 l2 l3 l5 v st M Q => wA (show ins 204 4 = some (.iload 4, 2) by decide +kernel) rfl
set_option maxRecDepth 100000 in
theorem r_204_6 : ∀ (d : Nat) (ls : Lc) (st : List Value) (M : Mem) (Q : Outcome → Mem → Prop), Wp d 204 6 ls st M Q = Wp d 204 9 ls (.int (I 512) :: st) M Q := fun d ls st M Q => w_sipush (show ins 204 6 = some (.sipush 512, 3) by decide +kernel) (by decide)
set_option maxRecDepth 100000 in
theorem r_204_9 : ∀ (d : Nat) (ls : Lc) (v0 v1 v2 v3 : Value) (a : Nat) (st : List Value) (M : Mem) (Q : Outcome → Mem → Prop), (smallR st = true) → Wp d 204 9 ls (v3 :: v2 :: v1 :: v0 :: .ref a :: st) M Q = (kO M a = 8 ∧ Ca d 204 9 ls 198 (.ref a :: [v0, v1, v2, v3]) st M Q) := fun d ls v0 v1 v2 v3 a st M Q h0 => w_virt1 (as := [v0, v1, v2, v3]) (show ins 204 9 = some (.invokevirtual 183, 3) by decide +kernel) (show mRes (mC 204) 183 = some (3, 8, [(8, 198)]) by decide +kernel) (by decide +kernel) rfl (by decide +kernel) (by decide +kernel) h0
set_option maxRecDepth 100000 in
theorem r_204_12 : ∀ (d : Nat) (ls : Lc) (a : Nat) (v : Int32) (st : List Value) (M : Mem) (Q : Outcome → Mem → Prop), Wp d 204 12 ls (.int v :: .ref a :: st) M Q = (fk 54 (kO M a) = true ∧ Wp d 204 15 ls st (sF M 54 a v) Q) := fun d ls a v st M Q => w_putI (show ins 204 12 = some (.putfield 40, 3) by decide +kernel) (show fRes (mC 204) 40 = some (54, 8, false) by decide +kernel) (by decide +kernel) (by decide +kernel)
set_option maxRecDepth 100000 in
theorem r_204_15 : ∀ (d : Nat) (l1 l2 l3 l4 l5 : Option Value) (v : Nat) (st : List Value) (M : Mem) (Q : Outcome → Mem → Prop), Wp d 204 15 [some (.ref v), l1, l2, l3, l4, l5] st M Q = Wp d 204 16 [some (.ref v), l1, l2, l3, l4, l5] (.ref v :: st) M Q := fun d l1 l2 l3 l4 l5 v st M Q => wA (show ins 204 15 = some (.aload_n 0, 1) by decide +kernel) rfl
set_option maxRecDepth 100000 in
theorem r_204_16 : ∀ (d : Nat) (ls : Lc) (a : Nat) (st : List Value) (M : Mem) (Q : Outcome → Mem → Prop), Wp d 204 16 ls (.ref a :: st) M Q = (fk 54 (kO M a) = true ∧ Wp d 204 19 ls (.int (mF M 54 a) :: st) M Q) := fun d ls a st M Q => w_getI (show ins 204 16 = some (.getfield 40, 3) by decide +kernel) (show fRes (mC 204) 40 = some (54, 8, false) by decide +kernel) (by decide +kernel)
set_option maxRecDepth 100000 in
theorem r_204_19 : ∀ (d : Nat) (ls : Lc) (a : Int32) (st : List Value) (M : Mem) (Q : Outcome → Mem → Prop), Wp d 204 19 ls (.int a :: st) M Q = Br (a ≤ I 0) d 204 24 22 ls st M Q := fun d ls a st M Q => w_if (show ins 204 19 = some (.ifCond .le 5, 3) by decide +kernel) rfl rfl
set_option maxRecDepth 100000 in
theorem r_204_22 : ∀ (d : Nat) (ls : Lc) (st : List Value) (M : Mem) (Q : Outcome → Mem → Prop), Wp d 204 22 ls st M Q = Wp d 204 23 ls (.int (I 0) :: st) M Q := fun d ls st M Q => w_iconst (show ins 204 22 = some (.iconst 0, 1) by decide +kernel)
set_option maxRecDepth 100000 in
theorem r_204_23 : ∀ (d : Nat) (ls : Lc) (v : Int32) (M : Mem) (Q : Outcome → Mem → Prop), Wp d 204 23 ls [.int v] M Q = Q (.returned (some (.int v))) M := fun d ls v M Q => w_ireturn (show ins 204 23 = some (.ireturn, 1) by decide +kernel) (by decide +kernel)
set_option maxRecDepth 100000 in
theorem r_204_24 : ∀ (d : Nat) (l1 l2 l3 l4 l5 : Option Value) (v : Nat) (st : List Value) (M : Mem) (Q : Outcome → Mem → Prop), Wp d 204 24 [some (.ref v), l1, l2, l3, l4, l5] st M Q = Wp d 204 25 [some (.ref v), l1, l2, l3, l4, l5] (.ref v :: st) M Q := fun d l1 l2 l3 l4 l5 v st M Q => wA (show ins 204 24 = some (.aload_n 0, 1) by decide +kernel) rfl
set_option maxRecDepth 100000 in
theorem r_204_25 : ∀ (d : Nat) (ls : Lc) (a : Nat) (st : List Value) (M : Mem) (Q : Outcome → Mem → Prop), (smallR st = true) → Wp d 204 25 ls (.ref a :: st) M Q = (kO M a = 8 ∧ Ca d 204 25 ls 166 (.ref a :: []) st M Q) := fun d ls a st M Q h0 => w_virt1 (as := []) (show ins 204 25 = some (.invokevirtual 164, 3) by decide +kernel) (show mRes (mC 204) 164 = some (3, 8, [(8, 166)]) by decide +kernel) (by decide +kernel) rfl (by decide +kernel) (by decide +kernel) h0
set_option maxRecDepth 100000 in
theorem r_204_28 : ∀ (d : Nat) (l1 l2 l3 l4 l5 : Option Value) (v : Nat) (st : List Value) (M : Mem) (Q : Outcome → Mem → Prop), Wp d 204 28 [some (.ref v), l1, l2, l3, l4, l5] st M Q = Wp d 204 29 [some (.ref v), l1, l2, l3, l4, l5] (.ref v :: st) M Q := fun d l1 l2 l3 l4 l5 v st M Q => wA (show ins 204 28 = some (.aload_n 0, 1) by decide +kernel) rfl
set_option maxRecDepth 100000 in
theorem r_204_29 : ∀ (d : Nat) (l0 l2 l3 l4 l5 : Option Value) (v : Int32) (st : List Value) (M : Mem) (Q : Outcome → Mem → Prop), Wp d 204 29 [l0, some (.int v), l2, l3, l4, l5] st M Q = Wp d 204 30 [l0, some (.int v), l2, l3, l4, l5] (.int v :: st) M Q := fun d l0 l2 l3 l4 l5 v st M Q => wA (show ins 204 29 = some (.iload_n 1, 1) by decide +kernel) rfl
set_option maxRecDepth 100000 in
theorem r_204_30 : ∀ (d : Nat) (ls : Lc) (v0 : Value) (a : Nat) (st : List Value) (M : Mem) (Q : Outcome → Mem → Prop), (smallR st = true) → Wp d 204 30 ls (v0 :: .ref a :: st) M Q = (kO M a = 8 ∧ Ca d 204 30 ls 199 (.ref a :: [v0]) st M Q) := fun d ls v0 a st M Q h0 => w_virt1 (as := [v0]) (show ins 204 30 = some (.invokevirtual 187, 3) by decide +kernel) (show mRes (mC 204) 187 = some (3, 8, [(8, 199)]) by decide +kernel) (by decide +kernel) rfl (by decide +kernel) (by decide +kernel) h0
set_option maxRecDepth 100000 in
theorem r_204_33 : ∀ (d : Nat) (ls : Lc) (st : List Value) (M : Mem) (Q : Outcome → Mem → Prop), Wp d 204 33 ls st M Q = Wp d 204 34 ls (.int (I 0) :: st) M Q := fun d ls st M Q => w_iconst (show ins 204 33 = some (.iconst 0, 1) by decide +kernel)
set_option maxRecDepth 100000 in
theorem r_204_34 : ∀ (d : Nat) (l0 l1 l2 l3 l4 l5 : Option Value) (v : Int32) (st : List Value) (M : Mem) (Q : Outcome → Mem → Prop), (lo l4 = false) → Wp d 204 34 [l0, l1, l2, l3, l4, l5] (.int v :: st) M Q = Wp d 204 36 [l0, l1, l2, l3, l4, some (.int v)] st M Q := fun d l0 l1 l2 l3 l4 l5 v st M Q hl => w_istore (show ins 204 34 = some (.istore 5, 2) by decide +kernel) (st1_S rfl rfl hl)
set_option maxRecDepth 100000 in
theorem r_204_36 : ∀ (d : Nat) (l0 l1 l2 l3 l4 : Option Value) (v : Int32) (st : List Value) (M : Mem) (Q : Outcome → Mem → Prop), Wp d 204 36 [l0, l1, l2, l3, l4, some (.int v)] st M Q = Wp d 204 38 [l0, l1, l2, l3, l4, some (.int v)] (.int v :: st) M Q := fun d l0 l1 l2 l3 l4 v st M Q => wA (show ins 204 36 = some (.iload 5, 2) by decide +kernel) rfl
set_option maxRecDepth 100000 in
theorem r_204_38 : ∀ (d : Nat) (l0 l1 l2 l3 l5 : Option Value) (v : Int32) (st : List Value) (M : Mem) (Q : Outcome → Mem → Prop), Wp d 204 38 [l0, l1, l2, l3, some (.int v), l5] st M Q = Wp d 204 40 [l0, l1, l2, l3, some (.int v), l5] (.int v :: st) M Q := fun d l0 l1 l2 l3 l5 v st M Q => wA (show ins 204 38 = some (.iload 4, 2) by decide +kernel) rfl
set_option maxRecDepth 100000 in
theorem r_204_40 : ∀ (d : Nat) (ls : Lc) (a b : Int32) (st : List Value) (M : Mem) (Q : Outcome → Mem → Prop), Wp d 204 40 ls (.int b :: .int a :: st) M Q = Br (b ≤ a) d 204 69 43 ls st M Q := fun d ls a b st M Q => w_icmp (show ins 204 40 = some (.if_icmp .ge 29, 3) by decide +kernel) rfl rfl
set_option maxRecDepth 100000 in
theorem r_204_43 : ∀ (d : Nat) (l1 l2 l3 l4 l5 : Option Value) (v : Nat) (st : List Value) (M : Mem) (Q : Outcome → Mem → Prop), Wp d 204 43 [some (.ref v), l1, l2, l3, l4, l5] st M Q = Wp d 204 44 [some (.ref v), l1, l2, l3, l4, l5] (.ref v :: st) M Q := fun d l1 l2 l3 l4 l5 v st M Q => wA (show ins 204 43 = some (.aload_n 0, 1) by decide +kernel) rfl
set_option maxRecDepth 100000 in
theorem r_204_44 : ∀ (d : Nat) (ls : Lc) (a : Nat) (st : List Value) (M : Mem) (Q : Outcome → Mem → Prop), Wp d 204 44 ls (.ref a :: st) M Q = (fk 51 (kO M a) = true ∧ Wp d 204 47 ls (va_rf (mR M 51 a) :: st) M Q) := fun d ls a st M Q => w_getR (show ins 204 44 = some (.getfield 19, 3) by decide +kernel) (show fRes (mC 204) 19 = some (51, 8, false) by decide +kernel) (by decide +kernel)
set_option maxRecDepth 100000 in
theorem r_204_47 : ∀ (d : Nat) (l0 l1 l3 l4 l5 : Option Value) (v : Int32) (st : List Value) (M : Mem) (Q : Outcome → Mem → Prop), Wp d 204 47 [l0, l1, some (.int v), l3, l4, l5] st M Q = Wp d 204 48 [l0, l1, some (.int v), l3, l4, l5] (.int v :: st) M Q := fun d l0 l1 l3 l4 l5 v st M Q => wA (show ins 204 47 = some (.iload_n 2, 1) by decide +kernel) rfl
set_option maxRecDepth 100000 in
theorem r_204_48 : ∀ (d : Nat) (l0 l1 l2 l3 l4 : Option Value) (v : Int32) (st : List Value) (M : Mem) (Q : Outcome → Mem → Prop), Wp d 204 48 [l0, l1, l2, l3, l4, some (.int v)] st M Q = Wp d 204 50 [l0, l1, l2, l3, l4, some (.int v)] (.int v :: st) M Q := fun d l0 l1 l2 l3 l4 v st M Q => wA (show ins 204 48 = some (.iload 5, 2) by decide +kernel) rfl
set_option maxRecDepth 100000 in
theorem r_204_50 : ∀ (d : Nat) (ls : Lc) (a b : Int) (st : List Value) (M : Mem) (Q : Outcome → Mem → Prop), Wp d 204 50 ls (.int (I b) :: .int (I a) :: st) M Q = Wp d 204 51 ls (.int (I (a + b)) :: st) M Q := fun d ls a b st M Q => w_iadd (show ins 204 50 = some (.iadd, 1) by decide +kernel)
set_option maxRecDepth 100000 in
theorem r_204_51 : ∀ (d : Nat) (l0 l1 l2 l4 l5 : Option Value) (v : Int32) (st : List Value) (M : Mem) (Q : Outcome → Mem → Prop), Wp d 204 51 [l0, l1, l2, some (.int v), l4, l5] st M Q = Wp d 204 52 [l0, l1, l2, some (.int v), l4, l5] (.int v :: st) M Q := fun d l0 l1 l2 l4 l5 v st M Q => wA (show ins 204 51 = some (.iload_n 3, 1) by decide +kernel) rfl
set_option maxRecDepth 100000 in
theorem r_204_52 : ∀ (d : Nat) (ls : Lc) (st : List Value) (M : Mem) (Q : Outcome → Mem → Prop), Wp d 204 52 ls st M Q = Wp d 204 54 ls (.int (I 7) :: st) M Q := fun d ls st M Q => w_bipush (show ins 204 52 = some (.bipush 7, 2) by decide +kernel) (by decide)
set_option maxRecDepth 100000 in
theorem r_204_54 : ∀ (d : Nat) (l0 l1 l2 l3 l4 : Option Value) (v : Int32) (st : List Value) (M : Mem) (Q : Outcome → Mem → Prop), Wp d 204 54 [l0, l1, l2, l3, l4, some (.int v)] st M Q = Wp d 204 56 [l0, l1, l2, l3, l4, some (.int v)] (.int v :: st) M Q := fun d l0 l1 l2 l3 l4 v st M Q => wA (show ins 204 54 = some (.iload 5, 2) by decide +kernel) rfl
set_option maxRecDepth 100000 in
theorem r_204_56 : ∀ (d : Nat) (ls : Lc) (a b : Int) (st : List Value) (M : Mem) (Q : Outcome → Mem → Prop), Wp d 204 56 ls (.int (I b) :: .int (I a) :: st) M Q = Wp d 204 57 ls (.int (I (a * b)) :: st) M Q := fun d ls a b st M Q => w_imul (show ins 204 56 = some (.imul, 1) by decide +kernel)
set_option maxRecDepth 100000 in
theorem r_204_57 : ∀ (d : Nat) (ls : Lc) (a b : Int) (st : List Value) (M : Mem) (Q : Outcome → Mem → Prop), Wp d 204 57 ls (.int (I b) :: .int (I a) :: st) M Q = Wp d 204 58 ls (.int (I (a + b)) :: st) M Q := fun d ls a b st M Q => w_iadd (show ins 204 57 = some (.iadd, 1) by decide +kernel)
set_option maxRecDepth 100000 in
theorem r_204_58 : ∀ (d : Nat) (ls : Lc) (st : List Value) (M : Mem) (Q : Outcome → Mem → Prop), Wp d 204 58 ls st M Q = Wp d 204 61 ls (.int (I 255) :: st) M Q := fun d ls st M Q => w_sipush (show ins 204 58 = some (.sipush 255, 3) by decide +kernel) (by decide)
set_option maxRecDepth 100000 in
theorem r_204_61 : ∀ (d : Nat) (ls : Lc) (a b : Int32) (st : List Value) (M : Mem) (Q : Outcome → Mem → Prop), Wp d 204 61 ls (.int b :: .int a :: st) M Q = Wp d 204 62 ls (.int (a &&& b) :: st) M Q := fun d ls a b st M Q => wA (show ins 204 61 = some (.iand, 1) by decide +kernel) rfl
set_option maxRecDepth 100000 in
theorem r_204_62 : ∀ (d : Nat) (ls : Lc) (a : Nat) (j v : Int32) (st : List Value) (M : Mem) (Q : Outcome → Mem → Prop), Wp d 204 62 ls (.int v :: .int j :: .ref a :: st) M Q = (((kX M a).1 = 0 ∧ inB j (kX M a).2 = true) ∧ Wp d 204 63 ls st (sA M a j.toNatClampNeg v) Q) := fun d ls a j v st M Q => w_iastore (show ins 204 62 = some (.iastore, 1) by decide +kernel)
set_option maxRecDepth 100000 in
theorem r_204_63 : ∀ (d : Nat) (l0 l1 l2 l3 l4 : Option Value) (z : Int) (st : List Value) (M : Mem) (Q : Outcome → Mem → Prop), (lo l4 = false) → Wp d 204 63 [l0, l1, l2, l3, l4, some (.int (I z))] st M Q = Wp d 204 66 [l0, l1, l2, l3, l4, some (.int (I (z + 1)))] st M Q := fun d l0 l1 l2 l3 l4 z st M Q hl => w_iinc (show ins 204 63 = some (.iinc 5 1, 3) by decide +kernel) rfl (st1_S rfl rfl hl)
set_option maxRecDepth 100000 in
theorem r_204_66 : ∀ (d : Nat) (ls : Lc) (st : List Value) (M : Mem) (Q : Outcome → Mem → Prop), Wp d 204 66 ls st M Q = Wp d 204 36 ls st M Q := fun d ls st M Q => w_goto (show ins 204 66 = some (.goto (-30), 3) by decide +kernel) rfl
set_option maxRecDepth 100000 in
theorem r_204_69 : ∀ (d : Nat) (l1 l2 l3 l4 l5 : Option Value) (v : Nat) (st : List Value) (M : Mem) (Q : Outcome → Mem → Prop), Wp d 204 69 [some (.ref v), l1, l2, l3, l4, l5] st M Q = Wp d 204 70 [some (.ref v), l1, l2, l3, l4, l5] (.ref v :: st) M Q := fun d l1 l2 l3 l4 l5 v st M Q => wA (show ins 204 69 = some (.aload_n 0, 1) by decide +kernel) rfl
set_option maxRecDepth 100000 in
theorem r_204_70 : ∀ (d : Nat) (l0 l2 l3 l4 l5 : Option Value) (v : Int32) (st : List Value) (M : Mem) (Q : Outcome → Mem → Prop), Wp d 204 70 [l0, some (.int v), l2, l3, l4, l5] st M Q = Wp d 204 71 [l0, some (.int v), l2, l3, l4, l5] (.int v :: st) M Q := fun d l0 l2 l3 l4 l5 v st M Q => wA (show ins 204 70 = some (.iload_n 1, 1) by decide +kernel) rfl
set_option maxRecDepth 100000 in
theorem r_204_71 : ∀ (d : Nat) (l0 l1 l3 l4 l5 : Option Value) (v : Int32) (st : List Value) (M : Mem) (Q : Outcome → Mem → Prop), Wp d 204 71 [l0, l1, some (.int v), l3, l4, l5] st M Q = Wp d 204 72 [l0, l1, some (.int v), l3, l4, l5] (.int v :: st) M Q := fun d l0 l1 l3 l4 l5 v st M Q => wA (show ins 204 71 = some (.iload_n 2, 1) by decide +kernel) rfl
set_option maxRecDepth 100000 in
theorem r_204_72 : ∀ (d : Nat) (l0 l1 l2 l3 l5 : Option Value) (v : Int32) (st : List Value) (M : Mem) (Q : Outcome → Mem → Prop), Wp d 204 72 [l0, l1, l2, l3, some (.int v), l5] st M Q = Wp d 204 74 [l0, l1, l2, l3, some (.int v), l5] (.int v :: st) M Q := fun d l0 l1 l2 l3 l5 v st M Q => wA (show ins 204 72 = some (.iload 4, 2) by decide +kernel) rfl
set_option maxRecDepth 100000 in
theorem r_204_74 : ∀ (d : Nat) (ls : Lc) (a b : Int) (st : List Value) (M : Mem) (Q : Outcome → Mem → Prop), Wp d 204 74 ls (.int (I b) :: .int (I a) :: st) M Q = Wp d 204 75 ls (.int (I (a + b)) :: st) M Q := fun d ls a b st M Q => w_iadd (show ins 204 74 = some (.iadd, 1) by decide +kernel)
set_option maxRecDepth 100000 in
theorem r_204_75 : ∀ (d : Nat) (ls : Lc) (v0 v1 : Value) (a : Nat) (st : List Value) (M : Mem) (Q : Outcome → Mem → Prop), (smallR st = true) → Wp d 204 75 ls (v1 :: v0 :: .ref a :: st) M Q = (kO M a = 8 ∧ Ca d 204 75 ls 201 (.ref a :: [v0, v1]) st M Q) := fun d ls v0 v1 a st M Q h0 => w_virt1 (as := [v0, v1]) (show ins 204 75 = some (.invokevirtual 192, 3) by decide +kernel) (show mRes (mC 204) 192 = some (3, 8, [(8, 201)]) by decide +kernel) (by decide +kernel) rfl (by decide +kernel) (by decide +kernel) h0
set_option maxRecDepth 100000 in
theorem r_204_78 : ∀ (d : Nat) (ls : Lc) (v : Int32) (M : Mem) (Q : Outcome → Mem → Prop), Wp d 204 78 ls [.int v] M Q = Q (.returned (some (.int v))) M := fun d ls v M Q => w_ireturn (show ins 204 78 = some (.ireturn, 1) by decide +kernel) (by decide +kernel)
set_option maxRecDepth 100000 in
theorem w_204_36 : (type_of% r_204_36) := r_204_36
set_option maxRecDepth 100000 in
theorem W_204 : (type_of% r_204_0) ∧ (type_of% r_204_1) ∧ (type_of% r_204_2) ∧ (type_of% r_204_3) ∧ (type_of% r_204_4) ∧ (type_of% r_204_6) ∧ (type_of% r_204_9) ∧ (type_of% r_204_12) ∧ (type_of% r_204_15) ∧ (type_of% r_204_16) ∧ (type_of% r_204_19) ∧ (type_of% r_204_22) ∧ (type_of% r_204_23) ∧ (type_of% r_204_24) ∧ (type_of% r_204_25) ∧ (type_of% r_204_28) ∧ (type_of% r_204_29) ∧ (type_of% r_204_30) ∧ (type_of% r_204_33) ∧ (type_of% r_204_34) ∧ (type_of% r_204_38) ∧ (type_of% r_204_40) ∧ (type_of% r_204_43) ∧ (type_of% r_204_44) ∧ (type_of% r_204_47) ∧ (type_of% r_204_48) ∧ (type_of% r_204_50) ∧ (type_of% r_204_51) ∧ (type_of% r_204_52) ∧ (type_of% r_204_54) ∧ (type_of% r_204_56) ∧ (type_of% r_204_57) ∧ (type_of% r_204_58) ∧ (type_of% r_204_61) ∧ (type_of% r_204_62) ∧ (type_of% r_204_63) ∧ (type_of% r_204_66) ∧ (type_of% r_204_69) ∧ (type_of% r_204_70) ∧ (type_of% r_204_71) ∧ (type_of% r_204_72) ∧ (type_of% r_204_74) ∧ (type_of% r_204_75) ∧ (type_of% r_204_78) := ⟨r_204_0, r_204_1, r_204_2, r_204_3, r_204_4, r_204_6, r_204_9, r_204_12, r_204_15, r_204_16, r_204_19, r_204_22, r_204_23, r_204_24, r_204_25, r_204_28, r_204_29, r_204_30, r_204_33, r_204_34, r_204_38, r_204_40, r_204_43, r_204_44, r_204_47, r_204_48, r_204_50, r_204_51, r_204_52, r_204_54, r_204_56, r_204_57, r_204_58, r_204_61, r_204_62, r_204_63, r_204_66, r_204_69, r_204_70, r_204_71, r_204_72, r_204_74, r_204_75, r_204_78⟩
set_option maxRecDepth 100000 in
theorem ca_204 {d y pc : Nat} {ls : Lc} {a : Nat} {z0 : Int32} {z1 : Int32} {z2 : Int32} {z3 : Int32} {r : List Value} {M : Mem} {Q : Outcome → Mem → Prop} (hd : 0 < d) (hw : Wp (d - 1) 204 0 [some (.ref a), some (.int z0), some (.int z1), some (.int z2), some (.int z3), none] [] M (Cq d y pc ls r Q)) : Ca d y pc ls 204 [.ref a, .int z0, .int z1, .int z2, .int z3] r M Q := ca_of (mq_get (by decide)) (by rfl) hd hw
