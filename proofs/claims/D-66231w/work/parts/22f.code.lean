/-! 155 PackedTreeModel.thrown()I; loop heads [] -/
set_option maxRecDepth 100000 in
theorem r_155_0 : ∀ (d : Nat) (v : Nat) (st : List Value) (M : Mem) (Q : Outcome → Mem → Prop), Wp d 155 0 [some (.ref v)] st M Q = Wp d 155 1 [some (.ref v)] (.ref v :: st) M Q := fun d v st M Q => wA (show ins 155 0 = some (.aload_n 0, 1) by decide +kernel) rfl
set_option maxRecDepth 100000 in
theorem r_155_1 : ∀ (d : Nat) (ls : Lc) (a : Nat) (st : List Value) (M : Mem) (Q : Outcome → Mem → Prop), Wp d 155 1 ls (.ref a :: st) M Q = (fk 54 (kO M a) = true ∧ Wp d 155 4 ls (.int (mF M 54 a) :: st) M Q) := fun d ls a st M Q => w_getI (show ins 155 1 = some (.getfield 40, 3) by decide +kernel) (show fRes (mC 155) 40 = some (54, 8, false) by decide +kernel) (by decide +kernel)
set_option maxRecDepth 100000 in
theorem r_155_4 : ∀ (d : Nat) (ls : Lc) (v : Int32) (M : Mem) (Q : Outcome → Mem → Prop), Wp d 155 4 ls [.int v] M Q = Q (.returned (some (.int v))) M := fun d ls v M Q => w_ireturn (show ins 155 4 = some (.ireturn, 1) by decide +kernel) (by decide +kernel)
set_option maxRecDepth 100000 in
theorem W_155 : (type_of% r_155_0) ∧ (type_of% r_155_1) ∧ (type_of% r_155_4) := ⟨r_155_0, r_155_1, r_155_4⟩
set_option maxRecDepth 100000 in
theorem ca_155 {d y pc : Nat} {ls : Lc} {a : Nat} {r : List Value} {M : Mem} {Q : Outcome → Mem → Prop} (hd : 0 < d) (hw : Wp (d - 1) 155 0 [some (.ref a)] [] M (Cq d y pc ls r Q)) : Ca d y pc ls 155 [.ref a] r M Q := ca_of (mq_get (by decide)) (by rfl) hd hw
/-! 156 PackedTreeModel.make(IIZ)I; loop heads [78] -/
set_option maxRecDepth 100000 in
theorem r_156_0 : ∀ (d : Nat) (l1 l2 l3 l4 : Option Value) (v : Nat) (st : List Value) (M : Mem) (Q : Outcome → Mem → Prop), Wp d 156 0 [some (.ref v), l1, l2, l3, l4] st M Q = Wp d 156 1 [some (.ref v), l1, l2, l3, l4] (.ref v :: st) M Q := fun d l1 l2 l3 l4 v st M Q => wA (show ins 156 0 = some (.aload_n 0, 1) by decide +kernel) rfl
set_option maxRecDepth 100000 in
theorem r_156_1 : ∀ (d : Nat) (l1 l2 l3 l4 : Option Value) (v : Nat) (st : List Value) (M : Mem) (Q : Outcome → Mem → Prop), Wp d 156 1 [some (.ref v), l1, l2, l3, l4] st M Q = Wp d 156 2 [some (.ref v), l1, l2, l3, l4] (.ref v :: st) M Q := fun d l1 l2 l3 l4 v st M Q => wA (show ins 156 1 = some (.aload_n 0, 1) by decide +kernel) rfl
set_option maxRecDepth 100000 in
theorem r_156_2 : ∀ (d : Nat) (ls : Lc) (a : Nat) (st : List Value) (M : Mem) (Q : Outcome → Mem → Prop), Wp d 156 2 ls (.ref a :: st) M Q = (fk 52 (kO M a) = true ∧ Wp d 156 5 ls (.int (mF M 52 a) :: st) M Q) := fun d ls a st M Q => w_getI (show ins 156 2 = some (.getfield 149, 3) by decide +kernel) (show fRes (mC 156) 149 = some (52, 8, false) by decide +kernel) (by decide +kernel)
set_option maxRecDepth 100000 in
theorem r_156_5 : ∀ (d : Nat) (ls : Lc) (a : Int32) (st : List Value) (M : Mem) (Q : Outcome → Mem → Prop), Wp d 156 5 ls (.int a :: st) M Q = Br (a = I 0) d 156 12 8 ls st M Q := fun d ls a st M Q => w_if (show ins 156 5 = some (.ifCond .eq 7, 3) by decide +kernel) rfl rfl
set_option maxRecDepth 100000 in
theorem r_156_8 : ∀ (d : Nat) (ls : Lc) (st : List Value) (M : Mem) (Q : Outcome → Mem → Prop), Wp d 156 8 ls st M Q = Wp d 156 9 ls (.int (I 1) :: st) M Q := fun d ls st M Q => w_iconst (show ins 156 8 = some (.iconst 1, 1) by decide +kernel)
set_option maxRecDepth 100000 in
theorem r_156_9 : ∀ (d : Nat) (ls : Lc) (st : List Value) (M : Mem) (Q : Outcome → Mem → Prop), Wp d 156 9 ls st M Q = Wp d 156 59 ls st M Q := fun d ls st M Q => w_goto (show ins 156 9 = some (.goto 50, 3) by decide +kernel) rfl
set_option maxRecDepth 100000 in
theorem r_156_12 : ∀ (d : Nat) (l1 l2 l3 l4 : Option Value) (v : Nat) (st : List Value) (M : Mem) (Q : Outcome → Mem → Prop), Wp d 156 12 [some (.ref v), l1, l2, l3, l4] st M Q = Wp d 156 13 [some (.ref v), l1, l2, l3, l4] (.ref v :: st) M Q := fun d l1 l2 l3 l4 v st M Q => wA (show ins 156 12 = some (.aload_n 0, 1) by decide +kernel) rfl
set_option maxRecDepth 100000 in
theorem r_156_13 : ∀ (d : Nat) (l0 l2 l3 l4 : Option Value) (v : Int32) (st : List Value) (M : Mem) (Q : Outcome → Mem → Prop), Wp d 156 13 [l0, some (.int v), l2, l3, l4] st M Q = Wp d 156 14 [l0, some (.int v), l2, l3, l4] (.int v :: st) M Q := fun d l0 l2 l3 l4 v st M Q => wA (show ins 156 13 = some (.iload_n 1, 1) by decide +kernel) rfl
set_option maxRecDepth 100000 in
theorem r_156_14 : ∀ (d : Nat) (ls : Lc) (v0 : Value) (a : Nat) (st : List Value) (M : Mem) (Q : Outcome → Mem → Prop), (smallR st = true) → Wp d 156 14 ls (v0 :: .ref a :: st) M Q = (kO M a = 8 ∧ Ca d 156 14 ls 157 (.ref a :: [v0]) st M Q) := fun d ls v0 a st M Q h0 => w_virt1 (as := [v0]) (show ins 156 14 = some (.invokevirtual 152, 3) by decide +kernel) (show mRes (mC 156) 152 = some (3, 8, [(8, 157)]) by decide +kernel) (by decide +kernel) rfl (by decide +kernel) (by decide +kernel) h0
set_option maxRecDepth 100000 in
theorem r_156_17 : ∀ (d : Nat) (ls : Lc) (a : Int32) (st : List Value) (M : Mem) (Q : Outcome → Mem → Prop), Wp d 156 17 ls (.int a :: st) M Q = Br (¬ a = I 0) d 156 24 20 ls st M Q := fun d ls a st M Q => w_if (show ins 156 17 = some (.ifCond .ne 7, 3) by decide +kernel) rfl rfl
set_option maxRecDepth 100000 in
theorem r_156_20 : ∀ (d : Nat) (ls : Lc) (st : List Value) (M : Mem) (Q : Outcome → Mem → Prop), Wp d 156 20 ls st M Q = Wp d 156 21 ls (.int (I 2) :: st) M Q := fun d ls st M Q => w_iconst (show ins 156 20 = some (.iconst 2, 1) by decide +kernel)
set_option maxRecDepth 100000 in
theorem r_156_21 : ∀ (d : Nat) (ls : Lc) (st : List Value) (M : Mem) (Q : Outcome → Mem → Prop), Wp d 156 21 ls st M Q = Wp d 156 59 ls st M Q := fun d ls st M Q => w_goto (show ins 156 21 = some (.goto 38, 3) by decide +kernel) rfl
set_option maxRecDepth 100000 in
theorem r_156_24 : ∀ (d : Nat) (l1 l2 l3 l4 : Option Value) (v : Nat) (st : List Value) (M : Mem) (Q : Outcome → Mem → Prop), Wp d 156 24 [some (.ref v), l1, l2, l3, l4] st M Q = Wp d 156 25 [some (.ref v), l1, l2, l3, l4] (.ref v :: st) M Q := fun d l1 l2 l3 l4 v st M Q => wA (show ins 156 24 = some (.aload_n 0, 1) by decide +kernel) rfl
set_option maxRecDepth 100000 in
theorem r_156_25 : ∀ (d : Nat) (l0 l1 l3 l4 : Option Value) (v : Int32) (st : List Value) (M : Mem) (Q : Outcome → Mem → Prop), Wp d 156 25 [l0, l1, some (.int v), l3, l4] st M Q = Wp d 156 26 [l0, l1, some (.int v), l3, l4] (.int v :: st) M Q := fun d l0 l1 l3 l4 v st M Q => wA (show ins 156 25 = some (.iload_n 2, 1) by decide +kernel) rfl
set_option maxRecDepth 100000 in
theorem r_156_26 : ∀ (d : Nat) (ls : Lc) (v0 : Value) (a : Nat) (st : List Value) (M : Mem) (Q : Outcome → Mem → Prop), (smallR st = true) → Wp d 156 26 ls (v0 :: .ref a :: st) M Q = (kO M a = 8 ∧ Ca d 156 26 ls 160 (.ref a :: [v0]) st M Q) := fun d ls v0 a st M Q h0 => w_virt1 (as := [v0]) (show ins 156 26 = some (.invokevirtual 155, 3) by decide +kernel) (show mRes (mC 156) 155 = some (3, 8, [(8, 160)]) by decide +kernel) (by decide +kernel) rfl (by decide +kernel) (by decide +kernel) h0
set_option maxRecDepth 100000 in
theorem r_156_29 : ∀ (d : Nat) (ls : Lc) (a : Int32) (st : List Value) (M : Mem) (Q : Outcome → Mem → Prop), Wp d 156 29 ls (.int a :: st) M Q = Br (¬ a = I 0) d 156 36 32 ls st M Q := fun d ls a st M Q => w_if (show ins 156 29 = some (.ifCond .ne 7, 3) by decide +kernel) rfl rfl
set_option maxRecDepth 100000 in
theorem r_156_32 : ∀ (d : Nat) (ls : Lc) (st : List Value) (M : Mem) (Q : Outcome → Mem → Prop), Wp d 156 32 ls st M Q = Wp d 156 33 ls (.int (I 3) :: st) M Q := fun d ls st M Q => w_iconst (show ins 156 32 = some (.iconst 3, 1) by decide +kernel)
set_option maxRecDepth 100000 in
theorem r_156_33 : ∀ (d : Nat) (ls : Lc) (st : List Value) (M : Mem) (Q : Outcome → Mem → Prop), Wp d 156 33 ls st M Q = Wp d 156 59 ls st M Q := fun d ls st M Q => w_goto (show ins 156 33 = some (.goto 26, 3) by decide +kernel) rfl
set_option maxRecDepth 100000 in
theorem r_156_36 : ∀ (d : Nat) (l1 l2 l3 l4 : Option Value) (v : Nat) (st : List Value) (M : Mem) (Q : Outcome → Mem → Prop), Wp d 156 36 [some (.ref v), l1, l2, l3, l4] st M Q = Wp d 156 37 [some (.ref v), l1, l2, l3, l4] (.ref v :: st) M Q := fun d l1 l2 l3 l4 v st M Q => wA (show ins 156 36 = some (.aload_n 0, 1) by decide +kernel) rfl
set_option maxRecDepth 100000 in
theorem r_156_37 : ∀ (d : Nat) (l0 l2 l3 l4 : Option Value) (v : Int32) (st : List Value) (M : Mem) (Q : Outcome → Mem → Prop), Wp d 156 37 [l0, some (.int v), l2, l3, l4] st M Q = Wp d 156 38 [l0, some (.int v), l2, l3, l4] (.int v :: st) M Q := fun d l0 l2 l3 l4 v st M Q => wA (show ins 156 37 = some (.iload_n 1, 1) by decide +kernel) rfl
set_option maxRecDepth 100000 in
theorem r_156_38 : ∀ (d : Nat) (l0 l1 l3 l4 : Option Value) (v : Int32) (st : List Value) (M : Mem) (Q : Outcome → Mem → Prop), Wp d 156 38 [l0, l1, some (.int v), l3, l4] st M Q = Wp d 156 39 [l0, l1, some (.int v), l3, l4] (.int v :: st) M Q := fun d l0 l1 l3 l4 v st M Q => wA (show ins 156 38 = some (.iload_n 2, 1) by decide +kernel) rfl
set_option maxRecDepth 100000 in
theorem r_156_39 : ∀ (d : Nat) (ls : Lc) (v0 v1 : Value) (a : Nat) (st : List Value) (M : Mem) (Q : Outcome → Mem → Prop), (smallR st = true) → Wp d 156 39 ls (v1 :: v0 :: .ref a :: st) M Q = (kO M a = 8 ∧ Ca d 156 39 ls 161 (.ref a :: [v0, v1]) st M Q) := fun d ls v0 v1 a st M Q h0 => w_virt1 (as := [v0, v1]) (show ins 156 39 = some (.invokevirtual 158, 3) by decide +kernel) (show mRes (mC 156) 158 = some (3, 8, [(8, 161)]) by decide +kernel) (by decide +kernel) rfl (by decide +kernel) (by decide +kernel) h0
set_option maxRecDepth 100000 in
theorem r_156_42 : ∀ (d : Nat) (ls : Lc) (a : Int32) (st : List Value) (M : Mem) (Q : Outcome → Mem → Prop), Wp d 156 42 ls (.int a :: st) M Q = Br (I 0 ≤ a) d 156 54 45 ls st M Q := fun d ls a st M Q => w_if (show ins 156 42 = some (.ifCond .ge 12, 3) by decide +kernel) rfl rfl
set_option maxRecDepth 100000 in
theorem r_156_45 : ∀ (d : Nat) (l1 l2 l3 l4 : Option Value) (v : Nat) (st : List Value) (M : Mem) (Q : Outcome → Mem → Prop), Wp d 156 45 [some (.ref v), l1, l2, l3, l4] st M Q = Wp d 156 46 [some (.ref v), l1, l2, l3, l4] (.ref v :: st) M Q := fun d l1 l2 l3 l4 v st M Q => wA (show ins 156 45 = some (.aload_n 0, 1) by decide +kernel) rfl
set_option maxRecDepth 100000 in
theorem r_156_46 : ∀ (d : Nat) (ls : Lc) (a : Nat) (st : List Value) (M : Mem) (Q : Outcome → Mem → Prop), (smallR st = true) → Wp d 156 46 ls (.ref a :: st) M Q = (kO M a = 8 ∧ Ca d 156 46 ls 165 (.ref a :: []) st M Q) := fun d ls a st M Q h0 => w_virt1 (as := []) (show ins 156 46 = some (.invokevirtual 161, 3) by decide +kernel) (show mRes (mC 156) 161 = some (3, 8, [(8, 165)]) by decide +kernel) (by decide +kernel) rfl (by decide +kernel) (by decide +kernel) h0
set_option maxRecDepth 100000 in
theorem r_156_49 : ∀ (d : Nat) (ls : Lc) (st : List Value) (M : Mem) (Q : Outcome → Mem → Prop), Wp d 156 49 ls st M Q = Wp d 156 51 ls (.int (I 60) :: st) M Q := fun d ls st M Q => w_bipush (show ins 156 49 = some (.bipush 60, 2) by decide +kernel) (by decide)
set_option maxRecDepth 100000 in
theorem r_156_51 : ∀ (d : Nat) (ls : Lc) (a b : Int32) (st : List Value) (M : Mem) (Q : Outcome → Mem → Prop), Wp d 156 51 ls (.int b :: .int a :: st) M Q = Br (¬ a = b) d 156 58 54 ls st M Q := fun d ls a b st M Q => w_icmp (show ins 156 51 = some (.if_icmp .ne 7, 3) by decide +kernel) rfl rfl
set_option maxRecDepth 100000 in
theorem r_156_54 : ∀ (d : Nat) (ls : Lc) (st : List Value) (M : Mem) (Q : Outcome → Mem → Prop), Wp d 156 54 ls st M Q = Wp d 156 55 ls (.int (I 4) :: st) M Q := fun d ls st M Q => w_iconst (show ins 156 54 = some (.iconst 4, 1) by decide +kernel)
set_option maxRecDepth 100000 in
theorem r_156_55 : ∀ (d : Nat) (ls : Lc) (st : List Value) (M : Mem) (Q : Outcome → Mem → Prop), Wp d 156 55 ls st M Q = Wp d 156 59 ls st M Q := fun d ls st M Q => w_goto (show ins 156 55 = some (.goto 4, 3) by decide +kernel) rfl
set_option maxRecDepth 100000 in
theorem r_156_58 : ∀ (d : Nat) (ls : Lc) (st : List Value) (M : Mem) (Q : Outcome → Mem → Prop), Wp d 156 58 ls st M Q = Wp d 156 59 ls (.int (I 0) :: st) M Q := fun d ls st M Q => w_iconst (show ins 156 58 = some (.iconst 0, 1) by decide +kernel)
set_option maxRecDepth 100000 in
theorem r_156_59 : ∀ (d : Nat) (ls : Lc) (a : Nat) (v : Int32) (st : List Value) (M : Mem) (Q : Outcome → Mem → Prop), Wp d 156 59 ls (.int v :: .ref a :: st) M Q = (fk 54 (kO M a) = true ∧ Wp d 156 62 ls st (sF M 54 a v) Q) := fun d ls a v st M Q => w_putI (show ins 156 59 = some (.putfield 40, 3) by decide +kernel) (show fRes (mC 156) 40 = some (54, 8, false) by decide +kernel) (by decide +kernel) (by decide +kernel)
set_option maxRecDepth 100000 in
theorem r_156_62 : ∀ (d : Nat) (l1 l2 l3 l4 : Option Value) (v : Nat) (st : List Value) (M : Mem) (Q : Outcome → Mem → Prop), Wp d 156 62 [some (.ref v), l1, l2, l3, l4] st M Q = Wp d 156 63 [some (.ref v), l1, l2, l3, l4] (.ref v :: st) M Q := fun d l1 l2 l3 l4 v st M Q => wA (show ins 156 62 = some (.aload_n 0, 1) by decide +kernel) rfl
set_option maxRecDepth 100000 in
theorem r_156_63 : ∀ (d : Nat) (ls : Lc) (a : Nat) (st : List Value) (M : Mem) (Q : Outcome → Mem → Prop), Wp d 156 63 ls (.ref a :: st) M Q = (fk 54 (kO M a) = true ∧ Wp d 156 66 ls (.int (mF M 54 a) :: st) M Q) := fun d ls a st M Q => w_getI (show ins 156 63 = some (.getfield 40, 3) by decide +kernel) (show fRes (mC 156) 40 = some (54, 8, false) by decide +kernel) (by decide +kernel)
set_option maxRecDepth 100000 in
theorem r_156_66 : ∀ (d : Nat) (ls : Lc) (a : Int32) (st : List Value) (M : Mem) (Q : Outcome → Mem → Prop), Wp d 156 66 ls (.int a :: st) M Q = Br (a ≤ I 0) d 156 71 69 ls st M Q := fun d ls a st M Q => w_if (show ins 156 66 = some (.ifCond .le 5, 3) by decide +kernel) rfl rfl
set_option maxRecDepth 100000 in
theorem r_156_69 : ∀ (d : Nat) (ls : Lc) (st : List Value) (M : Mem) (Q : Outcome → Mem → Prop), Wp d 156 69 ls st M Q = Wp d 156 70 ls (.int (I 0) :: st) M Q := fun d ls st M Q => w_iconst (show ins 156 69 = some (.iconst 0, 1) by decide +kernel)
set_option maxRecDepth 100000 in
theorem r_156_70 : ∀ (d : Nat) (ls : Lc) (v : Int32) (M : Mem) (Q : Outcome → Mem → Prop), Wp d 156 70 ls [.int v] M Q = Q (.returned (some (.int v))) M := fun d ls v M Q => w_ireturn (show ins 156 70 = some (.ireturn, 1) by decide +kernel) (by decide +kernel)
set_option maxRecDepth 100000 in
theorem r_156_71 : ∀ (d : Nat) (l1 l2 l3 l4 : Option Value) (v : Nat) (st : List Value) (M : Mem) (Q : Outcome → Mem → Prop), Wp d 156 71 [some (.ref v), l1, l2, l3, l4] st M Q = Wp d 156 72 [some (.ref v), l1, l2, l3, l4] (.ref v :: st) M Q := fun d l1 l2 l3 l4 v st M Q => wA (show ins 156 71 = some (.aload_n 0, 1) by decide +kernel) rfl
set_option maxRecDepth 100000 in
theorem r_156_72 : ∀ (d : Nat) (ls : Lc) (a : Nat) (st : List Value) (M : Mem) (Q : Outcome → Mem → Prop), (smallR st = true) → Wp d 156 72 ls (.ref a :: st) M Q = (kO M a = 8 ∧ Ca d 156 72 ls 166 (.ref a :: []) st M Q) := fun d ls a st M Q h0 => w_virt1 (as := []) (show ins 156 72 = some (.invokevirtual 164, 3) by decide +kernel) (show mRes (mC 156) 164 = some (3, 8, [(8, 166)]) by decide +kernel) (by decide +kernel) rfl (by decide +kernel) (by decide +kernel) h0
set_option maxRecDepth 100000 in
theorem r_156_75 : ∀ (d : Nat) (ls : Lc) (st : List Value) (M : Mem) (Q : Outcome → Mem → Prop), Wp d 156 75 ls st M Q = Wp d 156 76 ls (.int (I 1) :: st) M Q := fun d ls st M Q => w_iconst (show ins 156 75 = some (.iconst 1, 1) by decide +kernel)
set_option maxRecDepth 100000 in
theorem r_156_76 : ∀ (d : Nat) (l0 l1 l2 l3 l4 : Option Value) (v : Int32) (st : List Value) (M : Mem) (Q : Outcome → Mem → Prop), (lo l3 = false) → Wp d 156 76 [l0, l1, l2, l3, l4] (.int v :: st) M Q = Wp d 156 78 [l0, l1, l2, l3, some (.int v)] st M Q := fun d l0 l1 l2 l3 l4 v st M Q hl => w_istore (show ins 156 76 = some (.istore 4, 2) by decide +kernel) (st1_S rfl rfl hl)
set_option maxRecDepth 100000 in
theorem r_156_78 : ∀ (d : Nat) (l1 l2 l3 l4 : Option Value) (v : Nat) (st : List Value) (M : Mem) (Q : Outcome → Mem → Prop), Wp d 156 78 [some (.ref v), l1, l2, l3, l4] st M Q = Wp d 156 79 [some (.ref v), l1, l2, l3, l4] (.ref v :: st) M Q := fun d l1 l2 l3 l4 v st M Q => wA (show ins 156 78 = some (.aload_n 0, 1) by decide +kernel) rfl
set_option maxRecDepth 100000 in
theorem r_156_79 : ∀ (d : Nat) (ls : Lc) (a : Nat) (st : List Value) (M : Mem) (Q : Outcome → Mem → Prop), Wp d 156 79 ls (.ref a :: st) M Q = (fk 53 (kO M a) = true ∧ Wp d 156 82 ls (va_rf (mR M 53 a) :: st) M Q) := fun d ls a st M Q => w_getR (show ins 156 79 = some (.getfield 7, 3) by decide +kernel) (show fRes (mC 156) 7 = some (53, 8, false) by decide +kernel) (by decide +kernel)
set_option maxRecDepth 100000 in
theorem r_156_82 : ∀ (d : Nat) (ls : Lc) (st : List Value) (M : Mem) (Q : Outcome → Mem → Prop), Wp d 156 82 ls st M Q = Wp d 156 84 ls (.int (I 96) :: st) M Q := fun d ls st M Q => w_bipush (show ins 156 82 = some (.bipush 96, 2) by decide +kernel) (by decide)
set_option maxRecDepth 100000 in
theorem r_156_84 : ∀ (d : Nat) (l0 l1 l2 l3 : Option Value) (v : Int32) (st : List Value) (M : Mem) (Q : Outcome → Mem → Prop), Wp d 156 84 [l0, l1, l2, l3, some (.int v)] st M Q = Wp d 156 86 [l0, l1, l2, l3, some (.int v)] (.int v :: st) M Q := fun d l0 l1 l2 l3 v st M Q => wA (show ins 156 84 = some (.iload 4, 2) by decide +kernel) rfl
set_option maxRecDepth 100000 in
theorem r_156_86 : ∀ (d : Nat) (ls : Lc) (a b : Int) (st : List Value) (M : Mem) (Q : Outcome → Mem → Prop), Wp d 156 86 ls (.int (I b) :: .int (I a) :: st) M Q = Wp d 156 87 ls (.int (I (a + b)) :: st) M Q := fun d ls a b st M Q => w_iadd (show ins 156 86 = some (.iadd, 1) by decide +kernel)
set_option maxRecDepth 100000 in
theorem r_156_87 : ∀ (d : Nat) (ls : Lc) (a : Nat) (j : Int32) (st : List Value) (M : Mem) (Q : Outcome → Mem → Prop), Wp d 156 87 ls (.int j :: .ref a :: st) M Q = ((((kX M a).1 = 0 ∨ (kX M a).1 = 8) ∧ inB j (kX M a).2 = true) ∧ Wp d 156 88 ls (.int (mA M a j.toNatClampNeg) :: st) M Q) := fun d ls a j st M Q => w_iaload (show ins 156 87 = some (.iaload, 1) by decide +kernel)
set_option maxRecDepth 100000 in
theorem r_156_88 : ∀ (d : Nat) (ls : Lc) (a : Int32) (st : List Value) (M : Mem) (Q : Outcome → Mem → Prop), Wp d 156 88 ls (.int a :: st) M Q = Br (a ≤ I 0) d 156 97 91 ls st M Q := fun d ls a st M Q => w_if (show ins 156 88 = some (.ifCond .le 9, 3) by decide +kernel) rfl rfl
set_option maxRecDepth 100000 in
theorem r_156_91 : ∀ (d : Nat) (l0 l1 l2 l3 : Option Value) (z : Int) (st : List Value) (M : Mem) (Q : Outcome → Mem → Prop), (lo l3 = false) → Wp d 156 91 [l0, l1, l2, l3, some (.int (I z))] st M Q = Wp d 156 94 [l0, l1, l2, l3, some (.int (I (z + 1)))] st M Q := fun d l0 l1 l2 l3 z st M Q hl => w_iinc (show ins 156 91 = some (.iinc 4 1, 3) by decide +kernel) rfl (st1_S rfl rfl hl)
set_option maxRecDepth 100000 in
theorem r_156_94 : ∀ (d : Nat) (ls : Lc) (st : List Value) (M : Mem) (Q : Outcome → Mem → Prop), Wp d 156 94 ls st M Q = Wp d 156 78 ls st M Q := fun d ls st M Q => w_goto (show ins 156 94 = some (.goto (-16), 3) by decide +kernel) rfl
set_option maxRecDepth 100000 in
theorem r_156_97 : ∀ (d : Nat) (l1 l2 l3 l4 : Option Value) (v : Nat) (st : List Value) (M : Mem) (Q : Outcome → Mem → Prop), Wp d 156 97 [some (.ref v), l1, l2, l3, l4] st M Q = Wp d 156 98 [some (.ref v), l1, l2, l3, l4] (.ref v :: st) M Q := fun d l1 l2 l3 l4 v st M Q => wA (show ins 156 97 = some (.aload_n 0, 1) by decide +kernel) rfl
set_option maxRecDepth 100000 in
theorem r_156_98 : ∀ (d : Nat) (ls : Lc) (a : Nat) (st : List Value) (M : Mem) (Q : Outcome → Mem → Prop), Wp d 156 98 ls (.ref a :: st) M Q = (fk 53 (kO M a) = true ∧ Wp d 156 101 ls (va_rf (mR M 53 a) :: st) M Q) := fun d ls a st M Q => w_getR (show ins 156 98 = some (.getfield 7, 3) by decide +kernel) (show fRes (mC 156) 7 = some (53, 8, false) by decide +kernel) (by decide +kernel)
set_option maxRecDepth 100000 in
theorem r_156_101 : ∀ (d : Nat) (ls : Lc) (st : List Value) (M : Mem) (Q : Outcome → Mem → Prop), Wp d 156 101 ls st M Q = Wp d 156 103 ls (.int (I 96) :: st) M Q := fun d ls st M Q => w_bipush (show ins 156 101 = some (.bipush 96, 2) by decide +kernel) (by decide)
set_option maxRecDepth 100000 in
theorem r_156_103 : ∀ (d : Nat) (l0 l1 l2 l3 : Option Value) (v : Int32) (st : List Value) (M : Mem) (Q : Outcome → Mem → Prop), Wp d 156 103 [l0, l1, l2, l3, some (.int v)] st M Q = Wp d 156 105 [l0, l1, l2, l3, some (.int v)] (.int v :: st) M Q := fun d l0 l1 l2 l3 v st M Q => wA (show ins 156 103 = some (.iload 4, 2) by decide +kernel) rfl
set_option maxRecDepth 100000 in
theorem r_156_105 : ∀ (d : Nat) (ls : Lc) (a b : Int) (st : List Value) (M : Mem) (Q : Outcome → Mem → Prop), Wp d 156 105 ls (.int (I b) :: .int (I a) :: st) M Q = Wp d 156 106 ls (.int (I (a + b)) :: st) M Q := fun d ls a b st M Q => w_iadd (show ins 156 105 = some (.iadd, 1) by decide +kernel)
set_option maxRecDepth 100000 in
theorem r_156_106 : ∀ (d : Nat) (l0 l1 l2 l4 : Option Value) (v : Int32) (st : List Value) (M : Mem) (Q : Outcome → Mem → Prop), Wp d 156 106 [l0, l1, l2, some (.int v), l4] st M Q = Wp d 156 107 [l0, l1, l2, some (.int v), l4] (.int v :: st) M Q := fun d l0 l1 l2 l4 v st M Q => wA (show ins 156 106 = some (.iload_n 3, 1) by decide +kernel) rfl
set_option maxRecDepth 100000 in
theorem r_156_107 : ∀ (d : Nat) (ls : Lc) (a : Int32) (st : List Value) (M : Mem) (Q : Outcome → Mem → Prop), Wp d 156 107 ls (.int a :: st) M Q = Br (a = I 0) d 156 114 110 ls st M Q := fun d ls a st M Q => w_if (show ins 156 107 = some (.ifCond .eq 7, 3) by decide +kernel) rfl rfl
set_option maxRecDepth 100000 in
theorem r_156_110 : ∀ (d : Nat) (ls : Lc) (st : List Value) (M : Mem) (Q : Outcome → Mem → Prop), Wp d 156 110 ls st M Q = Wp d 156 111 ls (.int (I 1) :: st) M Q := fun d ls st M Q => w_iconst (show ins 156 110 = some (.iconst 1, 1) by decide +kernel)
set_option maxRecDepth 100000 in
theorem r_156_111 : ∀ (d : Nat) (ls : Lc) (st : List Value) (M : Mem) (Q : Outcome → Mem → Prop), Wp d 156 111 ls st M Q = Wp d 156 115 ls st M Q := fun d ls st M Q => w_goto (show ins 156 111 = some (.goto 4, 3) by decide +kernel) rfl
set_option maxRecDepth 100000 in
theorem r_156_114 : ∀ (d : Nat) (ls : Lc) (st : List Value) (M : Mem) (Q : Outcome → Mem → Prop), Wp d 156 114 ls st M Q = Wp d 156 115 ls (.int (I 2) :: st) M Q := fun d ls st M Q => w_iconst (show ins 156 114 = some (.iconst 2, 1) by decide +kernel)
set_option maxRecDepth 100000 in
theorem r_156_115 : ∀ (d : Nat) (ls : Lc) (a : Nat) (j v : Int32) (st : List Value) (M : Mem) (Q : Outcome → Mem → Prop), Wp d 156 115 ls (.int v :: .int j :: .ref a :: st) M Q = (((kX M a).1 = 0 ∧ inB j (kX M a).2 = true) ∧ Wp d 156 116 ls st (sA M a j.toNatClampNeg v) Q) := fun d ls a j v st M Q => w_iastore (show ins 156 115 = some (.iastore, 1) by decide +kernel)
set_option maxRecDepth 100000 in
theorem r_156_116 : ∀ (d : Nat) (l1 l2 l3 l4 : Option Value) (v : Nat) (st : List Value) (M : Mem) (Q : Outcome → Mem → Prop), Wp d 156 116 [some (.ref v), l1, l2, l3, l4] st M Q = Wp d 156 117 [some (.ref v), l1, l2, l3, l4] (.ref v :: st) M Q := fun d l1 l2 l3 l4 v st M Q => wA (show ins 156 116 = some (.aload_n 0, 1) by decide +kernel) rfl
set_option maxRecDepth 100000 in
theorem r_156_117 : ∀ (d : Nat) (ls : Lc) (a : Nat) (st : List Value) (M : Mem) (Q : Outcome → Mem → Prop), Wp d 156 117 ls (.ref a :: st) M Q = (fk 53 (kO M a) = true ∧ Wp d 156 120 ls (va_rf (mR M 53 a) :: st) M Q) := fun d ls a st M Q => w_getR (show ins 156 117 = some (.getfield 7, 3) by decide +kernel) (show fRes (mC 156) 7 = some (53, 8, false) by decide +kernel) (by decide +kernel)
set_option maxRecDepth 100000 in
theorem r_156_120 : ∀ (d : Nat) (ls : Lc) (st : List Value) (M : Mem) (Q : Outcome → Mem → Prop), Wp d 156 120 ls st M Q = Wp d 156 123 ls (.int (I 157) :: st) M Q := fun d ls st M Q => w_sipush (show ins 156 120 = some (.sipush 157, 3) by decide +kernel) (by decide)
set_option maxRecDepth 100000 in
theorem r_156_123 : ∀ (d : Nat) (l0 l1 l2 l3 : Option Value) (v : Int32) (st : List Value) (M : Mem) (Q : Outcome → Mem → Prop), Wp d 156 123 [l0, l1, l2, l3, some (.int v)] st M Q = Wp d 156 125 [l0, l1, l2, l3, some (.int v)] (.int v :: st) M Q := fun d l0 l1 l2 l3 v st M Q => wA (show ins 156 123 = some (.iload 4, 2) by decide +kernel) rfl
set_option maxRecDepth 100000 in
theorem r_156_125 : ∀ (d : Nat) (ls : Lc) (a b : Int) (st : List Value) (M : Mem) (Q : Outcome → Mem → Prop), Wp d 156 125 ls (.int (I b) :: .int (I a) :: st) M Q = Wp d 156 126 ls (.int (I (a + b)) :: st) M Q := fun d ls a b st M Q => w_iadd (show ins 156 125 = some (.iadd, 1) by decide +kernel)
set_option maxRecDepth 100000 in
theorem r_156_126 : ∀ (d : Nat) (ls : Lc) (st : List Value) (M : Mem) (Q : Outcome → Mem → Prop), Wp d 156 126 ls st M Q = Wp d 156 127 ls (.int (I 1) :: st) M Q := fun d ls st M Q => w_iconst (show ins 156 126 = some (.iconst 1, 1) by decide +kernel)
set_option maxRecDepth 100000 in
theorem r_156_127 : ∀ (d : Nat) (ls : Lc) (a : Nat) (j v : Int32) (st : List Value) (M : Mem) (Q : Outcome → Mem → Prop), Wp d 156 127 ls (.int v :: .int j :: .ref a :: st) M Q = (((kX M a).1 = 0 ∧ inB j (kX M a).2 = true) ∧ Wp d 156 128 ls st (sA M a j.toNatClampNeg v) Q) := fun d ls a j v st M Q => w_iastore (show ins 156 127 = some (.iastore, 1) by decide +kernel)
set_option maxRecDepth 100000 in
theorem r_156_128 : ∀ (d : Nat) (l1 l2 l3 l4 : Option Value) (v : Nat) (st : List Value) (M : Mem) (Q : Outcome → Mem → Prop), Wp d 156 128 [some (.ref v), l1, l2, l3, l4] st M Q = Wp d 156 129 [some (.ref v), l1, l2, l3, l4] (.ref v :: st) M Q := fun d l1 l2 l3 l4 v st M Q => wA (show ins 156 128 = some (.aload_n 0, 1) by decide +kernel) rfl
set_option maxRecDepth 100000 in
theorem r_156_129 : ∀ (d : Nat) (ls : Lc) (a : Nat) (st : List Value) (M : Mem) (Q : Outcome → Mem → Prop), Wp d 156 129 ls (.ref a :: st) M Q = (fk 53 (kO M a) = true ∧ Wp d 156 132 ls (va_rf (mR M 53 a) :: st) M Q) := fun d ls a st M Q => w_getR (show ins 156 129 = some (.getfield 7, 3) by decide +kernel) (show fRes (mC 156) 7 = some (53, 8, false) by decide +kernel) (by decide +kernel)
set_option maxRecDepth 100000 in
theorem r_156_132 : ∀ (d : Nat) (ls : Lc) (st : List Value) (M : Mem) (Q : Outcome → Mem → Prop), Wp d 156 132 ls st M Q = Wp d 156 135 ls (.int (I 218) :: st) M Q := fun d ls st M Q => w_sipush (show ins 156 132 = some (.sipush 218, 3) by decide +kernel) (by decide)
set_option maxRecDepth 100000 in
theorem r_156_135 : ∀ (d : Nat) (l0 l1 l2 l3 : Option Value) (v : Int32) (st : List Value) (M : Mem) (Q : Outcome → Mem → Prop), Wp d 156 135 [l0, l1, l2, l3, some (.int v)] st M Q = Wp d 156 137 [l0, l1, l2, l3, some (.int v)] (.int v :: st) M Q := fun d l0 l1 l2 l3 v st M Q => wA (show ins 156 135 = some (.iload 4, 2) by decide +kernel) rfl
set_option maxRecDepth 100000 in
theorem r_156_137 : ∀ (d : Nat) (ls : Lc) (a b : Int) (st : List Value) (M : Mem) (Q : Outcome → Mem → Prop), Wp d 156 137 ls (.int (I b) :: .int (I a) :: st) M Q = Wp d 156 138 ls (.int (I (a + b)) :: st) M Q := fun d ls a b st M Q => w_iadd (show ins 156 137 = some (.iadd, 1) by decide +kernel)
set_option maxRecDepth 100000 in
theorem r_156_138 : ∀ (d : Nat) (ls : Lc) (st : List Value) (M : Mem) (Q : Outcome → Mem → Prop), Wp d 156 138 ls st M Q = Wp d 156 139 ls (.int (I 0) :: st) M Q := fun d ls st M Q => w_iconst (show ins 156 138 = some (.iconst 0, 1) by decide +kernel)
set_option maxRecDepth 100000 in
theorem r_156_139 : ∀ (d : Nat) (ls : Lc) (a : Nat) (j v : Int32) (st : List Value) (M : Mem) (Q : Outcome → Mem → Prop), Wp d 156 139 ls (.int v :: .int j :: .ref a :: st) M Q = (((kX M a).1 = 0 ∧ inB j (kX M a).2 = true) ∧ Wp d 156 140 ls st (sA M a j.toNatClampNeg v) Q) := fun d ls a j v st M Q => w_iastore (show ins 156 139 = some (.iastore, 1) by decide +kernel)
set_option maxRecDepth 100000 in
theorem r_156_140 : ∀ (d : Nat) (l1 l2 l3 l4 : Option Value) (v : Nat) (st : List Value) (M : Mem) (Q : Outcome → Mem → Prop), Wp d 156 140 [some (.ref v), l1, l2, l3, l4] st M Q = Wp d 156 141 [some (.ref v), l1, l2, l3, l4] (.ref v :: st) M Q := fun d l1 l2 l3 l4 v st M Q => wA (show ins 156 140 = some (.aload_n 0, 1) by decide +kernel) rfl
set_option maxRecDepth 100000 in
theorem r_156_141 : ∀ (d : Nat) (ls : Lc) (a : Nat) (st : List Value) (M : Mem) (Q : Outcome → Mem → Prop), Wp d 156 141 ls (.ref a :: st) M Q = (fk 53 (kO M a) = true ∧ Wp d 156 144 ls (va_rf (mR M 53 a) :: st) M Q) := fun d ls a st M Q => w_getR (show ins 156 141 = some (.getfield 7, 3) by decide +kernel) (show fRes (mC 156) 7 = some (53, 8, false) by decide +kernel) (by decide +kernel)
set_option maxRecDepth 100000 in
theorem r_156_144 : ∀ (d : Nat) (ls : Lc) (st : List Value) (M : Mem) (Q : Outcome → Mem → Prop), Wp d 156 144 ls st M Q = Wp d 156 147 ls (.int (I 279) :: st) M Q := fun d ls st M Q => w_sipush (show ins 156 144 = some (.sipush 279, 3) by decide +kernel) (by decide)
set_option maxRecDepth 100000 in
theorem r_156_147 : ∀ (d : Nat) (l0 l1 l2 l3 : Option Value) (v : Int32) (st : List Value) (M : Mem) (Q : Outcome → Mem → Prop), Wp d 156 147 [l0, l1, l2, l3, some (.int v)] st M Q = Wp d 156 149 [l0, l1, l2, l3, some (.int v)] (.int v :: st) M Q := fun d l0 l1 l2 l3 v st M Q => wA (show ins 156 147 = some (.iload 4, 2) by decide +kernel) rfl
set_option maxRecDepth 100000 in
theorem r_156_149 : ∀ (d : Nat) (ls : Lc) (a b : Int) (st : List Value) (M : Mem) (Q : Outcome → Mem → Prop), Wp d 156 149 ls (.int (I b) :: .int (I a) :: st) M Q = Wp d 156 150 ls (.int (I (a + b)) :: st) M Q := fun d ls a b st M Q => w_iadd (show ins 156 149 = some (.iadd, 1) by decide +kernel)
set_option maxRecDepth 100000 in
theorem r_156_150 : ∀ (d : Nat) (ls : Lc) (st : List Value) (M : Mem) (Q : Outcome → Mem → Prop), Wp d 156 150 ls st M Q = Wp d 156 151 ls (.int (I 0) :: st) M Q := fun d ls st M Q => w_iconst (show ins 156 150 = some (.iconst 0, 1) by decide +kernel)
set_option maxRecDepth 100000 in
theorem r_156_151 : ∀ (d : Nat) (ls : Lc) (a : Nat) (j v : Int32) (st : List Value) (M : Mem) (Q : Outcome → Mem → Prop), Wp d 156 151 ls (.int v :: .int j :: .ref a :: st) M Q = (((kX M a).1 = 0 ∧ inB j (kX M a).2 = true) ∧ Wp d 156 152 ls st (sA M a j.toNatClampNeg v) Q) := fun d ls a j v st M Q => w_iastore (show ins 156 151 = some (.iastore, 1) by decide +kernel)
set_option maxRecDepth 100000 in
theorem r_156_152 : ∀ (d : Nat) (l1 l2 l3 l4 : Option Value) (v : Nat) (st : List Value) (M : Mem) (Q : Outcome → Mem → Prop), Wp d 156 152 [some (.ref v), l1, l2, l3, l4] st M Q = Wp d 156 153 [some (.ref v), l1, l2, l3, l4] (.ref v :: st) M Q := fun d l1 l2 l3 l4 v st M Q => wA (show ins 156 152 = some (.aload_n 0, 1) by decide +kernel) rfl
set_option maxRecDepth 100000 in
theorem r_156_153 : ∀ (d : Nat) (l0 l1 l2 l3 : Option Value) (v : Int32) (st : List Value) (M : Mem) (Q : Outcome → Mem → Prop), Wp d 156 153 [l0, l1, l2, l3, some (.int v)] st M Q = Wp d 156 155 [l0, l1, l2, l3, some (.int v)] (.int v :: st) M Q := fun d l0 l1 l2 l3 v st M Q => wA (show ins 156 153 = some (.iload 4, 2) by decide +kernel) rfl
set_option maxRecDepth 100000 in
theorem r_156_155 : ∀ (d : Nat) (ls : Lc) (st : List Value) (M : Mem) (Q : Outcome → Mem → Prop), Wp d 156 155 ls st M Q = Wp d 156 156 ls (.int (I 0) :: st) M Q := fun d ls st M Q => w_iconst (show ins 156 155 = some (.iconst 0, 1) by decide +kernel)
set_option maxRecDepth 100000 in
theorem r_156_156 : ∀ (d : Nat) (ls : Lc) (st : List Value) (M : Mem) (Q : Outcome → Mem → Prop), Wp d 156 156 ls st M Q = Wp d 156 157 ls (.int (I 0) :: st) M Q := fun d ls st M Q => w_iconst (show ins 156 156 = some (.iconst 0, 1) by decide +kernel)
set_option maxRecDepth 100000 in
theorem r_156_157 : ∀ (d : Nat) (ls : Lc) (st : List Value) (M : Mem) (Q : Outcome → Mem → Prop), Wp d 156 157 ls st M Q = Wp d 156 159 ls (.int (I 6) :: st) M Q := fun d ls st M Q => w_bipush (show ins 156 157 = some (.bipush 6, 2) by decide +kernel) (by decide)
set_option maxRecDepth 100000 in
theorem r_156_159 : ∀ (d : Nat) (ls : Lc) (st : List Value) (M : Mem) (Q : Outcome → Mem → Prop), Wp d 156 159 ls st M Q = Wp d 156 160 ls (.int (I 0) :: st) M Q := fun d ls st M Q => w_iconst (show ins 156 159 = some (.iconst 0, 1) by decide +kernel)
set_option maxRecDepth 100000 in
theorem r_156_160 : ∀ (d : Nat) (ls : Lc) (v0 v1 v2 v3 v4 : Value) (a : Nat) (st : List Value) (M : Mem) (Q : Outcome → Mem → Prop), (smallR st = true) → Wp d 156 160 ls (v4 :: v3 :: v2 :: v1 :: v0 :: .ref a :: st) M Q = (kO M a = 8 ∧ Ca d 156 160 ls 167 (.ref a :: [v0, v1, v2, v3, v4]) st M Q) := fun d ls v0 v1 v2 v3 v4 a st M Q h0 => w_virt1 (as := [v0, v1, v2, v3, v4]) (show ins 156 160 = some (.invokevirtual 130, 3) by decide +kernel) (show mRes (mC 156) 130 = some (3, 8, [(8, 167)]) by decide +kernel) (by decide +kernel) rfl (by decide +kernel) (by decide +kernel) h0
set_option maxRecDepth 100000 in
theorem r_156_163 : ∀ (d : Nat) (l1 l2 l3 l4 : Option Value) (v : Nat) (st : List Value) (M : Mem) (Q : Outcome → Mem → Prop), Wp d 156 163 [some (.ref v), l1, l2, l3, l4] st M Q = Wp d 156 164 [some (.ref v), l1, l2, l3, l4] (.ref v :: st) M Q := fun d l1 l2 l3 l4 v st M Q => wA (show ins 156 163 = some (.aload_n 0, 1) by decide +kernel) rfl
set_option maxRecDepth 100000 in
theorem r_156_164 : ∀ (d : Nat) (ls : Lc) (a : Nat) (st : List Value) (M : Mem) (Q : Outcome → Mem → Prop), Wp d 156 164 ls (.ref a :: st) M Q = (fk 47 (kO M a) = true ∧ Wp d 156 167 ls (.int (mF M 47 a) :: st) M Q) := fun d ls a st M Q => w_getI (show ins 156 164 = some (.getfield 51, 3) by decide +kernel) (show fRes (mC 156) 51 = some (47, 8, false) by decide +kernel) (by decide +kernel)
set_option maxRecDepth 100000 in
theorem r_156_167 : ∀ (d : Nat) (ls : Lc) (a : Int32) (st : List Value) (M : Mem) (Q : Outcome → Mem → Prop), Wp d 156 167 ls (.int a :: st) M Q = Br (¬ a = I 0) d 156 180 170 ls st M Q := fun d ls a st M Q => w_if (show ins 156 167 = some (.ifCond .ne 13, 3) by decide +kernel) rfl rfl
set_option maxRecDepth 100000 in
theorem r_156_170 : ∀ (d : Nat) (l1 l2 l3 l4 : Option Value) (v : Nat) (st : List Value) (M : Mem) (Q : Outcome → Mem → Prop), Wp d 156 170 [some (.ref v), l1, l2, l3, l4] st M Q = Wp d 156 171 [some (.ref v), l1, l2, l3, l4] (.ref v :: st) M Q := fun d l1 l2 l3 l4 v st M Q => wA (show ins 156 170 = some (.aload_n 0, 1) by decide +kernel) rfl
set_option maxRecDepth 100000 in
theorem r_156_171 : ∀ (d : Nat) (l0 l2 l3 l4 : Option Value) (v : Int32) (st : List Value) (M : Mem) (Q : Outcome → Mem → Prop), Wp d 156 171 [l0, some (.int v), l2, l3, l4] st M Q = Wp d 156 172 [l0, some (.int v), l2, l3, l4] (.int v :: st) M Q := fun d l0 l2 l3 l4 v st M Q => wA (show ins 156 171 = some (.iload_n 1, 1) by decide +kernel) rfl
set_option maxRecDepth 100000 in
theorem r_156_172 : ∀ (d : Nat) (ls : Lc) (st : List Value) (M : Mem) (Q : Outcome → Mem → Prop), Wp d 156 172 ls st M Q = Wp d 156 173 ls (.int (I 1) :: st) M Q := fun d ls st M Q => w_iconst (show ins 156 172 = some (.iconst 1, 1) by decide +kernel)
set_option maxRecDepth 100000 in
theorem r_156_173 : ∀ (d : Nat) (l0 l1 l3 l4 : Option Value) (v : Int32) (st : List Value) (M : Mem) (Q : Outcome → Mem → Prop), Wp d 156 173 [l0, l1, some (.int v), l3, l4] st M Q = Wp d 156 174 [l0, l1, some (.int v), l3, l4] (.int v :: st) M Q := fun d l0 l1 l3 l4 v st M Q => wA (show ins 156 173 = some (.iload_n 2, 1) by decide +kernel) rfl
set_option maxRecDepth 100000 in
theorem r_156_174 : ∀ (d : Nat) (ls : Lc) (st : List Value) (M : Mem) (Q : Outcome → Mem → Prop), Wp d 156 174 ls st M Q = Wp d 156 175 ls (.int (I 3) :: st) M Q := fun d ls st M Q => w_iconst (show ins 156 174 = some (.iconst 3, 1) by decide +kernel)
set_option maxRecDepth 100000 in
theorem r_156_175 : ∀ (d : Nat) (l0 l1 l2 l3 : Option Value) (v : Int32) (st : List Value) (M : Mem) (Q : Outcome → Mem → Prop), Wp d 156 175 [l0, l1, l2, l3, some (.int v)] st M Q = Wp d 156 177 [l0, l1, l2, l3, some (.int v)] (.int v :: st) M Q := fun d l0 l1 l2 l3 v st M Q => wA (show ins 156 175 = some (.iload 4, 2) by decide +kernel) rfl
set_option maxRecDepth 100000 in
theorem r_156_177 : ∀ (d : Nat) (ls : Lc) (v0 v1 v2 v3 v4 : Value) (a : Nat) (st : List Value) (M : Mem) (Q : Outcome → Mem → Prop), (smallR st = true) → Wp d 156 177 ls (v4 :: v3 :: v2 :: v1 :: v0 :: .ref a :: st) M Q = (kO M a = 8 ∧ Ca d 156 177 ls 167 (.ref a :: [v0, v1, v2, v3, v4]) st M Q) := fun d ls v0 v1 v2 v3 v4 a st M Q h0 => w_virt1 (as := [v0, v1, v2, v3, v4]) (show ins 156 177 = some (.invokevirtual 130, 3) by decide +kernel) (show mRes (mC 156) 130 = some (3, 8, [(8, 167)]) by decide +kernel) (by decide +kernel) rfl (by decide +kernel) (by decide +kernel) h0
set_option maxRecDepth 100000 in
theorem r_156_180 : ∀ (d : Nat) (l1 l2 l3 l4 : Option Value) (v : Nat) (st : List Value) (M : Mem) (Q : Outcome → Mem → Prop), Wp d 156 180 [some (.ref v), l1, l2, l3, l4] st M Q = Wp d 156 181 [some (.ref v), l1, l2, l3, l4] (.ref v :: st) M Q := fun d l1 l2 l3 l4 v st M Q => wA (show ins 156 180 = some (.aload_n 0, 1) by decide +kernel) rfl
set_option maxRecDepth 100000 in
theorem r_156_181 : ∀ (d : Nat) (ls : Lc) (a : Nat) (st : List Value) (M : Mem) (Q : Outcome → Mem → Prop), Wp d 156 181 ls (.ref a :: st) M Q = (fk 53 (kO M a) = true ∧ Wp d 156 184 ls (va_rf (mR M 53 a) :: st) M Q) := fun d ls a st M Q => w_getR (show ins 156 181 = some (.getfield 7, 3) by decide +kernel) (show fRes (mC 156) 7 = some (53, 8, false) by decide +kernel) (by decide +kernel)
set_option maxRecDepth 100000 in
theorem r_156_184 : ∀ (d : Nat) (ls : Lc) (st : List Value) (M : Mem) (Q : Outcome → Mem → Prop), Wp d 156 184 ls st M Q = Wp d 156 187 ls (.int (I 218) :: st) M Q := fun d ls st M Q => w_sipush (show ins 156 184 = some (.sipush 218, 3) by decide +kernel) (by decide)
set_option maxRecDepth 100000 in
theorem r_156_187 : ∀ (d : Nat) (l0 l2 l3 l4 : Option Value) (v : Int32) (st : List Value) (M : Mem) (Q : Outcome → Mem → Prop), Wp d 156 187 [l0, some (.int v), l2, l3, l4] st M Q = Wp d 156 188 [l0, some (.int v), l2, l3, l4] (.int v :: st) M Q := fun d l0 l2 l3 l4 v st M Q => wA (show ins 156 187 = some (.iload_n 1, 1) by decide +kernel) rfl
set_option maxRecDepth 100000 in
theorem r_156_188 : ∀ (d : Nat) (ls : Lc) (a b : Int) (st : List Value) (M : Mem) (Q : Outcome → Mem → Prop), Wp d 156 188 ls (.int (I b) :: .int (I a) :: st) M Q = Wp d 156 189 ls (.int (I (a + b)) :: st) M Q := fun d ls a b st M Q => w_iadd (show ins 156 188 = some (.iadd, 1) by decide +kernel)
set_option maxRecDepth 100000 in
theorem r_156_189 : ∀ (d : Nat) (ls : Lc) (v : Int32) (a : Nat) (st : List Value) (M : Mem) (Q : Outcome → Mem → Prop), Wp d 156 189 ls (.int v :: .ref a :: st) M Q = Wp d 156 190 ls (.int v :: .ref a :: .int v :: .ref a :: st) M Q := fun d ls v a st M Q => wA (show ins 156 189 = some (.dup2, 1) by decide +kernel) rfl
set_option maxRecDepth 100000 in
theorem r_156_190 : ∀ (d : Nat) (ls : Lc) (a : Nat) (j : Int32) (st : List Value) (M : Mem) (Q : Outcome → Mem → Prop), Wp d 156 190 ls (.int j :: .ref a :: st) M Q = ((((kX M a).1 = 0 ∨ (kX M a).1 = 8) ∧ inB j (kX M a).2 = true) ∧ Wp d 156 191 ls (.int (mA M a j.toNatClampNeg) :: st) M Q) := fun d ls a j st M Q => w_iaload (show ins 156 190 = some (.iaload, 1) by decide +kernel)
set_option maxRecDepth 100000 in
theorem r_156_191 : ∀ (d : Nat) (ls : Lc) (st : List Value) (M : Mem) (Q : Outcome → Mem → Prop), Wp d 156 191 ls st M Q = Wp d 156 192 ls (.int (I 1) :: st) M Q := fun d ls st M Q => w_iconst (show ins 156 191 = some (.iconst 1, 1) by decide +kernel)
set_option maxRecDepth 100000 in
theorem r_156_192 : ∀ (d : Nat) (ls : Lc) (a b : Int) (st : List Value) (M : Mem) (Q : Outcome → Mem → Prop), Wp d 156 192 ls (.int (I b) :: .int (I a) :: st) M Q = Wp d 156 193 ls (.int (I (a + b)) :: st) M Q := fun d ls a b st M Q => w_iadd (show ins 156 192 = some (.iadd, 1) by decide +kernel)
set_option maxRecDepth 100000 in
theorem r_156_193 : ∀ (d : Nat) (ls : Lc) (a : Nat) (j v : Int32) (st : List Value) (M : Mem) (Q : Outcome → Mem → Prop), Wp d 156 193 ls (.int v :: .int j :: .ref a :: st) M Q = (((kX M a).1 = 0 ∧ inB j (kX M a).2 = true) ∧ Wp d 156 194 ls st (sA M a j.toNatClampNeg v) Q) := fun d ls a j v st M Q => w_iastore (show ins 156 193 = some (.iastore, 1) by decide +kernel)
set_option maxRecDepth 100000 in
theorem r_156_194 : ∀ (d : Nat) (l1 l2 l3 l4 : Option Value) (v : Nat) (st : List Value) (M : Mem) (Q : Outcome → Mem → Prop), Wp d 156 194 [some (.ref v), l1, l2, l3, l4] st M Q = Wp d 156 195 [some (.ref v), l1, l2, l3, l4] (.ref v :: st) M Q := fun d l1 l2 l3 l4 v st M Q => wA (show ins 156 194 = some (.aload_n 0, 1) by decide +kernel) rfl
set_option maxRecDepth 100000 in
theorem r_156_195 : ∀ (d : Nat) (ls : Lc) (st : List Value) (M : Mem) (Q : Outcome → Mem → Prop), Wp d 156 195 ls st M Q = Wp d 156 196 ls (.int (I 4) :: st) M Q := fun d ls st M Q => w_iconst (show ins 156 195 = some (.iconst 4, 1) by decide +kernel)
set_option maxRecDepth 100000 in
theorem r_156_196 : ∀ (d : Nat) (ls : Lc) (v0 : Value) (a : Nat) (st : List Value) (M : Mem) (Q : Outcome → Mem → Prop), (smallR st = true) → Wp d 156 196 ls (v0 :: .ref a :: st) M Q = (kO M a = 8 ∧ Ca d 156 196 ls 183 (.ref a :: [v0]) st M Q) := fun d ls v0 a st M Q h0 => w_virt1 (as := [v0]) (show ins 156 196 = some (.invokevirtual 167, 3) by decide +kernel) (show mRes (mC 156) 167 = some (3, 8, [(8, 183)]) by decide +kernel) (by decide +kernel) rfl (by decide +kernel) (by decide +kernel) h0
set_option maxRecDepth 100000 in
theorem r_156_199 : ∀ (d : Nat) (ls : Lc) (a : Int32) (st : List Value) (M : Mem) (Q : Outcome → Mem → Prop), Wp d 156 199 ls (.int a :: st) M Q = Br (a = I 0) d 156 207 202 ls st M Q := fun d ls a st M Q => w_if (show ins 156 199 = some (.ifCond .eq 8, 3) by decide +kernel) rfl rfl
set_option maxRecDepth 100000 in
theorem r_156_202 : ∀ (d : Nat) (l0 l1 l2 l3 : Option Value) (v : Int32) (st : List Value) (M : Mem) (Q : Outcome → Mem → Prop), Wp d 156 202 [l0, l1, l2, l3, some (.int v)] st M Q = Wp d 156 204 [l0, l1, l2, l3, some (.int v)] (.int v :: st) M Q := fun d l0 l1 l2 l3 v st M Q => wA (show ins 156 202 = some (.iload 4, 2) by decide +kernel) rfl
set_option maxRecDepth 100000 in
theorem r_156_204 : ∀ (d : Nat) (ls : Lc) (st : List Value) (M : Mem) (Q : Outcome → Mem → Prop), Wp d 156 204 ls st M Q = Wp d 156 208 ls st M Q := fun d ls st M Q => w_goto (show ins 156 204 = some (.goto 4, 3) by decide +kernel) rfl
set_option maxRecDepth 100000 in
theorem r_156_207 : ∀ (d : Nat) (ls : Lc) (st : List Value) (M : Mem) (Q : Outcome → Mem → Prop), Wp d 156 207 ls st M Q = Wp d 156 208 ls (.int (I 0) :: st) M Q := fun d ls st M Q => w_iconst (show ins 156 207 = some (.iconst 0, 1) by decide +kernel)
set_option maxRecDepth 100000 in
theorem r_156_208 : ∀ (d : Nat) (ls : Lc) (v : Int32) (M : Mem) (Q : Outcome → Mem → Prop), Wp d 156 208 ls [.int v] M Q = Q (.returned (some (.int v))) M := fun d ls v M Q => w_ireturn (show ins 156 208 = some (.ireturn, 1) by decide +kernel) (by decide +kernel)
set_option maxRecDepth 100000 in
theorem w_156_78 : (type_of% r_156_78) := r_156_78
set_option maxRecDepth 100000 in
theorem W_156 : (type_of% r_156_0) ∧ (type_of% r_156_1) ∧ (type_of% r_156_2) ∧ (type_of% r_156_5) ∧ (type_of% r_156_8) ∧ (type_of% r_156_9) ∧ (type_of% r_156_12) ∧ (type_of% r_156_13) ∧ (type_of% r_156_14) ∧ (type_of% r_156_17) ∧ (type_of% r_156_20) ∧ (type_of% r_156_21) ∧ (type_of% r_156_24) ∧ (type_of% r_156_25) ∧ (type_of% r_156_26) ∧ (type_of% r_156_29) ∧ (type_of% r_156_32) ∧ (type_of% r_156_33) ∧ (type_of% r_156_36) ∧ (type_of% r_156_37) ∧ (type_of% r_156_38) ∧ (type_of% r_156_39) ∧ (type_of% r_156_42) ∧ (type_of% r_156_45) ∧ (type_of% r_156_46) ∧ (type_of% r_156_49) ∧ (type_of% r_156_51) ∧ (type_of% r_156_54) ∧ (type_of% r_156_55) ∧ (type_of% r_156_58) ∧ (type_of% r_156_59) ∧ (type_of% r_156_62) ∧ (type_of% r_156_63) ∧ (type_of% r_156_66) ∧ (type_of% r_156_69) ∧ (type_of% r_156_70) ∧ (type_of% r_156_71) ∧ (type_of% r_156_72) ∧ (type_of% r_156_75) ∧ (type_of% r_156_76) ∧ (type_of% r_156_79) ∧ (type_of% r_156_82) ∧ (type_of% r_156_84) ∧ (type_of% r_156_86) ∧ (type_of% r_156_87) ∧ (type_of% r_156_88) ∧ (type_of% r_156_91) ∧ (type_of% r_156_94) ∧ (type_of% r_156_97) ∧ (type_of% r_156_98) ∧ (type_of% r_156_101) ∧ (type_of% r_156_103) ∧ (type_of% r_156_105) ∧ (type_of% r_156_106) ∧ (type_of% r_156_107) ∧ (type_of% r_156_110) ∧ (type_of% r_156_111) ∧ (type_of% r_156_114) ∧ (type_of% r_156_115) ∧ (type_of% r_156_116) ∧ (type_of% r_156_117) ∧ (type_of% r_156_120) ∧ (type_of% r_156_123) ∧ (type_of% r_156_125) ∧ (type_of% r_156_126) ∧ (type_of% r_156_127) ∧ (type_of% r_156_128) ∧ (type_of% r_156_129) ∧ (type_of% r_156_132) ∧ (type_of% r_156_135) ∧ (type_of% r_156_137) ∧ (type_of% r_156_138) ∧ (type_of% r_156_139) ∧ (type_of% r_156_140) ∧ (type_of% r_156_141) ∧ (type_of% r_156_144) ∧ (type_of% r_156_147) ∧ (type_of% r_156_149) ∧ (type_of% r_156_150) ∧ (type_of% r_156_151) ∧ (type_of% r_156_152) ∧ (type_of% r_156_153) ∧ (type_of% r_156_155) ∧ (type_of% r_156_156) ∧ (type_of% r_156_157) ∧ (type_of% r_156_159) ∧ (type_of% r_156_160) ∧ (type_of% r_156_163) ∧ (type_of% r_156_164) ∧ (type_of% r_156_167) ∧ (type_of% r_156_170) ∧ (type_of% r_156_171) ∧ (type_of% r_156_172) ∧ (type_of% r_156_173) ∧ (type_of% r_156_174) ∧ (type_of% r_156_175) ∧ (type_of% r_156_177) ∧ (type_of% r_156_180) ∧ (type_of% r_156_181) ∧ (type_of% r_156_184) ∧ (type_of% r_156_187) ∧ (type_of% r_156_188) ∧ (type_of% r_156_189) ∧ (type_of% r_156_190) ∧ (type_of% r_156_191) ∧ (type_of% r_156_192) ∧ (type_of% r_156_193) ∧ (type_of% r_156_194) ∧ (type_of% r_156_195) ∧ (type_of% r_156_196) ∧ (type_of% r_156_199) ∧ (type_of% r_156_202) ∧ (type_of% r_156_204) ∧ (type_of% r_156_207) ∧ (type_of% r_156_208) := ⟨r_156_0, r_156_1, r_156_2, r_156_5, r_156_8, r_156_9, r_156_12, r_156_13, r_156_14, r_156_17, r_156_20, r_156_21, r_156_24, r_156_25, r_156_26, r_156_29, r_156_32, r_156_33, r_156_36, r_156_37, r_156_38, r_156_39, r_156_42, r_156_45, r_156_46, r_156_49, r_156_51, r_156_54, r_156_55, r_156_58, r_156_59, r_156_62, r_156_63, r_156_66, r_156_69, r_156_70, r_156_71, r_156_72, r_156_75, r_156_76, r_156_79, r_156_82, r_156_84, r_156_86, r_156_87, r_156_88, r_156_91, r_156_94, r_156_97, r_156_98, r_156_101, r_156_103, r_156_105, r_156_106, r_156_107, r_156_110, r_156_111, r_156_114, r_156_115, r_156_116, r_156_117, r_156_120, r_156_123, r_156_125, r_156_126, r_156_127, r_156_128, r_156_129, r_156_132, r_156_135, r_156_137, r_156_138, r_156_139, r_156_140, r_156_141, r_156_144, r_156_147, r_156_149, r_156_150, r_156_151, r_156_152, r_156_153, r_156_155, r_156_156, r_156_157, r_156_159, r_156_160, r_156_163, r_156_164, r_156_167, r_156_170, r_156_171, r_156_172, r_156_173, r_156_174, r_156_175, r_156_177, r_156_180, r_156_181, r_156_184, r_156_187, r_156_188, r_156_189, r_156_190, r_156_191, r_156_192, r_156_193, r_156_194, r_156_195, r_156_196, r_156_199, r_156_202, r_156_204, r_156_207, r_156_208⟩
set_option maxRecDepth 100000 in
theorem ca_156 {d y pc : Nat} {ls : Lc} {a : Nat} {z0 : Int32} {z1 : Int32} {z2 : Int32} {r : List Value} {M : Mem} {Q : Outcome → Mem → Prop} (hd : 0 < d) (hw : Wp (d - 1) 156 0 [some (.ref a), some (.int z0), some (.int z1), some (.int z2), none] [] M (Cq d y pc ls r Q)) : Ca d y pc ls 156 [.ref a, .int z0, .int z1, .int z2] r M Q := ca_of (mq_get (by decide)) (by rfl) hd hw
/-! 157 PackedTreeModel.isDirectory(I)Z; loop heads [] -/
set_option maxRecDepth 100000 in
theorem r_157_0 : ∀ (d : Nat) (l1 : Option Value) (v : Nat) (st : List Value) (M : Mem) (Q : Outcome → Mem → Prop), Wp d 157 0 [some (.ref v), l1] st M Q = Wp d 157 1 [some (.ref v), l1] (.ref v :: st) M Q := fun d l1 v st M Q => wA (show ins 157 0 = some (.aload_n 0, 1) by decide +kernel) rfl
set_option maxRecDepth 100000 in
theorem r_157_1 : ∀ (d : Nat) (l0 : Option Value) (v : Int32) (st : List Value) (M : Mem) (Q : Outcome → Mem → Prop), Wp d 157 1 [l0, some (.int v)] st M Q = Wp d 157 2 [l0, some (.int v)] (.int v :: st) M Q := fun d l0 v st M Q => wA (show ins 157 1 = some (.iload_n 1, 1) by decide +kernel) rfl
set_option maxRecDepth 100000 in
theorem r_157_2 : ∀ (d : Nat) (ls : Lc) (v0 : Value) (a : Nat) (st : List Value) (M : Mem) (Q : Outcome → Mem → Prop), (smallR st = true) → Wp d 157 2 ls (v0 :: .ref a :: st) M Q = (kO M a = 8 ∧ Ca d 157 2 ls 158 (.ref a :: [v0]) st M Q) := fun d ls v0 a st M Q h0 => w_virt1 (as := [v0]) (show ins 157 2 = some (.invokevirtual 47, 3) by decide +kernel) (show mRes (mC 157) 47 = some (3, 8, [(8, 158)]) by decide +kernel) (by decide +kernel) rfl (by decide +kernel) (by decide +kernel) h0
set_option maxRecDepth 100000 in
theorem r_157_5 : ∀ (d : Nat) (ls : Lc) (a : Int32) (st : List Value) (M : Mem) (Q : Outcome → Mem → Prop), Wp d 157 5 ls (.int a :: st) M Q = Br (a = I 0) d 157 25 8 ls st M Q := fun d ls a st M Q => w_if (show ins 157 5 = some (.ifCond .eq 20, 3) by decide +kernel) rfl rfl
set_option maxRecDepth 100000 in
theorem r_157_8 : ∀ (d : Nat) (l1 : Option Value) (v : Nat) (st : List Value) (M : Mem) (Q : Outcome → Mem → Prop), Wp d 157 8 [some (.ref v), l1] st M Q = Wp d 157 9 [some (.ref v), l1] (.ref v :: st) M Q := fun d l1 v st M Q => wA (show ins 157 8 = some (.aload_n 0, 1) by decide +kernel) rfl
set_option maxRecDepth 100000 in
theorem r_157_9 : ∀ (d : Nat) (ls : Lc) (a : Nat) (st : List Value) (M : Mem) (Q : Outcome → Mem → Prop), Wp d 157 9 ls (.ref a :: st) M Q = (fk 53 (kO M a) = true ∧ Wp d 157 12 ls (va_rf (mR M 53 a) :: st) M Q) := fun d ls a st M Q => w_getR (show ins 157 9 = some (.getfield 7, 3) by decide +kernel) (show fRes (mC 157) 7 = some (53, 8, false) by decide +kernel) (by decide +kernel)
set_option maxRecDepth 100000 in
theorem r_157_12 : ∀ (d : Nat) (ls : Lc) (st : List Value) (M : Mem) (Q : Outcome → Mem → Prop), Wp d 157 12 ls st M Q = Wp d 157 14 ls (.int (I 96) :: st) M Q := fun d ls st M Q => w_bipush (show ins 157 12 = some (.bipush 96, 2) by decide +kernel) (by decide)
set_option maxRecDepth 100000 in
theorem r_157_14 : ∀ (d : Nat) (l0 : Option Value) (v : Int32) (st : List Value) (M : Mem) (Q : Outcome → Mem → Prop), Wp d 157 14 [l0, some (.int v)] st M Q = Wp d 157 15 [l0, some (.int v)] (.int v :: st) M Q := fun d l0 v st M Q => wA (show ins 157 14 = some (.iload_n 1, 1) by decide +kernel) rfl
set_option maxRecDepth 100000 in
theorem r_157_15 : ∀ (d : Nat) (ls : Lc) (a b : Int) (st : List Value) (M : Mem) (Q : Outcome → Mem → Prop), Wp d 157 15 ls (.int (I b) :: .int (I a) :: st) M Q = Wp d 157 16 ls (.int (I (a + b)) :: st) M Q := fun d ls a b st M Q => w_iadd (show ins 157 15 = some (.iadd, 1) by decide +kernel)
set_option maxRecDepth 100000 in
theorem r_157_16 : ∀ (d : Nat) (ls : Lc) (a : Nat) (j : Int32) (st : List Value) (M : Mem) (Q : Outcome → Mem → Prop), Wp d 157 16 ls (.int j :: .ref a :: st) M Q = ((((kX M a).1 = 0 ∨ (kX M a).1 = 8) ∧ inB j (kX M a).2 = true) ∧ Wp d 157 17 ls (.int (mA M a j.toNatClampNeg) :: st) M Q) := fun d ls a j st M Q => w_iaload (show ins 157 16 = some (.iaload, 1) by decide +kernel)
set_option maxRecDepth 100000 in
theorem r_157_17 : ∀ (d : Nat) (ls : Lc) (st : List Value) (M : Mem) (Q : Outcome → Mem → Prop), Wp d 157 17 ls st M Q = Wp d 157 18 ls (.int (I 1) :: st) M Q := fun d ls st M Q => w_iconst (show ins 157 17 = some (.iconst 1, 1) by decide +kernel)
set_option maxRecDepth 100000 in
theorem r_157_18 : ∀ (d : Nat) (ls : Lc) (a b : Int32) (st : List Value) (M : Mem) (Q : Outcome → Mem → Prop), Wp d 157 18 ls (.int b :: .int a :: st) M Q = Br (¬ a = b) d 157 25 21 ls st M Q := fun d ls a b st M Q => w_icmp (show ins 157 18 = some (.if_icmp .ne 7, 3) by decide +kernel) rfl rfl
set_option maxRecDepth 100000 in
theorem r_157_21 : ∀ (d : Nat) (ls : Lc) (st : List Value) (M : Mem) (Q : Outcome → Mem → Prop), Wp d 157 21 ls st M Q = Wp d 157 22 ls (.int (I 1) :: st) M Q := fun d ls st M Q => w_iconst (show ins 157 21 = some (.iconst 1, 1) by decide +kernel)
set_option maxRecDepth 100000 in
theorem r_157_22 : ∀ (d : Nat) (ls : Lc) (st : List Value) (M : Mem) (Q : Outcome → Mem → Prop), Wp d 157 22 ls st M Q = Wp d 157 26 ls st M Q := fun d ls st M Q => w_goto (show ins 157 22 = some (.goto 4, 3) by decide +kernel) rfl
set_option maxRecDepth 100000 in
theorem r_157_25 : ∀ (d : Nat) (ls : Lc) (st : List Value) (M : Mem) (Q : Outcome → Mem → Prop), Wp d 157 25 ls st M Q = Wp d 157 26 ls (.int (I 0) :: st) M Q := fun d ls st M Q => w_iconst (show ins 157 25 = some (.iconst 0, 1) by decide +kernel)
set_option maxRecDepth 100000 in
theorem r_157_26 : ∀ (d : Nat) (ls : Lc) (z : Int) (M : Mem) (Q : Outcome → Mem → Prop), (z = 0 ∨ z = 1) → Wp d 157 26 ls [.int (I z)] M Q = Q (.returned (some (.int (I z)))) M := fun d ls z M Q h0 => w_zretI (show ins 157 26 = some (.ireturn, 1) by decide +kernel) (by decide +kernel) h0
set_option maxRecDepth 100000 in
theorem r_157_26_1 : ∀ (d : Nat) (ls : Lc) (b : Bool) (M : Mem) (Q : Outcome → Mem → Prop), Wp d 157 26 ls [.int (I (bI b))] M Q = Q (.returned (some (.int (I (bI b))))) M := fun d ls b M Q => w_zretB (show ins 157 26 = some (.ireturn, 1) by decide +kernel) (by decide +kernel)
set_option maxRecDepth 100000 in
theorem W_157 : (type_of% r_157_0) ∧ (type_of% r_157_1) ∧ (type_of% r_157_2) ∧ (type_of% r_157_5) ∧ (type_of% r_157_8) ∧ (type_of% r_157_9) ∧ (type_of% r_157_12) ∧ (type_of% r_157_14) ∧ (type_of% r_157_15) ∧ (type_of% r_157_16) ∧ (type_of% r_157_17) ∧ (type_of% r_157_18) ∧ (type_of% r_157_21) ∧ (type_of% r_157_22) ∧ (type_of% r_157_25) ∧ (type_of% r_157_26) ∧ (type_of% r_157_26_1) := ⟨r_157_0, r_157_1, r_157_2, r_157_5, r_157_8, r_157_9, r_157_12, r_157_14, r_157_15, r_157_16, r_157_17, r_157_18, r_157_21, r_157_22, r_157_25, r_157_26, r_157_26_1⟩
set_option maxRecDepth 100000 in
theorem ca_157 {d y pc : Nat} {ls : Lc} {a : Nat} {z0 : Int32} {r : List Value} {M : Mem} {Q : Outcome → Mem → Prop} (hd : 0 < d) (hw : Wp (d - 1) 157 0 [some (.ref a), some (.int z0)] [] M (Cq d y pc ls r Q)) : Ca d y pc ls 157 [.ref a, .int z0] r M Q := ca_of (mq_get (by decide)) (by rfl) hd hw
/-! 158 PackedTreeModel.isObject(I)Z; loop heads [] -/
set_option maxRecDepth 100000 in
theorem r_158_0 : ∀ (d : Nat) (l0 : Option Value) (v : Int32) (st : List Value) (M : Mem) (Q : Outcome → Mem → Prop), Wp d 158 0 [l0, some (.int v)] st M Q = Wp d 158 1 [l0, some (.int v)] (.int v :: st) M Q := fun d l0 v st M Q => wA (show ins 158 0 = some (.iload_n 1, 1) by decide +kernel) rfl
set_option maxRecDepth 100000 in
theorem r_158_1 : ∀ (d : Nat) (ls : Lc) (st : List Value) (M : Mem) (Q : Outcome → Mem → Prop), Wp d 158 1 ls st M Q = Wp d 158 2 ls (.int (I 1) :: st) M Q := fun d ls st M Q => w_iconst (show ins 158 1 = some (.iconst 1, 1) by decide +kernel)
set_option maxRecDepth 100000 in
theorem r_158_2 : ∀ (d : Nat) (ls : Lc) (st : List Value) (M : Mem) (Q : Outcome → Mem → Prop), Wp d 158 2 ls st M Q = Wp d 158 4 ls (.int (I 60) :: st) M Q := fun d ls st M Q => w_bipush (show ins 158 2 = some (.bipush 60, 2) by decide +kernel) (by decide)
set_option maxRecDepth 100000 in
theorem r_158_4 : ∀ (d : Nat) (ls : Lc) (v0 v1 v2 : Value)  (st : List Value) (M : Mem) (Q : Outcome → Mem → Prop), (smallR st = true) → Wp d 158 4 ls (v2 :: v1 :: v0 :: st) M Q = Ca d 158 4 ls 159 [v0, v1, v2] st M Q := fun d ls v0 v1 v2 st M Q h0 => w_stat (as := [v0, v1, v2]) (show ins 158 4 = some (.invokestatic 43, 3) by decide +kernel) (show mRes (mC 158) 43 = some (0, 8, [(0, 159)]) by decide +kernel) (by decide +kernel) (by decide +kernel) rfl h0
set_option maxRecDepth 100000 in
theorem r_158_7 : ∀ (d : Nat) (ls : Lc) (a : Int32) (st : List Value) (M : Mem) (Q : Outcome → Mem → Prop), Wp d 158 7 ls (.int a :: st) M Q = Br (a = I 0) d 158 26 10 ls st M Q := fun d ls a st M Q => w_if (show ins 158 7 = some (.ifCond .eq 19, 3) by decide +kernel) rfl rfl
set_option maxRecDepth 100000 in
theorem r_158_10 : ∀ (d : Nat) (l1 : Option Value) (v : Nat) (st : List Value) (M : Mem) (Q : Outcome → Mem → Prop), Wp d 158 10 [some (.ref v), l1] st M Q = Wp d 158 11 [some (.ref v), l1] (.ref v :: st) M Q := fun d l1 v st M Q => wA (show ins 158 10 = some (.aload_n 0, 1) by decide +kernel) rfl
set_option maxRecDepth 100000 in
theorem r_158_11 : ∀ (d : Nat) (ls : Lc) (a : Nat) (st : List Value) (M : Mem) (Q : Outcome → Mem → Prop), Wp d 158 11 ls (.ref a :: st) M Q = (fk 53 (kO M a) = true ∧ Wp d 158 14 ls (va_rf (mR M 53 a) :: st) M Q) := fun d ls a st M Q => w_getR (show ins 158 11 = some (.getfield 7, 3) by decide +kernel) (show fRes (mC 158) 7 = some (53, 8, false) by decide +kernel) (by decide +kernel)
set_option maxRecDepth 100000 in
theorem r_158_14 : ∀ (d : Nat) (ls : Lc) (st : List Value) (M : Mem) (Q : Outcome → Mem → Prop), Wp d 158 14 ls st M Q = Wp d 158 16 ls (.int (I 96) :: st) M Q := fun d ls st M Q => w_bipush (show ins 158 14 = some (.bipush 96, 2) by decide +kernel) (by decide)
set_option maxRecDepth 100000 in
theorem r_158_16 : ∀ (d : Nat) (l0 : Option Value) (v : Int32) (st : List Value) (M : Mem) (Q : Outcome → Mem → Prop), Wp d 158 16 [l0, some (.int v)] st M Q = Wp d 158 17 [l0, some (.int v)] (.int v :: st) M Q := fun d l0 v st M Q => wA (show ins 158 16 = some (.iload_n 1, 1) by decide +kernel) rfl
set_option maxRecDepth 100000 in
theorem r_158_17 : ∀ (d : Nat) (ls : Lc) (a b : Int) (st : List Value) (M : Mem) (Q : Outcome → Mem → Prop), Wp d 158 17 ls (.int (I b) :: .int (I a) :: st) M Q = Wp d 158 18 ls (.int (I (a + b)) :: st) M Q := fun d ls a b st M Q => w_iadd (show ins 158 17 = some (.iadd, 1) by decide +kernel)
set_option maxRecDepth 100000 in
theorem r_158_18 : ∀ (d : Nat) (ls : Lc) (a : Nat) (j : Int32) (st : List Value) (M : Mem) (Q : Outcome → Mem → Prop), Wp d 158 18 ls (.int j :: .ref a :: st) M Q = ((((kX M a).1 = 0 ∨ (kX M a).1 = 8) ∧ inB j (kX M a).2 = true) ∧ Wp d 158 19 ls (.int (mA M a j.toNatClampNeg) :: st) M Q) := fun d ls a j st M Q => w_iaload (show ins 158 18 = some (.iaload, 1) by decide +kernel)
set_option maxRecDepth 100000 in
theorem r_158_19 : ∀ (d : Nat) (ls : Lc) (a : Int32) (st : List Value) (M : Mem) (Q : Outcome → Mem → Prop), Wp d 158 19 ls (.int a :: st) M Q = Br (a ≤ I 0) d 158 26 22 ls st M Q := fun d ls a st M Q => w_if (show ins 158 19 = some (.ifCond .le 7, 3) by decide +kernel) rfl rfl
set_option maxRecDepth 100000 in
theorem r_158_22 : ∀ (d : Nat) (ls : Lc) (st : List Value) (M : Mem) (Q : Outcome → Mem → Prop), Wp d 158 22 ls st M Q = Wp d 158 23 ls (.int (I 1) :: st) M Q := fun d ls st M Q => w_iconst (show ins 158 22 = some (.iconst 1, 1) by decide +kernel)
set_option maxRecDepth 100000 in
theorem r_158_23 : ∀ (d : Nat) (ls : Lc) (st : List Value) (M : Mem) (Q : Outcome → Mem → Prop), Wp d 158 23 ls st M Q = Wp d 158 27 ls st M Q := fun d ls st M Q => w_goto (show ins 158 23 = some (.goto 4, 3) by decide +kernel) rfl
set_option maxRecDepth 100000 in
theorem r_158_26 : ∀ (d : Nat) (ls : Lc) (st : List Value) (M : Mem) (Q : Outcome → Mem → Prop), Wp d 158 26 ls st M Q = Wp d 158 27 ls (.int (I 0) :: st) M Q := fun d ls st M Q => w_iconst (show ins 158 26 = some (.iconst 0, 1) by decide +kernel)
set_option maxRecDepth 100000 in
theorem r_158_27 : ∀ (d : Nat) (ls : Lc) (z : Int) (M : Mem) (Q : Outcome → Mem → Prop), (z = 0 ∨ z = 1) → Wp d 158 27 ls [.int (I z)] M Q = Q (.returned (some (.int (I z)))) M := fun d ls z M Q h0 => w_zretI (show ins 158 27 = some (.ireturn, 1) by decide +kernel) (by decide +kernel) h0
set_option maxRecDepth 100000 in
theorem r_158_27_1 : ∀ (d : Nat) (ls : Lc) (b : Bool) (M : Mem) (Q : Outcome → Mem → Prop), Wp d 158 27 ls [.int (I (bI b))] M Q = Q (.returned (some (.int (I (bI b))))) M := fun d ls b M Q => w_zretB (show ins 158 27 = some (.ireturn, 1) by decide +kernel) (by decide +kernel)
set_option maxRecDepth 100000 in
theorem W_158 : (type_of% r_158_0) ∧ (type_of% r_158_1) ∧ (type_of% r_158_2) ∧ (type_of% r_158_4) ∧ (type_of% r_158_7) ∧ (type_of% r_158_10) ∧ (type_of% r_158_11) ∧ (type_of% r_158_14) ∧ (type_of% r_158_16) ∧ (type_of% r_158_17) ∧ (type_of% r_158_18) ∧ (type_of% r_158_19) ∧ (type_of% r_158_22) ∧ (type_of% r_158_23) ∧ (type_of% r_158_26) ∧ (type_of% r_158_27) ∧ (type_of% r_158_27_1) := ⟨r_158_0, r_158_1, r_158_2, r_158_4, r_158_7, r_158_10, r_158_11, r_158_14, r_158_16, r_158_17, r_158_18, r_158_19, r_158_22, r_158_23, r_158_26, r_158_27, r_158_27_1⟩
set_option maxRecDepth 100000 in
theorem ca_158 {d y pc : Nat} {ls : Lc} {a : Nat} {z0 : Int32} {r : List Value} {M : Mem} {Q : Outcome → Mem → Prop} (hd : 0 < d) (hw : Wp (d - 1) 158 0 [some (.ref a), some (.int z0)] [] M (Cq d y pc ls r Q)) : Ca d y pc ls 158 [.ref a, .int z0] r M Q := ca_of (mq_get (by decide)) (by rfl) hd hw
/-! 159 PackedTreeModel.isIn(III)Z; loop heads [] -/
set_option maxRecDepth 100000 in
theorem r_159_0 : ∀ (d : Nat) (l1 l2 : Option Value) (v : Int32) (st : List Value) (M : Mem) (Q : Outcome → Mem → Prop), Wp d 159 0 [some (.int v), l1, l2] st M Q = Wp d 159 1 [some (.int v), l1, l2] (.int v :: st) M Q := fun d l1 l2 v st M Q => wA (show ins 159 0 = some (.iload_n 0, 1) by decide +kernel) rfl
set_option maxRecDepth 100000 in
theorem r_159_1 : ∀ (d : Nat) (l0 l2 : Option Value) (v : Int32) (st : List Value) (M : Mem) (Q : Outcome → Mem → Prop), Wp d 159 1 [l0, some (.int v), l2] st M Q = Wp d 159 2 [l0, some (.int v), l2] (.int v :: st) M Q := fun d l0 l2 v st M Q => wA (show ins 159 1 = some (.iload_n 1, 1) by decide +kernel) rfl
set_option maxRecDepth 100000 in
theorem r_159_2 : ∀ (d : Nat) (ls : Lc) (a b : Int32) (st : List Value) (M : Mem) (Q : Outcome → Mem → Prop), Wp d 159 2 ls (.int b :: .int a :: st) M Q = Br (a < b) d 159 14 5 ls st M Q := fun d ls a b st M Q => w_icmp (show ins 159 2 = some (.if_icmp .lt 12, 3) by decide +kernel) rfl rfl
set_option maxRecDepth 100000 in
theorem r_159_5 : ∀ (d : Nat) (l1 l2 : Option Value) (v : Int32) (st : List Value) (M : Mem) (Q : Outcome → Mem → Prop), Wp d 159 5 [some (.int v), l1, l2] st M Q = Wp d 159 6 [some (.int v), l1, l2] (.int v :: st) M Q := fun d l1 l2 v st M Q => wA (show ins 159 5 = some (.iload_n 0, 1) by decide +kernel) rfl
set_option maxRecDepth 100000 in
theorem r_159_6 : ∀ (d : Nat) (l0 l1 : Option Value) (v : Int32) (st : List Value) (M : Mem) (Q : Outcome → Mem → Prop), Wp d 159 6 [l0, l1, some (.int v)] st M Q = Wp d 159 7 [l0, l1, some (.int v)] (.int v :: st) M Q := fun d l0 l1 v st M Q => wA (show ins 159 6 = some (.iload_n 2, 1) by decide +kernel) rfl
set_option maxRecDepth 100000 in
theorem r_159_7 : ∀ (d : Nat) (ls : Lc) (a b : Int32) (st : List Value) (M : Mem) (Q : Outcome → Mem → Prop), Wp d 159 7 ls (.int b :: .int a :: st) M Q = Br (b < a) d 159 14 10 ls st M Q := fun d ls a b st M Q => w_icmp (show ins 159 7 = some (.if_icmp .gt 7, 3) by decide +kernel) rfl rfl
set_option maxRecDepth 100000 in
theorem r_159_10 : ∀ (d : Nat) (ls : Lc) (st : List Value) (M : Mem) (Q : Outcome → Mem → Prop), Wp d 159 10 ls st M Q = Wp d 159 11 ls (.int (I 1) :: st) M Q := fun d ls st M Q => w_iconst (show ins 159 10 = some (.iconst 1, 1) by decide +kernel)
set_option maxRecDepth 100000 in
theorem r_159_11 : ∀ (d : Nat) (ls : Lc) (st : List Value) (M : Mem) (Q : Outcome → Mem → Prop), Wp d 159 11 ls st M Q = Wp d 159 15 ls st M Q := fun d ls st M Q => w_goto (show ins 159 11 = some (.goto 4, 3) by decide +kernel) rfl
set_option maxRecDepth 100000 in
theorem r_159_14 : ∀ (d : Nat) (ls : Lc) (st : List Value) (M : Mem) (Q : Outcome → Mem → Prop), Wp d 159 14 ls st M Q = Wp d 159 15 ls (.int (I 0) :: st) M Q := fun d ls st M Q => w_iconst (show ins 159 14 = some (.iconst 0, 1) by decide +kernel)
set_option maxRecDepth 100000 in
theorem r_159_15 : ∀ (d : Nat) (ls : Lc) (z : Int) (M : Mem) (Q : Outcome → Mem → Prop), (z = 0 ∨ z = 1) → Wp d 159 15 ls [.int (I z)] M Q = Q (.returned (some (.int (I z)))) M := fun d ls z M Q h0 => w_zretI (show ins 159 15 = some (.ireturn, 1) by decide +kernel) (by decide +kernel) h0
set_option maxRecDepth 100000 in
theorem r_159_15_1 : ∀ (d : Nat) (ls : Lc) (b : Bool) (M : Mem) (Q : Outcome → Mem → Prop), Wp d 159 15 ls [.int (I (bI b))] M Q = Q (.returned (some (.int (I (bI b))))) M := fun d ls b M Q => w_zretB (show ins 159 15 = some (.ireturn, 1) by decide +kernel) (by decide +kernel)
set_option maxRecDepth 100000 in
theorem W_159 : (type_of% r_159_0) ∧ (type_of% r_159_1) ∧ (type_of% r_159_2) ∧ (type_of% r_159_5) ∧ (type_of% r_159_6) ∧ (type_of% r_159_7) ∧ (type_of% r_159_10) ∧ (type_of% r_159_11) ∧ (type_of% r_159_14) ∧ (type_of% r_159_15) ∧ (type_of% r_159_15_1) := ⟨r_159_0, r_159_1, r_159_2, r_159_5, r_159_6, r_159_7, r_159_10, r_159_11, r_159_14, r_159_15, r_159_15_1⟩
set_option maxRecDepth 100000 in
theorem ca_159 {d y pc : Nat} {ls : Lc} {z0 : Int32} {z1 : Int32} {z2 : Int32} {r : List Value} {M : Mem} {Q : Outcome → Mem → Prop} (hd : 0 < d) (hw : Wp (d - 1) 159 0 [some (.int z0), some (.int z1), some (.int z2)] [] M (Cq d y pc ls r Q)) : Ca d y pc ls 159 [.int z0, .int z1, .int z2] r M Q := ca_of (mq_get (by decide)) (by rfl) hd hw
/-! 160 PackedTreeModel.isName(I)Z; loop heads [] -/
set_option maxRecDepth 100000 in
theorem r_160_0 : ∀ (d : Nat) (l0 : Option Value) (v : Int32) (st : List Value) (M : Mem) (Q : Outcome → Mem → Prop), Wp d 160 0 [l0, some (.int v)] st M Q = Wp d 160 1 [l0, some (.int v)] (.int v :: st) M Q := fun d l0 v st M Q => wA (show ins 160 0 = some (.iload_n 1, 1) by decide +kernel) rfl
set_option maxRecDepth 100000 in
theorem r_160_1 : ∀ (d : Nat) (ls : Lc) (st : List Value) (M : Mem) (Q : Outcome → Mem → Prop), Wp d 160 1 ls st M Q = Wp d 160 2 ls (.int (I 0) :: st) M Q := fun d ls st M Q => w_iconst (show ins 160 1 = some (.iconst 0, 1) by decide +kernel)
set_option maxRecDepth 100000 in
theorem r_160_2 : ∀ (d : Nat) (ls : Lc) (st : List Value) (M : Mem) (Q : Outcome → Mem → Prop), Wp d 160 2 ls st M Q = Wp d 160 5 ls (.int (I 999) :: st) M Q := fun d ls st M Q => w_sipush (show ins 160 2 = some (.sipush 999, 3) by decide +kernel) (by decide)
set_option maxRecDepth 100000 in
theorem r_160_5 : ∀ (d : Nat) (ls : Lc) (v0 v1 v2 : Value)  (st : List Value) (M : Mem) (Q : Outcome → Mem → Prop), (smallR st = true) → Wp d 160 5 ls (v2 :: v1 :: v0 :: st) M Q = Ca d 160 5 ls 159 [v0, v1, v2] st M Q := fun d ls v0 v1 v2 st M Q h0 => w_stat (as := [v0, v1, v2]) (show ins 160 5 = some (.invokestatic 43, 3) by decide +kernel) (show mRes (mC 160) 43 = some (0, 8, [(0, 159)]) by decide +kernel) (by decide +kernel) (by decide +kernel) rfl h0
set_option maxRecDepth 100000 in
theorem r_160_8 : ∀ (d : Nat) (ls : Lc) (z : Int) (M : Mem) (Q : Outcome → Mem → Prop), (z = 0 ∨ z = 1) → Wp d 160 8 ls [.int (I z)] M Q = Q (.returned (some (.int (I z)))) M := fun d ls z M Q h0 => w_zretI (show ins 160 8 = some (.ireturn, 1) by decide +kernel) (by decide +kernel) h0
set_option maxRecDepth 100000 in
theorem r_160_8_1 : ∀ (d : Nat) (ls : Lc) (b : Bool) (M : Mem) (Q : Outcome → Mem → Prop), Wp d 160 8 ls [.int (I (bI b))] M Q = Q (.returned (some (.int (I (bI b))))) M := fun d ls b M Q => w_zretB (show ins 160 8 = some (.ireturn, 1) by decide +kernel) (by decide +kernel)
set_option maxRecDepth 100000 in
theorem W_160 : (type_of% r_160_0) ∧ (type_of% r_160_1) ∧ (type_of% r_160_2) ∧ (type_of% r_160_5) ∧ (type_of% r_160_8) ∧ (type_of% r_160_8_1) := ⟨r_160_0, r_160_1, r_160_2, r_160_5, r_160_8, r_160_8_1⟩
set_option maxRecDepth 100000 in
theorem ca_160 {d y pc : Nat} {ls : Lc} {a : Nat} {z0 : Int32} {r : List Value} {M : Mem} {Q : Outcome → Mem → Prop} (hd : 0 < d) (hw : Wp (d - 1) 160 0 [some (.ref a), some (.int z0)] [] M (Cq d y pc ls r Q)) : Ca d y pc ls 160 [.ref a, .int z0] r M Q := ca_of (mq_get (by decide)) (by rfl) hd hw
/-! 161 PackedTreeModel.entry(II)I; loop heads [] -/
set_option maxRecDepth 100000 in
theorem r_161_0 : ∀ (d : Nat) (l1 l2 l3 : Option Value) (v : Nat) (st : List Value) (M : Mem) (Q : Outcome → Mem → Prop), Wp d 161 0 [some (.ref v), l1, l2, l3] st M Q = Wp d 161 1 [some (.ref v), l1, l2, l3] (.ref v :: st) M Q := fun d l1 l2 l3 v st M Q => wA (show ins 161 0 = some (.aload_n 0, 1) by decide +kernel) rfl
set_option maxRecDepth 100000 in
theorem r_161_1 : ∀ (d : Nat) (l0 l2 l3 : Option Value) (v : Int32) (st : List Value) (M : Mem) (Q : Outcome → Mem → Prop), Wp d 161 1 [l0, some (.int v), l2, l3] st M Q = Wp d 161 2 [l0, some (.int v), l2, l3] (.int v :: st) M Q := fun d l0 l2 l3 v st M Q => wA (show ins 161 1 = some (.iload_n 1, 1) by decide +kernel) rfl
set_option maxRecDepth 100000 in
theorem r_161_2 : ∀ (d : Nat) (ls : Lc) (st : List Value) (M : Mem) (Q : Outcome → Mem → Prop), Wp d 161 2 ls st M Q = Wp d 161 3 ls (.int (I 1) :: st) M Q := fun d ls st M Q => w_iconst (show ins 161 2 = some (.iconst 1, 1) by decide +kernel)
set_option maxRecDepth 100000 in
theorem r_161_3 : ∀ (d : Nat) (l0 l1 l3 : Option Value) (v : Int32) (st : List Value) (M : Mem) (Q : Outcome → Mem → Prop), Wp d 161 3 [l0, l1, some (.int v), l3] st M Q = Wp d 161 4 [l0, l1, some (.int v), l3] (.int v :: st) M Q := fun d l0 l1 l3 v st M Q => wA (show ins 161 3 = some (.iload_n 2, 1) by decide +kernel) rfl
set_option maxRecDepth 100000 in
theorem r_161_4 : ∀ (d : Nat) (ls : Lc) (v0 v1 v2 : Value) (a : Nat) (st : List Value) (M : Mem) (Q : Outcome → Mem → Prop), (smallR st = true) → Wp d 161 4 ls (v2 :: v1 :: v0 :: .ref a :: st) M Q = (kO M a = 8 ∧ Ca d 161 4 ls 162 (.ref a :: [v0, v1, v2]) st M Q) := fun d ls v0 v1 v2 a st M Q h0 => w_virt1 (as := [v0, v1, v2]) (show ins 161 4 = some (.invokevirtual 124, 3) by decide +kernel) (show mRes (mC 161) 124 = some (3, 8, [(8, 162)]) by decide +kernel) (by decide +kernel) rfl (by decide +kernel) (by decide +kernel) h0
set_option maxRecDepth 100000 in
theorem r_161_7 : ∀ (d : Nat) (l0 l1 l2 l3 : Option Value) (v : Int32) (st : List Value) (M : Mem) (Q : Outcome → Mem → Prop), (lo l2 = false) → Wp d 161 7 [l0, l1, l2, l3] (.int v :: st) M Q = Wp d 161 8 [l0, l1, l2, some (.int v)] st M Q := fun d l0 l1 l2 l3 v st M Q hl => w_istore_n (show ins 161 7 = some (.istore_n 3, 1) by decide +kernel) (st1_S rfl rfl hl)
set_option maxRecDepth 100000 in
theorem r_161_8 : ∀ (d : Nat) (l0 l1 l2 : Option Value) (v : Int32) (st : List Value) (M : Mem) (Q : Outcome → Mem → Prop), Wp d 161 8 [l0, l1, l2, some (.int v)] st M Q = Wp d 161 9 [l0, l1, l2, some (.int v)] (.int v :: st) M Q := fun d l0 l1 l2 v st M Q => wA (show ins 161 8 = some (.iload_n 3, 1) by decide +kernel) rfl
set_option maxRecDepth 100000 in
theorem r_161_9 : ∀ (d : Nat) (ls : Lc) (a : Int32) (st : List Value) (M : Mem) (Q : Outcome → Mem → Prop), Wp d 161 9 ls (.int a :: st) M Q = Br (I 0 ≤ a) d 161 16 12 ls st M Q := fun d ls a st M Q => w_if (show ins 161 9 = some (.ifCond .ge 7, 3) by decide +kernel) rfl rfl
set_option maxRecDepth 100000 in
theorem r_161_12 : ∀ (d : Nat) (ls : Lc) (st : List Value) (M : Mem) (Q : Outcome → Mem → Prop), Wp d 161 12 ls st M Q = Wp d 161 13 ls (.int (I (-1)) :: st) M Q := fun d ls st M Q => w_iconst (show ins 161 12 = some (.iconst (-1), 1) by decide +kernel)
set_option maxRecDepth 100000 in
theorem r_161_13 : ∀ (d : Nat) (ls : Lc) (st : List Value) (M : Mem) (Q : Outcome → Mem → Prop), Wp d 161 13 ls st M Q = Wp d 161 37 ls st M Q := fun d ls st M Q => w_goto (show ins 161 13 = some (.goto 24, 3) by decide +kernel) rfl
set_option maxRecDepth 100000 in
theorem r_161_16 : ∀ (d : Nat) (l1 l2 l3 : Option Value) (v : Nat) (st : List Value) (M : Mem) (Q : Outcome → Mem → Prop), Wp d 161 16 [some (.ref v), l1, l2, l3] st M Q = Wp d 161 17 [some (.ref v), l1, l2, l3] (.ref v :: st) M Q := fun d l1 l2 l3 v st M Q => wA (show ins 161 16 = some (.aload_n 0, 1) by decide +kernel) rfl
set_option maxRecDepth 100000 in
theorem r_161_17 : ∀ (d : Nat) (ls : Lc) (a : Nat) (st : List Value) (M : Mem) (Q : Outcome → Mem → Prop), Wp d 161 17 ls (.ref a :: st) M Q = (fk 53 (kO M a) = true ∧ Wp d 161 20 ls (va_rf (mR M 53 a) :: st) M Q) := fun d ls a st M Q => w_getR (show ins 161 17 = some (.getfield 7, 3) by decide +kernel) (show fRes (mC 161) 7 = some (53, 8, false) by decide +kernel) (by decide +kernel)
set_option maxRecDepth 100000 in
theorem r_161_20 : ∀ (d : Nat) (ls : Lc) (st : List Value) (M : Mem) (Q : Outcome → Mem → Prop), Wp d 161 20 ls st M Q = Wp d 161 23 ls (.int (I 10764) :: st) M Q := fun d ls st M Q => w_sipush (show ins 161 20 = some (.sipush 10764, 3) by decide +kernel) (by decide)
set_option maxRecDepth 100000 in
theorem r_161_23 : ∀ (d : Nat) (ls : Lc) (st : List Value) (M : Mem) (Q : Outcome → Mem → Prop), Wp d 161 23 ls st M Q = Wp d 161 25 ls (.int (I 16) :: st) M Q := fun d ls st M Q => w_bipush (show ins 161 23 = some (.bipush 16, 2) by decide +kernel) (by decide)
set_option maxRecDepth 100000 in
theorem r_161_25 : ∀ (d : Nat) (l1 l2 l3 : Option Value) (v : Nat) (st : List Value) (M : Mem) (Q : Outcome → Mem → Prop), Wp d 161 25 [some (.ref v), l1, l2, l3] st M Q = Wp d 161 26 [some (.ref v), l1, l2, l3] (.ref v :: st) M Q := fun d l1 l2 l3 v st M Q => wA (show ins 161 25 = some (.aload_n 0, 1) by decide +kernel) rfl
set_option maxRecDepth 100000 in
theorem r_161_26 : ∀ (d : Nat) (l0 l2 l3 : Option Value) (v : Int32) (st : List Value) (M : Mem) (Q : Outcome → Mem → Prop), Wp d 161 26 [l0, some (.int v), l2, l3] st M Q = Wp d 161 27 [l0, some (.int v), l2, l3] (.int v :: st) M Q := fun d l0 l2 l3 v st M Q => wA (show ins 161 26 = some (.iload_n 1, 1) by decide +kernel) rfl
set_option maxRecDepth 100000 in
theorem r_161_27 : ∀ (d : Nat) (ls : Lc) (st : List Value) (M : Mem) (Q : Outcome → Mem → Prop), Wp d 161 27 ls st M Q = Wp d 161 28 ls (.int (I 1) :: st) M Q := fun d ls st M Q => w_iconst (show ins 161 27 = some (.iconst 1, 1) by decide +kernel)
set_option maxRecDepth 100000 in
theorem r_161_28 : ∀ (d : Nat) (l0 l1 l3 : Option Value) (v : Int32) (st : List Value) (M : Mem) (Q : Outcome → Mem → Prop), Wp d 161 28 [l0, l1, some (.int v), l3] st M Q = Wp d 161 29 [l0, l1, some (.int v), l3] (.int v :: st) M Q := fun d l0 l1 l3 v st M Q => wA (show ins 161 28 = some (.iload_n 2, 1) by decide +kernel) rfl
set_option maxRecDepth 100000 in
theorem r_161_29 : ∀ (d : Nat) (ls : Lc) (v0 v1 v2 : Value) (a : Nat) (st : List Value) (M : Mem) (Q : Outcome → Mem → Prop), (smallR st = true) → Wp d 161 29 ls (v2 :: v1 :: v0 :: .ref a :: st) M Q = (kO M a = 8 ∧ Ca d 161 29 ls 163 (.ref a :: [v0, v1, v2]) st M Q) := fun d ls v0 v1 v2 a st M Q h0 => w_virt1 (as := [v0, v1, v2]) (show ins 161 29 = some (.invokevirtual 117, 3) by decide +kernel) (show mRes (mC 161) 117 = some (3, 8, [(8, 163)]) by decide +kernel) (by decide +kernel) rfl (by decide +kernel) (by decide +kernel) h0
set_option maxRecDepth 100000 in
theorem r_161_32 : ∀ (d : Nat) (ls : Lc) (a b : Int) (st : List Value) (M : Mem) (Q : Outcome → Mem → Prop), Wp d 161 32 ls (.int (I b) :: .int (I a) :: st) M Q = Wp d 161 33 ls (.int (I (a * b)) :: st) M Q := fun d ls a b st M Q => w_imul (show ins 161 32 = some (.imul, 1) by decide +kernel)
set_option maxRecDepth 100000 in
theorem r_161_33 : ∀ (d : Nat) (ls : Lc) (a b : Int) (st : List Value) (M : Mem) (Q : Outcome → Mem → Prop), Wp d 161 33 ls (.int (I b) :: .int (I a) :: st) M Q = Wp d 161 34 ls (.int (I (a + b)) :: st) M Q := fun d ls a b st M Q => w_iadd (show ins 161 33 = some (.iadd, 1) by decide +kernel)
set_option maxRecDepth 100000 in
theorem r_161_34 : ∀ (d : Nat) (l0 l1 l2 : Option Value) (v : Int32) (st : List Value) (M : Mem) (Q : Outcome → Mem → Prop), Wp d 161 34 [l0, l1, l2, some (.int v)] st M Q = Wp d 161 35 [l0, l1, l2, some (.int v)] (.int v :: st) M Q := fun d l0 l1 l2 v st M Q => wA (show ins 161 34 = some (.iload_n 3, 1) by decide +kernel) rfl
set_option maxRecDepth 100000 in
theorem r_161_35 : ∀ (d : Nat) (ls : Lc) (a b : Int) (st : List Value) (M : Mem) (Q : Outcome → Mem → Prop), Wp d 161 35 ls (.int (I b) :: .int (I a) :: st) M Q = Wp d 161 36 ls (.int (I (a + b)) :: st) M Q := fun d ls a b st M Q => w_iadd (show ins 161 35 = some (.iadd, 1) by decide +kernel)
set_option maxRecDepth 100000 in
theorem r_161_36 : ∀ (d : Nat) (ls : Lc) (a : Nat) (j : Int32) (st : List Value) (M : Mem) (Q : Outcome → Mem → Prop), Wp d 161 36 ls (.int j :: .ref a :: st) M Q = ((((kX M a).1 = 0 ∨ (kX M a).1 = 8) ∧ inB j (kX M a).2 = true) ∧ Wp d 161 37 ls (.int (mA M a j.toNatClampNeg) :: st) M Q) := fun d ls a j st M Q => w_iaload (show ins 161 36 = some (.iaload, 1) by decide +kernel)
set_option maxRecDepth 100000 in
theorem r_161_37 : ∀ (d : Nat) (ls : Lc) (v : Int32) (M : Mem) (Q : Outcome → Mem → Prop), Wp d 161 37 ls [.int v] M Q = Q (.returned (some (.int v))) M := fun d ls v M Q => w_ireturn (show ins 161 37 = some (.ireturn, 1) by decide +kernel) (by decide +kernel)
set_option maxRecDepth 100000 in
theorem W_161 : (type_of% r_161_0) ∧ (type_of% r_161_1) ∧ (type_of% r_161_2) ∧ (type_of% r_161_3) ∧ (type_of% r_161_4) ∧ (type_of% r_161_7) ∧ (type_of% r_161_8) ∧ (type_of% r_161_9) ∧ (type_of% r_161_12) ∧ (type_of% r_161_13) ∧ (type_of% r_161_16) ∧ (type_of% r_161_17) ∧ (type_of% r_161_20) ∧ (type_of% r_161_23) ∧ (type_of% r_161_25) ∧ (type_of% r_161_26) ∧ (type_of% r_161_27) ∧ (type_of% r_161_28) ∧ (type_of% r_161_29) ∧ (type_of% r_161_32) ∧ (type_of% r_161_33) ∧ (type_of% r_161_34) ∧ (type_of% r_161_35) ∧ (type_of% r_161_36) ∧ (type_of% r_161_37) := ⟨r_161_0, r_161_1, r_161_2, r_161_3, r_161_4, r_161_7, r_161_8, r_161_9, r_161_12, r_161_13, r_161_16, r_161_17, r_161_20, r_161_23, r_161_25, r_161_26, r_161_27, r_161_28, r_161_29, r_161_32, r_161_33, r_161_34, r_161_35, r_161_36, r_161_37⟩
set_option maxRecDepth 100000 in
theorem ca_161 {d y pc : Nat} {ls : Lc} {a : Nat} {z0 : Int32} {z1 : Int32} {r : List Value} {M : Mem} {Q : Outcome → Mem → Prop} (hd : 0 < d) (hw : Wp (d - 1) 161 0 [some (.ref a), some (.int z0), some (.int z1), none] [] M (Cq d y pc ls r Q)) : Ca d y pc ls 161 [.ref a, .int z0, .int z1] r M Q := ca_of (mq_get (by decide)) (by rfl) hd hw
/-! 162 PackedTreeModel.find(III)I; loop heads [12] -/
set_option maxRecDepth 100000 in
theorem r_162_0 : ∀ (d : Nat) (l1 l2 l3 l4 l5 : Option Value) (v : Nat) (st : List Value) (M : Mem) (Q : Outcome → Mem → Prop), Wp d 162 0 [some (.ref v), l1, l2, l3, l4, l5] st M Q = Wp d 162 1 [some (.ref v), l1, l2, l3, l4, l5] (.ref v :: st) M Q := fun d l1 l2 l3 l4 l5 v st M Q => wA (show ins 162 0 = some (.aload_n 0, 1) by decide +kernel) rfl
set_option maxRecDepth 100000 in
theorem r_162_1 : ∀ (d : Nat) (l0 l2 l3 l4 l5 : Option Value) (v : Int32) (st : List Value) (M : Mem) (Q : Outcome → Mem → Prop), Wp d 162 1 [l0, some (.int v), l2, l3, l4, l5] st M Q = Wp d 162 2 [l0, some (.int v), l2, l3, l4, l5] (.int v :: st) M Q := fun d l0 l2 l3 l4 l5 v st M Q => wA (show ins 162 1 = some (.iload_n 1, 1) by decide +kernel) rfl
set_option maxRecDepth 100000 in
theorem r_162_2 : ∀ (d : Nat) (l0 l1 l3 l4 l5 : Option Value) (v : Int32) (st : List Value) (M : Mem) (Q : Outcome → Mem → Prop), Wp d 162 2 [l0, l1, some (.int v), l3, l4, l5] st M Q = Wp d 162 3 [l0, l1, some (.int v), l3, l4, l5] (.int v :: st) M Q := fun d l0 l1 l3 l4 l5 v st M Q => wA (show ins 162 2 = some (.iload_n 2, 1) by decide +kernel) rfl
set_option maxRecDepth 100000 in
theorem r_162_3 : ∀ (d : Nat) (l0 l1 l2 l4 l5 : Option Value) (v : Int32) (st : List Value) (M : Mem) (Q : Outcome → Mem → Prop), Wp d 162 3 [l0, l1, l2, some (.int v), l4, l5] st M Q = Wp d 162 4 [l0, l1, l2, some (.int v), l4, l5] (.int v :: st) M Q := fun d l0 l1 l2 l4 l5 v st M Q => wA (show ins 162 3 = some (.iload_n 3, 1) by decide +kernel) rfl
set_option maxRecDepth 100000 in
theorem r_162_4 : ∀ (d : Nat) (ls : Lc) (v0 v1 v2 : Value) (a : Nat) (st : List Value) (M : Mem) (Q : Outcome → Mem → Prop), (smallR st = true) → Wp d 162 4 ls (v2 :: v1 :: v0 :: .ref a :: st) M Q = (kO M a = 8 ∧ Ca d 162 4 ls 163 (.ref a :: [v0, v1, v2]) st M Q) := fun d ls v0 v1 v2 a st M Q h0 => w_virt1 (as := [v0, v1, v2]) (show ins 162 4 = some (.invokevirtual 117, 3) by decide +kernel) (show mRes (mC 162) 117 = some (3, 8, [(8, 163)]) by decide +kernel) (by decide +kernel) rfl (by decide +kernel) (by decide +kernel) h0
set_option maxRecDepth 100000 in
theorem r_162_7 : ∀ (d : Nat) (l0 l1 l2 l3 l4 l5 : Option Value) (v : Int32) (st : List Value) (M : Mem) (Q : Outcome → Mem → Prop), (lo l3 = false) → Wp d 162 7 [l0, l1, l2, l3, l4, l5] (.int v :: st) M Q = Wp d 162 9 [l0, l1, l2, l3, some (.int v), l5] st M Q := fun d l0 l1 l2 l3 l4 l5 v st M Q hl => w_istore (show ins 162 7 = some (.istore 4, 2) by decide +kernel) (st1_S rfl rfl hl)
set_option maxRecDepth 100000 in
theorem r_162_9 : ∀ (d : Nat) (ls : Lc) (st : List Value) (M : Mem) (Q : Outcome → Mem → Prop), Wp d 162 9 ls st M Q = Wp d 162 10 ls (.int (I 0) :: st) M Q := fun d ls st M Q => w_iconst (show ins 162 9 = some (.iconst 0, 1) by decide +kernel)
set_option maxRecDepth 100000 in
theorem r_162_10 : ∀ (d : Nat) (l0 l1 l2 l3 l4 l5 : Option Value) (v : Int32) (st : List Value) (M : Mem) (Q : Outcome → Mem → Prop), (lo l4 = false) → Wp d 162 10 [l0, l1, l2, l3, l4, l5] (.int v :: st) M Q = Wp d 162 12 [l0, l1, l2, l3, l4, some (.int v)] st M Q := fun d l0 l1 l2 l3 l4 l5 v st M Q hl => w_istore (show ins 162 10 = some (.istore 5, 2) by decide +kernel) (st1_S rfl rfl hl)
set_option maxRecDepth 100000 in
theorem r_162_12 : ∀ (d : Nat) (l0 l1 l2 l3 l4 : Option Value) (v : Int32) (st : List Value) (M : Mem) (Q : Outcome → Mem → Prop), Wp d 162 12 [l0, l1, l2, l3, l4, some (.int v)] st M Q = Wp d 162 14 [l0, l1, l2, l3, l4, some (.int v)] (.int v :: st) M Q := fun d l0 l1 l2 l3 l4 v st M Q => wA (show ins 162 12 = some (.iload 5, 2) by decide +kernel) rfl
set_option maxRecDepth 100000 in
theorem r_162_14 : ∀ (d : Nat) (l1 l2 l3 l4 l5 : Option Value) (v : Nat) (st : List Value) (M : Mem) (Q : Outcome → Mem → Prop), Wp d 162 14 [some (.ref v), l1, l2, l3, l4, l5] st M Q = Wp d 162 15 [some (.ref v), l1, l2, l3, l4, l5] (.ref v :: st) M Q := fun d l1 l2 l3 l4 l5 v st M Q => wA (show ins 162 14 = some (.aload_n 0, 1) by decide +kernel) rfl
set_option maxRecDepth 100000 in
theorem r_162_15 : ∀ (d : Nat) (ls : Lc) (a : Nat) (st : List Value) (M : Mem) (Q : Outcome → Mem → Prop), Wp d 162 15 ls (.ref a :: st) M Q = (fk 53 (kO M a) = true ∧ Wp d 162 18 ls (va_rf (mR M 53 a) :: st) M Q) := fun d ls a st M Q => w_getR (show ins 162 15 = some (.getfield 7, 3) by decide +kernel) (show fRes (mC 162) 7 = some (53, 8, false) by decide +kernel) (by decide +kernel)
set_option maxRecDepth 100000 in
theorem r_162_18 : ∀ (d : Nat) (ls : Lc) (st : List Value) (M : Mem) (Q : Outcome → Mem → Prop), Wp d 162 18 ls st M Q = Wp d 162 21 ls (.int (I 3852) :: st) M Q := fun d ls st M Q => w_sipush (show ins 162 18 = some (.sipush 3852, 3) by decide +kernel) (by decide)
set_option maxRecDepth 100000 in
theorem r_162_21 : ∀ (d : Nat) (l0 l1 l2 l3 l5 : Option Value) (v : Int32) (st : List Value) (M : Mem) (Q : Outcome → Mem → Prop), Wp d 162 21 [l0, l1, l2, l3, some (.int v), l5] st M Q = Wp d 162 23 [l0, l1, l2, l3, some (.int v), l5] (.int v :: st) M Q := fun d l0 l1 l2 l3 l5 v st M Q => wA (show ins 162 21 = some (.iload 4, 2) by decide +kernel) rfl
set_option maxRecDepth 100000 in
theorem r_162_23 : ∀ (d : Nat) (ls : Lc) (a b : Int) (st : List Value) (M : Mem) (Q : Outcome → Mem → Prop), Wp d 162 23 ls (.int (I b) :: .int (I a) :: st) M Q = Wp d 162 24 ls (.int (I (a + b)) :: st) M Q := fun d ls a b st M Q => w_iadd (show ins 162 23 = some (.iadd, 1) by decide +kernel)
set_option maxRecDepth 100000 in
theorem r_162_24 : ∀ (d : Nat) (ls : Lc) (a : Nat) (j : Int32) (st : List Value) (M : Mem) (Q : Outcome → Mem → Prop), Wp d 162 24 ls (.int j :: .ref a :: st) M Q = ((((kX M a).1 = 0 ∨ (kX M a).1 = 8) ∧ inB j (kX M a).2 = true) ∧ Wp d 162 25 ls (.int (mA M a j.toNatClampNeg) :: st) M Q) := fun d ls a j st M Q => w_iaload (show ins 162 24 = some (.iaload, 1) by decide +kernel)
set_option maxRecDepth 100000 in
theorem r_162_25 : ∀ (d : Nat) (ls : Lc) (a b : Int32) (st : List Value) (M : Mem) (Q : Outcome → Mem → Prop), Wp d 162 25 ls (.int b :: .int a :: st) M Q = Br (b ≤ a) d 162 51 28 ls st M Q := fun d ls a b st M Q => w_icmp (show ins 162 25 = some (.if_icmp .ge 26, 3) by decide +kernel) rfl rfl
set_option maxRecDepth 100000 in
theorem r_162_28 : ∀ (d : Nat) (l1 l2 l3 l4 l5 : Option Value) (v : Nat) (st : List Value) (M : Mem) (Q : Outcome → Mem → Prop), Wp d 162 28 [some (.ref v), l1, l2, l3, l4, l5] st M Q = Wp d 162 29 [some (.ref v), l1, l2, l3, l4, l5] (.ref v :: st) M Q := fun d l1 l2 l3 l4 l5 v st M Q => wA (show ins 162 28 = some (.aload_n 0, 1) by decide +kernel) rfl
set_option maxRecDepth 100000 in
theorem r_162_29 : ∀ (d : Nat) (l0 l1 l2 l3 l5 : Option Value) (v : Int32) (st : List Value) (M : Mem) (Q : Outcome → Mem → Prop), Wp d 162 29 [l0, l1, l2, l3, some (.int v), l5] st M Q = Wp d 162 31 [l0, l1, l2, l3, some (.int v), l5] (.int v :: st) M Q := fun d l0 l1 l2 l3 l5 v st M Q => wA (show ins 162 29 = some (.iload 4, 2) by decide +kernel) rfl
set_option maxRecDepth 100000 in
theorem r_162_31 : ∀ (d : Nat) (l0 l1 l2 l3 l4 : Option Value) (v : Int32) (st : List Value) (M : Mem) (Q : Outcome → Mem → Prop), Wp d 162 31 [l0, l1, l2, l3, l4, some (.int v)] st M Q = Wp d 162 33 [l0, l1, l2, l3, l4, some (.int v)] (.int v :: st) M Q := fun d l0 l1 l2 l3 l4 v st M Q => wA (show ins 162 31 = some (.iload 5, 2) by decide +kernel) rfl
set_option maxRecDepth 100000 in
theorem r_162_33 : ∀ (d : Nat) (l0 l2 l3 l4 l5 : Option Value) (v : Int32) (st : List Value) (M : Mem) (Q : Outcome → Mem → Prop), Wp d 162 33 [l0, some (.int v), l2, l3, l4, l5] st M Q = Wp d 162 34 [l0, some (.int v), l2, l3, l4, l5] (.int v :: st) M Q := fun d l0 l2 l3 l4 l5 v st M Q => wA (show ins 162 33 = some (.iload_n 1, 1) by decide +kernel) rfl
set_option maxRecDepth 100000 in
theorem r_162_34 : ∀ (d : Nat) (l0 l1 l3 l4 l5 : Option Value) (v : Int32) (st : List Value) (M : Mem) (Q : Outcome → Mem → Prop), Wp d 162 34 [l0, l1, some (.int v), l3, l4, l5] st M Q = Wp d 162 35 [l0, l1, some (.int v), l3, l4, l5] (.int v :: st) M Q := fun d l0 l1 l3 l4 l5 v st M Q => wA (show ins 162 34 = some (.iload_n 2, 1) by decide +kernel) rfl
set_option maxRecDepth 100000 in
theorem r_162_35 : ∀ (d : Nat) (l0 l1 l2 l4 l5 : Option Value) (v : Int32) (st : List Value) (M : Mem) (Q : Outcome → Mem → Prop), Wp d 162 35 [l0, l1, l2, some (.int v), l4, l5] st M Q = Wp d 162 36 [l0, l1, l2, some (.int v), l4, l5] (.int v :: st) M Q := fun d l0 l1 l2 l4 l5 v st M Q => wA (show ins 162 35 = some (.iload_n 3, 1) by decide +kernel) rfl
set_option maxRecDepth 100000 in
theorem r_162_36 : ∀ (d : Nat) (ls : Lc) (v0 v1 v2 v3 v4 : Value) (a : Nat) (st : List Value) (M : Mem) (Q : Outcome → Mem → Prop), (smallR st = true) → Wp d 162 36 ls (v4 :: v3 :: v2 :: v1 :: v0 :: .ref a :: st) M Q = (kO M a = 8 ∧ Ca d 162 36 ls 164 (.ref a :: [v0, v1, v2, v3, v4]) st M Q) := fun d ls v0 v1 v2 v3 v4 a st M Q h0 => w_virt1 (as := [v0, v1, v2, v3, v4]) (show ins 162 36 = some (.invokevirtual 113, 3) by decide +kernel) (show mRes (mC 162) 113 = some (3, 8, [(8, 164)]) by decide +kernel) (by decide +kernel) rfl (by decide +kernel) (by decide +kernel) h0
set_option maxRecDepth 100000 in
theorem r_162_39 : ∀ (d : Nat) (ls : Lc) (a : Int32) (st : List Value) (M : Mem) (Q : Outcome → Mem → Prop), Wp d 162 39 ls (.int a :: st) M Q = Br (¬ a = I 0) d 162 45 42 ls st M Q := fun d ls a st M Q => w_if (show ins 162 39 = some (.ifCond .ne 6, 3) by decide +kernel) rfl rfl
set_option maxRecDepth 100000 in
theorem r_162_42 : ∀ (d : Nat) (l0 l1 l2 l3 l4 : Option Value) (v : Int32) (st : List Value) (M : Mem) (Q : Outcome → Mem → Prop), Wp d 162 42 [l0, l1, l2, l3, l4, some (.int v)] st M Q = Wp d 162 44 [l0, l1, l2, l3, l4, some (.int v)] (.int v :: st) M Q := fun d l0 l1 l2 l3 l4 v st M Q => wA (show ins 162 42 = some (.iload 5, 2) by decide +kernel) rfl
set_option maxRecDepth 100000 in
theorem r_162_44 : ∀ (d : Nat) (ls : Lc) (v : Int32) (M : Mem) (Q : Outcome → Mem → Prop), Wp d 162 44 ls [.int v] M Q = Q (.returned (some (.int v))) M := fun d ls v M Q => w_ireturn (show ins 162 44 = some (.ireturn, 1) by decide +kernel) (by decide +kernel)
set_option maxRecDepth 100000 in
theorem r_162_45 : ∀ (d : Nat) (l0 l1 l2 l3 l4 : Option Value) (z : Int) (st : List Value) (M : Mem) (Q : Outcome → Mem → Prop), (lo l4 = false) → Wp d 162 45 [l0, l1, l2, l3, l4, some (.int (I z))] st M Q = Wp d 162 48 [l0, l1, l2, l3, l4, some (.int (I (z + 1)))] st M Q := fun d l0 l1 l2 l3 l4 z st M Q hl => w_iinc (show ins 162 45 = some (.iinc 5 1, 3) by decide +kernel) rfl (st1_S rfl rfl hl)
set_option maxRecDepth 100000 in
theorem r_162_48 : ∀ (d : Nat) (ls : Lc) (st : List Value) (M : Mem) (Q : Outcome → Mem → Prop), Wp d 162 48 ls st M Q = Wp d 162 12 ls st M Q := fun d ls st M Q => w_goto (show ins 162 48 = some (.goto (-36), 3) by decide +kernel) rfl
set_option maxRecDepth 100000 in
theorem r_162_51 : ∀ (d : Nat) (ls : Lc) (st : List Value) (M : Mem) (Q : Outcome → Mem → Prop), Wp d 162 51 ls st M Q = Wp d 162 52 ls (.int (I (-1)) :: st) M Q := fun d ls st M Q => w_iconst (show ins 162 51 = some (.iconst (-1), 1) by decide +kernel)
set_option maxRecDepth 100000 in
theorem r_162_52 : ∀ (d : Nat) (ls : Lc) (v : Int32) (M : Mem) (Q : Outcome → Mem → Prop), Wp d 162 52 ls [.int v] M Q = Q (.returned (some (.int v))) M := fun d ls v M Q => w_ireturn (show ins 162 52 = some (.ireturn, 1) by decide +kernel) (by decide +kernel)
set_option maxRecDepth 100000 in
theorem w_162_12 : (type_of% r_162_12) := r_162_12
set_option maxRecDepth 100000 in
theorem W_162 : (type_of% r_162_0) ∧ (type_of% r_162_1) ∧ (type_of% r_162_2) ∧ (type_of% r_162_3) ∧ (type_of% r_162_4) ∧ (type_of% r_162_7) ∧ (type_of% r_162_9) ∧ (type_of% r_162_10) ∧ (type_of% r_162_14) ∧ (type_of% r_162_15) ∧ (type_of% r_162_18) ∧ (type_of% r_162_21) ∧ (type_of% r_162_23) ∧ (type_of% r_162_24) ∧ (type_of% r_162_25) ∧ (type_of% r_162_28) ∧ (type_of% r_162_29) ∧ (type_of% r_162_31) ∧ (type_of% r_162_33) ∧ (type_of% r_162_34) ∧ (type_of% r_162_35) ∧ (type_of% r_162_36) ∧ (type_of% r_162_39) ∧ (type_of% r_162_42) ∧ (type_of% r_162_44) ∧ (type_of% r_162_45) ∧ (type_of% r_162_48) ∧ (type_of% r_162_51) ∧ (type_of% r_162_52) := ⟨r_162_0, r_162_1, r_162_2, r_162_3, r_162_4, r_162_7, r_162_9, r_162_10, r_162_14, r_162_15, r_162_18, r_162_21, r_162_23, r_162_24, r_162_25, r_162_28, r_162_29, r_162_31, r_162_33, r_162_34, r_162_35, r_162_36, r_162_39, r_162_42, r_162_44, r_162_45, r_162_48, r_162_51, r_162_52⟩
set_option maxRecDepth 100000 in
theorem ca_162 {d y pc : Nat} {ls : Lc} {a : Nat} {z0 : Int32} {z1 : Int32} {z2 : Int32} {r : List Value} {M : Mem} {Q : Outcome → Mem → Prop} (hd : 0 < d) (hw : Wp (d - 1) 162 0 [some (.ref a), some (.int z0), some (.int z1), some (.int z2), none, none] [] M (Cq d y pc ls r Q)) : Ca d y pc ls 162 [.ref a, .int z0, .int z1, .int z2] r M Q := ca_of (mq_get (by decide)) (by rfl) hd hw
/-! 163 PackedTreeModel.leafOf(III)I; loop heads [13] -/
set_option maxRecDepth 100000 in
theorem r_163_0 : ∀ (d : Nat) (l1 l2 l3 l4 l5 l6 : Option Value) (v : Nat) (st : List Value) (M : Mem) (Q : Outcome → Mem → Prop), Wp d 163 0 [some (.ref v), l1, l2, l3, l4, l5, l6] st M Q = Wp d 163 1 [some (.ref v), l1, l2, l3, l4, l5, l6] (.ref v :: st) M Q := fun d l1 l2 l3 l4 l5 l6 v st M Q => wA (show ins 163 0 = some (.aload_n 0, 1) by decide +kernel) rfl
set_option maxRecDepth 100000 in
theorem r_163_1 : ∀ (d : Nat) (ls : Lc) (a : Nat) (st : List Value) (M : Mem) (Q : Outcome → Mem → Prop), Wp d 163 1 ls (.ref a :: st) M Q = (fk 53 (kO M a) = true ∧ Wp d 163 4 ls (va_rf (mR M 53 a) :: st) M Q) := fun d ls a st M Q => w_getR (show ins 163 1 = some (.getfield 7, 3) by decide +kernel) (show fRes (mC 163) 7 = some (53, 8, false) by decide +kernel) (by decide +kernel)
set_option maxRecDepth 100000 in
theorem r_163_4 : ∀ (d : Nat) (ls : Lc) (st : List Value) (M : Mem) (Q : Outcome → Mem → Prop), Wp d 163 4 ls st M Q = Wp d 163 7 ls (.int (I 12300) :: st) M Q := fun d ls st M Q => w_sipush (show ins 163 4 = some (.sipush 12300, 3) by decide +kernel) (by decide)
set_option maxRecDepth 100000 in
theorem r_163_7 : ∀ (d : Nat) (ls : Lc) (a : Nat) (j : Int32) (st : List Value) (M : Mem) (Q : Outcome → Mem → Prop), Wp d 163 7 ls (.int j :: .ref a :: st) M Q = ((((kX M a).1 = 0 ∨ (kX M a).1 = 8) ∧ inB j (kX M a).2 = true) ∧ Wp d 163 8 ls (.int (mA M a j.toNatClampNeg) :: st) M Q) := fun d ls a j st M Q => w_iaload (show ins 163 7 = some (.iaload, 1) by decide +kernel)
set_option maxRecDepth 100000 in
theorem r_163_8 : ∀ (d : Nat) (l0 l1 l2 l3 l4 l5 l6 : Option Value) (v : Int32) (st : List Value) (M : Mem) (Q : Outcome → Mem → Prop), (lo l3 = false) → Wp d 163 8 [l0, l1, l2, l3, l4, l5, l6] (.int v :: st) M Q = Wp d 163 10 [l0, l1, l2, l3, some (.int v), l5, l6] st M Q := fun d l0 l1 l2 l3 l4 l5 l6 v st M Q hl => w_istore (show ins 163 8 = some (.istore 4, 2) by decide +kernel) (st1_S rfl rfl hl)
set_option maxRecDepth 100000 in
theorem r_163_10 : ∀ (d : Nat) (ls : Lc) (st : List Value) (M : Mem) (Q : Outcome → Mem → Prop), Wp d 163 10 ls st M Q = Wp d 163 11 ls (.int (I 0) :: st) M Q := fun d ls st M Q => w_iconst (show ins 163 10 = some (.iconst 0, 1) by decide +kernel)
set_option maxRecDepth 100000 in
theorem r_163_11 : ∀ (d : Nat) (l0 l1 l2 l3 l4 l5 l6 : Option Value) (v : Int32) (st : List Value) (M : Mem) (Q : Outcome → Mem → Prop), (lo l4 = false) → Wp d 163 11 [l0, l1, l2, l3, l4, l5, l6] (.int v :: st) M Q = Wp d 163 13 [l0, l1, l2, l3, l4, some (.int v), l6] st M Q := fun d l0 l1 l2 l3 l4 l5 l6 v st M Q hl => w_istore (show ins 163 11 = some (.istore 5, 2) by decide +kernel) (st1_S rfl rfl hl)
set_option maxRecDepth 100000 in
theorem r_163_13 : ∀ (d : Nat) (l0 l1 l2 l3 l4 l6 : Option Value) (v : Int32) (st : List Value) (M : Mem) (Q : Outcome → Mem → Prop), Wp d 163 13 [l0, l1, l2, l3, l4, some (.int v), l6] st M Q = Wp d 163 15 [l0, l1, l2, l3, l4, some (.int v), l6] (.int v :: st) M Q := fun d l0 l1 l2 l3 l4 l6 v st M Q => wA (show ins 163 13 = some (.iload 5, 2) by decide +kernel) rfl
set_option maxRecDepth 100000 in
theorem r_163_15 : ∀ (d : Nat) (l1 l2 l3 l4 l5 l6 : Option Value) (v : Nat) (st : List Value) (M : Mem) (Q : Outcome → Mem → Prop), Wp d 163 15 [some (.ref v), l1, l2, l3, l4, l5, l6] st M Q = Wp d 163 16 [some (.ref v), l1, l2, l3, l4, l5, l6] (.ref v :: st) M Q := fun d l1 l2 l3 l4 l5 l6 v st M Q => wA (show ins 163 15 = some (.aload_n 0, 1) by decide +kernel) rfl
set_option maxRecDepth 100000 in
theorem r_163_16 : ∀ (d : Nat) (ls : Lc) (a : Nat) (st : List Value) (M : Mem) (Q : Outcome → Mem → Prop), Wp d 163 16 ls (.ref a :: st) M Q = (fk 53 (kO M a) = true ∧ Wp d 163 19 ls (va_rf (mR M 53 a) :: st) M Q) := fun d ls a st M Q => w_getR (show ins 163 16 = some (.getfield 7, 3) by decide +kernel) (show fRes (mC 163) 7 = some (53, 8, false) by decide +kernel) (by decide +kernel)
set_option maxRecDepth 100000 in
theorem r_163_19 : ∀ (d : Nat) (ls : Lc) (st : List Value) (M : Mem) (Q : Outcome → Mem → Prop), Wp d 163 19 ls st M Q = Wp d 163 22 ls (.int (I 13068) :: st) M Q := fun d ls st M Q => w_sipush (show ins 163 19 = some (.sipush 13068, 3) by decide +kernel) (by decide)
set_option maxRecDepth 100000 in
theorem r_163_22 : ∀ (d : Nat) (ls : Lc) (a : Nat) (j : Int32) (st : List Value) (M : Mem) (Q : Outcome → Mem → Prop), Wp d 163 22 ls (.int j :: .ref a :: st) M Q = ((((kX M a).1 = 0 ∨ (kX M a).1 = 8) ∧ inB j (kX M a).2 = true) ∧ Wp d 163 23 ls (.int (mA M a j.toNatClampNeg) :: st) M Q) := fun d ls a j st M Q => w_iaload (show ins 163 22 = some (.iaload, 1) by decide +kernel)
set_option maxRecDepth 100000 in
theorem r_163_23 : ∀ (d : Nat) (ls : Lc) (a b : Int32) (st : List Value) (M : Mem) (Q : Outcome → Mem → Prop), Wp d 163 23 ls (.int b :: .int a :: st) M Q = Br (b ≤ a) d 163 81 26 ls st M Q := fun d ls a b st M Q => w_icmp (show ins 163 23 = some (.if_icmp .ge 58, 3) by decide +kernel) rfl rfl
set_option maxRecDepth 100000 in
theorem r_163_26 : ∀ (d : Nat) (l1 l2 l3 l4 l5 l6 : Option Value) (v : Nat) (st : List Value) (M : Mem) (Q : Outcome → Mem → Prop), Wp d 163 26 [some (.ref v), l1, l2, l3, l4, l5, l6] st M Q = Wp d 163 27 [some (.ref v), l1, l2, l3, l4, l5, l6] (.ref v :: st) M Q := fun d l1 l2 l3 l4 l5 l6 v st M Q => wA (show ins 163 26 = some (.aload_n 0, 1) by decide +kernel) rfl
set_option maxRecDepth 100000 in
theorem r_163_27 : ∀ (d : Nat) (ls : Lc) (a : Nat) (st : List Value) (M : Mem) (Q : Outcome → Mem → Prop), Wp d 163 27 ls (.ref a :: st) M Q = (fk 53 (kO M a) = true ∧ Wp d 163 30 ls (va_rf (mR M 53 a) :: st) M Q) := fun d ls a st M Q => w_getR (show ins 163 27 = some (.getfield 7, 3) by decide +kernel) (show fRes (mC 163) 7 = some (53, 8, false) by decide +kernel) (by decide +kernel)
set_option maxRecDepth 100000 in
theorem r_163_30 : ∀ (d : Nat) (ls : Lc) (st : List Value) (M : Mem) (Q : Outcome → Mem → Prop), Wp d 163 30 ls st M Q = Wp d 163 33 ls (.int (I 12300) :: st) M Q := fun d ls st M Q => w_sipush (show ins 163 30 = some (.sipush 12300, 3) by decide +kernel) (by decide)
set_option maxRecDepth 100000 in
theorem r_163_33 : ∀ (d : Nat) (l0 l1 l2 l3 l4 l6 : Option Value) (v : Int32) (st : List Value) (M : Mem) (Q : Outcome → Mem → Prop), Wp d 163 33 [l0, l1, l2, l3, l4, some (.int v), l6] st M Q = Wp d 163 35 [l0, l1, l2, l3, l4, some (.int v), l6] (.int v :: st) M Q := fun d l0 l1 l2 l3 l4 l6 v st M Q => wA (show ins 163 33 = some (.iload 5, 2) by decide +kernel) rfl
set_option maxRecDepth 100000 in
theorem r_163_35 : ∀ (d : Nat) (ls : Lc) (a b : Int) (st : List Value) (M : Mem) (Q : Outcome → Mem → Prop), Wp d 163 35 ls (.int (I b) :: .int (I a) :: st) M Q = Wp d 163 36 ls (.int (I (a + b)) :: st) M Q := fun d ls a b st M Q => w_iadd (show ins 163 35 = some (.iadd, 1) by decide +kernel)
set_option maxRecDepth 100000 in
theorem r_163_36 : ∀ (d : Nat) (ls : Lc) (a : Nat) (j : Int32) (st : List Value) (M : Mem) (Q : Outcome → Mem → Prop), Wp d 163 36 ls (.int j :: .ref a :: st) M Q = ((((kX M a).1 = 0 ∨ (kX M a).1 = 8) ∧ inB j (kX M a).2 = true) ∧ Wp d 163 37 ls (.int (mA M a j.toNatClampNeg) :: st) M Q) := fun d ls a j st M Q => w_iaload (show ins 163 36 = some (.iaload, 1) by decide +kernel)
set_option maxRecDepth 100000 in
theorem r_163_37 : ∀ (d : Nat) (l0 l1 l2 l3 l4 l5 l6 : Option Value) (v : Int32) (st : List Value) (M : Mem) (Q : Outcome → Mem → Prop), (lo l5 = false) → Wp d 163 37 [l0, l1, l2, l3, l4, l5, l6] (.int v :: st) M Q = Wp d 163 39 [l0, l1, l2, l3, l4, l5, some (.int v)] st M Q := fun d l0 l1 l2 l3 l4 l5 l6 v st M Q hl => w_istore (show ins 163 37 = some (.istore 6, 2) by decide +kernel) (st1_S rfl rfl hl)
set_option maxRecDepth 100000 in
theorem r_163_39 : ∀ (d : Nat) (l1 l2 l3 l4 l5 l6 : Option Value) (v : Nat) (st : List Value) (M : Mem) (Q : Outcome → Mem → Prop), Wp d 163 39 [some (.ref v), l1, l2, l3, l4, l5, l6] st M Q = Wp d 163 40 [some (.ref v), l1, l2, l3, l4, l5, l6] (.ref v :: st) M Q := fun d l1 l2 l3 l4 l5 l6 v st M Q => wA (show ins 163 39 = some (.aload_n 0, 1) by decide +kernel) rfl
set_option maxRecDepth 100000 in
theorem r_163_40 : ∀ (d : Nat) (ls : Lc) (a : Nat) (st : List Value) (M : Mem) (Q : Outcome → Mem → Prop), Wp d 163 40 ls (.ref a :: st) M Q = (fk 53 (kO M a) = true ∧ Wp d 163 43 ls (va_rf (mR M 53 a) :: st) M Q) := fun d ls a st M Q => w_getR (show ins 163 40 = some (.getfield 7, 3) by decide +kernel) (show fRes (mC 163) 7 = some (53, 8, false) by decide +kernel) (by decide +kernel)
set_option maxRecDepth 100000 in
theorem r_163_43 : ∀ (d : Nat) (ls : Lc) (st : List Value) (M : Mem) (Q : Outcome → Mem → Prop), Wp d 163 43 ls st M Q = Wp d 163 46 ls (.int (I 3852) :: st) M Q := fun d ls st M Q => w_sipush (show ins 163 43 = some (.sipush 3852, 3) by decide +kernel) (by decide)
set_option maxRecDepth 100000 in
theorem r_163_46 : ∀ (d : Nat) (l0 l1 l2 l3 l4 l5 : Option Value) (v : Int32) (st : List Value) (M : Mem) (Q : Outcome → Mem → Prop), Wp d 163 46 [l0, l1, l2, l3, l4, l5, some (.int v)] st M Q = Wp d 163 48 [l0, l1, l2, l3, l4, l5, some (.int v)] (.int v :: st) M Q := fun d l0 l1 l2 l3 l4 l5 v st M Q => wA (show ins 163 46 = some (.iload 6, 2) by decide +kernel) rfl
set_option maxRecDepth 100000 in
theorem r_163_48 : ∀ (d : Nat) (ls : Lc) (a b : Int) (st : List Value) (M : Mem) (Q : Outcome → Mem → Prop), Wp d 163 48 ls (.int (I b) :: .int (I a) :: st) M Q = Wp d 163 49 ls (.int (I (a + b)) :: st) M Q := fun d ls a b st M Q => w_iadd (show ins 163 48 = some (.iadd, 1) by decide +kernel)
set_option maxRecDepth 100000 in
theorem r_163_49 : ∀ (d : Nat) (ls : Lc) (a : Nat) (j : Int32) (st : List Value) (M : Mem) (Q : Outcome → Mem → Prop), Wp d 163 49 ls (.int j :: .ref a :: st) M Q = ((((kX M a).1 = 0 ∨ (kX M a).1 = 8) ∧ inB j (kX M a).2 = true) ∧ Wp d 163 50 ls (.int (mA M a j.toNatClampNeg) :: st) M Q) := fun d ls a j st M Q => w_iaload (show ins 163 49 = some (.iaload, 1) by decide +kernel)
set_option maxRecDepth 100000 in
theorem r_163_50 : ∀ (d : Nat) (ls : Lc) (a : Int32) (st : List Value) (M : Mem) (Q : Outcome → Mem → Prop), Wp d 163 50 ls (.int a :: st) M Q = Br (a ≤ I 0) d 163 71 53 ls st M Q := fun d ls a st M Q => w_if (show ins 163 50 = some (.ifCond .le 21, 3) by decide +kernel) rfl rfl
set_option maxRecDepth 100000 in
theorem r_163_53 : ∀ (d : Nat) (l1 l2 l3 l4 l5 l6 : Option Value) (v : Nat) (st : List Value) (M : Mem) (Q : Outcome → Mem → Prop), Wp d 163 53 [some (.ref v), l1, l2, l3, l4, l5, l6] st M Q = Wp d 163 54 [some (.ref v), l1, l2, l3, l4, l5, l6] (.ref v :: st) M Q := fun d l1 l2 l3 l4 l5 l6 v st M Q => wA (show ins 163 53 = some (.aload_n 0, 1) by decide +kernel) rfl
set_option maxRecDepth 100000 in
theorem r_163_54 : ∀ (d : Nat) (l0 l1 l2 l3 l4 l5 : Option Value) (v : Int32) (st : List Value) (M : Mem) (Q : Outcome → Mem → Prop), Wp d 163 54 [l0, l1, l2, l3, l4, l5, some (.int v)] st M Q = Wp d 163 56 [l0, l1, l2, l3, l4, l5, some (.int v)] (.int v :: st) M Q := fun d l0 l1 l2 l3 l4 l5 v st M Q => wA (show ins 163 54 = some (.iload 6, 2) by decide +kernel) rfl
set_option maxRecDepth 100000 in
theorem r_163_56 : ∀ (d : Nat) (ls : Lc) (st : List Value) (M : Mem) (Q : Outcome → Mem → Prop), Wp d 163 56 ls st M Q = Wp d 163 57 ls (.int (I 0) :: st) M Q := fun d ls st M Q => w_iconst (show ins 163 56 = some (.iconst 0, 1) by decide +kernel)
set_option maxRecDepth 100000 in
theorem r_163_57 : ∀ (d : Nat) (l0 l2 l3 l4 l5 l6 : Option Value) (v : Int32) (st : List Value) (M : Mem) (Q : Outcome → Mem → Prop), Wp d 163 57 [l0, some (.int v), l2, l3, l4, l5, l6] st M Q = Wp d 163 58 [l0, some (.int v), l2, l3, l4, l5, l6] (.int v :: st) M Q := fun d l0 l2 l3 l4 l5 l6 v st M Q => wA (show ins 163 57 = some (.iload_n 1, 1) by decide +kernel) rfl
set_option maxRecDepth 100000 in
theorem r_163_58 : ∀ (d : Nat) (l0 l1 l3 l4 l5 l6 : Option Value) (v : Int32) (st : List Value) (M : Mem) (Q : Outcome → Mem → Prop), Wp d 163 58 [l0, l1, some (.int v), l3, l4, l5, l6] st M Q = Wp d 163 59 [l0, l1, some (.int v), l3, l4, l5, l6] (.int v :: st) M Q := fun d l0 l1 l3 l4 l5 l6 v st M Q => wA (show ins 163 58 = some (.iload_n 2, 1) by decide +kernel) rfl
set_option maxRecDepth 100000 in
theorem r_163_59 : ∀ (d : Nat) (l0 l1 l2 l4 l5 l6 : Option Value) (v : Int32) (st : List Value) (M : Mem) (Q : Outcome → Mem → Prop), Wp d 163 59 [l0, l1, l2, some (.int v), l4, l5, l6] st M Q = Wp d 163 60 [l0, l1, l2, some (.int v), l4, l5, l6] (.int v :: st) M Q := fun d l0 l1 l2 l4 l5 l6 v st M Q => wA (show ins 163 59 = some (.iload_n 3, 1) by decide +kernel) rfl
set_option maxRecDepth 100000 in
theorem r_163_60 : ∀ (d : Nat) (ls : Lc) (v0 v1 v2 v3 v4 : Value) (a : Nat) (st : List Value) (M : Mem) (Q : Outcome → Mem → Prop), (smallR st = true) → Wp d 163 60 ls (v4 :: v3 :: v2 :: v1 :: v0 :: .ref a :: st) M Q = (kO M a = 8 ∧ Ca d 163 60 ls 164 (.ref a :: [v0, v1, v2, v3, v4]) st M Q) := fun d ls v0 v1 v2 v3 v4 a st M Q h0 => w_virt1 (as := [v0, v1, v2, v3, v4]) (show ins 163 60 = some (.invokevirtual 113, 3) by decide +kernel) (show mRes (mC 163) 113 = some (3, 8, [(8, 164)]) by decide +kernel) (by decide +kernel) rfl (by decide +kernel) (by decide +kernel) h0
set_option maxRecDepth 100000 in
theorem r_163_63 : ∀ (d : Nat) (ls : Lc) (a : Int32) (st : List Value) (M : Mem) (Q : Outcome → Mem → Prop), Wp d 163 63 ls (.int a :: st) M Q = Br (I 0 < a) d 163 71 66 ls st M Q := fun d ls a st M Q => w_if (show ins 163 63 = some (.ifCond .gt 8, 3) by decide +kernel) rfl rfl
set_option maxRecDepth 100000 in
theorem r_163_66 : ∀ (d : Nat) (l0 l1 l2 l3 l4 l5 : Option Value) (v : Int32) (st : List Value) (M : Mem) (Q : Outcome → Mem → Prop), Wp d 163 66 [l0, l1, l2, l3, l4, l5, some (.int v)] st M Q = Wp d 163 68 [l0, l1, l2, l3, l4, l5, some (.int v)] (.int v :: st) M Q := fun d l0 l1 l2 l3 l4 l5 v st M Q => wA (show ins 163 66 = some (.iload 6, 2) by decide +kernel) rfl
set_option maxRecDepth 100000 in
theorem r_163_68 : ∀ (d : Nat) (ls : Lc) (st : List Value) (M : Mem) (Q : Outcome → Mem → Prop), Wp d 163 68 ls st M Q = Wp d 163 73 ls st M Q := fun d ls st M Q => w_goto (show ins 163 68 = some (.goto 5, 3) by decide +kernel) rfl
set_option maxRecDepth 100000 in
theorem r_163_71 : ∀ (d : Nat) (l0 l1 l2 l3 l5 l6 : Option Value) (v : Int32) (st : List Value) (M : Mem) (Q : Outcome → Mem → Prop), Wp d 163 71 [l0, l1, l2, l3, some (.int v), l5, l6] st M Q = Wp d 163 73 [l0, l1, l2, l3, some (.int v), l5, l6] (.int v :: st) M Q := fun d l0 l1 l2 l3 l5 l6 v st M Q => wA (show ins 163 71 = some (.iload 4, 2) by decide +kernel) rfl
set_option maxRecDepth 100000 in
theorem r_163_73 : ∀ (d : Nat) (l0 l1 l2 l3 l4 l5 l6 : Option Value) (v : Int32) (st : List Value) (M : Mem) (Q : Outcome → Mem → Prop), (lo l3 = false) → Wp d 163 73 [l0, l1, l2, l3, l4, l5, l6] (.int v :: st) M Q = Wp d 163 75 [l0, l1, l2, l3, some (.int v), l5, l6] st M Q := fun d l0 l1 l2 l3 l4 l5 l6 v st M Q hl => w_istore (show ins 163 73 = some (.istore 4, 2) by decide +kernel) (st1_S rfl rfl hl)
set_option maxRecDepth 100000 in
theorem r_163_75 : ∀ (d : Nat) (l0 l1 l2 l3 l4 l6 : Option Value) (z : Int) (st : List Value) (M : Mem) (Q : Outcome → Mem → Prop), (lo l4 = false) → Wp d 163 75 [l0, l1, l2, l3, l4, some (.int (I z)), l6] st M Q = Wp d 163 78 [l0, l1, l2, l3, l4, some (.int (I (z + 1))), l6] st M Q := fun d l0 l1 l2 l3 l4 l6 z st M Q hl => w_iinc (show ins 163 75 = some (.iinc 5 1, 3) by decide +kernel) rfl (st1_S rfl rfl hl)
set_option maxRecDepth 100000 in
theorem r_163_78 : ∀ (d : Nat) (ls : Lc) (st : List Value) (M : Mem) (Q : Outcome → Mem → Prop), Wp d 163 78 ls st M Q = Wp d 163 13 ls st M Q := fun d ls st M Q => w_goto (show ins 163 78 = some (.goto (-65), 3) by decide +kernel) rfl
set_option maxRecDepth 100000 in
theorem r_163_81 : ∀ (d : Nat) (l0 l1 l2 l3 l5 l6 : Option Value) (v : Int32) (st : List Value) (M : Mem) (Q : Outcome → Mem → Prop), Wp d 163 81 [l0, l1, l2, l3, some (.int v), l5, l6] st M Q = Wp d 163 83 [l0, l1, l2, l3, some (.int v), l5, l6] (.int v :: st) M Q := fun d l0 l1 l2 l3 l5 l6 v st M Q => wA (show ins 163 81 = some (.iload 4, 2) by decide +kernel) rfl
set_option maxRecDepth 100000 in
theorem r_163_83 : ∀ (d : Nat) (ls : Lc) (v : Int32) (M : Mem) (Q : Outcome → Mem → Prop), Wp d 163 83 ls [.int v] M Q = Q (.returned (some (.int v))) M := fun d ls v M Q => w_ireturn (show ins 163 83 = some (.ireturn, 1) by decide +kernel) (by decide +kernel)
set_option maxRecDepth 100000 in
theorem w_163_13 : (type_of% r_163_13) := r_163_13
set_option maxRecDepth 100000 in
theorem W_163 : (type_of% r_163_0) ∧ (type_of% r_163_1) ∧ (type_of% r_163_4) ∧ (type_of% r_163_7) ∧ (type_of% r_163_8) ∧ (type_of% r_163_10) ∧ (type_of% r_163_11) ∧ (type_of% r_163_15) ∧ (type_of% r_163_16) ∧ (type_of% r_163_19) ∧ (type_of% r_163_22) ∧ (type_of% r_163_23) ∧ (type_of% r_163_26) ∧ (type_of% r_163_27) ∧ (type_of% r_163_30) ∧ (type_of% r_163_33) ∧ (type_of% r_163_35) ∧ (type_of% r_163_36) ∧ (type_of% r_163_37) ∧ (type_of% r_163_39) ∧ (type_of% r_163_40) ∧ (type_of% r_163_43) ∧ (type_of% r_163_46) ∧ (type_of% r_163_48) ∧ (type_of% r_163_49) ∧ (type_of% r_163_50) ∧ (type_of% r_163_53) ∧ (type_of% r_163_54) ∧ (type_of% r_163_56) ∧ (type_of% r_163_57) ∧ (type_of% r_163_58) ∧ (type_of% r_163_59) ∧ (type_of% r_163_60) ∧ (type_of% r_163_63) ∧ (type_of% r_163_66) ∧ (type_of% r_163_68) ∧ (type_of% r_163_71) ∧ (type_of% r_163_73) ∧ (type_of% r_163_75) ∧ (type_of% r_163_78) ∧ (type_of% r_163_81) ∧ (type_of% r_163_83) := ⟨r_163_0, r_163_1, r_163_4, r_163_7, r_163_8, r_163_10, r_163_11, r_163_15, r_163_16, r_163_19, r_163_22, r_163_23, r_163_26, r_163_27, r_163_30, r_163_33, r_163_35, r_163_36, r_163_37, r_163_39, r_163_40, r_163_43, r_163_46, r_163_48, r_163_49, r_163_50, r_163_53, r_163_54, r_163_56, r_163_57, r_163_58, r_163_59, r_163_60, r_163_63, r_163_66, r_163_68, r_163_71, r_163_73, r_163_75, r_163_78, r_163_81, r_163_83⟩
set_option maxRecDepth 100000 in
theorem ca_163 {d y pc : Nat} {ls : Lc} {a : Nat} {z0 : Int32} {z1 : Int32} {z2 : Int32} {r : List Value} {M : Mem} {Q : Outcome → Mem → Prop} (hd : 0 < d) (hw : Wp (d - 1) 163 0 [some (.ref a), some (.int z0), some (.int z1), some (.int z2), none, none, none] [] M (Cq d y pc ls r Q)) : Ca d y pc ls 163 [.ref a, .int z0, .int z1, .int z2] r M Q := ca_of (mq_get (by decide)) (by rfl) hd hw
/-! 164 PackedTreeModel.compare(IIIII)I; loop heads [] -/
set_option maxRecDepth 100000 in
theorem r_164_0 : ∀ (d : Nat) (ls : Lc) (st : List Value) (M : Mem) (Q : Outcome → Mem → Prop), Wp d 164 0 ls st M Q = Wp d 164 2 ls (.int (I 16) :: st) M Q := fun d ls st M Q => w_bipush (show ins 164 0 = some (.bipush 16, 2) by decide +kernel) (by decide)
set_option maxRecDepth 100000 in
theorem r_164_2 : ∀ (d : Nat) (l0 l2 l3 l4 l5 l6 : Option Value) (v : Int32) (st : List Value) (M : Mem) (Q : Outcome → Mem → Prop), Wp d 164 2 [l0, some (.int v), l2, l3, l4, l5, l6] st M Q = Wp d 164 3 [l0, some (.int v), l2, l3, l4, l5, l6] (.int v :: st) M Q := fun d l0 l2 l3 l4 l5 l6 v st M Q => wA (show ins 164 2 = some (.iload_n 1, 1) by decide +kernel) rfl
set_option maxRecDepth 100000 in
theorem r_164_3 : ∀ (d : Nat) (ls : Lc) (a b : Int) (st : List Value) (M : Mem) (Q : Outcome → Mem → Prop), Wp d 164 3 ls (.int (I b) :: .int (I a) :: st) M Q = Wp d 164 4 ls (.int (I (a * b)) :: st) M Q := fun d ls a b st M Q => w_imul (show ins 164 3 = some (.imul, 1) by decide +kernel)
set_option maxRecDepth 100000 in
theorem r_164_4 : ∀ (d : Nat) (l0 l1 l3 l4 l5 l6 : Option Value) (v : Int32) (st : List Value) (M : Mem) (Q : Outcome → Mem → Prop), Wp d 164 4 [l0, l1, some (.int v), l3, l4, l5, l6] st M Q = Wp d 164 5 [l0, l1, some (.int v), l3, l4, l5, l6] (.int v :: st) M Q := fun d l0 l1 l3 l4 l5 l6 v st M Q => wA (show ins 164 4 = some (.iload_n 2, 1) by decide +kernel) rfl
set_option maxRecDepth 100000 in
theorem r_164_5 : ∀ (d : Nat) (ls : Lc) (a b : Int) (st : List Value) (M : Mem) (Q : Outcome → Mem → Prop), Wp d 164 5 ls (.int (I b) :: .int (I a) :: st) M Q = Wp d 164 6 ls (.int (I (a + b)) :: st) M Q := fun d ls a b st M Q => w_iadd (show ins 164 5 = some (.iadd, 1) by decide +kernel)
set_option maxRecDepth 100000 in
theorem r_164_6 : ∀ (d : Nat) (l0 l1 l2 l3 l4 l5 l6 : Option Value) (v : Int32) (st : List Value) (M : Mem) (Q : Outcome → Mem → Prop), (lo l5 = false) → Wp d 164 6 [l0, l1, l2, l3, l4, l5, l6] (.int v :: st) M Q = Wp d 164 8 [l0, l1, l2, l3, l4, l5, some (.int v)] st M Q := fun d l0 l1 l2 l3 l4 l5 l6 v st M Q hl => w_istore (show ins 164 6 = some (.istore 6, 2) by decide +kernel) (st1_S rfl rfl hl)
set_option maxRecDepth 100000 in
theorem r_164_8 : ∀ (d : Nat) (l1 l2 l3 l4 l5 l6 : Option Value) (v : Nat) (st : List Value) (M : Mem) (Q : Outcome → Mem → Prop), Wp d 164 8 [some (.ref v), l1, l2, l3, l4, l5, l6] st M Q = Wp d 164 9 [some (.ref v), l1, l2, l3, l4, l5, l6] (.ref v :: st) M Q := fun d l1 l2 l3 l4 l5 l6 v st M Q => wA (show ins 164 8 = some (.aload_n 0, 1) by decide +kernel) rfl
set_option maxRecDepth 100000 in
theorem r_164_9 : ∀ (d : Nat) (ls : Lc) (a : Nat) (st : List Value) (M : Mem) (Q : Outcome → Mem → Prop), Wp d 164 9 ls (.ref a :: st) M Q = (fk 53 (kO M a) = true ∧ Wp d 164 12 ls (va_rf (mR M 53 a) :: st) M Q) := fun d ls a st M Q => w_getR (show ins 164 9 = some (.getfield 7, 3) by decide +kernel) (show fRes (mC 164) 7 = some (53, 8, false) by decide +kernel) (by decide +kernel)
set_option maxRecDepth 100000 in
theorem r_164_12 : ∀ (d : Nat) (ls : Lc) (st : List Value) (M : Mem) (Q : Outcome → Mem → Prop), Wp d 164 12 ls st M Q = Wp d 164 15 ls (.int (I 4620) :: st) M Q := fun d ls st M Q => w_sipush (show ins 164 12 = some (.sipush 4620, 3) by decide +kernel) (by decide)
set_option maxRecDepth 100000 in
theorem r_164_15 : ∀ (d : Nat) (l0 l1 l2 l3 l4 l5 : Option Value) (v : Int32) (st : List Value) (M : Mem) (Q : Outcome → Mem → Prop), Wp d 164 15 [l0, l1, l2, l3, l4, l5, some (.int v)] st M Q = Wp d 164 17 [l0, l1, l2, l3, l4, l5, some (.int v)] (.int v :: st) M Q := fun d l0 l1 l2 l3 l4 l5 v st M Q => wA (show ins 164 15 = some (.iload 6, 2) by decide +kernel) rfl
set_option maxRecDepth 100000 in
theorem r_164_17 : ∀ (d : Nat) (ls : Lc) (a b : Int) (st : List Value) (M : Mem) (Q : Outcome → Mem → Prop), Wp d 164 17 ls (.int (I b) :: .int (I a) :: st) M Q = Wp d 164 18 ls (.int (I (a + b)) :: st) M Q := fun d ls a b st M Q => w_iadd (show ins 164 17 = some (.iadd, 1) by decide +kernel)
set_option maxRecDepth 100000 in
theorem r_164_18 : ∀ (d : Nat) (ls : Lc) (a : Nat) (j : Int32) (st : List Value) (M : Mem) (Q : Outcome → Mem → Prop), Wp d 164 18 ls (.int j :: .ref a :: st) M Q = ((((kX M a).1 = 0 ∨ (kX M a).1 = 8) ∧ inB j (kX M a).2 = true) ∧ Wp d 164 19 ls (.int (mA M a j.toNatClampNeg) :: st) M Q) := fun d ls a j st M Q => w_iaload (show ins 164 18 = some (.iaload, 1) by decide +kernel)
set_option maxRecDepth 100000 in
theorem r_164_19 : ∀ (d : Nat) (l0 l1 l2 l4 l5 l6 : Option Value) (v : Int32) (st : List Value) (M : Mem) (Q : Outcome → Mem → Prop), Wp d 164 19 [l0, l1, l2, some (.int v), l4, l5, l6] st M Q = Wp d 164 20 [l0, l1, l2, some (.int v), l4, l5, l6] (.int v :: st) M Q := fun d l0 l1 l2 l4 l5 l6 v st M Q => wA (show ins 164 19 = some (.iload_n 3, 1) by decide +kernel) rfl
set_option maxRecDepth 100000 in
theorem r_164_20 : ∀ (d : Nat) (ls : Lc) (a b : Int32) (st : List Value) (M : Mem) (Q : Outcome → Mem → Prop), Wp d 164 20 ls (.int b :: .int a :: st) M Q = Br (a = b) d 164 39 23 ls st M Q := fun d ls a b st M Q => w_icmp (show ins 164 20 = some (.if_icmp .eq 19, 3) by decide +kernel) rfl rfl
set_option maxRecDepth 100000 in
theorem r_164_23 : ∀ (d : Nat) (l1 l2 l3 l4 l5 l6 : Option Value) (v : Nat) (st : List Value) (M : Mem) (Q : Outcome → Mem → Prop), Wp d 164 23 [some (.ref v), l1, l2, l3, l4, l5, l6] st M Q = Wp d 164 24 [some (.ref v), l1, l2, l3, l4, l5, l6] (.ref v :: st) M Q := fun d l1 l2 l3 l4 l5 l6 v st M Q => wA (show ins 164 23 = some (.aload_n 0, 1) by decide +kernel) rfl
set_option maxRecDepth 100000 in
theorem r_164_24 : ∀ (d : Nat) (ls : Lc) (a : Nat) (st : List Value) (M : Mem) (Q : Outcome → Mem → Prop), Wp d 164 24 ls (.ref a :: st) M Q = (fk 53 (kO M a) = true ∧ Wp d 164 27 ls (va_rf (mR M 53 a) :: st) M Q) := fun d ls a st M Q => w_getR (show ins 164 24 = some (.getfield 7, 3) by decide +kernel) (show fRes (mC 164) 7 = some (53, 8, false) by decide +kernel) (by decide +kernel)
set_option maxRecDepth 100000 in
theorem r_164_27 : ∀ (d : Nat) (ls : Lc) (st : List Value) (M : Mem) (Q : Outcome → Mem → Prop), Wp d 164 27 ls st M Q = Wp d 164 30 ls (.int (I 4620) :: st) M Q := fun d ls st M Q => w_sipush (show ins 164 27 = some (.sipush 4620, 3) by decide +kernel) (by decide)
set_option maxRecDepth 100000 in
theorem r_164_30 : ∀ (d : Nat) (l0 l1 l2 l3 l4 l5 : Option Value) (v : Int32) (st : List Value) (M : Mem) (Q : Outcome → Mem → Prop), Wp d 164 30 [l0, l1, l2, l3, l4, l5, some (.int v)] st M Q = Wp d 164 32 [l0, l1, l2, l3, l4, l5, some (.int v)] (.int v :: st) M Q := fun d l0 l1 l2 l3 l4 l5 v st M Q => wA (show ins 164 30 = some (.iload 6, 2) by decide +kernel) rfl
set_option maxRecDepth 100000 in
theorem r_164_32 : ∀ (d : Nat) (ls : Lc) (a b : Int) (st : List Value) (M : Mem) (Q : Outcome → Mem → Prop), Wp d 164 32 ls (.int (I b) :: .int (I a) :: st) M Q = Wp d 164 33 ls (.int (I (a + b)) :: st) M Q := fun d ls a b st M Q => w_iadd (show ins 164 32 = some (.iadd, 1) by decide +kernel)
set_option maxRecDepth 100000 in
theorem r_164_33 : ∀ (d : Nat) (ls : Lc) (a : Nat) (j : Int32) (st : List Value) (M : Mem) (Q : Outcome → Mem → Prop), Wp d 164 33 ls (.int j :: .ref a :: st) M Q = ((((kX M a).1 = 0 ∨ (kX M a).1 = 8) ∧ inB j (kX M a).2 = true) ∧ Wp d 164 34 ls (.int (mA M a j.toNatClampNeg) :: st) M Q) := fun d ls a j st M Q => w_iaload (show ins 164 33 = some (.iaload, 1) by decide +kernel)
set_option maxRecDepth 100000 in
theorem r_164_34 : ∀ (d : Nat) (l0 l1 l2 l4 l5 l6 : Option Value) (v : Int32) (st : List Value) (M : Mem) (Q : Outcome → Mem → Prop), Wp d 164 34 [l0, l1, l2, some (.int v), l4, l5, l6] st M Q = Wp d 164 35 [l0, l1, l2, some (.int v), l4, l5, l6] (.int v :: st) M Q := fun d l0 l1 l2 l4 l5 l6 v st M Q => wA (show ins 164 34 = some (.iload_n 3, 1) by decide +kernel) rfl
set_option maxRecDepth 100000 in
theorem r_164_35 : ∀ (d : Nat) (ls : Lc) (a b : Int) (st : List Value) (M : Mem) (Q : Outcome → Mem → Prop), Wp d 164 35 ls (.int (I b) :: .int (I a) :: st) M Q = Wp d 164 36 ls (.int (I (a - b)) :: st) M Q := fun d ls a b st M Q => w_isub (show ins 164 35 = some (.isub, 1) by decide +kernel)
set_option maxRecDepth 100000 in
theorem r_164_36 : ∀ (d : Nat) (ls : Lc) (st : List Value) (M : Mem) (Q : Outcome → Mem → Prop), Wp d 164 36 ls st M Q = Wp d 164 86 ls st M Q := fun d ls st M Q => w_goto (show ins 164 36 = some (.goto 50, 3) by decide +kernel) rfl
set_option maxRecDepth 100000 in
theorem r_164_39 : ∀ (d : Nat) (l1 l2 l3 l4 l5 l6 : Option Value) (v : Nat) (st : List Value) (M : Mem) (Q : Outcome → Mem → Prop), Wp d 164 39 [some (.ref v), l1, l2, l3, l4, l5, l6] st M Q = Wp d 164 40 [some (.ref v), l1, l2, l3, l4, l5, l6] (.ref v :: st) M Q := fun d l1 l2 l3 l4 l5 l6 v st M Q => wA (show ins 164 39 = some (.aload_n 0, 1) by decide +kernel) rfl
set_option maxRecDepth 100000 in
theorem r_164_40 : ∀ (d : Nat) (ls : Lc) (a : Nat) (st : List Value) (M : Mem) (Q : Outcome → Mem → Prop), Wp d 164 40 ls (.ref a :: st) M Q = (fk 53 (kO M a) = true ∧ Wp d 164 43 ls (va_rf (mR M 53 a) :: st) M Q) := fun d ls a st M Q => w_getR (show ins 164 40 = some (.getfield 7, 3) by decide +kernel) (show fRes (mC 164) 7 = some (53, 8, false) by decide +kernel) (by decide +kernel)
set_option maxRecDepth 100000 in
theorem r_164_43 : ∀ (d : Nat) (ls : Lc) (st : List Value) (M : Mem) (Q : Outcome → Mem → Prop), Wp d 164 43 ls st M Q = Wp d 164 46 ls (.int (I 6156) :: st) M Q := fun d ls st M Q => w_sipush (show ins 164 43 = some (.sipush 6156, 3) by decide +kernel) (by decide)
set_option maxRecDepth 100000 in
theorem r_164_46 : ∀ (d : Nat) (l0 l1 l2 l3 l4 l5 : Option Value) (v : Int32) (st : List Value) (M : Mem) (Q : Outcome → Mem → Prop), Wp d 164 46 [l0, l1, l2, l3, l4, l5, some (.int v)] st M Q = Wp d 164 48 [l0, l1, l2, l3, l4, l5, some (.int v)] (.int v :: st) M Q := fun d l0 l1 l2 l3 l4 l5 v st M Q => wA (show ins 164 46 = some (.iload 6, 2) by decide +kernel) rfl
set_option maxRecDepth 100000 in
theorem r_164_48 : ∀ (d : Nat) (ls : Lc) (a b : Int) (st : List Value) (M : Mem) (Q : Outcome → Mem → Prop), Wp d 164 48 ls (.int (I b) :: .int (I a) :: st) M Q = Wp d 164 49 ls (.int (I (a + b)) :: st) M Q := fun d ls a b st M Q => w_iadd (show ins 164 48 = some (.iadd, 1) by decide +kernel)
set_option maxRecDepth 100000 in
theorem r_164_49 : ∀ (d : Nat) (ls : Lc) (a : Nat) (j : Int32) (st : List Value) (M : Mem) (Q : Outcome → Mem → Prop), Wp d 164 49 ls (.int j :: .ref a :: st) M Q = ((((kX M a).1 = 0 ∨ (kX M a).1 = 8) ∧ inB j (kX M a).2 = true) ∧ Wp d 164 50 ls (.int (mA M a j.toNatClampNeg) :: st) M Q) := fun d ls a j st M Q => w_iaload (show ins 164 49 = some (.iaload, 1) by decide +kernel)
set_option maxRecDepth 100000 in
theorem r_164_50 : ∀ (d : Nat) (l0 l1 l2 l3 l5 l6 : Option Value) (v : Int32) (st : List Value) (M : Mem) (Q : Outcome → Mem → Prop), Wp d 164 50 [l0, l1, l2, l3, some (.int v), l5, l6] st M Q = Wp d 164 52 [l0, l1, l2, l3, some (.int v), l5, l6] (.int v :: st) M Q := fun d l0 l1 l2 l3 l5 l6 v st M Q => wA (show ins 164 50 = some (.iload 4, 2) by decide +kernel) rfl
set_option maxRecDepth 100000 in
theorem r_164_52 : ∀ (d : Nat) (ls : Lc) (a b : Int32) (st : List Value) (M : Mem) (Q : Outcome → Mem → Prop), Wp d 164 52 ls (.int b :: .int a :: st) M Q = Br (a = b) d 164 72 55 ls st M Q := fun d ls a b st M Q => w_icmp (show ins 164 52 = some (.if_icmp .eq 20, 3) by decide +kernel) rfl rfl
set_option maxRecDepth 100000 in
theorem r_164_55 : ∀ (d : Nat) (l1 l2 l3 l4 l5 l6 : Option Value) (v : Nat) (st : List Value) (M : Mem) (Q : Outcome → Mem → Prop), Wp d 164 55 [some (.ref v), l1, l2, l3, l4, l5, l6] st M Q = Wp d 164 56 [some (.ref v), l1, l2, l3, l4, l5, l6] (.ref v :: st) M Q := fun d l1 l2 l3 l4 l5 l6 v st M Q => wA (show ins 164 55 = some (.aload_n 0, 1) by decide +kernel) rfl
set_option maxRecDepth 100000 in
theorem r_164_56 : ∀ (d : Nat) (ls : Lc) (a : Nat) (st : List Value) (M : Mem) (Q : Outcome → Mem → Prop), Wp d 164 56 ls (.ref a :: st) M Q = (fk 53 (kO M a) = true ∧ Wp d 164 59 ls (va_rf (mR M 53 a) :: st) M Q) := fun d ls a st M Q => w_getR (show ins 164 56 = some (.getfield 7, 3) by decide +kernel) (show fRes (mC 164) 7 = some (53, 8, false) by decide +kernel) (by decide +kernel)
set_option maxRecDepth 100000 in
theorem r_164_59 : ∀ (d : Nat) (ls : Lc) (st : List Value) (M : Mem) (Q : Outcome → Mem → Prop), Wp d 164 59 ls st M Q = Wp d 164 62 ls (.int (I 6156) :: st) M Q := fun d ls st M Q => w_sipush (show ins 164 59 = some (.sipush 6156, 3) by decide +kernel) (by decide)
set_option maxRecDepth 100000 in
theorem r_164_62 : ∀ (d : Nat) (l0 l1 l2 l3 l4 l5 : Option Value) (v : Int32) (st : List Value) (M : Mem) (Q : Outcome → Mem → Prop), Wp d 164 62 [l0, l1, l2, l3, l4, l5, some (.int v)] st M Q = Wp d 164 64 [l0, l1, l2, l3, l4, l5, some (.int v)] (.int v :: st) M Q := fun d l0 l1 l2 l3 l4 l5 v st M Q => wA (show ins 164 62 = some (.iload 6, 2) by decide +kernel) rfl
set_option maxRecDepth 100000 in
theorem r_164_64 : ∀ (d : Nat) (ls : Lc) (a b : Int) (st : List Value) (M : Mem) (Q : Outcome → Mem → Prop), Wp d 164 64 ls (.int (I b) :: .int (I a) :: st) M Q = Wp d 164 65 ls (.int (I (a + b)) :: st) M Q := fun d ls a b st M Q => w_iadd (show ins 164 64 = some (.iadd, 1) by decide +kernel)
set_option maxRecDepth 100000 in
theorem r_164_65 : ∀ (d : Nat) (ls : Lc) (a : Nat) (j : Int32) (st : List Value) (M : Mem) (Q : Outcome → Mem → Prop), Wp d 164 65 ls (.int j :: .ref a :: st) M Q = ((((kX M a).1 = 0 ∨ (kX M a).1 = 8) ∧ inB j (kX M a).2 = true) ∧ Wp d 164 66 ls (.int (mA M a j.toNatClampNeg) :: st) M Q) := fun d ls a j st M Q => w_iaload (show ins 164 65 = some (.iaload, 1) by decide +kernel)
set_option maxRecDepth 100000 in
theorem r_164_66 : ∀ (d : Nat) (l0 l1 l2 l3 l5 l6 : Option Value) (v : Int32) (st : List Value) (M : Mem) (Q : Outcome → Mem → Prop), Wp d 164 66 [l0, l1, l2, l3, some (.int v), l5, l6] st M Q = Wp d 164 68 [l0, l1, l2, l3, some (.int v), l5, l6] (.int v :: st) M Q := fun d l0 l1 l2 l3 l5 l6 v st M Q => wA (show ins 164 66 = some (.iload 4, 2) by decide +kernel) rfl
set_option maxRecDepth 100000 in
theorem r_164_68 : ∀ (d : Nat) (ls : Lc) (a b : Int) (st : List Value) (M : Mem) (Q : Outcome → Mem → Prop), Wp d 164 68 ls (.int (I b) :: .int (I a) :: st) M Q = Wp d 164 69 ls (.int (I (a - b)) :: st) M Q := fun d ls a b st M Q => w_isub (show ins 164 68 = some (.isub, 1) by decide +kernel)
set_option maxRecDepth 100000 in
theorem r_164_69 : ∀ (d : Nat) (ls : Lc) (st : List Value) (M : Mem) (Q : Outcome → Mem → Prop), Wp d 164 69 ls st M Q = Wp d 164 86 ls st M Q := fun d ls st M Q => w_goto (show ins 164 69 = some (.goto 17, 3) by decide +kernel) rfl
set_option maxRecDepth 100000 in
theorem r_164_72 : ∀ (d : Nat) (l1 l2 l3 l4 l5 l6 : Option Value) (v : Nat) (st : List Value) (M : Mem) (Q : Outcome → Mem → Prop), Wp d 164 72 [some (.ref v), l1, l2, l3, l4, l5, l6] st M Q = Wp d 164 73 [some (.ref v), l1, l2, l3, l4, l5, l6] (.ref v :: st) M Q := fun d l1 l2 l3 l4 l5 l6 v st M Q => wA (show ins 164 72 = some (.aload_n 0, 1) by decide +kernel) rfl
set_option maxRecDepth 100000 in
theorem r_164_73 : ∀ (d : Nat) (ls : Lc) (a : Nat) (st : List Value) (M : Mem) (Q : Outcome → Mem → Prop), Wp d 164 73 ls (.ref a :: st) M Q = (fk 53 (kO M a) = true ∧ Wp d 164 76 ls (va_rf (mR M 53 a) :: st) M Q) := fun d ls a st M Q => w_getR (show ins 164 73 = some (.getfield 7, 3) by decide +kernel) (show fRes (mC 164) 7 = some (53, 8, false) by decide +kernel) (by decide +kernel)
set_option maxRecDepth 100000 in
theorem r_164_76 : ∀ (d : Nat) (ls : Lc) (st : List Value) (M : Mem) (Q : Outcome → Mem → Prop), Wp d 164 76 ls st M Q = Wp d 164 79 ls (.int (I 7692) :: st) M Q := fun d ls st M Q => w_sipush (show ins 164 76 = some (.sipush 7692, 3) by decide +kernel) (by decide)
set_option maxRecDepth 100000 in
theorem r_164_79 : ∀ (d : Nat) (l0 l1 l2 l3 l4 l5 : Option Value) (v : Int32) (st : List Value) (M : Mem) (Q : Outcome → Mem → Prop), Wp d 164 79 [l0, l1, l2, l3, l4, l5, some (.int v)] st M Q = Wp d 164 81 [l0, l1, l2, l3, l4, l5, some (.int v)] (.int v :: st) M Q := fun d l0 l1 l2 l3 l4 l5 v st M Q => wA (show ins 164 79 = some (.iload 6, 2) by decide +kernel) rfl
set_option maxRecDepth 100000 in
theorem r_164_81 : ∀ (d : Nat) (ls : Lc) (a b : Int) (st : List Value) (M : Mem) (Q : Outcome → Mem → Prop), Wp d 164 81 ls (.int (I b) :: .int (I a) :: st) M Q = Wp d 164 82 ls (.int (I (a + b)) :: st) M Q := fun d ls a b st M Q => w_iadd (show ins 164 81 = some (.iadd, 1) by decide +kernel)
set_option maxRecDepth 100000 in
theorem r_164_82 : ∀ (d : Nat) (ls : Lc) (a : Nat) (j : Int32) (st : List Value) (M : Mem) (Q : Outcome → Mem → Prop), Wp d 164 82 ls (.int j :: .ref a :: st) M Q = ((((kX M a).1 = 0 ∨ (kX M a).1 = 8) ∧ inB j (kX M a).2 = true) ∧ Wp d 164 83 ls (.int (mA M a j.toNatClampNeg) :: st) M Q) := fun d ls a j st M Q => w_iaload (show ins 164 82 = some (.iaload, 1) by decide +kernel)
set_option maxRecDepth 100000 in
theorem r_164_83 : ∀ (d : Nat) (l0 l1 l2 l3 l4 l6 : Option Value) (v : Int32) (st : List Value) (M : Mem) (Q : Outcome → Mem → Prop), Wp d 164 83 [l0, l1, l2, l3, l4, some (.int v), l6] st M Q = Wp d 164 85 [l0, l1, l2, l3, l4, some (.int v), l6] (.int v :: st) M Q := fun d l0 l1 l2 l3 l4 l6 v st M Q => wA (show ins 164 83 = some (.iload 5, 2) by decide +kernel) rfl
set_option maxRecDepth 100000 in
theorem r_164_85 : ∀ (d : Nat) (ls : Lc) (a b : Int) (st : List Value) (M : Mem) (Q : Outcome → Mem → Prop), Wp d 164 85 ls (.int (I b) :: .int (I a) :: st) M Q = Wp d 164 86 ls (.int (I (a - b)) :: st) M Q := fun d ls a b st M Q => w_isub (show ins 164 85 = some (.isub, 1) by decide +kernel)
set_option maxRecDepth 100000 in
theorem r_164_86 : ∀ (d : Nat) (ls : Lc) (v : Int32) (M : Mem) (Q : Outcome → Mem → Prop), Wp d 164 86 ls [.int v] M Q = Q (.returned (some (.int v))) M := fun d ls v M Q => w_ireturn (show ins 164 86 = some (.ireturn, 1) by decide +kernel) (by decide +kernel)
set_option maxRecDepth 100000 in
theorem W_164 : (type_of% r_164_0) ∧ (type_of% r_164_2) ∧ (type_of% r_164_3) ∧ (type_of% r_164_4) ∧ (type_of% r_164_5) ∧ (type_of% r_164_6) ∧ (type_of% r_164_8) ∧ (type_of% r_164_9) ∧ (type_of% r_164_12) ∧ (type_of% r_164_15) ∧ (type_of% r_164_17) ∧ (type_of% r_164_18) ∧ (type_of% r_164_19) ∧ (type_of% r_164_20) ∧ (type_of% r_164_23) ∧ (type_of% r_164_24) ∧ (type_of% r_164_27) ∧ (type_of% r_164_30) ∧ (type_of% r_164_32) ∧ (type_of% r_164_33) ∧ (type_of% r_164_34) ∧ (type_of% r_164_35) ∧ (type_of% r_164_36) ∧ (type_of% r_164_39) ∧ (type_of% r_164_40) ∧ (type_of% r_164_43) ∧ (type_of% r_164_46) ∧ (type_of% r_164_48) ∧ (type_of% r_164_49) ∧ (type_of% r_164_50) ∧ (type_of% r_164_52) ∧ (type_of% r_164_55) ∧ (type_of% r_164_56) ∧ (type_of% r_164_59) ∧ (type_of% r_164_62) ∧ (type_of% r_164_64) ∧ (type_of% r_164_65) ∧ (type_of% r_164_66) ∧ (type_of% r_164_68) ∧ (type_of% r_164_69) ∧ (type_of% r_164_72) ∧ (type_of% r_164_73) ∧ (type_of% r_164_76) ∧ (type_of% r_164_79) ∧ (type_of% r_164_81) ∧ (type_of% r_164_82) ∧ (type_of% r_164_83) ∧ (type_of% r_164_85) ∧ (type_of% r_164_86) := ⟨r_164_0, r_164_2, r_164_3, r_164_4, r_164_5, r_164_6, r_164_8, r_164_9, r_164_12, r_164_15, r_164_17, r_164_18, r_164_19, r_164_20, r_164_23, r_164_24, r_164_27, r_164_30, r_164_32, r_164_33, r_164_34, r_164_35, r_164_36, r_164_39, r_164_40, r_164_43, r_164_46, r_164_48, r_164_49, r_164_50, r_164_52, r_164_55, r_164_56, r_164_59, r_164_62, r_164_64, r_164_65, r_164_66, r_164_68, r_164_69, r_164_72, r_164_73, r_164_76, r_164_79, r_164_81, r_164_82, r_164_83, r_164_85, r_164_86⟩
set_option maxRecDepth 100000 in
theorem ca_164 {d y pc : Nat} {ls : Lc} {a : Nat} {z0 : Int32} {z1 : Int32} {z2 : Int32} {z3 : Int32} {z4 : Int32} {r : List Value} {M : Mem} {Q : Outcome → Mem → Prop} (hd : 0 < d) (hw : Wp (d - 1) 164 0 [some (.ref a), some (.int z0), some (.int z1), some (.int z2), some (.int z3), some (.int z4), none] [] M (Cq d y pc ls r Q)) : Ca d y pc ls 164 [.ref a, .int z0, .int z1, .int z2, .int z3, .int z4] r M Q := ca_of (mq_get (by decide)) (by rfl) hd hw
/-! 165 PackedTreeModel.objects()I; loop heads [4] -/
set_option maxRecDepth 100000 in
theorem r_165_0 : ∀ (d : Nat) (ls : Lc) (st : List Value) (M : Mem) (Q : Outcome → Mem → Prop), Wp d 165 0 ls st M Q = Wp d 165 1 ls (.int (I 0) :: st) M Q := fun d ls st M Q => w_iconst (show ins 165 0 = some (.iconst 0, 1) by decide +kernel)
set_option maxRecDepth 100000 in
theorem r_165_1 : ∀ (d : Nat) (l0 l1 l2 : Option Value) (v : Int32) (st : List Value) (M : Mem) (Q : Outcome → Mem → Prop), (lo l0 = false) → Wp d 165 1 [l0, l1, l2] (.int v :: st) M Q = Wp d 165 2 [l0, some (.int v), l2] st M Q := fun d l0 l1 l2 v st M Q hl => w_istore_n (show ins 165 1 = some (.istore_n 1, 1) by decide +kernel) (st1_S rfl rfl hl)
set_option maxRecDepth 100000 in
theorem r_165_2 : ∀ (d : Nat) (ls : Lc) (st : List Value) (M : Mem) (Q : Outcome → Mem → Prop), Wp d 165 2 ls st M Q = Wp d 165 3 ls (.int (I 1) :: st) M Q := fun d ls st M Q => w_iconst (show ins 165 2 = some (.iconst 1, 1) by decide +kernel)
set_option maxRecDepth 100000 in
theorem r_165_3 : ∀ (d : Nat) (l0 l1 l2 : Option Value) (v : Int32) (st : List Value) (M : Mem) (Q : Outcome → Mem → Prop), (lo l1 = false) → Wp d 165 3 [l0, l1, l2] (.int v :: st) M Q = Wp d 165 4 [l0, l1, some (.int v)] st M Q := fun d l0 l1 l2 v st M Q hl => w_istore_n (show ins 165 3 = some (.istore_n 2, 1) by decide +kernel) (st1_S rfl rfl hl)
set_option maxRecDepth 100000 in
theorem r_165_4 : ∀ (d : Nat) (l0 l1 : Option Value) (v : Int32) (st : List Value) (M : Mem) (Q : Outcome → Mem → Prop), Wp d 165 4 [l0, l1, some (.int v)] st M Q = Wp d 165 5 [l0, l1, some (.int v)] (.int v :: st) M Q := fun d l0 l1 v st M Q => wA (show ins 165 4 = some (.iload_n 2, 1) by decide +kernel) rfl
set_option maxRecDepth 100000 in
theorem r_165_5 : ∀ (d : Nat) (ls : Lc) (st : List Value) (M : Mem) (Q : Outcome → Mem → Prop), Wp d 165 5 ls st M Q = Wp d 165 7 ls (.int (I 61) :: st) M Q := fun d ls st M Q => w_bipush (show ins 165 5 = some (.bipush 61, 2) by decide +kernel) (by decide)
set_option maxRecDepth 100000 in
theorem r_165_7 : ∀ (d : Nat) (ls : Lc) (a b : Int32) (st : List Value) (M : Mem) (Q : Outcome → Mem → Prop), Wp d 165 7 ls (.int b :: .int a :: st) M Q = Br (b ≤ a) d 165 36 10 ls st M Q := fun d ls a b st M Q => w_icmp (show ins 165 7 = some (.if_icmp .ge 29, 3) by decide +kernel) rfl rfl
set_option maxRecDepth 100000 in
theorem r_165_10 : ∀ (d : Nat) (l0 l2 : Option Value) (v : Int32) (st : List Value) (M : Mem) (Q : Outcome → Mem → Prop), Wp d 165 10 [l0, some (.int v), l2] st M Q = Wp d 165 11 [l0, some (.int v), l2] (.int v :: st) M Q := fun d l0 l2 v st M Q => wA (show ins 165 10 = some (.iload_n 1, 1) by decide +kernel) rfl
set_option maxRecDepth 100000 in
theorem r_165_11 : ∀ (d : Nat) (l1 l2 : Option Value) (v : Nat) (st : List Value) (M : Mem) (Q : Outcome → Mem → Prop), Wp d 165 11 [some (.ref v), l1, l2] st M Q = Wp d 165 12 [some (.ref v), l1, l2] (.ref v :: st) M Q := fun d l1 l2 v st M Q => wA (show ins 165 11 = some (.aload_n 0, 1) by decide +kernel) rfl
set_option maxRecDepth 100000 in
theorem r_165_12 : ∀ (d : Nat) (ls : Lc) (a : Nat) (st : List Value) (M : Mem) (Q : Outcome → Mem → Prop), Wp d 165 12 ls (.ref a :: st) M Q = (fk 53 (kO M a) = true ∧ Wp d 165 15 ls (va_rf (mR M 53 a) :: st) M Q) := fun d ls a st M Q => w_getR (show ins 165 12 = some (.getfield 7, 3) by decide +kernel) (show fRes (mC 165) 7 = some (53, 8, false) by decide +kernel) (by decide +kernel)
set_option maxRecDepth 100000 in
theorem r_165_15 : ∀ (d : Nat) (ls : Lc) (st : List Value) (M : Mem) (Q : Outcome → Mem → Prop), Wp d 165 15 ls st M Q = Wp d 165 17 ls (.int (I 96) :: st) M Q := fun d ls st M Q => w_bipush (show ins 165 15 = some (.bipush 96, 2) by decide +kernel) (by decide)
set_option maxRecDepth 100000 in
theorem r_165_17 : ∀ (d : Nat) (l0 l1 : Option Value) (v : Int32) (st : List Value) (M : Mem) (Q : Outcome → Mem → Prop), Wp d 165 17 [l0, l1, some (.int v)] st M Q = Wp d 165 18 [l0, l1, some (.int v)] (.int v :: st) M Q := fun d l0 l1 v st M Q => wA (show ins 165 17 = some (.iload_n 2, 1) by decide +kernel) rfl
set_option maxRecDepth 100000 in
theorem r_165_18 : ∀ (d : Nat) (ls : Lc) (a b : Int) (st : List Value) (M : Mem) (Q : Outcome → Mem → Prop), Wp d 165 18 ls (.int (I b) :: .int (I a) :: st) M Q = Wp d 165 19 ls (.int (I (a + b)) :: st) M Q := fun d ls a b st M Q => w_iadd (show ins 165 18 = some (.iadd, 1) by decide +kernel)
set_option maxRecDepth 100000 in
theorem r_165_19 : ∀ (d : Nat) (ls : Lc) (a : Nat) (j : Int32) (st : List Value) (M : Mem) (Q : Outcome → Mem → Prop), Wp d 165 19 ls (.int j :: .ref a :: st) M Q = ((((kX M a).1 = 0 ∨ (kX M a).1 = 8) ∧ inB j (kX M a).2 = true) ∧ Wp d 165 20 ls (.int (mA M a j.toNatClampNeg) :: st) M Q) := fun d ls a j st M Q => w_iaload (show ins 165 19 = some (.iaload, 1) by decide +kernel)
set_option maxRecDepth 100000 in
theorem r_165_20 : ∀ (d : Nat) (ls : Lc) (a : Int32) (st : List Value) (M : Mem) (Q : Outcome → Mem → Prop), Wp d 165 20 ls (.int a :: st) M Q = Br (a ≤ I 0) d 165 27 23 ls st M Q := fun d ls a st M Q => w_if (show ins 165 20 = some (.ifCond .le 7, 3) by decide +kernel) rfl rfl
set_option maxRecDepth 100000 in
theorem r_165_23 : ∀ (d : Nat) (ls : Lc) (st : List Value) (M : Mem) (Q : Outcome → Mem → Prop), Wp d 165 23 ls st M Q = Wp d 165 24 ls (.int (I 1) :: st) M Q := fun d ls st M Q => w_iconst (show ins 165 23 = some (.iconst 1, 1) by decide +kernel)
set_option maxRecDepth 100000 in
theorem r_165_24 : ∀ (d : Nat) (ls : Lc) (st : List Value) (M : Mem) (Q : Outcome → Mem → Prop), Wp d 165 24 ls st M Q = Wp d 165 28 ls st M Q := fun d ls st M Q => w_goto (show ins 165 24 = some (.goto 4, 3) by decide +kernel) rfl
set_option maxRecDepth 100000 in
theorem r_165_27 : ∀ (d : Nat) (ls : Lc) (st : List Value) (M : Mem) (Q : Outcome → Mem → Prop), Wp d 165 27 ls st M Q = Wp d 165 28 ls (.int (I 0) :: st) M Q := fun d ls st M Q => w_iconst (show ins 165 27 = some (.iconst 0, 1) by decide +kernel)
set_option maxRecDepth 100000 in
theorem r_165_28 : ∀ (d : Nat) (ls : Lc) (a b : Int) (st : List Value) (M : Mem) (Q : Outcome → Mem → Prop), Wp d 165 28 ls (.int (I b) :: .int (I a) :: st) M Q = Wp d 165 29 ls (.int (I (a + b)) :: st) M Q := fun d ls a b st M Q => w_iadd (show ins 165 28 = some (.iadd, 1) by decide +kernel)
set_option maxRecDepth 100000 in
theorem r_165_29 : ∀ (d : Nat) (l0 l1 l2 : Option Value) (v : Int32) (st : List Value) (M : Mem) (Q : Outcome → Mem → Prop), (lo l0 = false) → Wp d 165 29 [l0, l1, l2] (.int v :: st) M Q = Wp d 165 30 [l0, some (.int v), l2] st M Q := fun d l0 l1 l2 v st M Q hl => w_istore_n (show ins 165 29 = some (.istore_n 1, 1) by decide +kernel) (st1_S rfl rfl hl)
set_option maxRecDepth 100000 in
theorem r_165_30 : ∀ (d : Nat) (l0 l1 : Option Value) (z : Int) (st : List Value) (M : Mem) (Q : Outcome → Mem → Prop), (lo l1 = false) → Wp d 165 30 [l0, l1, some (.int (I z))] st M Q = Wp d 165 33 [l0, l1, some (.int (I (z + 1)))] st M Q := fun d l0 l1 z st M Q hl => w_iinc (show ins 165 30 = some (.iinc 2 1, 3) by decide +kernel) rfl (st1_S rfl rfl hl)
set_option maxRecDepth 100000 in
theorem r_165_33 : ∀ (d : Nat) (ls : Lc) (st : List Value) (M : Mem) (Q : Outcome → Mem → Prop), Wp d 165 33 ls st M Q = Wp d 165 4 ls st M Q := fun d ls st M Q => w_goto (show ins 165 33 = some (.goto (-29), 3) by decide +kernel) rfl
set_option maxRecDepth 100000 in
theorem r_165_36 : ∀ (d : Nat) (l0 l2 : Option Value) (v : Int32) (st : List Value) (M : Mem) (Q : Outcome → Mem → Prop), Wp d 165 36 [l0, some (.int v), l2] st M Q = Wp d 165 37 [l0, some (.int v), l2] (.int v :: st) M Q := fun d l0 l2 v st M Q => wA (show ins 165 36 = some (.iload_n 1, 1) by decide +kernel) rfl
set_option maxRecDepth 100000 in
theorem r_165_37 : ∀ (d : Nat) (ls : Lc) (v : Int32) (M : Mem) (Q : Outcome → Mem → Prop), Wp d 165 37 ls [.int v] M Q = Q (.returned (some (.int v))) M := fun d ls v M Q => w_ireturn (show ins 165 37 = some (.ireturn, 1) by decide +kernel) (by decide +kernel)
set_option maxRecDepth 100000 in
theorem w_165_4 : (type_of% r_165_4) := r_165_4
set_option maxRecDepth 100000 in
theorem W_165 : (type_of% r_165_0) ∧ (type_of% r_165_1) ∧ (type_of% r_165_2) ∧ (type_of% r_165_3) ∧ (type_of% r_165_5) ∧ (type_of% r_165_7) ∧ (type_of% r_165_10) ∧ (type_of% r_165_11) ∧ (type_of% r_165_12) ∧ (type_of% r_165_15) ∧ (type_of% r_165_17) ∧ (type_of% r_165_18) ∧ (type_of% r_165_19) ∧ (type_of% r_165_20) ∧ (type_of% r_165_23) ∧ (type_of% r_165_24) ∧ (type_of% r_165_27) ∧ (type_of% r_165_28) ∧ (type_of% r_165_29) ∧ (type_of% r_165_30) ∧ (type_of% r_165_33) ∧ (type_of% r_165_36) ∧ (type_of% r_165_37) := ⟨r_165_0, r_165_1, r_165_2, r_165_3, r_165_5, r_165_7, r_165_10, r_165_11, r_165_12, r_165_15, r_165_17, r_165_18, r_165_19, r_165_20, r_165_23, r_165_24, r_165_27, r_165_28, r_165_29, r_165_30, r_165_33, r_165_36, r_165_37⟩
set_option maxRecDepth 100000 in
theorem ca_165 {d y pc : Nat} {ls : Lc} {a : Nat} {r : List Value} {M : Mem} {Q : Outcome → Mem → Prop} (hd : 0 < d) (hw : Wp (d - 1) 165 0 [some (.ref a), none, none] [] M (Cq d y pc ls r Q)) : Ca d y pc ls 165 [.ref a] r M Q := ca_of (mq_get (by decide)) (by rfl) hd hw
/-! 166 PackedTreeModel.begin()V; loop heads [] -/
set_option maxRecDepth 100000 in
theorem r_166_0 : ∀ (d : Nat) (v : Nat) (st : List Value) (M : Mem) (Q : Outcome → Mem → Prop), Wp d 166 0 [some (.ref v)] st M Q = Wp d 166 1 [some (.ref v)] (.ref v :: st) M Q := fun d v st M Q => wA (show ins 166 0 = some (.aload_n 0, 1) by decide +kernel) rfl
set_option maxRecDepth 100000 in
theorem r_166_1 : ∀ (d : Nat) (ls : Lc) (st : List Value) (M : Mem) (Q : Outcome → Mem → Prop), Wp d 166 1 ls st M Q = Wp d 166 2 ls (.int (I 0) :: st) M Q := fun d ls st M Q => w_iconst (show ins 166 1 = some (.iconst 0, 1) by decide +kernel)
set_option maxRecDepth 100000 in
theorem r_166_2 : ∀ (d : Nat) (ls : Lc) (a : Nat) (v : Int) (st : List Value) (M : Mem) (Q : Outcome → Mem → Prop), (v = 0 ∨ v = 1) → Wp d 166 2 ls (.int (I v) :: .ref a :: st) M Q = (fk 47 (kO M a) = true ∧ Wp d 166 5 ls st (sF M 47 a (I v)) Q) := fun d ls a v st M Q h0 => w_putZ (show ins 166 2 = some (.putfield 51, 3) by decide +kernel) (show fRes (mC 166) 51 = some (47, 8, false) by decide +kernel) (by decide +kernel) (by decide +kernel) h0
set_option maxRecDepth 100000 in
theorem r_166_5 : ∀ (d : Nat) (v : Nat) (st : List Value) (M : Mem) (Q : Outcome → Mem → Prop), Wp d 166 5 [some (.ref v)] st M Q = Wp d 166 6 [some (.ref v)] (.ref v :: st) M Q := fun d v st M Q => wA (show ins 166 5 = some (.aload_n 0, 1) by decide +kernel) rfl
set_option maxRecDepth 100000 in
theorem r_166_6 : ∀ (d : Nat) (ls : Lc) (a : Nat) (st : List Value) (M : Mem) (Q : Outcome → Mem → Prop), Wp d 166 6 ls (.ref a :: st) M Q = (fk 53 (kO M a) = true ∧ Wp d 166 9 ls (va_rf (mR M 53 a) :: st) M Q) := fun d ls a st M Q => w_getR (show ins 166 6 = some (.getfield 7, 3) by decide +kernel) (show fRes (mC 166) 7 = some (53, 8, false) by decide +kernel) (by decide +kernel)
set_option maxRecDepth 100000 in
theorem r_166_9 : ∀ (d : Nat) (v : Nat) (st : List Value) (M : Mem) (Q : Outcome → Mem → Prop), Wp d 166 9 [some (.ref v)] st M Q = Wp d 166 10 [some (.ref v)] (.ref v :: st) M Q := fun d v st M Q => wA (show ins 166 9 = some (.aload_n 0, 1) by decide +kernel) rfl
set_option maxRecDepth 100000 in
theorem r_166_10 : ∀ (d : Nat) (ls : Lc) (a : Nat) (st : List Value) (M : Mem) (Q : Outcome → Mem → Prop), Wp d 166 10 ls (.ref a :: st) M Q = (fk 42 (kO M a) = true ∧ Wp d 166 13 ls (va_rf (mR M 42 a) :: st) M Q) := fun d ls a st M Q => w_getR (show ins 166 10 = some (.getfield 13, 3) by decide +kernel) (show fRes (mC 166) 13 = some (42, 8, false) by decide +kernel) (by decide +kernel)
set_option maxRecDepth 100000 in
theorem r_166_13 : ∀ (d : Nat) (ls : Lc) (v0 v1 : Value)  (st : List Value) (M : Mem) (Q : Outcome → Mem → Prop), (smallR st = true) → Wp d 166 13 ls (v1 :: v0 :: st) M Q = Ca d 166 13 ls 154 [v0, v1] st M Q := fun d ls v0 v1 st M Q h0 => w_stat (as := [v0, v1]) (show ins 166 13 = some (.invokestatic 36, 3) by decide +kernel) (show mRes (mC 166) 36 = some (0, 8, [(0, 154)]) by decide +kernel) (by decide +kernel) (by decide +kernel) rfl h0
set_option maxRecDepth 100000 in
theorem r_166_16 : ∀ (d : Nat) (ls : Lc) (M : Mem) (Q : Outcome → Mem → Prop), Wp d 166 16 ls [] M Q = Q (.returned none) M := fun d ls M Q => w_return (show ins 166 16 = some (.return_, 1) by decide +kernel) (by decide +kernel)
set_option maxRecDepth 100000 in
theorem W_166 : (type_of% r_166_0) ∧ (type_of% r_166_1) ∧ (type_of% r_166_2) ∧ (type_of% r_166_5) ∧ (type_of% r_166_6) ∧ (type_of% r_166_9) ∧ (type_of% r_166_10) ∧ (type_of% r_166_13) ∧ (type_of% r_166_16) := ⟨r_166_0, r_166_1, r_166_2, r_166_5, r_166_6, r_166_9, r_166_10, r_166_13, r_166_16⟩
set_option maxRecDepth 100000 in
theorem ca_166 {d y pc : Nat} {ls : Lc} {a : Nat} {r : List Value} {M : Mem} {Q : Outcome → Mem → Prop} (hd : 0 < d) (hw : Wp (d - 1) 166 0 [some (.ref a)] [] M (Cq d y pc ls r Q)) : Ca d y pc ls 166 [.ref a] r M Q := ca_of (mq_get (by decide)) (by rfl) hd hw
/-! 167 PackedTreeModel.put(IIIII)V; loop heads [22] -/
set_option maxRecDepth 100000 in
theorem r_167_0 : ∀ (d : Nat) (l1 l2 l3 l4 l5 l6 l7 l8 : Option Value) (v : Nat) (st : List Value) (M : Mem) (Q : Outcome → Mem → Prop), Wp d 167 0 [some (.ref v), l1, l2, l3, l4, l5, l6, l7, l8] st M Q = Wp d 167 1 [some (.ref v), l1, l2, l3, l4, l5, l6, l7, l8] (.ref v :: st) M Q := fun d l1 l2 l3 l4 l5 l6 l7 l8 v st M Q => wA (show ins 167 0 = some (.aload_n 0, 1) by decide +kernel) rfl
set_option maxRecDepth 100000 in
theorem r_167_1 : ∀ (d : Nat) (l0 l2 l3 l4 l5 l6 l7 l8 : Option Value) (v : Int32) (st : List Value) (M : Mem) (Q : Outcome → Mem → Prop), Wp d 167 1 [l0, some (.int v), l2, l3, l4, l5, l6, l7, l8] st M Q = Wp d 167 2 [l0, some (.int v), l2, l3, l4, l5, l6, l7, l8] (.int v :: st) M Q := fun d l0 l2 l3 l4 l5 l6 l7 l8 v st M Q => wA (show ins 167 1 = some (.iload_n 1, 1) by decide +kernel) rfl
set_option maxRecDepth 100000 in
theorem r_167_2 : ∀ (d : Nat) (l0 l1 l3 l4 l5 l6 l7 l8 : Option Value) (v : Int32) (st : List Value) (M : Mem) (Q : Outcome → Mem → Prop), Wp d 167 2 [l0, l1, some (.int v), l3, l4, l5, l6, l7, l8] st M Q = Wp d 167 3 [l0, l1, some (.int v), l3, l4, l5, l6, l7, l8] (.int v :: st) M Q := fun d l0 l1 l3 l4 l5 l6 l7 l8 v st M Q => wA (show ins 167 2 = some (.iload_n 2, 1) by decide +kernel) rfl
set_option maxRecDepth 100000 in
theorem r_167_3 : ∀ (d : Nat) (l0 l1 l2 l4 l5 l6 l7 l8 : Option Value) (v : Int32) (st : List Value) (M : Mem) (Q : Outcome → Mem → Prop), Wp d 167 3 [l0, l1, l2, some (.int v), l4, l5, l6, l7, l8] st M Q = Wp d 167 4 [l0, l1, l2, some (.int v), l4, l5, l6, l7, l8] (.int v :: st) M Q := fun d l0 l1 l2 l4 l5 l6 l7 l8 v st M Q => wA (show ins 167 3 = some (.iload_n 3, 1) by decide +kernel) rfl
set_option maxRecDepth 100000 in
theorem r_167_4 : ∀ (d : Nat) (ls : Lc) (v0 v1 v2 : Value) (a : Nat) (st : List Value) (M : Mem) (Q : Outcome → Mem → Prop), (smallR st = true) → Wp d 167 4 ls (v2 :: v1 :: v0 :: .ref a :: st) M Q = (kO M a = 8 ∧ Ca d 167 4 ls 163 (.ref a :: [v0, v1, v2]) st M Q) := fun d ls v0 v1 v2 a st M Q h0 => w_virt1 (as := [v0, v1, v2]) (show ins 167 4 = some (.invokevirtual 117, 3) by decide +kernel) (show mRes (mC 167) 117 = some (3, 8, [(8, 163)]) by decide +kernel) (by decide +kernel) rfl (by decide +kernel) (by decide +kernel) h0
set_option maxRecDepth 100000 in
theorem r_167_7 : ∀ (d : Nat) (l0 l1 l2 l3 l4 l5 l6 l7 l8 : Option Value) (v : Int32) (st : List Value) (M : Mem) (Q : Outcome → Mem → Prop), (lo l5 = false) → Wp d 167 7 [l0, l1, l2, l3, l4, l5, l6, l7, l8] (.int v :: st) M Q = Wp d 167 9 [l0, l1, l2, l3, l4, l5, some (.int v), l7, l8] st M Q := fun d l0 l1 l2 l3 l4 l5 l6 l7 l8 v st M Q hl => w_istore (show ins 167 7 = some (.istore 6, 2) by decide +kernel) (st1_S rfl rfl hl)
set_option maxRecDepth 100000 in
theorem r_167_9 : ∀ (d : Nat) (l1 l2 l3 l4 l5 l6 l7 l8 : Option Value) (v : Nat) (st : List Value) (M : Mem) (Q : Outcome → Mem → Prop), Wp d 167 9 [some (.ref v), l1, l2, l3, l4, l5, l6, l7, l8] st M Q = Wp d 167 10 [some (.ref v), l1, l2, l3, l4, l5, l6, l7, l8] (.ref v :: st) M Q := fun d l1 l2 l3 l4 l5 l6 l7 l8 v st M Q => wA (show ins 167 9 = some (.aload_n 0, 1) by decide +kernel) rfl
set_option maxRecDepth 100000 in
theorem r_167_10 : ∀ (d : Nat) (ls : Lc) (a : Nat) (st : List Value) (M : Mem) (Q : Outcome → Mem → Prop), Wp d 167 10 ls (.ref a :: st) M Q = (fk 53 (kO M a) = true ∧ Wp d 167 13 ls (va_rf (mR M 53 a) :: st) M Q) := fun d ls a st M Q => w_getR (show ins 167 10 = some (.getfield 7, 3) by decide +kernel) (show fRes (mC 167) 7 = some (53, 8, false) by decide +kernel) (by decide +kernel)
set_option maxRecDepth 100000 in
theorem r_167_13 : ∀ (d : Nat) (ls : Lc) (st : List Value) (M : Mem) (Q : Outcome → Mem → Prop), Wp d 167 13 ls st M Q = Wp d 167 16 ls (.int (I 3852) :: st) M Q := fun d ls st M Q => w_sipush (show ins 167 13 = some (.sipush 3852, 3) by decide +kernel) (by decide)
set_option maxRecDepth 100000 in
theorem r_167_16 : ∀ (d : Nat) (l0 l1 l2 l3 l4 l5 l7 l8 : Option Value) (v : Int32) (st : List Value) (M : Mem) (Q : Outcome → Mem → Prop), Wp d 167 16 [l0, l1, l2, l3, l4, l5, some (.int v), l7, l8] st M Q = Wp d 167 18 [l0, l1, l2, l3, l4, l5, some (.int v), l7, l8] (.int v :: st) M Q := fun d l0 l1 l2 l3 l4 l5 l7 l8 v st M Q => wA (show ins 167 16 = some (.iload 6, 2) by decide +kernel) rfl
set_option maxRecDepth 100000 in
theorem r_167_18 : ∀ (d : Nat) (ls : Lc) (a b : Int) (st : List Value) (M : Mem) (Q : Outcome → Mem → Prop), Wp d 167 18 ls (.int (I b) :: .int (I a) :: st) M Q = Wp d 167 19 ls (.int (I (a + b)) :: st) M Q := fun d ls a b st M Q => w_iadd (show ins 167 18 = some (.iadd, 1) by decide +kernel)
set_option maxRecDepth 100000 in
theorem r_167_19 : ∀ (d : Nat) (ls : Lc) (a : Nat) (j : Int32) (st : List Value) (M : Mem) (Q : Outcome → Mem → Prop), Wp d 167 19 ls (.int j :: .ref a :: st) M Q = ((((kX M a).1 = 0 ∨ (kX M a).1 = 8) ∧ inB j (kX M a).2 = true) ∧ Wp d 167 20 ls (.int (mA M a j.toNatClampNeg) :: st) M Q) := fun d ls a j st M Q => w_iaload (show ins 167 19 = some (.iaload, 1) by decide +kernel)
set_option maxRecDepth 100000 in
theorem r_167_20 : ∀ (d : Nat) (l0 l1 l2 l3 l4 l5 l6 l7 l8 : Option Value) (v : Int32) (st : List Value) (M : Mem) (Q : Outcome → Mem → Prop), (lo l6 = false) → Wp d 167 20 [l0, l1, l2, l3, l4, l5, l6, l7, l8] (.int v :: st) M Q = Wp d 167 22 [l0, l1, l2, l3, l4, l5, l6, some (.int v), l8] st M Q := fun d l0 l1 l2 l3 l4 l5 l6 l7 l8 v st M Q hl => w_istore (show ins 167 20 = some (.istore 7, 2) by decide +kernel) (st1_S rfl rfl hl)
set_option maxRecDepth 100000 in
theorem r_167_22 : ∀ (d : Nat) (l0 l1 l2 l3 l4 l5 l6 l8 : Option Value) (v : Int32) (st : List Value) (M : Mem) (Q : Outcome → Mem → Prop), Wp d 167 22 [l0, l1, l2, l3, l4, l5, l6, some (.int v), l8] st M Q = Wp d 167 24 [l0, l1, l2, l3, l4, l5, l6, some (.int v), l8] (.int v :: st) M Q := fun d l0 l1 l2 l3 l4 l5 l6 l8 v st M Q => wA (show ins 167 22 = some (.iload 7, 2) by decide +kernel) rfl
set_option maxRecDepth 100000 in
theorem r_167_24 : ∀ (d : Nat) (ls : Lc) (a : Int32) (st : List Value) (M : Mem) (Q : Outcome → Mem → Prop), Wp d 167 24 ls (.int a :: st) M Q = Br (a ≤ I 0) d 167 71 27 ls st M Q := fun d ls a st M Q => w_if (show ins 167 24 = some (.ifCond .le 47, 3) by decide +kernel) rfl rfl
set_option maxRecDepth 100000 in
theorem r_167_27 : ∀ (d : Nat) (l1 l2 l3 l4 l5 l6 l7 l8 : Option Value) (v : Nat) (st : List Value) (M : Mem) (Q : Outcome → Mem → Prop), Wp d 167 27 [some (.ref v), l1, l2, l3, l4, l5, l6, l7, l8] st M Q = Wp d 167 28 [some (.ref v), l1, l2, l3, l4, l5, l6, l7, l8] (.ref v :: st) M Q := fun d l1 l2 l3 l4 l5 l6 l7 l8 v st M Q => wA (show ins 167 27 = some (.aload_n 0, 1) by decide +kernel) rfl
set_option maxRecDepth 100000 in
theorem r_167_28 : ∀ (d : Nat) (l0 l1 l2 l3 l4 l5 l7 l8 : Option Value) (v : Int32) (st : List Value) (M : Mem) (Q : Outcome → Mem → Prop), Wp d 167 28 [l0, l1, l2, l3, l4, l5, some (.int v), l7, l8] st M Q = Wp d 167 30 [l0, l1, l2, l3, l4, l5, some (.int v), l7, l8] (.int v :: st) M Q := fun d l0 l1 l2 l3 l4 l5 l7 l8 v st M Q => wA (show ins 167 28 = some (.iload 6, 2) by decide +kernel) rfl
set_option maxRecDepth 100000 in
theorem r_167_30 : ∀ (d : Nat) (l0 l1 l2 l3 l4 l5 l6 l8 : Option Value) (v : Int32) (st : List Value) (M : Mem) (Q : Outcome → Mem → Prop), Wp d 167 30 [l0, l1, l2, l3, l4, l5, l6, some (.int v), l8] st M Q = Wp d 167 32 [l0, l1, l2, l3, l4, l5, l6, some (.int v), l8] (.int v :: st) M Q := fun d l0 l1 l2 l3 l4 l5 l6 l8 v st M Q => wA (show ins 167 30 = some (.iload 7, 2) by decide +kernel) rfl
set_option maxRecDepth 100000 in
theorem r_167_32 : ∀ (d : Nat) (ls : Lc) (st : List Value) (M : Mem) (Q : Outcome → Mem → Prop), Wp d 167 32 ls st M Q = Wp d 167 33 ls (.int (I 1) :: st) M Q := fun d ls st M Q => w_iconst (show ins 167 32 = some (.iconst 1, 1) by decide +kernel)
set_option maxRecDepth 100000 in
theorem r_167_33 : ∀ (d : Nat) (ls : Lc) (a b : Int) (st : List Value) (M : Mem) (Q : Outcome → Mem → Prop), Wp d 167 33 ls (.int (I b) :: .int (I a) :: st) M Q = Wp d 167 34 ls (.int (I (a - b)) :: st) M Q := fun d ls a b st M Q => w_isub (show ins 167 33 = some (.isub, 1) by decide +kernel)
set_option maxRecDepth 100000 in
theorem r_167_34 : ∀ (d : Nat) (l0 l2 l3 l4 l5 l6 l7 l8 : Option Value) (v : Int32) (st : List Value) (M : Mem) (Q : Outcome → Mem → Prop), Wp d 167 34 [l0, some (.int v), l2, l3, l4, l5, l6, l7, l8] st M Q = Wp d 167 35 [l0, some (.int v), l2, l3, l4, l5, l6, l7, l8] (.int v :: st) M Q := fun d l0 l2 l3 l4 l5 l6 l7 l8 v st M Q => wA (show ins 167 34 = some (.iload_n 1, 1) by decide +kernel) rfl
set_option maxRecDepth 100000 in
theorem r_167_35 : ∀ (d : Nat) (l0 l1 l3 l4 l5 l6 l7 l8 : Option Value) (v : Int32) (st : List Value) (M : Mem) (Q : Outcome → Mem → Prop), Wp d 167 35 [l0, l1, some (.int v), l3, l4, l5, l6, l7, l8] st M Q = Wp d 167 36 [l0, l1, some (.int v), l3, l4, l5, l6, l7, l8] (.int v :: st) M Q := fun d l0 l1 l3 l4 l5 l6 l7 l8 v st M Q => wA (show ins 167 35 = some (.iload_n 2, 1) by decide +kernel) rfl
set_option maxRecDepth 100000 in
theorem r_167_36 : ∀ (d : Nat) (l0 l1 l2 l4 l5 l6 l7 l8 : Option Value) (v : Int32) (st : List Value) (M : Mem) (Q : Outcome → Mem → Prop), Wp d 167 36 [l0, l1, l2, some (.int v), l4, l5, l6, l7, l8] st M Q = Wp d 167 37 [l0, l1, l2, some (.int v), l4, l5, l6, l7, l8] (.int v :: st) M Q := fun d l0 l1 l2 l4 l5 l6 l7 l8 v st M Q => wA (show ins 167 36 = some (.iload_n 3, 1) by decide +kernel) rfl
set_option maxRecDepth 100000 in
theorem r_167_37 : ∀ (d : Nat) (ls : Lc) (v0 v1 v2 v3 v4 : Value) (a : Nat) (st : List Value) (M : Mem) (Q : Outcome → Mem → Prop), (smallR st = true) → Wp d 167 37 ls (v4 :: v3 :: v2 :: v1 :: v0 :: .ref a :: st) M Q = (kO M a = 8 ∧ Ca d 167 37 ls 164 (.ref a :: [v0, v1, v2, v3, v4]) st M Q) := fun d ls v0 v1 v2 v3 v4 a st M Q h0 => w_virt1 (as := [v0, v1, v2, v3, v4]) (show ins 167 37 = some (.invokevirtual 113, 3) by decide +kernel) (show mRes (mC 167) 113 = some (3, 8, [(8, 164)]) by decide +kernel) (by decide +kernel) rfl (by decide +kernel) (by decide +kernel) h0
set_option maxRecDepth 100000 in
theorem r_167_40 : ∀ (d : Nat) (ls : Lc) (a : Int32) (st : List Value) (M : Mem) (Q : Outcome → Mem → Prop), Wp d 167 40 ls (.int a :: st) M Q = Br (a ≤ I 0) d 167 71 43 ls st M Q := fun d ls a st M Q => w_if (show ins 167 40 = some (.ifCond .le 31, 3) by decide +kernel) rfl rfl
set_option maxRecDepth 100000 in
theorem r_167_43 : ∀ (d : Nat) (l1 l2 l3 l4 l5 l6 l7 l8 : Option Value) (v : Nat) (st : List Value) (M : Mem) (Q : Outcome → Mem → Prop), Wp d 167 43 [some (.ref v), l1, l2, l3, l4, l5, l6, l7, l8] st M Q = Wp d 167 44 [some (.ref v), l1, l2, l3, l4, l5, l6, l7, l8] (.ref v :: st) M Q := fun d l1 l2 l3 l4 l5 l6 l7 l8 v st M Q => wA (show ins 167 43 = some (.aload_n 0, 1) by decide +kernel) rfl
set_option maxRecDepth 100000 in
theorem r_167_44 : ∀ (d : Nat) (ls : Lc) (st : List Value) (M : Mem) (Q : Outcome → Mem → Prop), Wp d 167 44 ls st M Q = Wp d 167 46 ls (.int (I 16) :: st) M Q := fun d ls st M Q => w_bipush (show ins 167 44 = some (.bipush 16, 2) by decide +kernel) (by decide)
set_option maxRecDepth 100000 in
theorem r_167_46 : ∀ (d : Nat) (l0 l1 l2 l3 l4 l5 l7 l8 : Option Value) (v : Int32) (st : List Value) (M : Mem) (Q : Outcome → Mem → Prop), Wp d 167 46 [l0, l1, l2, l3, l4, l5, some (.int v), l7, l8] st M Q = Wp d 167 48 [l0, l1, l2, l3, l4, l5, some (.int v), l7, l8] (.int v :: st) M Q := fun d l0 l1 l2 l3 l4 l5 l7 l8 v st M Q => wA (show ins 167 46 = some (.iload 6, 2) by decide +kernel) rfl
set_option maxRecDepth 100000 in
theorem r_167_48 : ∀ (d : Nat) (ls : Lc) (a b : Int) (st : List Value) (M : Mem) (Q : Outcome → Mem → Prop), Wp d 167 48 ls (.int (I b) :: .int (I a) :: st) M Q = Wp d 167 49 ls (.int (I (a * b)) :: st) M Q := fun d ls a b st M Q => w_imul (show ins 167 48 = some (.imul, 1) by decide +kernel)
set_option maxRecDepth 100000 in
theorem r_167_49 : ∀ (d : Nat) (l0 l1 l2 l3 l4 l5 l6 l8 : Option Value) (v : Int32) (st : List Value) (M : Mem) (Q : Outcome → Mem → Prop), Wp d 167 49 [l0, l1, l2, l3, l4, l5, l6, some (.int v), l8] st M Q = Wp d 167 51 [l0, l1, l2, l3, l4, l5, l6, some (.int v), l8] (.int v :: st) M Q := fun d l0 l1 l2 l3 l4 l5 l6 l8 v st M Q => wA (show ins 167 49 = some (.iload 7, 2) by decide +kernel) rfl
set_option maxRecDepth 100000 in
theorem r_167_51 : ∀ (d : Nat) (ls : Lc) (a b : Int) (st : List Value) (M : Mem) (Q : Outcome → Mem → Prop), Wp d 167 51 ls (.int (I b) :: .int (I a) :: st) M Q = Wp d 167 52 ls (.int (I (a + b)) :: st) M Q := fun d ls a b st M Q => w_iadd (show ins 167 51 = some (.iadd, 1) by decide +kernel)
set_option maxRecDepth 100000 in
theorem r_167_52 : ∀ (d : Nat) (ls : Lc) (st : List Value) (M : Mem) (Q : Outcome → Mem → Prop), Wp d 167 52 ls st M Q = Wp d 167 53 ls (.int (I 1) :: st) M Q := fun d ls st M Q => w_iconst (show ins 167 52 = some (.iconst 1, 1) by decide +kernel)
set_option maxRecDepth 100000 in
theorem r_167_53 : ∀ (d : Nat) (ls : Lc) (a b : Int) (st : List Value) (M : Mem) (Q : Outcome → Mem → Prop), Wp d 167 53 ls (.int (I b) :: .int (I a) :: st) M Q = Wp d 167 54 ls (.int (I (a - b)) :: st) M Q := fun d ls a b st M Q => w_isub (show ins 167 53 = some (.isub, 1) by decide +kernel)
set_option maxRecDepth 100000 in
theorem r_167_54 : ∀ (d : Nat) (ls : Lc) (st : List Value) (M : Mem) (Q : Outcome → Mem → Prop), Wp d 167 54 ls st M Q = Wp d 167 56 ls (.int (I 16) :: st) M Q := fun d ls st M Q => w_bipush (show ins 167 54 = some (.bipush 16, 2) by decide +kernel) (by decide)
set_option maxRecDepth 100000 in
theorem r_167_56 : ∀ (d : Nat) (l0 l1 l2 l3 l4 l5 l7 l8 : Option Value) (v : Int32) (st : List Value) (M : Mem) (Q : Outcome → Mem → Prop), Wp d 167 56 [l0, l1, l2, l3, l4, l5, some (.int v), l7, l8] st M Q = Wp d 167 58 [l0, l1, l2, l3, l4, l5, some (.int v), l7, l8] (.int v :: st) M Q := fun d l0 l1 l2 l3 l4 l5 l7 l8 v st M Q => wA (show ins 167 56 = some (.iload 6, 2) by decide +kernel) rfl
set_option maxRecDepth 100000 in
theorem r_167_58 : ∀ (d : Nat) (ls : Lc) (a b : Int) (st : List Value) (M : Mem) (Q : Outcome → Mem → Prop), Wp d 167 58 ls (.int (I b) :: .int (I a) :: st) M Q = Wp d 167 59 ls (.int (I (a * b)) :: st) M Q := fun d ls a b st M Q => w_imul (show ins 167 58 = some (.imul, 1) by decide +kernel)
set_option maxRecDepth 100000 in
theorem r_167_59 : ∀ (d : Nat) (l0 l1 l2 l3 l4 l5 l6 l8 : Option Value) (v : Int32) (st : List Value) (M : Mem) (Q : Outcome → Mem → Prop), Wp d 167 59 [l0, l1, l2, l3, l4, l5, l6, some (.int v), l8] st M Q = Wp d 167 61 [l0, l1, l2, l3, l4, l5, l6, some (.int v), l8] (.int v :: st) M Q := fun d l0 l1 l2 l3 l4 l5 l6 l8 v st M Q => wA (show ins 167 59 = some (.iload 7, 2) by decide +kernel) rfl
set_option maxRecDepth 100000 in
theorem r_167_61 : ∀ (d : Nat) (ls : Lc) (a b : Int) (st : List Value) (M : Mem) (Q : Outcome → Mem → Prop), Wp d 167 61 ls (.int (I b) :: .int (I a) :: st) M Q = Wp d 167 62 ls (.int (I (a + b)) :: st) M Q := fun d ls a b st M Q => w_iadd (show ins 167 61 = some (.iadd, 1) by decide +kernel)
set_option maxRecDepth 100000 in
theorem r_167_62 : ∀ (d : Nat) (ls : Lc) (v0 v1 : Value) (a : Nat) (st : List Value) (M : Mem) (Q : Outcome → Mem → Prop), (smallR st = true) → Wp d 167 62 ls (v1 :: v0 :: .ref a :: st) M Q = (kO M a = 8 ∧ Ca d 167 62 ls 168 (.ref a :: [v0, v1]) st M Q) := fun d ls v0 v1 a st M Q h0 => w_virt1 (as := [v0, v1]) (show ins 167 62 = some (.invokevirtual 91, 3) by decide +kernel) (show mRes (mC 167) 91 = some (3, 8, [(8, 168)]) by decide +kernel) (by decide +kernel) rfl (by decide +kernel) (by decide +kernel) h0
set_option maxRecDepth 100000 in
theorem r_167_65 : ∀ (d : Nat) (l0 l1 l2 l3 l4 l5 l6 l8 : Option Value) (z : Int) (st : List Value) (M : Mem) (Q : Outcome → Mem → Prop), (lo l6 = false) → Wp d 167 65 [l0, l1, l2, l3, l4, l5, l6, some (.int (I z)), l8] st M Q = Wp d 167 68 [l0, l1, l2, l3, l4, l5, l6, some (.int (I (z + (-1)))), l8] st M Q := fun d l0 l1 l2 l3 l4 l5 l6 l8 z st M Q hl => w_iinc (show ins 167 65 = some (.iinc 7 (-1), 3) by decide +kernel) rfl (st1_S rfl rfl hl)
set_option maxRecDepth 100000 in
theorem r_167_68 : ∀ (d : Nat) (ls : Lc) (st : List Value) (M : Mem) (Q : Outcome → Mem → Prop), Wp d 167 68 ls st M Q = Wp d 167 22 ls st M Q := fun d ls st M Q => w_goto (show ins 167 68 = some (.goto (-46), 3) by decide +kernel) rfl
set_option maxRecDepth 100000 in
theorem r_167_71 : ∀ (d : Nat) (ls : Lc) (st : List Value) (M : Mem) (Q : Outcome → Mem → Prop), Wp d 167 71 ls st M Q = Wp d 167 73 ls (.int (I 16) :: st) M Q := fun d ls st M Q => w_bipush (show ins 167 71 = some (.bipush 16, 2) by decide +kernel) (by decide)
set_option maxRecDepth 100000 in
theorem r_167_73 : ∀ (d : Nat) (l0 l1 l2 l3 l4 l5 l7 l8 : Option Value) (v : Int32) (st : List Value) (M : Mem) (Q : Outcome → Mem → Prop), Wp d 167 73 [l0, l1, l2, l3, l4, l5, some (.int v), l7, l8] st M Q = Wp d 167 75 [l0, l1, l2, l3, l4, l5, some (.int v), l7, l8] (.int v :: st) M Q := fun d l0 l1 l2 l3 l4 l5 l7 l8 v st M Q => wA (show ins 167 73 = some (.iload 6, 2) by decide +kernel) rfl
set_option maxRecDepth 100000 in
theorem r_167_75 : ∀ (d : Nat) (ls : Lc) (a b : Int) (st : List Value) (M : Mem) (Q : Outcome → Mem → Prop), Wp d 167 75 ls (.int (I b) :: .int (I a) :: st) M Q = Wp d 167 76 ls (.int (I (a * b)) :: st) M Q := fun d ls a b st M Q => w_imul (show ins 167 75 = some (.imul, 1) by decide +kernel)
set_option maxRecDepth 100000 in
theorem r_167_76 : ∀ (d : Nat) (l0 l1 l2 l3 l4 l5 l6 l8 : Option Value) (v : Int32) (st : List Value) (M : Mem) (Q : Outcome → Mem → Prop), Wp d 167 76 [l0, l1, l2, l3, l4, l5, l6, some (.int v), l8] st M Q = Wp d 167 78 [l0, l1, l2, l3, l4, l5, l6, some (.int v), l8] (.int v :: st) M Q := fun d l0 l1 l2 l3 l4 l5 l6 l8 v st M Q => wA (show ins 167 76 = some (.iload 7, 2) by decide +kernel) rfl
set_option maxRecDepth 100000 in
theorem r_167_78 : ∀ (d : Nat) (ls : Lc) (a b : Int) (st : List Value) (M : Mem) (Q : Outcome → Mem → Prop), Wp d 167 78 ls (.int (I b) :: .int (I a) :: st) M Q = Wp d 167 79 ls (.int (I (a + b)) :: st) M Q := fun d ls a b st M Q => w_iadd (show ins 167 78 = some (.iadd, 1) by decide +kernel)
set_option maxRecDepth 100000 in
theorem r_167_79 : ∀ (d : Nat) (l0 l1 l2 l3 l4 l5 l6 l7 l8 : Option Value) (v : Int32) (st : List Value) (M : Mem) (Q : Outcome → Mem → Prop), (lo l7 = false) → Wp d 167 79 [l0, l1, l2, l3, l4, l5, l6, l7, l8] (.int v :: st) M Q = Wp d 167 81 [l0, l1, l2, l3, l4, l5, l6, l7, some (.int v)] st M Q := fun d l0 l1 l2 l3 l4 l5 l6 l7 l8 v st M Q hl => w_istore (show ins 167 79 = some (.istore 8, 2) by decide +kernel) (st1_S rfl rfl hl)
set_option maxRecDepth 100000 in
theorem r_167_81 : ∀ (d : Nat) (l1 l2 l3 l4 l5 l6 l7 l8 : Option Value) (v : Nat) (st : List Value) (M : Mem) (Q : Outcome → Mem → Prop), Wp d 167 81 [some (.ref v), l1, l2, l3, l4, l5, l6, l7, l8] st M Q = Wp d 167 82 [some (.ref v), l1, l2, l3, l4, l5, l6, l7, l8] (.ref v :: st) M Q := fun d l1 l2 l3 l4 l5 l6 l7 l8 v st M Q => wA (show ins 167 81 = some (.aload_n 0, 1) by decide +kernel) rfl
set_option maxRecDepth 100000 in
theorem r_167_82 : ∀ (d : Nat) (ls : Lc) (a : Nat) (st : List Value) (M : Mem) (Q : Outcome → Mem → Prop), Wp d 167 82 ls (.ref a :: st) M Q = (fk 53 (kO M a) = true ∧ Wp d 167 85 ls (va_rf (mR M 53 a) :: st) M Q) := fun d ls a st M Q => w_getR (show ins 167 82 = some (.getfield 7, 3) by decide +kernel) (show fRes (mC 167) 7 = some (53, 8, false) by decide +kernel) (by decide +kernel)
set_option maxRecDepth 100000 in
theorem r_167_85 : ∀ (d : Nat) (ls : Lc) (st : List Value) (M : Mem) (Q : Outcome → Mem → Prop), Wp d 167 85 ls st M Q = Wp d 167 88 ls (.int (I 4620) :: st) M Q := fun d ls st M Q => w_sipush (show ins 167 85 = some (.sipush 4620, 3) by decide +kernel) (by decide)
set_option maxRecDepth 100000 in
theorem r_167_88 : ∀ (d : Nat) (l0 l1 l2 l3 l4 l5 l6 l7 : Option Value) (v : Int32) (st : List Value) (M : Mem) (Q : Outcome → Mem → Prop), Wp d 167 88 [l0, l1, l2, l3, l4, l5, l6, l7, some (.int v)] st M Q = Wp d 167 90 [l0, l1, l2, l3, l4, l5, l6, l7, some (.int v)] (.int v :: st) M Q := fun d l0 l1 l2 l3 l4 l5 l6 l7 v st M Q => wA (show ins 167 88 = some (.iload 8, 2) by decide +kernel) rfl
set_option maxRecDepth 100000 in
theorem r_167_90 : ∀ (d : Nat) (ls : Lc) (a b : Int) (st : List Value) (M : Mem) (Q : Outcome → Mem → Prop), Wp d 167 90 ls (.int (I b) :: .int (I a) :: st) M Q = Wp d 167 91 ls (.int (I (a + b)) :: st) M Q := fun d ls a b st M Q => w_iadd (show ins 167 90 = some (.iadd, 1) by decide +kernel)
set_option maxRecDepth 100000 in
theorem r_167_91 : ∀ (d : Nat) (l0 l2 l3 l4 l5 l6 l7 l8 : Option Value) (v : Int32) (st : List Value) (M : Mem) (Q : Outcome → Mem → Prop), Wp d 167 91 [l0, some (.int v), l2, l3, l4, l5, l6, l7, l8] st M Q = Wp d 167 92 [l0, some (.int v), l2, l3, l4, l5, l6, l7, l8] (.int v :: st) M Q := fun d l0 l2 l3 l4 l5 l6 l7 l8 v st M Q => wA (show ins 167 91 = some (.iload_n 1, 1) by decide +kernel) rfl
set_option maxRecDepth 100000 in
theorem r_167_92 : ∀ (d : Nat) (ls : Lc) (a : Nat) (j v : Int32) (st : List Value) (M : Mem) (Q : Outcome → Mem → Prop), Wp d 167 92 ls (.int v :: .int j :: .ref a :: st) M Q = (((kX M a).1 = 0 ∧ inB j (kX M a).2 = true) ∧ Wp d 167 93 ls st (sA M a j.toNatClampNeg v) Q) := fun d ls a j v st M Q => w_iastore (show ins 167 92 = some (.iastore, 1) by decide +kernel)
set_option maxRecDepth 100000 in
theorem r_167_93 : ∀ (d : Nat) (l1 l2 l3 l4 l5 l6 l7 l8 : Option Value) (v : Nat) (st : List Value) (M : Mem) (Q : Outcome → Mem → Prop), Wp d 167 93 [some (.ref v), l1, l2, l3, l4, l5, l6, l7, l8] st M Q = Wp d 167 94 [some (.ref v), l1, l2, l3, l4, l5, l6, l7, l8] (.ref v :: st) M Q := fun d l1 l2 l3 l4 l5 l6 l7 l8 v st M Q => wA (show ins 167 93 = some (.aload_n 0, 1) by decide +kernel) rfl
set_option maxRecDepth 100000 in
theorem r_167_94 : ∀ (d : Nat) (ls : Lc) (a : Nat) (st : List Value) (M : Mem) (Q : Outcome → Mem → Prop), Wp d 167 94 ls (.ref a :: st) M Q = (fk 53 (kO M a) = true ∧ Wp d 167 97 ls (va_rf (mR M 53 a) :: st) M Q) := fun d ls a st M Q => w_getR (show ins 167 94 = some (.getfield 7, 3) by decide +kernel) (show fRes (mC 167) 7 = some (53, 8, false) by decide +kernel) (by decide +kernel)
set_option maxRecDepth 100000 in
theorem r_167_97 : ∀ (d : Nat) (ls : Lc) (st : List Value) (M : Mem) (Q : Outcome → Mem → Prop), Wp d 167 97 ls st M Q = Wp d 167 100 ls (.int (I 6156) :: st) M Q := fun d ls st M Q => w_sipush (show ins 167 97 = some (.sipush 6156, 3) by decide +kernel) (by decide)
set_option maxRecDepth 100000 in
theorem r_167_100 : ∀ (d : Nat) (l0 l1 l2 l3 l4 l5 l6 l7 : Option Value) (v : Int32) (st : List Value) (M : Mem) (Q : Outcome → Mem → Prop), Wp d 167 100 [l0, l1, l2, l3, l4, l5, l6, l7, some (.int v)] st M Q = Wp d 167 102 [l0, l1, l2, l3, l4, l5, l6, l7, some (.int v)] (.int v :: st) M Q := fun d l0 l1 l2 l3 l4 l5 l6 l7 v st M Q => wA (show ins 167 100 = some (.iload 8, 2) by decide +kernel) rfl
set_option maxRecDepth 100000 in
theorem r_167_102 : ∀ (d : Nat) (ls : Lc) (a b : Int) (st : List Value) (M : Mem) (Q : Outcome → Mem → Prop), Wp d 167 102 ls (.int (I b) :: .int (I a) :: st) M Q = Wp d 167 103 ls (.int (I (a + b)) :: st) M Q := fun d ls a b st M Q => w_iadd (show ins 167 102 = some (.iadd, 1) by decide +kernel)
set_option maxRecDepth 100000 in
theorem r_167_103 : ∀ (d : Nat) (l0 l1 l3 l4 l5 l6 l7 l8 : Option Value) (v : Int32) (st : List Value) (M : Mem) (Q : Outcome → Mem → Prop), Wp d 167 103 [l0, l1, some (.int v), l3, l4, l5, l6, l7, l8] st M Q = Wp d 167 104 [l0, l1, some (.int v), l3, l4, l5, l6, l7, l8] (.int v :: st) M Q := fun d l0 l1 l3 l4 l5 l6 l7 l8 v st M Q => wA (show ins 167 103 = some (.iload_n 2, 1) by decide +kernel) rfl
set_option maxRecDepth 100000 in
theorem r_167_104 : ∀ (d : Nat) (ls : Lc) (a : Nat) (j v : Int32) (st : List Value) (M : Mem) (Q : Outcome → Mem → Prop), Wp d 167 104 ls (.int v :: .int j :: .ref a :: st) M Q = (((kX M a).1 = 0 ∧ inB j (kX M a).2 = true) ∧ Wp d 167 105 ls st (sA M a j.toNatClampNeg v) Q) := fun d ls a j v st M Q => w_iastore (show ins 167 104 = some (.iastore, 1) by decide +kernel)
set_option maxRecDepth 100000 in
theorem r_167_105 : ∀ (d : Nat) (l1 l2 l3 l4 l5 l6 l7 l8 : Option Value) (v : Nat) (st : List Value) (M : Mem) (Q : Outcome → Mem → Prop), Wp d 167 105 [some (.ref v), l1, l2, l3, l4, l5, l6, l7, l8] st M Q = Wp d 167 106 [some (.ref v), l1, l2, l3, l4, l5, l6, l7, l8] (.ref v :: st) M Q := fun d l1 l2 l3 l4 l5 l6 l7 l8 v st M Q => wA (show ins 167 105 = some (.aload_n 0, 1) by decide +kernel) rfl
set_option maxRecDepth 100000 in
theorem r_167_106 : ∀ (d : Nat) (ls : Lc) (a : Nat) (st : List Value) (M : Mem) (Q : Outcome → Mem → Prop), Wp d 167 106 ls (.ref a :: st) M Q = (fk 53 (kO M a) = true ∧ Wp d 167 109 ls (va_rf (mR M 53 a) :: st) M Q) := fun d ls a st M Q => w_getR (show ins 167 106 = some (.getfield 7, 3) by decide +kernel) (show fRes (mC 167) 7 = some (53, 8, false) by decide +kernel) (by decide +kernel)
set_option maxRecDepth 100000 in
theorem r_167_109 : ∀ (d : Nat) (ls : Lc) (st : List Value) (M : Mem) (Q : Outcome → Mem → Prop), Wp d 167 109 ls st M Q = Wp d 167 112 ls (.int (I 7692) :: st) M Q := fun d ls st M Q => w_sipush (show ins 167 109 = some (.sipush 7692, 3) by decide +kernel) (by decide)
set_option maxRecDepth 100000 in
theorem r_167_112 : ∀ (d : Nat) (l0 l1 l2 l3 l4 l5 l6 l7 : Option Value) (v : Int32) (st : List Value) (M : Mem) (Q : Outcome → Mem → Prop), Wp d 167 112 [l0, l1, l2, l3, l4, l5, l6, l7, some (.int v)] st M Q = Wp d 167 114 [l0, l1, l2, l3, l4, l5, l6, l7, some (.int v)] (.int v :: st) M Q := fun d l0 l1 l2 l3 l4 l5 l6 l7 v st M Q => wA (show ins 167 112 = some (.iload 8, 2) by decide +kernel) rfl
set_option maxRecDepth 100000 in
theorem r_167_114 : ∀ (d : Nat) (ls : Lc) (a b : Int) (st : List Value) (M : Mem) (Q : Outcome → Mem → Prop), Wp d 167 114 ls (.int (I b) :: .int (I a) :: st) M Q = Wp d 167 115 ls (.int (I (a + b)) :: st) M Q := fun d ls a b st M Q => w_iadd (show ins 167 114 = some (.iadd, 1) by decide +kernel)
set_option maxRecDepth 100000 in
theorem r_167_115 : ∀ (d : Nat) (l0 l1 l2 l4 l5 l6 l7 l8 : Option Value) (v : Int32) (st : List Value) (M : Mem) (Q : Outcome → Mem → Prop), Wp d 167 115 [l0, l1, l2, some (.int v), l4, l5, l6, l7, l8] st M Q = Wp d 167 116 [l0, l1, l2, some (.int v), l4, l5, l6, l7, l8] (.int v :: st) M Q := fun d l0 l1 l2 l4 l5 l6 l7 l8 v st M Q => wA (show ins 167 115 = some (.iload_n 3, 1) by decide +kernel) rfl
set_option maxRecDepth 100000 in
theorem r_167_116 : ∀ (d : Nat) (ls : Lc) (a : Nat) (j v : Int32) (st : List Value) (M : Mem) (Q : Outcome → Mem → Prop), Wp d 167 116 ls (.int v :: .int j :: .ref a :: st) M Q = (((kX M a).1 = 0 ∧ inB j (kX M a).2 = true) ∧ Wp d 167 117 ls st (sA M a j.toNatClampNeg v) Q) := fun d ls a j v st M Q => w_iastore (show ins 167 116 = some (.iastore, 1) by decide +kernel)
set_option maxRecDepth 100000 in
theorem r_167_117 : ∀ (d : Nat) (l1 l2 l3 l4 l5 l6 l7 l8 : Option Value) (v : Nat) (st : List Value) (M : Mem) (Q : Outcome → Mem → Prop), Wp d 167 117 [some (.ref v), l1, l2, l3, l4, l5, l6, l7, l8] st M Q = Wp d 167 118 [some (.ref v), l1, l2, l3, l4, l5, l6, l7, l8] (.ref v :: st) M Q := fun d l1 l2 l3 l4 l5 l6 l7 l8 v st M Q => wA (show ins 167 117 = some (.aload_n 0, 1) by decide +kernel) rfl
set_option maxRecDepth 100000 in
theorem r_167_118 : ∀ (d : Nat) (ls : Lc) (a : Nat) (st : List Value) (M : Mem) (Q : Outcome → Mem → Prop), Wp d 167 118 ls (.ref a :: st) M Q = (fk 53 (kO M a) = true ∧ Wp d 167 121 ls (va_rf (mR M 53 a) :: st) M Q) := fun d ls a st M Q => w_getR (show ins 167 118 = some (.getfield 7, 3) by decide +kernel) (show fRes (mC 167) 7 = some (53, 8, false) by decide +kernel) (by decide +kernel)
set_option maxRecDepth 100000 in
theorem r_167_121 : ∀ (d : Nat) (ls : Lc) (st : List Value) (M : Mem) (Q : Outcome → Mem → Prop), Wp d 167 121 ls st M Q = Wp d 167 124 ls (.int (I 9228) :: st) M Q := fun d ls st M Q => w_sipush (show ins 167 121 = some (.sipush 9228, 3) by decide +kernel) (by decide)
set_option maxRecDepth 100000 in
theorem r_167_124 : ∀ (d : Nat) (l0 l1 l2 l3 l4 l5 l6 l7 : Option Value) (v : Int32) (st : List Value) (M : Mem) (Q : Outcome → Mem → Prop), Wp d 167 124 [l0, l1, l2, l3, l4, l5, l6, l7, some (.int v)] st M Q = Wp d 167 126 [l0, l1, l2, l3, l4, l5, l6, l7, some (.int v)] (.int v :: st) M Q := fun d l0 l1 l2 l3 l4 l5 l6 l7 v st M Q => wA (show ins 167 124 = some (.iload 8, 2) by decide +kernel) rfl
set_option maxRecDepth 100000 in
theorem r_167_126 : ∀ (d : Nat) (ls : Lc) (a b : Int) (st : List Value) (M : Mem) (Q : Outcome → Mem → Prop), Wp d 167 126 ls (.int (I b) :: .int (I a) :: st) M Q = Wp d 167 127 ls (.int (I (a + b)) :: st) M Q := fun d ls a b st M Q => w_iadd (show ins 167 126 = some (.iadd, 1) by decide +kernel)
set_option maxRecDepth 100000 in
theorem r_167_127 : ∀ (d : Nat) (l0 l1 l2 l3 l5 l6 l7 l8 : Option Value) (v : Int32) (st : List Value) (M : Mem) (Q : Outcome → Mem → Prop), Wp d 167 127 [l0, l1, l2, l3, some (.int v), l5, l6, l7, l8] st M Q = Wp d 167 129 [l0, l1, l2, l3, some (.int v), l5, l6, l7, l8] (.int v :: st) M Q := fun d l0 l1 l2 l3 l5 l6 l7 l8 v st M Q => wA (show ins 167 127 = some (.iload 4, 2) by decide +kernel) rfl
set_option maxRecDepth 100000 in
theorem r_167_129 : ∀ (d : Nat) (ls : Lc) (a : Nat) (j v : Int32) (st : List Value) (M : Mem) (Q : Outcome → Mem → Prop), Wp d 167 129 ls (.int v :: .int j :: .ref a :: st) M Q = (((kX M a).1 = 0 ∧ inB j (kX M a).2 = true) ∧ Wp d 167 130 ls st (sA M a j.toNatClampNeg v) Q) := fun d ls a j v st M Q => w_iastore (show ins 167 129 = some (.iastore, 1) by decide +kernel)
set_option maxRecDepth 100000 in
theorem r_167_130 : ∀ (d : Nat) (l1 l2 l3 l4 l5 l6 l7 l8 : Option Value) (v : Nat) (st : List Value) (M : Mem) (Q : Outcome → Mem → Prop), Wp d 167 130 [some (.ref v), l1, l2, l3, l4, l5, l6, l7, l8] st M Q = Wp d 167 131 [some (.ref v), l1, l2, l3, l4, l5, l6, l7, l8] (.ref v :: st) M Q := fun d l1 l2 l3 l4 l5 l6 l7 l8 v st M Q => wA (show ins 167 130 = some (.aload_n 0, 1) by decide +kernel) rfl
set_option maxRecDepth 100000 in
theorem r_167_131 : ∀ (d : Nat) (ls : Lc) (a : Nat) (st : List Value) (M : Mem) (Q : Outcome → Mem → Prop), Wp d 167 131 ls (.ref a :: st) M Q = (fk 53 (kO M a) = true ∧ Wp d 167 134 ls (va_rf (mR M 53 a) :: st) M Q) := fun d ls a st M Q => w_getR (show ins 167 131 = some (.getfield 7, 3) by decide +kernel) (show fRes (mC 167) 7 = some (53, 8, false) by decide +kernel) (by decide +kernel)
set_option maxRecDepth 100000 in
theorem r_167_134 : ∀ (d : Nat) (ls : Lc) (st : List Value) (M : Mem) (Q : Outcome → Mem → Prop), Wp d 167 134 ls st M Q = Wp d 167 137 ls (.int (I 10764) :: st) M Q := fun d ls st M Q => w_sipush (show ins 167 134 = some (.sipush 10764, 3) by decide +kernel) (by decide)
set_option maxRecDepth 100000 in
theorem r_167_137 : ∀ (d : Nat) (l0 l1 l2 l3 l4 l5 l6 l7 : Option Value) (v : Int32) (st : List Value) (M : Mem) (Q : Outcome → Mem → Prop), Wp d 167 137 [l0, l1, l2, l3, l4, l5, l6, l7, some (.int v)] st M Q = Wp d 167 139 [l0, l1, l2, l3, l4, l5, l6, l7, some (.int v)] (.int v :: st) M Q := fun d l0 l1 l2 l3 l4 l5 l6 l7 v st M Q => wA (show ins 167 137 = some (.iload 8, 2) by decide +kernel) rfl
set_option maxRecDepth 100000 in
theorem r_167_139 : ∀ (d : Nat) (ls : Lc) (a b : Int) (st : List Value) (M : Mem) (Q : Outcome → Mem → Prop), Wp d 167 139 ls (.int (I b) :: .int (I a) :: st) M Q = Wp d 167 140 ls (.int (I (a + b)) :: st) M Q := fun d ls a b st M Q => w_iadd (show ins 167 139 = some (.iadd, 1) by decide +kernel)
set_option maxRecDepth 100000 in
theorem r_167_140 : ∀ (d : Nat) (l0 l1 l2 l3 l4 l6 l7 l8 : Option Value) (v : Int32) (st : List Value) (M : Mem) (Q : Outcome → Mem → Prop), Wp d 167 140 [l0, l1, l2, l3, l4, some (.int v), l6, l7, l8] st M Q = Wp d 167 142 [l0, l1, l2, l3, l4, some (.int v), l6, l7, l8] (.int v :: st) M Q := fun d l0 l1 l2 l3 l4 l6 l7 l8 v st M Q => wA (show ins 167 140 = some (.iload 5, 2) by decide +kernel) rfl
set_option maxRecDepth 100000 in
theorem r_167_142 : ∀ (d : Nat) (ls : Lc) (a : Nat) (j v : Int32) (st : List Value) (M : Mem) (Q : Outcome → Mem → Prop), Wp d 167 142 ls (.int v :: .int j :: .ref a :: st) M Q = (((kX M a).1 = 0 ∧ inB j (kX M a).2 = true) ∧ Wp d 167 143 ls st (sA M a j.toNatClampNeg v) Q) := fun d ls a j v st M Q => w_iastore (show ins 167 142 = some (.iastore, 1) by decide +kernel)
set_option maxRecDepth 100000 in
theorem r_167_143 : ∀ (d : Nat) (l1 l2 l3 l4 l5 l6 l7 l8 : Option Value) (v : Nat) (st : List Value) (M : Mem) (Q : Outcome → Mem → Prop), Wp d 167 143 [some (.ref v), l1, l2, l3, l4, l5, l6, l7, l8] st M Q = Wp d 167 144 [some (.ref v), l1, l2, l3, l4, l5, l6, l7, l8] (.ref v :: st) M Q := fun d l1 l2 l3 l4 l5 l6 l7 l8 v st M Q => wA (show ins 167 143 = some (.aload_n 0, 1) by decide +kernel) rfl
set_option maxRecDepth 100000 in
theorem r_167_144 : ∀ (d : Nat) (ls : Lc) (a : Nat) (st : List Value) (M : Mem) (Q : Outcome → Mem → Prop), Wp d 167 144 ls (.ref a :: st) M Q = (fk 53 (kO M a) = true ∧ Wp d 167 147 ls (va_rf (mR M 53 a) :: st) M Q) := fun d ls a st M Q => w_getR (show ins 167 144 = some (.getfield 7, 3) by decide +kernel) (show fRes (mC 167) 7 = some (53, 8, false) by decide +kernel) (by decide +kernel)
set_option maxRecDepth 100000 in
theorem r_167_147 : ∀ (d : Nat) (ls : Lc) (st : List Value) (M : Mem) (Q : Outcome → Mem → Prop), Wp d 167 147 ls st M Q = Wp d 167 150 ls (.int (I 3852) :: st) M Q := fun d ls st M Q => w_sipush (show ins 167 147 = some (.sipush 3852, 3) by decide +kernel) (by decide)
set_option maxRecDepth 100000 in
theorem r_167_150 : ∀ (d : Nat) (l0 l1 l2 l3 l4 l5 l7 l8 : Option Value) (v : Int32) (st : List Value) (M : Mem) (Q : Outcome → Mem → Prop), Wp d 167 150 [l0, l1, l2, l3, l4, l5, some (.int v), l7, l8] st M Q = Wp d 167 152 [l0, l1, l2, l3, l4, l5, some (.int v), l7, l8] (.int v :: st) M Q := fun d l0 l1 l2 l3 l4 l5 l7 l8 v st M Q => wA (show ins 167 150 = some (.iload 6, 2) by decide +kernel) rfl
set_option maxRecDepth 100000 in
theorem r_167_152 : ∀ (d : Nat) (ls : Lc) (a b : Int) (st : List Value) (M : Mem) (Q : Outcome → Mem → Prop), Wp d 167 152 ls (.int (I b) :: .int (I a) :: st) M Q = Wp d 167 153 ls (.int (I (a + b)) :: st) M Q := fun d ls a b st M Q => w_iadd (show ins 167 152 = some (.iadd, 1) by decide +kernel)
set_option maxRecDepth 100000 in
theorem r_167_153 : ∀ (d : Nat) (ls : Lc) (v : Int32) (a : Nat) (st : List Value) (M : Mem) (Q : Outcome → Mem → Prop), Wp d 167 153 ls (.int v :: .ref a :: st) M Q = Wp d 167 154 ls (.int v :: .ref a :: .int v :: .ref a :: st) M Q := fun d ls v a st M Q => wA (show ins 167 153 = some (.dup2, 1) by decide +kernel) rfl
set_option maxRecDepth 100000 in
theorem r_167_154 : ∀ (d : Nat) (ls : Lc) (a : Nat) (j : Int32) (st : List Value) (M : Mem) (Q : Outcome → Mem → Prop), Wp d 167 154 ls (.int j :: .ref a :: st) M Q = ((((kX M a).1 = 0 ∨ (kX M a).1 = 8) ∧ inB j (kX M a).2 = true) ∧ Wp d 167 155 ls (.int (mA M a j.toNatClampNeg) :: st) M Q) := fun d ls a j st M Q => w_iaload (show ins 167 154 = some (.iaload, 1) by decide +kernel)
set_option maxRecDepth 100000 in
theorem r_167_155 : ∀ (d : Nat) (ls : Lc) (st : List Value) (M : Mem) (Q : Outcome → Mem → Prop), Wp d 167 155 ls st M Q = Wp d 167 156 ls (.int (I 1) :: st) M Q := fun d ls st M Q => w_iconst (show ins 167 155 = some (.iconst 1, 1) by decide +kernel)
set_option maxRecDepth 100000 in
theorem r_167_156 : ∀ (d : Nat) (ls : Lc) (a b : Int) (st : List Value) (M : Mem) (Q : Outcome → Mem → Prop), Wp d 167 156 ls (.int (I b) :: .int (I a) :: st) M Q = Wp d 167 157 ls (.int (I (a + b)) :: st) M Q := fun d ls a b st M Q => w_iadd (show ins 167 156 = some (.iadd, 1) by decide +kernel)
set_option maxRecDepth 100000 in
theorem r_167_157 : ∀ (d : Nat) (ls : Lc) (a : Nat) (j v : Int32) (st : List Value) (M : Mem) (Q : Outcome → Mem → Prop), Wp d 167 157 ls (.int v :: .int j :: .ref a :: st) M Q = (((kX M a).1 = 0 ∧ inB j (kX M a).2 = true) ∧ Wp d 167 158 ls st (sA M a j.toNatClampNeg v) Q) := fun d ls a j v st M Q => w_iastore (show ins 167 157 = some (.iastore, 1) by decide +kernel)
set_option maxRecDepth 100000 in
theorem r_167_158 : ∀ (d : Nat) (l1 l2 l3 l4 l5 l6 l7 l8 : Option Value) (v : Nat) (st : List Value) (M : Mem) (Q : Outcome → Mem → Prop), Wp d 167 158 [some (.ref v), l1, l2, l3, l4, l5, l6, l7, l8] st M Q = Wp d 167 159 [some (.ref v), l1, l2, l3, l4, l5, l6, l7, l8] (.ref v :: st) M Q := fun d l1 l2 l3 l4 l5 l6 l7 l8 v st M Q => wA (show ins 167 158 = some (.aload_n 0, 1) by decide +kernel) rfl
set_option maxRecDepth 100000 in
theorem r_167_159 : ∀ (d : Nat) (l0 l1 l2 l3 l4 l5 l7 l8 : Option Value) (v : Int32) (st : List Value) (M : Mem) (Q : Outcome → Mem → Prop), Wp d 167 159 [l0, l1, l2, l3, l4, l5, some (.int v), l7, l8] st M Q = Wp d 167 161 [l0, l1, l2, l3, l4, l5, some (.int v), l7, l8] (.int v :: st) M Q := fun d l0 l1 l2 l3 l4 l5 l7 l8 v st M Q => wA (show ins 167 159 = some (.iload 6, 2) by decide +kernel) rfl
set_option maxRecDepth 100000 in
theorem r_167_161 : ∀ (d : Nat) (ls : Lc) (v0 : Value) (a : Nat) (st : List Value) (M : Mem) (Q : Outcome → Mem → Prop), (smallR st = true) → Wp d 167 161 ls (v0 :: .ref a :: st) M Q = (kO M a = 8 ∧ Ca d 167 161 ls 169 (.ref a :: [v0]) st M Q) := fun d ls v0 a st M Q h0 => w_virt1 (as := [v0]) (show ins 167 161 = some (.invokevirtual 121, 3) by decide +kernel) (show mRes (mC 167) 121 = some (3, 8, [(8, 169)]) by decide +kernel) (by decide +kernel) rfl (by decide +kernel) (by decide +kernel) h0
set_option maxRecDepth 100000 in
theorem r_167_164 : ∀ (d : Nat) (ls : Lc) (M : Mem) (Q : Outcome → Mem → Prop), Wp d 167 164 ls [] M Q = Q (.returned none) M := fun d ls M Q => w_return (show ins 167 164 = some (.return_, 1) by decide +kernel) (by decide +kernel)
set_option maxRecDepth 100000 in
theorem w_167_22 : (type_of% r_167_22) := r_167_22
set_option maxRecDepth 100000 in
theorem W_167 : (type_of% r_167_0) ∧ (type_of% r_167_1) ∧ (type_of% r_167_2) ∧ (type_of% r_167_3) ∧ (type_of% r_167_4) ∧ (type_of% r_167_7) ∧ (type_of% r_167_9) ∧ (type_of% r_167_10) ∧ (type_of% r_167_13) ∧ (type_of% r_167_16) ∧ (type_of% r_167_18) ∧ (type_of% r_167_19) ∧ (type_of% r_167_20) ∧ (type_of% r_167_24) ∧ (type_of% r_167_27) ∧ (type_of% r_167_28) ∧ (type_of% r_167_30) ∧ (type_of% r_167_32) ∧ (type_of% r_167_33) ∧ (type_of% r_167_34) ∧ (type_of% r_167_35) ∧ (type_of% r_167_36) ∧ (type_of% r_167_37) ∧ (type_of% r_167_40) ∧ (type_of% r_167_43) ∧ (type_of% r_167_44) ∧ (type_of% r_167_46) ∧ (type_of% r_167_48) ∧ (type_of% r_167_49) ∧ (type_of% r_167_51) ∧ (type_of% r_167_52) ∧ (type_of% r_167_53) ∧ (type_of% r_167_54) ∧ (type_of% r_167_56) ∧ (type_of% r_167_58) ∧ (type_of% r_167_59) ∧ (type_of% r_167_61) ∧ (type_of% r_167_62) ∧ (type_of% r_167_65) ∧ (type_of% r_167_68) ∧ (type_of% r_167_71) ∧ (type_of% r_167_73) ∧ (type_of% r_167_75) ∧ (type_of% r_167_76) ∧ (type_of% r_167_78) ∧ (type_of% r_167_79) ∧ (type_of% r_167_81) ∧ (type_of% r_167_82) ∧ (type_of% r_167_85) ∧ (type_of% r_167_88) ∧ (type_of% r_167_90) ∧ (type_of% r_167_91) ∧ (type_of% r_167_92) ∧ (type_of% r_167_93) ∧ (type_of% r_167_94) ∧ (type_of% r_167_97) ∧ (type_of% r_167_100) ∧ (type_of% r_167_102) ∧ (type_of% r_167_103) ∧ (type_of% r_167_104) ∧ (type_of% r_167_105) ∧ (type_of% r_167_106) ∧ (type_of% r_167_109) ∧ (type_of% r_167_112) ∧ (type_of% r_167_114) ∧ (type_of% r_167_115) ∧ (type_of% r_167_116) ∧ (type_of% r_167_117) ∧ (type_of% r_167_118) ∧ (type_of% r_167_121) ∧ (type_of% r_167_124) ∧ (type_of% r_167_126) ∧ (type_of% r_167_127) ∧ (type_of% r_167_129) ∧ (type_of% r_167_130) ∧ (type_of% r_167_131) ∧ (type_of% r_167_134) ∧ (type_of% r_167_137) ∧ (type_of% r_167_139) ∧ (type_of% r_167_140) ∧ (type_of% r_167_142) ∧ (type_of% r_167_143) ∧ (type_of% r_167_144) ∧ (type_of% r_167_147) ∧ (type_of% r_167_150) ∧ (type_of% r_167_152) ∧ (type_of% r_167_153) ∧ (type_of% r_167_154) ∧ (type_of% r_167_155) ∧ (type_of% r_167_156) ∧ (type_of% r_167_157) ∧ (type_of% r_167_158) ∧ (type_of% r_167_159) ∧ (type_of% r_167_161) ∧ (type_of% r_167_164) := ⟨r_167_0, r_167_1, r_167_2, r_167_3, r_167_4, r_167_7, r_167_9, r_167_10, r_167_13, r_167_16, r_167_18, r_167_19, r_167_20, r_167_24, r_167_27, r_167_28, r_167_30, r_167_32, r_167_33, r_167_34, r_167_35, r_167_36, r_167_37, r_167_40, r_167_43, r_167_44, r_167_46, r_167_48, r_167_49, r_167_51, r_167_52, r_167_53, r_167_54, r_167_56, r_167_58, r_167_59, r_167_61, r_167_62, r_167_65, r_167_68, r_167_71, r_167_73, r_167_75, r_167_76, r_167_78, r_167_79, r_167_81, r_167_82, r_167_85, r_167_88, r_167_90, r_167_91, r_167_92, r_167_93, r_167_94, r_167_97, r_167_100, r_167_102, r_167_103, r_167_104, r_167_105, r_167_106, r_167_109, r_167_112, r_167_114, r_167_115, r_167_116, r_167_117, r_167_118, r_167_121, r_167_124, r_167_126, r_167_127, r_167_129, r_167_130, r_167_131, r_167_134, r_167_137, r_167_139, r_167_140, r_167_142, r_167_143, r_167_144, r_167_147, r_167_150, r_167_152, r_167_153, r_167_154, r_167_155, r_167_156, r_167_157, r_167_158, r_167_159, r_167_161, r_167_164⟩
set_option maxRecDepth 100000 in
theorem ca_167 {d y pc : Nat} {ls : Lc} {a : Nat} {z0 : Int32} {z1 : Int32} {z2 : Int32} {z3 : Int32} {z4 : Int32} {r : List Value} {M : Mem} {Q : Outcome → Mem → Prop} (hd : 0 < d) (hw : Wp (d - 1) 167 0 [some (.ref a), some (.int z0), some (.int z1), some (.int z2), some (.int z3), some (.int z4), none, none, none] [] M (Cq d y pc ls r Q)) : Ca d y pc ls 167 [.ref a, .int z0, .int z1, .int z2, .int z3, .int z4] r M Q := ca_of (mq_get (by decide)) (by rfl) hd hw
/-! 168 PackedTreeModel.copy(II)V; loop heads [] -/
set_option maxRecDepth 100000 in
theorem r_168_0 : ∀ (d : Nat) (l1 l2 : Option Value) (v : Nat) (st : List Value) (M : Mem) (Q : Outcome → Mem → Prop), Wp d 168 0 [some (.ref v), l1, l2] st M Q = Wp d 168 1 [some (.ref v), l1, l2] (.ref v :: st) M Q := fun d l1 l2 v st M Q => wA (show ins 168 0 = some (.aload_n 0, 1) by decide +kernel) rfl
set_option maxRecDepth 100000 in
theorem r_168_1 : ∀ (d : Nat) (ls : Lc) (a : Nat) (st : List Value) (M : Mem) (Q : Outcome → Mem → Prop), Wp d 168 1 ls (.ref a :: st) M Q = (fk 53 (kO M a) = true ∧ Wp d 168 4 ls (va_rf (mR M 53 a) :: st) M Q) := fun d ls a st M Q => w_getR (show ins 168 1 = some (.getfield 7, 3) by decide +kernel) (show fRes (mC 168) 7 = some (53, 8, false) by decide +kernel) (by decide +kernel)
set_option maxRecDepth 100000 in
theorem r_168_4 : ∀ (d : Nat) (ls : Lc) (st : List Value) (M : Mem) (Q : Outcome → Mem → Prop), Wp d 168 4 ls st M Q = Wp d 168 7 ls (.int (I 4620) :: st) M Q := fun d ls st M Q => w_sipush (show ins 168 4 = some (.sipush 4620, 3) by decide +kernel) (by decide)
set_option maxRecDepth 100000 in
theorem r_168_7 : ∀ (d : Nat) (l0 l1 : Option Value) (v : Int32) (st : List Value) (M : Mem) (Q : Outcome → Mem → Prop), Wp d 168 7 [l0, l1, some (.int v)] st M Q = Wp d 168 8 [l0, l1, some (.int v)] (.int v :: st) M Q := fun d l0 l1 v st M Q => wA (show ins 168 7 = some (.iload_n 2, 1) by decide +kernel) rfl
set_option maxRecDepth 100000 in
theorem r_168_8 : ∀ (d : Nat) (ls : Lc) (a b : Int) (st : List Value) (M : Mem) (Q : Outcome → Mem → Prop), Wp d 168 8 ls (.int (I b) :: .int (I a) :: st) M Q = Wp d 168 9 ls (.int (I (a + b)) :: st) M Q := fun d ls a b st M Q => w_iadd (show ins 168 8 = some (.iadd, 1) by decide +kernel)
set_option maxRecDepth 100000 in
theorem r_168_9 : ∀ (d : Nat) (l1 l2 : Option Value) (v : Nat) (st : List Value) (M : Mem) (Q : Outcome → Mem → Prop), Wp d 168 9 [some (.ref v), l1, l2] st M Q = Wp d 168 10 [some (.ref v), l1, l2] (.ref v :: st) M Q := fun d l1 l2 v st M Q => wA (show ins 168 9 = some (.aload_n 0, 1) by decide +kernel) rfl
set_option maxRecDepth 100000 in
theorem r_168_10 : ∀ (d : Nat) (ls : Lc) (a : Nat) (st : List Value) (M : Mem) (Q : Outcome → Mem → Prop), Wp d 168 10 ls (.ref a :: st) M Q = (fk 53 (kO M a) = true ∧ Wp d 168 13 ls (va_rf (mR M 53 a) :: st) M Q) := fun d ls a st M Q => w_getR (show ins 168 10 = some (.getfield 7, 3) by decide +kernel) (show fRes (mC 168) 7 = some (53, 8, false) by decide +kernel) (by decide +kernel)
set_option maxRecDepth 100000 in
theorem r_168_13 : ∀ (d : Nat) (ls : Lc) (st : List Value) (M : Mem) (Q : Outcome → Mem → Prop), Wp d 168 13 ls st M Q = Wp d 168 16 ls (.int (I 4620) :: st) M Q := fun d ls st M Q => w_sipush (show ins 168 13 = some (.sipush 4620, 3) by decide +kernel) (by decide)
set_option maxRecDepth 100000 in
theorem r_168_16 : ∀ (d : Nat) (l0 l2 : Option Value) (v : Int32) (st : List Value) (M : Mem) (Q : Outcome → Mem → Prop), Wp d 168 16 [l0, some (.int v), l2] st M Q = Wp d 168 17 [l0, some (.int v), l2] (.int v :: st) M Q := fun d l0 l2 v st M Q => wA (show ins 168 16 = some (.iload_n 1, 1) by decide +kernel) rfl
set_option maxRecDepth 100000 in
theorem r_168_17 : ∀ (d : Nat) (ls : Lc) (a b : Int) (st : List Value) (M : Mem) (Q : Outcome → Mem → Prop), Wp d 168 17 ls (.int (I b) :: .int (I a) :: st) M Q = Wp d 168 18 ls (.int (I (a + b)) :: st) M Q := fun d ls a b st M Q => w_iadd (show ins 168 17 = some (.iadd, 1) by decide +kernel)
set_option maxRecDepth 100000 in
theorem r_168_18 : ∀ (d : Nat) (ls : Lc) (a : Nat) (j : Int32) (st : List Value) (M : Mem) (Q : Outcome → Mem → Prop), Wp d 168 18 ls (.int j :: .ref a :: st) M Q = ((((kX M a).1 = 0 ∨ (kX M a).1 = 8) ∧ inB j (kX M a).2 = true) ∧ Wp d 168 19 ls (.int (mA M a j.toNatClampNeg) :: st) M Q) := fun d ls a j st M Q => w_iaload (show ins 168 18 = some (.iaload, 1) by decide +kernel)
set_option maxRecDepth 100000 in
theorem r_168_19 : ∀ (d : Nat) (ls : Lc) (a : Nat) (j v : Int32) (st : List Value) (M : Mem) (Q : Outcome → Mem → Prop), Wp d 168 19 ls (.int v :: .int j :: .ref a :: st) M Q = (((kX M a).1 = 0 ∧ inB j (kX M a).2 = true) ∧ Wp d 168 20 ls st (sA M a j.toNatClampNeg v) Q) := fun d ls a j v st M Q => w_iastore (show ins 168 19 = some (.iastore, 1) by decide +kernel)
set_option maxRecDepth 100000 in
theorem r_168_20 : ∀ (d : Nat) (l1 l2 : Option Value) (v : Nat) (st : List Value) (M : Mem) (Q : Outcome → Mem → Prop), Wp d 168 20 [some (.ref v), l1, l2] st M Q = Wp d 168 21 [some (.ref v), l1, l2] (.ref v :: st) M Q := fun d l1 l2 v st M Q => wA (show ins 168 20 = some (.aload_n 0, 1) by decide +kernel) rfl
set_option maxRecDepth 100000 in
theorem r_168_21 : ∀ (d : Nat) (ls : Lc) (a : Nat) (st : List Value) (M : Mem) (Q : Outcome → Mem → Prop), Wp d 168 21 ls (.ref a :: st) M Q = (fk 53 (kO M a) = true ∧ Wp d 168 24 ls (va_rf (mR M 53 a) :: st) M Q) := fun d ls a st M Q => w_getR (show ins 168 21 = some (.getfield 7, 3) by decide +kernel) (show fRes (mC 168) 7 = some (53, 8, false) by decide +kernel) (by decide +kernel)
set_option maxRecDepth 100000 in
theorem r_168_24 : ∀ (d : Nat) (ls : Lc) (st : List Value) (M : Mem) (Q : Outcome → Mem → Prop), Wp d 168 24 ls st M Q = Wp d 168 27 ls (.int (I 6156) :: st) M Q := fun d ls st M Q => w_sipush (show ins 168 24 = some (.sipush 6156, 3) by decide +kernel) (by decide)
set_option maxRecDepth 100000 in
theorem r_168_27 : ∀ (d : Nat) (l0 l1 : Option Value) (v : Int32) (st : List Value) (M : Mem) (Q : Outcome → Mem → Prop), Wp d 168 27 [l0, l1, some (.int v)] st M Q = Wp d 168 28 [l0, l1, some (.int v)] (.int v :: st) M Q := fun d l0 l1 v st M Q => wA (show ins 168 27 = some (.iload_n 2, 1) by decide +kernel) rfl
set_option maxRecDepth 100000 in
theorem r_168_28 : ∀ (d : Nat) (ls : Lc) (a b : Int) (st : List Value) (M : Mem) (Q : Outcome → Mem → Prop), Wp d 168 28 ls (.int (I b) :: .int (I a) :: st) M Q = Wp d 168 29 ls (.int (I (a + b)) :: st) M Q := fun d ls a b st M Q => w_iadd (show ins 168 28 = some (.iadd, 1) by decide +kernel)
set_option maxRecDepth 100000 in
theorem r_168_29 : ∀ (d : Nat) (l1 l2 : Option Value) (v : Nat) (st : List Value) (M : Mem) (Q : Outcome → Mem → Prop), Wp d 168 29 [some (.ref v), l1, l2] st M Q = Wp d 168 30 [some (.ref v), l1, l2] (.ref v :: st) M Q := fun d l1 l2 v st M Q => wA (show ins 168 29 = some (.aload_n 0, 1) by decide +kernel) rfl
set_option maxRecDepth 100000 in
theorem r_168_30 : ∀ (d : Nat) (ls : Lc) (a : Nat) (st : List Value) (M : Mem) (Q : Outcome → Mem → Prop), Wp d 168 30 ls (.ref a :: st) M Q = (fk 53 (kO M a) = true ∧ Wp d 168 33 ls (va_rf (mR M 53 a) :: st) M Q) := fun d ls a st M Q => w_getR (show ins 168 30 = some (.getfield 7, 3) by decide +kernel) (show fRes (mC 168) 7 = some (53, 8, false) by decide +kernel) (by decide +kernel)
set_option maxRecDepth 100000 in
theorem r_168_33 : ∀ (d : Nat) (ls : Lc) (st : List Value) (M : Mem) (Q : Outcome → Mem → Prop), Wp d 168 33 ls st M Q = Wp d 168 36 ls (.int (I 6156) :: st) M Q := fun d ls st M Q => w_sipush (show ins 168 33 = some (.sipush 6156, 3) by decide +kernel) (by decide)
set_option maxRecDepth 100000 in
theorem r_168_36 : ∀ (d : Nat) (l0 l2 : Option Value) (v : Int32) (st : List Value) (M : Mem) (Q : Outcome → Mem → Prop), Wp d 168 36 [l0, some (.int v), l2] st M Q = Wp d 168 37 [l0, some (.int v), l2] (.int v :: st) M Q := fun d l0 l2 v st M Q => wA (show ins 168 36 = some (.iload_n 1, 1) by decide +kernel) rfl
set_option maxRecDepth 100000 in
theorem r_168_37 : ∀ (d : Nat) (ls : Lc) (a b : Int) (st : List Value) (M : Mem) (Q : Outcome → Mem → Prop), Wp d 168 37 ls (.int (I b) :: .int (I a) :: st) M Q = Wp d 168 38 ls (.int (I (a + b)) :: st) M Q := fun d ls a b st M Q => w_iadd (show ins 168 37 = some (.iadd, 1) by decide +kernel)
set_option maxRecDepth 100000 in
theorem r_168_38 : ∀ (d : Nat) (ls : Lc) (a : Nat) (j : Int32) (st : List Value) (M : Mem) (Q : Outcome → Mem → Prop), Wp d 168 38 ls (.int j :: .ref a :: st) M Q = ((((kX M a).1 = 0 ∨ (kX M a).1 = 8) ∧ inB j (kX M a).2 = true) ∧ Wp d 168 39 ls (.int (mA M a j.toNatClampNeg) :: st) M Q) := fun d ls a j st M Q => w_iaload (show ins 168 38 = some (.iaload, 1) by decide +kernel)
set_option maxRecDepth 100000 in
theorem r_168_39 : ∀ (d : Nat) (ls : Lc) (a : Nat) (j v : Int32) (st : List Value) (M : Mem) (Q : Outcome → Mem → Prop), Wp d 168 39 ls (.int v :: .int j :: .ref a :: st) M Q = (((kX M a).1 = 0 ∧ inB j (kX M a).2 = true) ∧ Wp d 168 40 ls st (sA M a j.toNatClampNeg v) Q) := fun d ls a j v st M Q => w_iastore (show ins 168 39 = some (.iastore, 1) by decide +kernel)
set_option maxRecDepth 100000 in
theorem r_168_40 : ∀ (d : Nat) (l1 l2 : Option Value) (v : Nat) (st : List Value) (M : Mem) (Q : Outcome → Mem → Prop), Wp d 168 40 [some (.ref v), l1, l2] st M Q = Wp d 168 41 [some (.ref v), l1, l2] (.ref v :: st) M Q := fun d l1 l2 v st M Q => wA (show ins 168 40 = some (.aload_n 0, 1) by decide +kernel) rfl
set_option maxRecDepth 100000 in
theorem r_168_41 : ∀ (d : Nat) (ls : Lc) (a : Nat) (st : List Value) (M : Mem) (Q : Outcome → Mem → Prop), Wp d 168 41 ls (.ref a :: st) M Q = (fk 53 (kO M a) = true ∧ Wp d 168 44 ls (va_rf (mR M 53 a) :: st) M Q) := fun d ls a st M Q => w_getR (show ins 168 41 = some (.getfield 7, 3) by decide +kernel) (show fRes (mC 168) 7 = some (53, 8, false) by decide +kernel) (by decide +kernel)
set_option maxRecDepth 100000 in
theorem r_168_44 : ∀ (d : Nat) (ls : Lc) (st : List Value) (M : Mem) (Q : Outcome → Mem → Prop), Wp d 168 44 ls st M Q = Wp d 168 47 ls (.int (I 7692) :: st) M Q := fun d ls st M Q => w_sipush (show ins 168 44 = some (.sipush 7692, 3) by decide +kernel) (by decide)
set_option maxRecDepth 100000 in
theorem r_168_47 : ∀ (d : Nat) (l0 l1 : Option Value) (v : Int32) (st : List Value) (M : Mem) (Q : Outcome → Mem → Prop), Wp d 168 47 [l0, l1, some (.int v)] st M Q = Wp d 168 48 [l0, l1, some (.int v)] (.int v :: st) M Q := fun d l0 l1 v st M Q => wA (show ins 168 47 = some (.iload_n 2, 1) by decide +kernel) rfl
set_option maxRecDepth 100000 in
theorem r_168_48 : ∀ (d : Nat) (ls : Lc) (a b : Int) (st : List Value) (M : Mem) (Q : Outcome → Mem → Prop), Wp d 168 48 ls (.int (I b) :: .int (I a) :: st) M Q = Wp d 168 49 ls (.int (I (a + b)) :: st) M Q := fun d ls a b st M Q => w_iadd (show ins 168 48 = some (.iadd, 1) by decide +kernel)
set_option maxRecDepth 100000 in
theorem r_168_49 : ∀ (d : Nat) (l1 l2 : Option Value) (v : Nat) (st : List Value) (M : Mem) (Q : Outcome → Mem → Prop), Wp d 168 49 [some (.ref v), l1, l2] st M Q = Wp d 168 50 [some (.ref v), l1, l2] (.ref v :: st) M Q := fun d l1 l2 v st M Q => wA (show ins 168 49 = some (.aload_n 0, 1) by decide +kernel) rfl
set_option maxRecDepth 100000 in
theorem r_168_50 : ∀ (d : Nat) (ls : Lc) (a : Nat) (st : List Value) (M : Mem) (Q : Outcome → Mem → Prop), Wp d 168 50 ls (.ref a :: st) M Q = (fk 53 (kO M a) = true ∧ Wp d 168 53 ls (va_rf (mR M 53 a) :: st) M Q) := fun d ls a st M Q => w_getR (show ins 168 50 = some (.getfield 7, 3) by decide +kernel) (show fRes (mC 168) 7 = some (53, 8, false) by decide +kernel) (by decide +kernel)
set_option maxRecDepth 100000 in
theorem r_168_53 : ∀ (d : Nat) (ls : Lc) (st : List Value) (M : Mem) (Q : Outcome → Mem → Prop), Wp d 168 53 ls st M Q = Wp d 168 56 ls (.int (I 7692) :: st) M Q := fun d ls st M Q => w_sipush (show ins 168 53 = some (.sipush 7692, 3) by decide +kernel) (by decide)
set_option maxRecDepth 100000 in
theorem r_168_56 : ∀ (d : Nat) (l0 l2 : Option Value) (v : Int32) (st : List Value) (M : Mem) (Q : Outcome → Mem → Prop), Wp d 168 56 [l0, some (.int v), l2] st M Q = Wp d 168 57 [l0, some (.int v), l2] (.int v :: st) M Q := fun d l0 l2 v st M Q => wA (show ins 168 56 = some (.iload_n 1, 1) by decide +kernel) rfl
set_option maxRecDepth 100000 in
theorem r_168_57 : ∀ (d : Nat) (ls : Lc) (a b : Int) (st : List Value) (M : Mem) (Q : Outcome → Mem → Prop), Wp d 168 57 ls (.int (I b) :: .int (I a) :: st) M Q = Wp d 168 58 ls (.int (I (a + b)) :: st) M Q := fun d ls a b st M Q => w_iadd (show ins 168 57 = some (.iadd, 1) by decide +kernel)
set_option maxRecDepth 100000 in
theorem r_168_58 : ∀ (d : Nat) (ls : Lc) (a : Nat) (j : Int32) (st : List Value) (M : Mem) (Q : Outcome → Mem → Prop), Wp d 168 58 ls (.int j :: .ref a :: st) M Q = ((((kX M a).1 = 0 ∨ (kX M a).1 = 8) ∧ inB j (kX M a).2 = true) ∧ Wp d 168 59 ls (.int (mA M a j.toNatClampNeg) :: st) M Q) := fun d ls a j st M Q => w_iaload (show ins 168 58 = some (.iaload, 1) by decide +kernel)
set_option maxRecDepth 100000 in
theorem r_168_59 : ∀ (d : Nat) (ls : Lc) (a : Nat) (j v : Int32) (st : List Value) (M : Mem) (Q : Outcome → Mem → Prop), Wp d 168 59 ls (.int v :: .int j :: .ref a :: st) M Q = (((kX M a).1 = 0 ∧ inB j (kX M a).2 = true) ∧ Wp d 168 60 ls st (sA M a j.toNatClampNeg v) Q) := fun d ls a j v st M Q => w_iastore (show ins 168 59 = some (.iastore, 1) by decide +kernel)
set_option maxRecDepth 100000 in
theorem r_168_60 : ∀ (d : Nat) (l1 l2 : Option Value) (v : Nat) (st : List Value) (M : Mem) (Q : Outcome → Mem → Prop), Wp d 168 60 [some (.ref v), l1, l2] st M Q = Wp d 168 61 [some (.ref v), l1, l2] (.ref v :: st) M Q := fun d l1 l2 v st M Q => wA (show ins 168 60 = some (.aload_n 0, 1) by decide +kernel) rfl
set_option maxRecDepth 100000 in
theorem r_168_61 : ∀ (d : Nat) (ls : Lc) (a : Nat) (st : List Value) (M : Mem) (Q : Outcome → Mem → Prop), Wp d 168 61 ls (.ref a :: st) M Q = (fk 53 (kO M a) = true ∧ Wp d 168 64 ls (va_rf (mR M 53 a) :: st) M Q) := fun d ls a st M Q => w_getR (show ins 168 61 = some (.getfield 7, 3) by decide +kernel) (show fRes (mC 168) 7 = some (53, 8, false) by decide +kernel) (by decide +kernel)
set_option maxRecDepth 100000 in
theorem r_168_64 : ∀ (d : Nat) (ls : Lc) (st : List Value) (M : Mem) (Q : Outcome → Mem → Prop), Wp d 168 64 ls st M Q = Wp d 168 67 ls (.int (I 9228) :: st) M Q := fun d ls st M Q => w_sipush (show ins 168 64 = some (.sipush 9228, 3) by decide +kernel) (by decide)
set_option maxRecDepth 100000 in
theorem r_168_67 : ∀ (d : Nat) (l0 l1 : Option Value) (v : Int32) (st : List Value) (M : Mem) (Q : Outcome → Mem → Prop), Wp d 168 67 [l0, l1, some (.int v)] st M Q = Wp d 168 68 [l0, l1, some (.int v)] (.int v :: st) M Q := fun d l0 l1 v st M Q => wA (show ins 168 67 = some (.iload_n 2, 1) by decide +kernel) rfl
set_option maxRecDepth 100000 in
theorem r_168_68 : ∀ (d : Nat) (ls : Lc) (a b : Int) (st : List Value) (M : Mem) (Q : Outcome → Mem → Prop), Wp d 168 68 ls (.int (I b) :: .int (I a) :: st) M Q = Wp d 168 69 ls (.int (I (a + b)) :: st) M Q := fun d ls a b st M Q => w_iadd (show ins 168 68 = some (.iadd, 1) by decide +kernel)
set_option maxRecDepth 100000 in
theorem r_168_69 : ∀ (d : Nat) (l1 l2 : Option Value) (v : Nat) (st : List Value) (M : Mem) (Q : Outcome → Mem → Prop), Wp d 168 69 [some (.ref v), l1, l2] st M Q = Wp d 168 70 [some (.ref v), l1, l2] (.ref v :: st) M Q := fun d l1 l2 v st M Q => wA (show ins 168 69 = some (.aload_n 0, 1) by decide +kernel) rfl
set_option maxRecDepth 100000 in
theorem r_168_70 : ∀ (d : Nat) (ls : Lc) (a : Nat) (st : List Value) (M : Mem) (Q : Outcome → Mem → Prop), Wp d 168 70 ls (.ref a :: st) M Q = (fk 53 (kO M a) = true ∧ Wp d 168 73 ls (va_rf (mR M 53 a) :: st) M Q) := fun d ls a st M Q => w_getR (show ins 168 70 = some (.getfield 7, 3) by decide +kernel) (show fRes (mC 168) 7 = some (53, 8, false) by decide +kernel) (by decide +kernel)
set_option maxRecDepth 100000 in
theorem r_168_73 : ∀ (d : Nat) (ls : Lc) (st : List Value) (M : Mem) (Q : Outcome → Mem → Prop), Wp d 168 73 ls st M Q = Wp d 168 76 ls (.int (I 9228) :: st) M Q := fun d ls st M Q => w_sipush (show ins 168 73 = some (.sipush 9228, 3) by decide +kernel) (by decide)
set_option maxRecDepth 100000 in
theorem r_168_76 : ∀ (d : Nat) (l0 l2 : Option Value) (v : Int32) (st : List Value) (M : Mem) (Q : Outcome → Mem → Prop), Wp d 168 76 [l0, some (.int v), l2] st M Q = Wp d 168 77 [l0, some (.int v), l2] (.int v :: st) M Q := fun d l0 l2 v st M Q => wA (show ins 168 76 = some (.iload_n 1, 1) by decide +kernel) rfl
set_option maxRecDepth 100000 in
theorem r_168_77 : ∀ (d : Nat) (ls : Lc) (a b : Int) (st : List Value) (M : Mem) (Q : Outcome → Mem → Prop), Wp d 168 77 ls (.int (I b) :: .int (I a) :: st) M Q = Wp d 168 78 ls (.int (I (a + b)) :: st) M Q := fun d ls a b st M Q => w_iadd (show ins 168 77 = some (.iadd, 1) by decide +kernel)
set_option maxRecDepth 100000 in
theorem r_168_78 : ∀ (d : Nat) (ls : Lc) (a : Nat) (j : Int32) (st : List Value) (M : Mem) (Q : Outcome → Mem → Prop), Wp d 168 78 ls (.int j :: .ref a :: st) M Q = ((((kX M a).1 = 0 ∨ (kX M a).1 = 8) ∧ inB j (kX M a).2 = true) ∧ Wp d 168 79 ls (.int (mA M a j.toNatClampNeg) :: st) M Q) := fun d ls a j st M Q => w_iaload (show ins 168 78 = some (.iaload, 1) by decide +kernel)
set_option maxRecDepth 100000 in
theorem r_168_79 : ∀ (d : Nat) (ls : Lc) (a : Nat) (j v : Int32) (st : List Value) (M : Mem) (Q : Outcome → Mem → Prop), Wp d 168 79 ls (.int v :: .int j :: .ref a :: st) M Q = (((kX M a).1 = 0 ∧ inB j (kX M a).2 = true) ∧ Wp d 168 80 ls st (sA M a j.toNatClampNeg v) Q) := fun d ls a j v st M Q => w_iastore (show ins 168 79 = some (.iastore, 1) by decide +kernel)
set_option maxRecDepth 100000 in
theorem r_168_80 : ∀ (d : Nat) (l1 l2 : Option Value) (v : Nat) (st : List Value) (M : Mem) (Q : Outcome → Mem → Prop), Wp d 168 80 [some (.ref v), l1, l2] st M Q = Wp d 168 81 [some (.ref v), l1, l2] (.ref v :: st) M Q := fun d l1 l2 v st M Q => wA (show ins 168 80 = some (.aload_n 0, 1) by decide +kernel) rfl
set_option maxRecDepth 100000 in
theorem r_168_81 : ∀ (d : Nat) (ls : Lc) (a : Nat) (st : List Value) (M : Mem) (Q : Outcome → Mem → Prop), Wp d 168 81 ls (.ref a :: st) M Q = (fk 53 (kO M a) = true ∧ Wp d 168 84 ls (va_rf (mR M 53 a) :: st) M Q) := fun d ls a st M Q => w_getR (show ins 168 81 = some (.getfield 7, 3) by decide +kernel) (show fRes (mC 168) 7 = some (53, 8, false) by decide +kernel) (by decide +kernel)
set_option maxRecDepth 100000 in
theorem r_168_84 : ∀ (d : Nat) (ls : Lc) (st : List Value) (M : Mem) (Q : Outcome → Mem → Prop), Wp d 168 84 ls st M Q = Wp d 168 87 ls (.int (I 10764) :: st) M Q := fun d ls st M Q => w_sipush (show ins 168 84 = some (.sipush 10764, 3) by decide +kernel) (by decide)
set_option maxRecDepth 100000 in
theorem r_168_87 : ∀ (d : Nat) (l0 l1 : Option Value) (v : Int32) (st : List Value) (M : Mem) (Q : Outcome → Mem → Prop), Wp d 168 87 [l0, l1, some (.int v)] st M Q = Wp d 168 88 [l0, l1, some (.int v)] (.int v :: st) M Q := fun d l0 l1 v st M Q => wA (show ins 168 87 = some (.iload_n 2, 1) by decide +kernel) rfl
set_option maxRecDepth 100000 in
theorem r_168_88 : ∀ (d : Nat) (ls : Lc) (a b : Int) (st : List Value) (M : Mem) (Q : Outcome → Mem → Prop), Wp d 168 88 ls (.int (I b) :: .int (I a) :: st) M Q = Wp d 168 89 ls (.int (I (a + b)) :: st) M Q := fun d ls a b st M Q => w_iadd (show ins 168 88 = some (.iadd, 1) by decide +kernel)
set_option maxRecDepth 100000 in
theorem r_168_89 : ∀ (d : Nat) (l1 l2 : Option Value) (v : Nat) (st : List Value) (M : Mem) (Q : Outcome → Mem → Prop), Wp d 168 89 [some (.ref v), l1, l2] st M Q = Wp d 168 90 [some (.ref v), l1, l2] (.ref v :: st) M Q := fun d l1 l2 v st M Q => wA (show ins 168 89 = some (.aload_n 0, 1) by decide +kernel) rfl
set_option maxRecDepth 100000 in
theorem r_168_90 : ∀ (d : Nat) (ls : Lc) (a : Nat) (st : List Value) (M : Mem) (Q : Outcome → Mem → Prop), Wp d 168 90 ls (.ref a :: st) M Q = (fk 53 (kO M a) = true ∧ Wp d 168 93 ls (va_rf (mR M 53 a) :: st) M Q) := fun d ls a st M Q => w_getR (show ins 168 90 = some (.getfield 7, 3) by decide +kernel) (show fRes (mC 168) 7 = some (53, 8, false) by decide +kernel) (by decide +kernel)
set_option maxRecDepth 100000 in
theorem r_168_93 : ∀ (d : Nat) (ls : Lc) (st : List Value) (M : Mem) (Q : Outcome → Mem → Prop), Wp d 168 93 ls st M Q = Wp d 168 96 ls (.int (I 10764) :: st) M Q := fun d ls st M Q => w_sipush (show ins 168 93 = some (.sipush 10764, 3) by decide +kernel) (by decide)
set_option maxRecDepth 100000 in
theorem r_168_96 : ∀ (d : Nat) (l0 l2 : Option Value) (v : Int32) (st : List Value) (M : Mem) (Q : Outcome → Mem → Prop), Wp d 168 96 [l0, some (.int v), l2] st M Q = Wp d 168 97 [l0, some (.int v), l2] (.int v :: st) M Q := fun d l0 l2 v st M Q => wA (show ins 168 96 = some (.iload_n 1, 1) by decide +kernel) rfl
set_option maxRecDepth 100000 in
theorem r_168_97 : ∀ (d : Nat) (ls : Lc) (a b : Int) (st : List Value) (M : Mem) (Q : Outcome → Mem → Prop), Wp d 168 97 ls (.int (I b) :: .int (I a) :: st) M Q = Wp d 168 98 ls (.int (I (a + b)) :: st) M Q := fun d ls a b st M Q => w_iadd (show ins 168 97 = some (.iadd, 1) by decide +kernel)
set_option maxRecDepth 100000 in
theorem r_168_98 : ∀ (d : Nat) (ls : Lc) (a : Nat) (j : Int32) (st : List Value) (M : Mem) (Q : Outcome → Mem → Prop), Wp d 168 98 ls (.int j :: .ref a :: st) M Q = ((((kX M a).1 = 0 ∨ (kX M a).1 = 8) ∧ inB j (kX M a).2 = true) ∧ Wp d 168 99 ls (.int (mA M a j.toNatClampNeg) :: st) M Q) := fun d ls a j st M Q => w_iaload (show ins 168 98 = some (.iaload, 1) by decide +kernel)
set_option maxRecDepth 100000 in
theorem r_168_99 : ∀ (d : Nat) (ls : Lc) (a : Nat) (j v : Int32) (st : List Value) (M : Mem) (Q : Outcome → Mem → Prop), Wp d 168 99 ls (.int v :: .int j :: .ref a :: st) M Q = (((kX M a).1 = 0 ∧ inB j (kX M a).2 = true) ∧ Wp d 168 100 ls st (sA M a j.toNatClampNeg v) Q) := fun d ls a j v st M Q => w_iastore (show ins 168 99 = some (.iastore, 1) by decide +kernel)
set_option maxRecDepth 100000 in
theorem r_168_100 : ∀ (d : Nat) (ls : Lc) (M : Mem) (Q : Outcome → Mem → Prop), Wp d 168 100 ls [] M Q = Q (.returned none) M := fun d ls M Q => w_return (show ins 168 100 = some (.return_, 1) by decide +kernel) (by decide +kernel)
set_option maxRecDepth 100000 in
theorem W_168 : (type_of% r_168_0) ∧ (type_of% r_168_1) ∧ (type_of% r_168_4) ∧ (type_of% r_168_7) ∧ (type_of% r_168_8) ∧ (type_of% r_168_9) ∧ (type_of% r_168_10) ∧ (type_of% r_168_13) ∧ (type_of% r_168_16) ∧ (type_of% r_168_17) ∧ (type_of% r_168_18) ∧ (type_of% r_168_19) ∧ (type_of% r_168_20) ∧ (type_of% r_168_21) ∧ (type_of% r_168_24) ∧ (type_of% r_168_27) ∧ (type_of% r_168_28) ∧ (type_of% r_168_29) ∧ (type_of% r_168_30) ∧ (type_of% r_168_33) ∧ (type_of% r_168_36) ∧ (type_of% r_168_37) ∧ (type_of% r_168_38) ∧ (type_of% r_168_39) ∧ (type_of% r_168_40) ∧ (type_of% r_168_41) ∧ (type_of% r_168_44) ∧ (type_of% r_168_47) ∧ (type_of% r_168_48) ∧ (type_of% r_168_49) ∧ (type_of% r_168_50) ∧ (type_of% r_168_53) ∧ (type_of% r_168_56) ∧ (type_of% r_168_57) ∧ (type_of% r_168_58) ∧ (type_of% r_168_59) ∧ (type_of% r_168_60) ∧ (type_of% r_168_61) ∧ (type_of% r_168_64) ∧ (type_of% r_168_67) ∧ (type_of% r_168_68) ∧ (type_of% r_168_69) ∧ (type_of% r_168_70) ∧ (type_of% r_168_73) ∧ (type_of% r_168_76) ∧ (type_of% r_168_77) ∧ (type_of% r_168_78) ∧ (type_of% r_168_79) ∧ (type_of% r_168_80) ∧ (type_of% r_168_81) ∧ (type_of% r_168_84) ∧ (type_of% r_168_87) ∧ (type_of% r_168_88) ∧ (type_of% r_168_89) ∧ (type_of% r_168_90) ∧ (type_of% r_168_93) ∧ (type_of% r_168_96) ∧ (type_of% r_168_97) ∧ (type_of% r_168_98) ∧ (type_of% r_168_99) ∧ (type_of% r_168_100) := ⟨r_168_0, r_168_1, r_168_4, r_168_7, r_168_8, r_168_9, r_168_10, r_168_13, r_168_16, r_168_17, r_168_18, r_168_19, r_168_20, r_168_21, r_168_24, r_168_27, r_168_28, r_168_29, r_168_30, r_168_33, r_168_36, r_168_37, r_168_38, r_168_39, r_168_40, r_168_41, r_168_44, r_168_47, r_168_48, r_168_49, r_168_50, r_168_53, r_168_56, r_168_57, r_168_58, r_168_59, r_168_60, r_168_61, r_168_64, r_168_67, r_168_68, r_168_69, r_168_70, r_168_73, r_168_76, r_168_77, r_168_78, r_168_79, r_168_80, r_168_81, r_168_84, r_168_87, r_168_88, r_168_89, r_168_90, r_168_93, r_168_96, r_168_97, r_168_98, r_168_99, r_168_100⟩
set_option maxRecDepth 100000 in
theorem ca_168 {d y pc : Nat} {ls : Lc} {a : Nat} {z0 : Int32} {z1 : Int32} {r : List Value} {M : Mem} {Q : Outcome → Mem → Prop} (hd : 0 < d) (hw : Wp (d - 1) 168 0 [some (.ref a), some (.int z0), some (.int z1)] [] M (Cq d y pc ls r Q)) : Ca d y pc ls 168 [.ref a, .int z0, .int z1] r M Q := ca_of (mq_get (by decide)) (by rfl) hd hw
/-! 169 PackedTreeModel.settle(I)V; loop heads [7, 66, 180] -/
set_option maxRecDepth 100000 in
theorem r_169_0 : ∀ (d : Nat) (l1 l2 l3 l4 : Option Value) (v : Nat) (st : List Value) (M : Mem) (Q : Outcome → Mem → Prop), Wp d 169 0 [some (.ref v), l1, l2, l3, l4] st M Q = Wp d 169 1 [some (.ref v), l1, l2, l3, l4] (.ref v :: st) M Q := fun d l1 l2 l3 l4 v st M Q => wA (show ins 169 0 = some (.aload_n 0, 1) by decide +kernel) rfl
set_option maxRecDepth 100000 in
theorem r_169_1 : ∀ (d : Nat) (l0 l2 l3 l4 : Option Value) (v : Int32) (st : List Value) (M : Mem) (Q : Outcome → Mem → Prop), Wp d 169 1 [l0, some (.int v), l2, l3, l4] st M Q = Wp d 169 2 [l0, some (.int v), l2, l3, l4] (.int v :: st) M Q := fun d l0 l2 l3 l4 v st M Q => wA (show ins 169 1 = some (.iload_n 1, 1) by decide +kernel) rfl
set_option maxRecDepth 100000 in
theorem r_169_2 : ∀ (d : Nat) (ls : Lc) (st : List Value) (M : Mem) (Q : Outcome → Mem → Prop), Wp d 169 2 ls st M Q = Wp d 169 3 ls (.int (I (-1)) :: st) M Q := fun d ls st M Q => w_iconst (show ins 169 2 = some (.iconst (-1), 1) by decide +kernel)
set_option maxRecDepth 100000 in
theorem r_169_3 : ∀ (d : Nat) (ls : Lc) (v0 v1 : Value) (a : Nat) (st : List Value) (M : Mem) (Q : Outcome → Mem → Prop), (smallR st = true) → Wp d 169 3 ls (v1 :: v0 :: .ref a :: st) M Q = (kO M a = 8 ∧ Ca d 169 3 ls 170 (.ref a :: [v0, v1]) st M Q) := fun d ls v0 v1 a st M Q h0 => w_virt1 (as := [v0, v1]) (show ins 169 3 = some (.invokevirtual 88, 3) by decide +kernel) (show mRes (mC 169) 88 = some (3, 8, [(8, 170)]) by decide +kernel) (by decide +kernel) rfl (by decide +kernel) (by decide +kernel) h0
set_option maxRecDepth 100000 in
theorem r_169_6 : ∀ (d : Nat) (l0 l1 l2 l3 l4 : Option Value) (v : Int32) (st : List Value) (M : Mem) (Q : Outcome → Mem → Prop), (lo l1 = false) → Wp d 169 6 [l0, l1, l2, l3, l4] (.int v :: st) M Q = Wp d 169 7 [l0, l1, some (.int v), l3, l4] st M Q := fun d l0 l1 l2 l3 l4 v st M Q hl => w_istore_n (show ins 169 6 = some (.istore_n 2, 1) by decide +kernel) (st1_S rfl rfl hl)
set_option maxRecDepth 100000 in
theorem r_169_7 : ∀ (d : Nat) (l1 l2 l3 l4 : Option Value) (v : Nat) (st : List Value) (M : Mem) (Q : Outcome → Mem → Prop), Wp d 169 7 [some (.ref v), l1, l2, l3, l4] st M Q = Wp d 169 8 [some (.ref v), l1, l2, l3, l4] (.ref v :: st) M Q := fun d l1 l2 l3 l4 v st M Q => wA (show ins 169 7 = some (.aload_n 0, 1) by decide +kernel) rfl
set_option maxRecDepth 100000 in
theorem r_169_8 : ∀ (d : Nat) (l0 l2 l3 l4 : Option Value) (v : Int32) (st : List Value) (M : Mem) (Q : Outcome → Mem → Prop), Wp d 169 8 [l0, some (.int v), l2, l3, l4] st M Q = Wp d 169 9 [l0, some (.int v), l2, l3, l4] (.int v :: st) M Q := fun d l0 l2 l3 l4 v st M Q => wA (show ins 169 8 = some (.iload_n 1, 1) by decide +kernel) rfl
set_option maxRecDepth 100000 in
theorem r_169_9 : ∀ (d : Nat) (ls : Lc) (v0 : Value) (a : Nat) (st : List Value) (M : Mem) (Q : Outcome → Mem → Prop), (smallR st = true) → Wp d 169 9 ls (v0 :: .ref a :: st) M Q = (kO M a = 8 ∧ Ca d 169 9 ls 173 (.ref a :: [v0]) st M Q) := fun d ls v0 a st M Q h0 => w_virt1 (as := [v0]) (show ins 169 9 = some (.invokevirtual 97, 3) by decide +kernel) (show mRes (mC 169) 97 = some (3, 8, [(8, 173)]) by decide +kernel) (by decide +kernel) rfl (by decide +kernel) (by decide +kernel) h0
set_option maxRecDepth 100000 in
theorem r_169_12 : ∀ (d : Nat) (ls : Lc) (st : List Value) (M : Mem) (Q : Outcome → Mem → Prop), Wp d 169 12 ls st M Q = Wp d 169 14 ls (.int (I 120) :: st) M Q := fun d ls st M Q => w_bipush (show ins 169 12 = some (.bipush 120, 2) by decide +kernel) (by decide)
set_option maxRecDepth 100000 in
theorem r_169_14 : ∀ (d : Nat) (ls : Lc) (a b : Int32) (st : List Value) (M : Mem) (Q : Outcome → Mem → Prop), Wp d 169 14 ls (.int b :: .int a :: st) M Q = Br (a ≤ b) d 169 59 17 ls st M Q := fun d ls a b st M Q => w_icmp (show ins 169 14 = some (.if_icmp .le 45, 3) by decide +kernel) rfl rfl
set_option maxRecDepth 100000 in
theorem r_169_17 : ∀ (d : Nat) (l0 l1 l3 l4 : Option Value) (v : Int32) (st : List Value) (M : Mem) (Q : Outcome → Mem → Prop), Wp d 169 17 [l0, l1, some (.int v), l3, l4] st M Q = Wp d 169 18 [l0, l1, some (.int v), l3, l4] (.int v :: st) M Q := fun d l0 l1 l3 l4 v st M Q => wA (show ins 169 17 = some (.iload_n 2, 1) by decide +kernel) rfl
set_option maxRecDepth 100000 in
theorem r_169_18 : ∀ (d : Nat) (ls : Lc) (st : List Value) (M : Mem) (Q : Outcome → Mem → Prop), Wp d 169 18 ls st M Q = Wp d 169 19 ls (.int (I (-1)) :: st) M Q := fun d ls st M Q => w_iconst (show ins 169 18 = some (.iconst (-1), 1) by decide +kernel)
set_option maxRecDepth 100000 in
theorem r_169_19 : ∀ (d : Nat) (ls : Lc) (a b : Int32) (st : List Value) (M : Mem) (Q : Outcome → Mem → Prop), Wp d 169 19 ls (.int b :: .int a :: st) M Q = Br (a = b) d 169 59 22 ls st M Q := fun d ls a b st M Q => w_icmp (show ins 169 19 = some (.if_icmp .eq 40, 3) by decide +kernel) rfl rfl
set_option maxRecDepth 100000 in
theorem r_169_22 : ∀ (d : Nat) (l1 l2 l3 l4 : Option Value) (v : Nat) (st : List Value) (M : Mem) (Q : Outcome → Mem → Prop), Wp d 169 22 [some (.ref v), l1, l2, l3, l4] st M Q = Wp d 169 23 [some (.ref v), l1, l2, l3, l4] (.ref v :: st) M Q := fun d l1 l2 l3 l4 v st M Q => wA (show ins 169 22 = some (.aload_n 0, 1) by decide +kernel) rfl
set_option maxRecDepth 100000 in
theorem r_169_23 : ∀ (d : Nat) (l0 l1 l3 l4 : Option Value) (v : Int32) (st : List Value) (M : Mem) (Q : Outcome → Mem → Prop), Wp d 169 23 [l0, l1, some (.int v), l3, l4] st M Q = Wp d 169 24 [l0, l1, some (.int v), l3, l4] (.int v :: st) M Q := fun d l0 l1 l3 l4 v st M Q => wA (show ins 169 23 = some (.iload_n 2, 1) by decide +kernel) rfl
set_option maxRecDepth 100000 in
theorem r_169_24 : ∀ (d : Nat) (ls : Lc) (v0 : Value) (a : Nat) (st : List Value) (M : Mem) (Q : Outcome → Mem → Prop), (smallR st = true) → Wp d 169 24 ls (v0 :: .ref a :: st) M Q = (kO M a = 8 ∧ Ca d 169 24 ls 173 (.ref a :: [v0]) st M Q) := fun d ls v0 a st M Q h0 => w_virt1 (as := [v0]) (show ins 169 24 = some (.invokevirtual 97, 3) by decide +kernel) (show mRes (mC 169) 97 = some (3, 8, [(8, 173)]) by decide +kernel) (by decide +kernel) rfl (by decide +kernel) (by decide +kernel) h0
set_option maxRecDepth 100000 in
theorem r_169_27 : ∀ (d : Nat) (l1 l2 l3 l4 : Option Value) (v : Nat) (st : List Value) (M : Mem) (Q : Outcome → Mem → Prop), Wp d 169 27 [some (.ref v), l1, l2, l3, l4] st M Q = Wp d 169 28 [some (.ref v), l1, l2, l3, l4] (.ref v :: st) M Q := fun d l1 l2 l3 l4 v st M Q => wA (show ins 169 27 = some (.aload_n 0, 1) by decide +kernel) rfl
set_option maxRecDepth 100000 in
theorem r_169_28 : ∀ (d : Nat) (l0 l2 l3 l4 : Option Value) (v : Int32) (st : List Value) (M : Mem) (Q : Outcome → Mem → Prop), Wp d 169 28 [l0, some (.int v), l2, l3, l4] st M Q = Wp d 169 29 [l0, some (.int v), l2, l3, l4] (.int v :: st) M Q := fun d l0 l2 l3 l4 v st M Q => wA (show ins 169 28 = some (.iload_n 1, 1) by decide +kernel) rfl
set_option maxRecDepth 100000 in
theorem r_169_29 : ∀ (d : Nat) (ls : Lc) (st : List Value) (M : Mem) (Q : Outcome → Mem → Prop), Wp d 169 29 ls st M Q = Wp d 169 30 ls (.int (I 0) :: st) M Q := fun d ls st M Q => w_iconst (show ins 169 29 = some (.iconst 0, 1) by decide +kernel)
set_option maxRecDepth 100000 in
theorem r_169_30 : ∀ (d : Nat) (ls : Lc) (v0 v1 : Value) (a : Nat) (st : List Value) (M : Mem) (Q : Outcome → Mem → Prop), (smallR st = true) → Wp d 169 30 ls (v1 :: v0 :: .ref a :: st) M Q = (kO M a = 8 ∧ Ca d 169 30 ls 174 (.ref a :: [v0, v1]) st M Q) := fun d ls v0 v1 a st M Q h0 => w_virt1 (as := [v0, v1]) (show ins 169 30 = some (.invokevirtual 100, 3) by decide +kernel) (show mRes (mC 169) 100 = some (3, 8, [(8, 174)]) by decide +kernel) (by decide +kernel) rfl (by decide +kernel) (by decide +kernel) h0
set_option maxRecDepth 100000 in
theorem r_169_33 : ∀ (d : Nat) (ls : Lc) (a b : Int) (st : List Value) (M : Mem) (Q : Outcome → Mem → Prop), Wp d 169 33 ls (.int (I b) :: .int (I a) :: st) M Q = Wp d 169 34 ls (.int (I (a + b)) :: st) M Q := fun d ls a b st M Q => w_iadd (show ins 169 33 = some (.iadd, 1) by decide +kernel)
set_option maxRecDepth 100000 in
theorem r_169_34 : ∀ (d : Nat) (ls : Lc) (st : List Value) (M : Mem) (Q : Outcome → Mem → Prop), Wp d 169 34 ls st M Q = Wp d 169 36 ls (.int (I 120) :: st) M Q := fun d ls st M Q => w_bipush (show ins 169 34 = some (.bipush 120, 2) by decide +kernel) (by decide)
set_option maxRecDepth 100000 in
theorem r_169_36 : ∀ (d : Nat) (ls : Lc) (a b : Int32) (st : List Value) (M : Mem) (Q : Outcome → Mem → Prop), Wp d 169 36 ls (.int b :: .int a :: st) M Q = Br (b < a) d 169 59 39 ls st M Q := fun d ls a b st M Q => w_icmp (show ins 169 36 = some (.if_icmp .gt 23, 3) by decide +kernel) rfl rfl
set_option maxRecDepth 100000 in
theorem r_169_39 : ∀ (d : Nat) (l1 l2 l3 l4 : Option Value) (v : Nat) (st : List Value) (M : Mem) (Q : Outcome → Mem → Prop), Wp d 169 39 [some (.ref v), l1, l2, l3, l4] st M Q = Wp d 169 40 [some (.ref v), l1, l2, l3, l4] (.ref v :: st) M Q := fun d l1 l2 l3 l4 v st M Q => wA (show ins 169 39 = some (.aload_n 0, 1) by decide +kernel) rfl
set_option maxRecDepth 100000 in
theorem r_169_40 : ∀ (d : Nat) (l0 l2 l3 l4 : Option Value) (v : Int32) (st : List Value) (M : Mem) (Q : Outcome → Mem → Prop), Wp d 169 40 [l0, some (.int v), l2, l3, l4] st M Q = Wp d 169 41 [l0, some (.int v), l2, l3, l4] (.int v :: st) M Q := fun d l0 l2 l3 l4 v st M Q => wA (show ins 169 40 = some (.iload_n 1, 1) by decide +kernel) rfl
set_option maxRecDepth 100000 in
theorem r_169_41 : ∀ (d : Nat) (ls : Lc) (st : List Value) (M : Mem) (Q : Outcome → Mem → Prop), Wp d 169 41 ls st M Q = Wp d 169 42 ls (.int (I 0) :: st) M Q := fun d ls st M Q => w_iconst (show ins 169 41 = some (.iconst 0, 1) by decide +kernel)
set_option maxRecDepth 100000 in
theorem r_169_42 : ∀ (d : Nat) (l0 l1 l3 l4 : Option Value) (v : Int32) (st : List Value) (M : Mem) (Q : Outcome → Mem → Prop), Wp d 169 42 [l0, l1, some (.int v), l3, l4] st M Q = Wp d 169 43 [l0, l1, some (.int v), l3, l4] (.int v :: st) M Q := fun d l0 l1 l3 l4 v st M Q => wA (show ins 169 42 = some (.iload_n 2, 1) by decide +kernel) rfl
set_option maxRecDepth 100000 in
theorem r_169_43 : ∀ (d : Nat) (l1 l2 l3 l4 : Option Value) (v : Nat) (st : List Value) (M : Mem) (Q : Outcome → Mem → Prop), Wp d 169 43 [some (.ref v), l1, l2, l3, l4] st M Q = Wp d 169 44 [some (.ref v), l1, l2, l3, l4] (.ref v :: st) M Q := fun d l1 l2 l3 l4 v st M Q => wA (show ins 169 43 = some (.aload_n 0, 1) by decide +kernel) rfl
set_option maxRecDepth 100000 in
theorem r_169_44 : ∀ (d : Nat) (ls : Lc) (a : Nat) (st : List Value) (M : Mem) (Q : Outcome → Mem → Prop), Wp d 169 44 ls (.ref a :: st) M Q = (fk 53 (kO M a) = true ∧ Wp d 169 47 ls (va_rf (mR M 53 a) :: st) M Q) := fun d ls a st M Q => w_getR (show ins 169 44 = some (.getfield 7, 3) by decide +kernel) (show fRes (mC 169) 7 = some (53, 8, false) by decide +kernel) (by decide +kernel)
set_option maxRecDepth 100000 in
theorem r_169_47 : ∀ (d : Nat) (ls : Lc) (st : List Value) (M : Mem) (Q : Outcome → Mem → Prop), Wp d 169 47 ls st M Q = Wp d 169 50 ls (.int (I 3852) :: st) M Q := fun d ls st M Q => w_sipush (show ins 169 47 = some (.sipush 3852, 3) by decide +kernel) (by decide)
set_option maxRecDepth 100000 in
theorem r_169_50 : ∀ (d : Nat) (l0 l1 l3 l4 : Option Value) (v : Int32) (st : List Value) (M : Mem) (Q : Outcome → Mem → Prop), Wp d 169 50 [l0, l1, some (.int v), l3, l4] st M Q = Wp d 169 51 [l0, l1, some (.int v), l3, l4] (.int v :: st) M Q := fun d l0 l1 l3 l4 v st M Q => wA (show ins 169 50 = some (.iload_n 2, 1) by decide +kernel) rfl
set_option maxRecDepth 100000 in
theorem r_169_51 : ∀ (d : Nat) (ls : Lc) (a b : Int) (st : List Value) (M : Mem) (Q : Outcome → Mem → Prop), Wp d 169 51 ls (.int (I b) :: .int (I a) :: st) M Q = Wp d 169 52 ls (.int (I (a + b)) :: st) M Q := fun d ls a b st M Q => w_iadd (show ins 169 51 = some (.iadd, 1) by decide +kernel)
set_option maxRecDepth 100000 in
theorem r_169_52 : ∀ (d : Nat) (ls : Lc) (a : Nat) (j : Int32) (st : List Value) (M : Mem) (Q : Outcome → Mem → Prop), Wp d 169 52 ls (.int j :: .ref a :: st) M Q = ((((kX M a).1 = 0 ∨ (kX M a).1 = 8) ∧ inB j (kX M a).2 = true) ∧ Wp d 169 53 ls (.int (mA M a j.toNatClampNeg) :: st) M Q) := fun d ls a j st M Q => w_iaload (show ins 169 52 = some (.iaload, 1) by decide +kernel)
set_option maxRecDepth 100000 in
theorem r_169_53 : ∀ (d : Nat) (ls : Lc) (v0 v1 v2 v3 : Value) (a : Nat) (st : List Value) (M : Mem) (Q : Outcome → Mem → Prop), (smallR st = true) → Wp d 169 53 ls (v3 :: v2 :: v1 :: v0 :: .ref a :: st) M Q = (kO M a = 8 ∧ Ca d 169 53 ls 175 (.ref a :: [v0, v1, v2, v3]) st M Q) := fun d ls v0 v1 v2 v3 a st M Q h0 => w_virt1 (as := [v0, v1, v2, v3]) (show ins 169 53 = some (.invokevirtual 103, 3) by decide +kernel) (show mRes (mC 169) 103 = some (3, 8, [(8, 175)]) by decide +kernel) (by decide +kernel) rfl (by decide +kernel) (by decide +kernel) h0
set_option maxRecDepth 100000 in
theorem r_169_56 : ∀ (d : Nat) (ls : Lc) (st : List Value) (M : Mem) (Q : Outcome → Mem → Prop), Wp d 169 56 ls st M Q = Wp d 169 7 ls st M Q := fun d ls st M Q => w_goto (show ins 169 56 = some (.goto (-49), 3) by decide +kernel) rfl
set_option maxRecDepth 100000 in
theorem r_169_59 : ∀ (d : Nat) (l1 l2 l3 l4 : Option Value) (v : Nat) (st : List Value) (M : Mem) (Q : Outcome → Mem → Prop), Wp d 169 59 [some (.ref v), l1, l2, l3, l4] st M Q = Wp d 169 60 [some (.ref v), l1, l2, l3, l4] (.ref v :: st) M Q := fun d l1 l2 l3 l4 v st M Q => wA (show ins 169 59 = some (.aload_n 0, 1) by decide +kernel) rfl
set_option maxRecDepth 100000 in
theorem r_169_60 : ∀ (d : Nat) (l0 l2 l3 l4 : Option Value) (v : Int32) (st : List Value) (M : Mem) (Q : Outcome → Mem → Prop), Wp d 169 60 [l0, some (.int v), l2, l3, l4] st M Q = Wp d 169 61 [l0, some (.int v), l2, l3, l4] (.int v :: st) M Q := fun d l0 l2 l3 l4 v st M Q => wA (show ins 169 60 = some (.iload_n 1, 1) by decide +kernel) rfl
set_option maxRecDepth 100000 in
theorem r_169_61 : ∀ (d : Nat) (ls : Lc) (st : List Value) (M : Mem) (Q : Outcome → Mem → Prop), Wp d 169 61 ls st M Q = Wp d 169 62 ls (.int (I 1) :: st) M Q := fun d ls st M Q => w_iconst (show ins 169 61 = some (.iconst 1, 1) by decide +kernel)
set_option maxRecDepth 100000 in
theorem r_169_62 : ∀ (d : Nat) (ls : Lc) (v0 v1 : Value) (a : Nat) (st : List Value) (M : Mem) (Q : Outcome → Mem → Prop), (smallR st = true) → Wp d 169 62 ls (v1 :: v0 :: .ref a :: st) M Q = (kO M a = 8 ∧ Ca d 169 62 ls 170 (.ref a :: [v0, v1]) st M Q) := fun d ls v0 v1 a st M Q h0 => w_virt1 (as := [v0, v1]) (show ins 169 62 = some (.invokevirtual 88, 3) by decide +kernel) (show mRes (mC 169) 88 = some (3, 8, [(8, 170)]) by decide +kernel) (by decide +kernel) rfl (by decide +kernel) (by decide +kernel) h0
set_option maxRecDepth 100000 in
theorem r_169_65 : ∀ (d : Nat) (l0 l1 l2 l3 l4 : Option Value) (v : Int32) (st : List Value) (M : Mem) (Q : Outcome → Mem → Prop), (lo l2 = false) → Wp d 169 65 [l0, l1, l2, l3, l4] (.int v :: st) M Q = Wp d 169 66 [l0, l1, l2, some (.int v), l4] st M Q := fun d l0 l1 l2 l3 l4 v st M Q hl => w_istore_n (show ins 169 65 = some (.istore_n 3, 1) by decide +kernel) (st1_S rfl rfl hl)
set_option maxRecDepth 100000 in
theorem r_169_66 : ∀ (d : Nat) (l1 l2 l3 l4 : Option Value) (v : Nat) (st : List Value) (M : Mem) (Q : Outcome → Mem → Prop), Wp d 169 66 [some (.ref v), l1, l2, l3, l4] st M Q = Wp d 169 67 [some (.ref v), l1, l2, l3, l4] (.ref v :: st) M Q := fun d l1 l2 l3 l4 v st M Q => wA (show ins 169 66 = some (.aload_n 0, 1) by decide +kernel) rfl
set_option maxRecDepth 100000 in
theorem r_169_67 : ∀ (d : Nat) (l0 l2 l3 l4 : Option Value) (v : Int32) (st : List Value) (M : Mem) (Q : Outcome → Mem → Prop), Wp d 169 67 [l0, some (.int v), l2, l3, l4] st M Q = Wp d 169 68 [l0, some (.int v), l2, l3, l4] (.int v :: st) M Q := fun d l0 l2 l3 l4 v st M Q => wA (show ins 169 67 = some (.iload_n 1, 1) by decide +kernel) rfl
set_option maxRecDepth 100000 in
theorem r_169_68 : ∀ (d : Nat) (ls : Lc) (v0 : Value) (a : Nat) (st : List Value) (M : Mem) (Q : Outcome → Mem → Prop), (smallR st = true) → Wp d 169 68 ls (v0 :: .ref a :: st) M Q = (kO M a = 8 ∧ Ca d 169 68 ls 173 (.ref a :: [v0]) st M Q) := fun d ls v0 a st M Q h0 => w_virt1 (as := [v0]) (show ins 169 68 = some (.invokevirtual 97, 3) by decide +kernel) (show mRes (mC 169) 97 = some (3, 8, [(8, 173)]) by decide +kernel) (by decide +kernel) rfl (by decide +kernel) (by decide +kernel) h0
set_option maxRecDepth 100000 in
theorem r_169_71 : ∀ (d : Nat) (ls : Lc) (st : List Value) (M : Mem) (Q : Outcome → Mem → Prop), Wp d 169 71 ls st M Q = Wp d 169 73 ls (.int (I 120) :: st) M Q := fun d ls st M Q => w_bipush (show ins 169 71 = some (.bipush 120, 2) by decide +kernel) (by decide)
set_option maxRecDepth 100000 in
theorem r_169_73 : ∀ (d : Nat) (ls : Lc) (a b : Int32) (st : List Value) (M : Mem) (Q : Outcome → Mem → Prop), Wp d 169 73 ls (.int b :: .int a :: st) M Q = Br (a ≤ b) d 169 131 76 ls st M Q := fun d ls a b st M Q => w_icmp (show ins 169 73 = some (.if_icmp .le 58, 3) by decide +kernel) rfl rfl
set_option maxRecDepth 100000 in
theorem r_169_76 : ∀ (d : Nat) (l0 l1 l2 l4 : Option Value) (v : Int32) (st : List Value) (M : Mem) (Q : Outcome → Mem → Prop), Wp d 169 76 [l0, l1, l2, some (.int v), l4] st M Q = Wp d 169 77 [l0, l1, l2, some (.int v), l4] (.int v :: st) M Q := fun d l0 l1 l2 l4 v st M Q => wA (show ins 169 76 = some (.iload_n 3, 1) by decide +kernel) rfl
set_option maxRecDepth 100000 in
theorem r_169_77 : ∀ (d : Nat) (ls : Lc) (st : List Value) (M : Mem) (Q : Outcome → Mem → Prop), Wp d 169 77 ls st M Q = Wp d 169 78 ls (.int (I (-1)) :: st) M Q := fun d ls st M Q => w_iconst (show ins 169 77 = some (.iconst (-1), 1) by decide +kernel)
set_option maxRecDepth 100000 in
theorem r_169_78 : ∀ (d : Nat) (ls : Lc) (a b : Int32) (st : List Value) (M : Mem) (Q : Outcome → Mem → Prop), Wp d 169 78 ls (.int b :: .int a :: st) M Q = Br (a = b) d 169 131 81 ls st M Q := fun d ls a b st M Q => w_icmp (show ins 169 78 = some (.if_icmp .eq 53, 3) by decide +kernel) rfl rfl
set_option maxRecDepth 100000 in
theorem r_169_81 : ∀ (d : Nat) (l1 l2 l3 l4 : Option Value) (v : Nat) (st : List Value) (M : Mem) (Q : Outcome → Mem → Prop), Wp d 169 81 [some (.ref v), l1, l2, l3, l4] st M Q = Wp d 169 82 [some (.ref v), l1, l2, l3, l4] (.ref v :: st) M Q := fun d l1 l2 l3 l4 v st M Q => wA (show ins 169 81 = some (.aload_n 0, 1) by decide +kernel) rfl
set_option maxRecDepth 100000 in
theorem r_169_82 : ∀ (d : Nat) (l0 l1 l2 l4 : Option Value) (v : Int32) (st : List Value) (M : Mem) (Q : Outcome → Mem → Prop), Wp d 169 82 [l0, l1, l2, some (.int v), l4] st M Q = Wp d 169 83 [l0, l1, l2, some (.int v), l4] (.int v :: st) M Q := fun d l0 l1 l2 l4 v st M Q => wA (show ins 169 82 = some (.iload_n 3, 1) by decide +kernel) rfl
set_option maxRecDepth 100000 in
theorem r_169_83 : ∀ (d : Nat) (ls : Lc) (v0 : Value) (a : Nat) (st : List Value) (M : Mem) (Q : Outcome → Mem → Prop), (smallR st = true) → Wp d 169 83 ls (v0 :: .ref a :: st) M Q = (kO M a = 8 ∧ Ca d 169 83 ls 173 (.ref a :: [v0]) st M Q) := fun d ls v0 a st M Q h0 => w_virt1 (as := [v0]) (show ins 169 83 = some (.invokevirtual 97, 3) by decide +kernel) (show mRes (mC 169) 97 = some (3, 8, [(8, 173)]) by decide +kernel) (by decide +kernel) rfl (by decide +kernel) (by decide +kernel) h0
set_option maxRecDepth 100000 in
theorem r_169_86 : ∀ (d : Nat) (l1 l2 l3 l4 : Option Value) (v : Nat) (st : List Value) (M : Mem) (Q : Outcome → Mem → Prop), Wp d 169 86 [some (.ref v), l1, l2, l3, l4] st M Q = Wp d 169 87 [some (.ref v), l1, l2, l3, l4] (.ref v :: st) M Q := fun d l1 l2 l3 l4 v st M Q => wA (show ins 169 86 = some (.aload_n 0, 1) by decide +kernel) rfl
set_option maxRecDepth 100000 in
theorem r_169_87 : ∀ (d : Nat) (l0 l2 l3 l4 : Option Value) (v : Int32) (st : List Value) (M : Mem) (Q : Outcome → Mem → Prop), Wp d 169 87 [l0, some (.int v), l2, l3, l4] st M Q = Wp d 169 88 [l0, some (.int v), l2, l3, l4] (.int v :: st) M Q := fun d l0 l2 l3 l4 v st M Q => wA (show ins 169 87 = some (.iload_n 1, 1) by decide +kernel) rfl
set_option maxRecDepth 100000 in
theorem r_169_88 : ∀ (d : Nat) (l1 l2 l3 l4 : Option Value) (v : Nat) (st : List Value) (M : Mem) (Q : Outcome → Mem → Prop), Wp d 169 88 [some (.ref v), l1, l2, l3, l4] st M Q = Wp d 169 89 [some (.ref v), l1, l2, l3, l4] (.ref v :: st) M Q := fun d l1 l2 l3 l4 v st M Q => wA (show ins 169 88 = some (.aload_n 0, 1) by decide +kernel) rfl
set_option maxRecDepth 100000 in
theorem r_169_89 : ∀ (d : Nat) (ls : Lc) (a : Nat) (st : List Value) (M : Mem) (Q : Outcome → Mem → Prop), Wp d 169 89 ls (.ref a :: st) M Q = (fk 53 (kO M a) = true ∧ Wp d 169 92 ls (va_rf (mR M 53 a) :: st) M Q) := fun d ls a st M Q => w_getR (show ins 169 89 = some (.getfield 7, 3) by decide +kernel) (show fRes (mC 169) 7 = some (53, 8, false) by decide +kernel) (by decide +kernel)
set_option maxRecDepth 100000 in
theorem r_169_92 : ∀ (d : Nat) (ls : Lc) (st : List Value) (M : Mem) (Q : Outcome → Mem → Prop), Wp d 169 92 ls st M Q = Wp d 169 95 ls (.int (I 3852) :: st) M Q := fun d ls st M Q => w_sipush (show ins 169 92 = some (.sipush 3852, 3) by decide +kernel) (by decide)
set_option maxRecDepth 100000 in
theorem r_169_95 : ∀ (d : Nat) (l0 l2 l3 l4 : Option Value) (v : Int32) (st : List Value) (M : Mem) (Q : Outcome → Mem → Prop), Wp d 169 95 [l0, some (.int v), l2, l3, l4] st M Q = Wp d 169 96 [l0, some (.int v), l2, l3, l4] (.int v :: st) M Q := fun d l0 l2 l3 l4 v st M Q => wA (show ins 169 95 = some (.iload_n 1, 1) by decide +kernel) rfl
set_option maxRecDepth 100000 in
theorem r_169_96 : ∀ (d : Nat) (ls : Lc) (a b : Int) (st : List Value) (M : Mem) (Q : Outcome → Mem → Prop), Wp d 169 96 ls (.int (I b) :: .int (I a) :: st) M Q = Wp d 169 97 ls (.int (I (a + b)) :: st) M Q := fun d ls a b st M Q => w_iadd (show ins 169 96 = some (.iadd, 1) by decide +kernel)
set_option maxRecDepth 100000 in
theorem r_169_97 : ∀ (d : Nat) (ls : Lc) (a : Nat) (j : Int32) (st : List Value) (M : Mem) (Q : Outcome → Mem → Prop), Wp d 169 97 ls (.int j :: .ref a :: st) M Q = ((((kX M a).1 = 0 ∨ (kX M a).1 = 8) ∧ inB j (kX M a).2 = true) ∧ Wp d 169 98 ls (.int (mA M a j.toNatClampNeg) :: st) M Q) := fun d ls a j st M Q => w_iaload (show ins 169 97 = some (.iaload, 1) by decide +kernel)
set_option maxRecDepth 100000 in
theorem r_169_98 : ∀ (d : Nat) (ls : Lc) (st : List Value) (M : Mem) (Q : Outcome → Mem → Prop), Wp d 169 98 ls st M Q = Wp d 169 99 ls (.int (I 1) :: st) M Q := fun d ls st M Q => w_iconst (show ins 169 98 = some (.iconst 1, 1) by decide +kernel)
set_option maxRecDepth 100000 in
theorem r_169_99 : ∀ (d : Nat) (ls : Lc) (a b : Int) (st : List Value) (M : Mem) (Q : Outcome → Mem → Prop), Wp d 169 99 ls (.int (I b) :: .int (I a) :: st) M Q = Wp d 169 100 ls (.int (I (a - b)) :: st) M Q := fun d ls a b st M Q => w_isub (show ins 169 99 = some (.isub, 1) by decide +kernel)
set_option maxRecDepth 100000 in
theorem r_169_100 : ∀ (d : Nat) (ls : Lc) (v0 v1 : Value) (a : Nat) (st : List Value) (M : Mem) (Q : Outcome → Mem → Prop), (smallR st = true) → Wp d 169 100 ls (v1 :: v0 :: .ref a :: st) M Q = (kO M a = 8 ∧ Ca d 169 100 ls 174 (.ref a :: [v0, v1]) st M Q) := fun d ls v0 v1 a st M Q h0 => w_virt1 (as := [v0, v1]) (show ins 169 100 = some (.invokevirtual 100, 3) by decide +kernel) (show mRes (mC 169) 100 = some (3, 8, [(8, 174)]) by decide +kernel) (by decide +kernel) rfl (by decide +kernel) (by decide +kernel) h0
set_option maxRecDepth 100000 in
theorem r_169_103 : ∀ (d : Nat) (ls : Lc) (a b : Int) (st : List Value) (M : Mem) (Q : Outcome → Mem → Prop), Wp d 169 103 ls (.int (I b) :: .int (I a) :: st) M Q = Wp d 169 104 ls (.int (I (a + b)) :: st) M Q := fun d ls a b st M Q => w_iadd (show ins 169 103 = some (.iadd, 1) by decide +kernel)
set_option maxRecDepth 100000 in
theorem r_169_104 : ∀ (d : Nat) (ls : Lc) (st : List Value) (M : Mem) (Q : Outcome → Mem → Prop), Wp d 169 104 ls st M Q = Wp d 169 106 ls (.int (I 120) :: st) M Q := fun d ls st M Q => w_bipush (show ins 169 104 = some (.bipush 120, 2) by decide +kernel) (by decide)
set_option maxRecDepth 100000 in
theorem r_169_106 : ∀ (d : Nat) (ls : Lc) (a b : Int32) (st : List Value) (M : Mem) (Q : Outcome → Mem → Prop), Wp d 169 106 ls (.int b :: .int a :: st) M Q = Br (b < a) d 169 131 109 ls st M Q := fun d ls a b st M Q => w_icmp (show ins 169 106 = some (.if_icmp .gt 25, 3) by decide +kernel) rfl rfl
set_option maxRecDepth 100000 in
theorem r_169_109 : ∀ (d : Nat) (l1 l2 l3 l4 : Option Value) (v : Nat) (st : List Value) (M : Mem) (Q : Outcome → Mem → Prop), Wp d 169 109 [some (.ref v), l1, l2, l3, l4] st M Q = Wp d 169 110 [some (.ref v), l1, l2, l3, l4] (.ref v :: st) M Q := fun d l1 l2 l3 l4 v st M Q => wA (show ins 169 109 = some (.aload_n 0, 1) by decide +kernel) rfl
set_option maxRecDepth 100000 in
theorem r_169_110 : ∀ (d : Nat) (l0 l2 l3 l4 : Option Value) (v : Int32) (st : List Value) (M : Mem) (Q : Outcome → Mem → Prop), Wp d 169 110 [l0, some (.int v), l2, l3, l4] st M Q = Wp d 169 111 [l0, some (.int v), l2, l3, l4] (.int v :: st) M Q := fun d l0 l2 l3 l4 v st M Q => wA (show ins 169 110 = some (.iload_n 1, 1) by decide +kernel) rfl
set_option maxRecDepth 100000 in
theorem r_169_111 : ∀ (d : Nat) (l1 l2 l3 l4 : Option Value) (v : Nat) (st : List Value) (M : Mem) (Q : Outcome → Mem → Prop), Wp d 169 111 [some (.ref v), l1, l2, l3, l4] st M Q = Wp d 169 112 [some (.ref v), l1, l2, l3, l4] (.ref v :: st) M Q := fun d l1 l2 l3 l4 v st M Q => wA (show ins 169 111 = some (.aload_n 0, 1) by decide +kernel) rfl
set_option maxRecDepth 100000 in
theorem r_169_112 : ∀ (d : Nat) (ls : Lc) (a : Nat) (st : List Value) (M : Mem) (Q : Outcome → Mem → Prop), Wp d 169 112 ls (.ref a :: st) M Q = (fk 53 (kO M a) = true ∧ Wp d 169 115 ls (va_rf (mR M 53 a) :: st) M Q) := fun d ls a st M Q => w_getR (show ins 169 112 = some (.getfield 7, 3) by decide +kernel) (show fRes (mC 169) 7 = some (53, 8, false) by decide +kernel) (by decide +kernel)
set_option maxRecDepth 100000 in
theorem r_169_115 : ∀ (d : Nat) (ls : Lc) (st : List Value) (M : Mem) (Q : Outcome → Mem → Prop), Wp d 169 115 ls st M Q = Wp d 169 118 ls (.int (I 3852) :: st) M Q := fun d ls st M Q => w_sipush (show ins 169 115 = some (.sipush 3852, 3) by decide +kernel) (by decide)
set_option maxRecDepth 100000 in
theorem r_169_118 : ∀ (d : Nat) (l0 l2 l3 l4 : Option Value) (v : Int32) (st : List Value) (M : Mem) (Q : Outcome → Mem → Prop), Wp d 169 118 [l0, some (.int v), l2, l3, l4] st M Q = Wp d 169 119 [l0, some (.int v), l2, l3, l4] (.int v :: st) M Q := fun d l0 l2 l3 l4 v st M Q => wA (show ins 169 118 = some (.iload_n 1, 1) by decide +kernel) rfl
set_option maxRecDepth 100000 in
theorem r_169_119 : ∀ (d : Nat) (ls : Lc) (a b : Int) (st : List Value) (M : Mem) (Q : Outcome → Mem → Prop), Wp d 169 119 ls (.int (I b) :: .int (I a) :: st) M Q = Wp d 169 120 ls (.int (I (a + b)) :: st) M Q := fun d ls a b st M Q => w_iadd (show ins 169 119 = some (.iadd, 1) by decide +kernel)
set_option maxRecDepth 100000 in
theorem r_169_120 : ∀ (d : Nat) (ls : Lc) (a : Nat) (j : Int32) (st : List Value) (M : Mem) (Q : Outcome → Mem → Prop), Wp d 169 120 ls (.int j :: .ref a :: st) M Q = ((((kX M a).1 = 0 ∨ (kX M a).1 = 8) ∧ inB j (kX M a).2 = true) ∧ Wp d 169 121 ls (.int (mA M a j.toNatClampNeg) :: st) M Q) := fun d ls a j st M Q => w_iaload (show ins 169 120 = some (.iaload, 1) by decide +kernel)
set_option maxRecDepth 100000 in
theorem r_169_121 : ∀ (d : Nat) (ls : Lc) (st : List Value) (M : Mem) (Q : Outcome → Mem → Prop), Wp d 169 121 ls st M Q = Wp d 169 122 ls (.int (I 1) :: st) M Q := fun d ls st M Q => w_iconst (show ins 169 121 = some (.iconst 1, 1) by decide +kernel)
set_option maxRecDepth 100000 in
theorem r_169_122 : ∀ (d : Nat) (ls : Lc) (a b : Int) (st : List Value) (M : Mem) (Q : Outcome → Mem → Prop), Wp d 169 122 ls (.int (I b) :: .int (I a) :: st) M Q = Wp d 169 123 ls (.int (I (a - b)) :: st) M Q := fun d ls a b st M Q => w_isub (show ins 169 122 = some (.isub, 1) by decide +kernel)
set_option maxRecDepth 100000 in
theorem r_169_123 : ∀ (d : Nat) (l0 l1 l2 l4 : Option Value) (v : Int32) (st : List Value) (M : Mem) (Q : Outcome → Mem → Prop), Wp d 169 123 [l0, l1, l2, some (.int v), l4] st M Q = Wp d 169 124 [l0, l1, l2, some (.int v), l4] (.int v :: st) M Q := fun d l0 l1 l2 l4 v st M Q => wA (show ins 169 123 = some (.iload_n 3, 1) by decide +kernel) rfl
set_option maxRecDepth 100000 in
theorem r_169_124 : ∀ (d : Nat) (ls : Lc) (st : List Value) (M : Mem) (Q : Outcome → Mem → Prop), Wp d 169 124 ls st M Q = Wp d 169 125 ls (.int (I 0) :: st) M Q := fun d ls st M Q => w_iconst (show ins 169 124 = some (.iconst 0, 1) by decide +kernel)
set_option maxRecDepth 100000 in
theorem r_169_125 : ∀ (d : Nat) (ls : Lc) (v0 v1 v2 v3 : Value) (a : Nat) (st : List Value) (M : Mem) (Q : Outcome → Mem → Prop), (smallR st = true) → Wp d 169 125 ls (v3 :: v2 :: v1 :: v0 :: .ref a :: st) M Q = (kO M a = 8 ∧ Ca d 169 125 ls 175 (.ref a :: [v0, v1, v2, v3]) st M Q) := fun d ls v0 v1 v2 v3 a st M Q h0 => w_virt1 (as := [v0, v1, v2, v3]) (show ins 169 125 = some (.invokevirtual 103, 3) by decide +kernel) (show mRes (mC 169) 103 = some (3, 8, [(8, 175)]) by decide +kernel) (by decide +kernel) rfl (by decide +kernel) (by decide +kernel) h0
set_option maxRecDepth 100000 in
theorem r_169_128 : ∀ (d : Nat) (ls : Lc) (st : List Value) (M : Mem) (Q : Outcome → Mem → Prop), Wp d 169 128 ls st M Q = Wp d 169 66 ls st M Q := fun d ls st M Q => w_goto (show ins 169 128 = some (.goto (-62), 3) by decide +kernel) rfl
set_option maxRecDepth 100000 in
theorem r_169_131 : ∀ (d : Nat) (l1 l2 l3 l4 : Option Value) (v : Nat) (st : List Value) (M : Mem) (Q : Outcome → Mem → Prop), Wp d 169 131 [some (.ref v), l1, l2, l3, l4] st M Q = Wp d 169 132 [some (.ref v), l1, l2, l3, l4] (.ref v :: st) M Q := fun d l1 l2 l3 l4 v st M Q => wA (show ins 169 131 = some (.aload_n 0, 1) by decide +kernel) rfl
set_option maxRecDepth 100000 in
theorem r_169_132 : ∀ (d : Nat) (l0 l2 l3 l4 : Option Value) (v : Int32) (st : List Value) (M : Mem) (Q : Outcome → Mem → Prop), Wp d 169 132 [l0, some (.int v), l2, l3, l4] st M Q = Wp d 169 133 [l0, some (.int v), l2, l3, l4] (.int v :: st) M Q := fun d l0 l2 l3 l4 v st M Q => wA (show ins 169 132 = some (.iload_n 1, 1) by decide +kernel) rfl
set_option maxRecDepth 100000 in
theorem r_169_133 : ∀ (d : Nat) (ls : Lc) (v0 : Value) (a : Nat) (st : List Value) (M : Mem) (Q : Outcome → Mem → Prop), (smallR st = true) → Wp d 169 133 ls (v0 :: .ref a :: st) M Q = (kO M a = 8 ∧ Ca d 169 133 ls 173 (.ref a :: [v0]) st M Q) := fun d ls v0 a st M Q h0 => w_virt1 (as := [v0]) (show ins 169 133 = some (.invokevirtual 97, 3) by decide +kernel) (show mRes (mC 169) 97 = some (3, 8, [(8, 173)]) by decide +kernel) (by decide +kernel) rfl (by decide +kernel) (by decide +kernel) h0
set_option maxRecDepth 100000 in
theorem r_169_136 : ∀ (d : Nat) (ls : Lc) (st : List Value) (M : Mem) (Q : Outcome → Mem → Prop), Wp d 169 136 ls st M Q = Wp d 169 138 ls (.int (I 120) :: st) M Q := fun d ls st M Q => w_bipush (show ins 169 136 = some (.bipush 120, 2) by decide +kernel) (by decide)
set_option maxRecDepth 100000 in
theorem r_169_138 : ∀ (d : Nat) (ls : Lc) (a b : Int32) (st : List Value) (M : Mem) (Q : Outcome → Mem → Prop), Wp d 169 138 ls (.int b :: .int a :: st) M Q = Br (b < a) d 169 142 141 ls st M Q := fun d ls a b st M Q => w_icmp (show ins 169 138 = some (.if_icmp .gt 4, 3) by decide +kernel) rfl rfl
set_option maxRecDepth 100000 in
theorem r_169_141 : ∀ (d : Nat) (ls : Lc) (M : Mem) (Q : Outcome → Mem → Prop), Wp d 169 141 ls [] M Q = Q (.returned none) M := fun d ls M Q => w_return (show ins 169 141 = some (.return_, 1) by decide +kernel) (by decide +kernel)
set_option maxRecDepth 100000 in
theorem r_169_142 : ∀ (d : Nat) (l1 l2 l3 l4 : Option Value) (v : Nat) (st : List Value) (M : Mem) (Q : Outcome → Mem → Prop), Wp d 169 142 [some (.ref v), l1, l2, l3, l4] st M Q = Wp d 169 143 [some (.ref v), l1, l2, l3, l4] (.ref v :: st) M Q := fun d l1 l2 l3 l4 v st M Q => wA (show ins 169 142 = some (.aload_n 0, 1) by decide +kernel) rfl
set_option maxRecDepth 100000 in
theorem r_169_143 : ∀ (d : Nat) (ls : Lc) (a : Nat) (st : List Value) (M : Mem) (Q : Outcome → Mem → Prop), (smallR st = true) → Wp d 169 143 ls (.ref a :: st) M Q = (kO M a = 8 ∧ Ca d 169 143 ls 177 (.ref a :: []) st M Q) := fun d ls a st M Q h0 => w_virt1 (as := []) (show ins 169 143 = some (.invokevirtual 62, 3) by decide +kernel) (show mRes (mC 169) 62 = some (3, 8, [(8, 177)]) by decide +kernel) (by decide +kernel) rfl (by decide +kernel) (by decide +kernel) h0
set_option maxRecDepth 100000 in
theorem r_169_146 : ∀ (d : Nat) (l0 l1 l2 l3 l4 : Option Value) (v : Int32) (st : List Value) (M : Mem) (Q : Outcome → Mem → Prop), (lo l3 = false) → Wp d 169 146 [l0, l1, l2, l3, l4] (.int v :: st) M Q = Wp d 169 148 [l0, l1, l2, l3, some (.int v)] st M Q := fun d l0 l1 l2 l3 l4 v st M Q hl => w_istore (show ins 169 146 = some (.istore 4, 2) by decide +kernel) (st1_S rfl rfl hl)
set_option maxRecDepth 100000 in
theorem r_169_148 : ∀ (d : Nat) (l1 l2 l3 l4 : Option Value) (v : Nat) (st : List Value) (M : Mem) (Q : Outcome → Mem → Prop), Wp d 169 148 [some (.ref v), l1, l2, l3, l4] st M Q = Wp d 169 149 [some (.ref v), l1, l2, l3, l4] (.ref v :: st) M Q := fun d l1 l2 l3 l4 v st M Q => wA (show ins 169 148 = some (.aload_n 0, 1) by decide +kernel) rfl
set_option maxRecDepth 100000 in
theorem r_169_149 : ∀ (d : Nat) (ls : Lc) (a : Nat) (st : List Value) (M : Mem) (Q : Outcome → Mem → Prop), Wp d 169 149 ls (.ref a :: st) M Q = (fk 47 (kO M a) = true ∧ Wp d 169 152 ls (.int (mF M 47 a) :: st) M Q) := fun d ls a st M Q => w_getI (show ins 169 149 = some (.getfield 51, 3) by decide +kernel) (show fRes (mC 169) 51 = some (47, 8, false) by decide +kernel) (by decide +kernel)
set_option maxRecDepth 100000 in
theorem r_169_152 : ∀ (d : Nat) (ls : Lc) (a : Int32) (st : List Value) (M : Mem) (Q : Outcome → Mem → Prop), Wp d 169 152 ls (.int a :: st) M Q = Br (a = I 0) d 169 156 155 ls st M Q := fun d ls a st M Q => w_if (show ins 169 152 = some (.ifCond .eq 4, 3) by decide +kernel) rfl rfl
set_option maxRecDepth 100000 in
theorem r_169_155 : ∀ (d : Nat) (ls : Lc) (M : Mem) (Q : Outcome → Mem → Prop), Wp d 169 155 ls [] M Q = Q (.returned none) M := fun d ls M Q => w_return (show ins 169 155 = some (.return_, 1) by decide +kernel) (by decide +kernel)
set_option maxRecDepth 100000 in
theorem r_169_156 : ∀ (d : Nat) (l1 l2 l3 l4 : Option Value) (v : Nat) (st : List Value) (M : Mem) (Q : Outcome → Mem → Prop), Wp d 169 156 [some (.ref v), l1, l2, l3, l4] st M Q = Wp d 169 157 [some (.ref v), l1, l2, l3, l4] (.ref v :: st) M Q := fun d l1 l2 l3 l4 v st M Q => wA (show ins 169 156 = some (.aload_n 0, 1) by decide +kernel) rfl
set_option maxRecDepth 100000 in
theorem r_169_157 : ∀ (d : Nat) (ls : Lc) (a : Nat) (st : List Value) (M : Mem) (Q : Outcome → Mem → Prop), Wp d 169 157 ls (.ref a :: st) M Q = (fk 53 (kO M a) = true ∧ Wp d 169 160 ls (va_rf (mR M 53 a) :: st) M Q) := fun d ls a st M Q => w_getR (show ins 169 157 = some (.getfield 7, 3) by decide +kernel) (show fRes (mC 169) 7 = some (53, 8, false) by decide +kernel) (by decide +kernel)
set_option maxRecDepth 100000 in
theorem r_169_160 : ∀ (d : Nat) (ls : Lc) (st : List Value) (M : Mem) (Q : Outcome → Mem → Prop), Wp d 169 160 ls st M Q = Wp d 169 163 ls (.int (I 3756) :: st) M Q := fun d ls st M Q => w_sipush (show ins 169 160 = some (.sipush 3756, 3) by decide +kernel) (by decide)
set_option maxRecDepth 100000 in
theorem r_169_163 : ∀ (d : Nat) (l0 l1 l2 l3 : Option Value) (v : Int32) (st : List Value) (M : Mem) (Q : Outcome → Mem → Prop), Wp d 169 163 [l0, l1, l2, l3, some (.int v)] st M Q = Wp d 169 165 [l0, l1, l2, l3, some (.int v)] (.int v :: st) M Q := fun d l0 l1 l2 l3 v st M Q => wA (show ins 169 163 = some (.iload 4, 2) by decide +kernel) rfl
set_option maxRecDepth 100000 in
theorem r_169_165 : ∀ (d : Nat) (ls : Lc) (a b : Int) (st : List Value) (M : Mem) (Q : Outcome → Mem → Prop), Wp d 169 165 ls (.int (I b) :: .int (I a) :: st) M Q = Wp d 169 166 ls (.int (I (a + b)) :: st) M Q := fun d ls a b st M Q => w_iadd (show ins 169 165 = some (.iadd, 1) by decide +kernel)
set_option maxRecDepth 100000 in
theorem r_169_166 : ∀ (d : Nat) (ls : Lc) (st : List Value) (M : Mem) (Q : Outcome → Mem → Prop), Wp d 169 166 ls st M Q = Wp d 169 167 ls (.int (I 1) :: st) M Q := fun d ls st M Q => w_iconst (show ins 169 166 = some (.iconst 1, 1) by decide +kernel)
set_option maxRecDepth 100000 in
theorem r_169_167 : ∀ (d : Nat) (ls : Lc) (a : Nat) (j v : Int32) (st : List Value) (M : Mem) (Q : Outcome → Mem → Prop), Wp d 169 167 ls (.int v :: .int j :: .ref a :: st) M Q = (((kX M a).1 = 0 ∧ inB j (kX M a).2 = true) ∧ Wp d 169 168 ls st (sA M a j.toNatClampNeg v) Q) := fun d ls a j v st M Q => w_iastore (show ins 169 167 = some (.iastore, 1) by decide +kernel)
set_option maxRecDepth 100000 in
theorem r_169_168 : ∀ (d : Nat) (l1 l2 l3 l4 : Option Value) (v : Nat) (st : List Value) (M : Mem) (Q : Outcome → Mem → Prop), Wp d 169 168 [some (.ref v), l1, l2, l3, l4] st M Q = Wp d 169 169 [some (.ref v), l1, l2, l3, l4] (.ref v :: st) M Q := fun d l1 l2 l3 l4 v st M Q => wA (show ins 169 168 = some (.aload_n 0, 1) by decide +kernel) rfl
set_option maxRecDepth 100000 in
theorem r_169_169 : ∀ (d : Nat) (ls : Lc) (a : Nat) (st : List Value) (M : Mem) (Q : Outcome → Mem → Prop), Wp d 169 169 ls (.ref a :: st) M Q = (fk 53 (kO M a) = true ∧ Wp d 169 172 ls (va_rf (mR M 53 a) :: st) M Q) := fun d ls a st M Q => w_getR (show ins 169 169 = some (.getfield 7, 3) by decide +kernel) (show fRes (mC 169) 7 = some (53, 8, false) by decide +kernel) (by decide +kernel)
set_option maxRecDepth 100000 in
theorem r_169_172 : ∀ (d : Nat) (ls : Lc) (st : List Value) (M : Mem) (Q : Outcome → Mem → Prop), Wp d 169 172 ls st M Q = Wp d 169 175 ls (.int (I 3948) :: st) M Q := fun d ls st M Q => w_sipush (show ins 169 172 = some (.sipush 3948, 3) by decide +kernel) (by decide)
set_option maxRecDepth 100000 in
theorem r_169_175 : ∀ (d : Nat) (l0 l1 l2 l3 : Option Value) (v : Int32) (st : List Value) (M : Mem) (Q : Outcome → Mem → Prop), Wp d 169 175 [l0, l1, l2, l3, some (.int v)] st M Q = Wp d 169 177 [l0, l1, l2, l3, some (.int v)] (.int v :: st) M Q := fun d l0 l1 l2 l3 v st M Q => wA (show ins 169 175 = some (.iload 4, 2) by decide +kernel) rfl
set_option maxRecDepth 100000 in
theorem r_169_177 : ∀ (d : Nat) (ls : Lc) (a b : Int) (st : List Value) (M : Mem) (Q : Outcome → Mem → Prop), Wp d 169 177 ls (.int (I b) :: .int (I a) :: st) M Q = Wp d 169 178 ls (.int (I (a + b)) :: st) M Q := fun d ls a b st M Q => w_iadd (show ins 169 177 = some (.iadd, 1) by decide +kernel)
set_option maxRecDepth 100000 in
theorem r_169_178 : ∀ (d : Nat) (ls : Lc) (st : List Value) (M : Mem) (Q : Outcome → Mem → Prop), Wp d 169 178 ls st M Q = Wp d 169 179 ls (.int (I (-1)) :: st) M Q := fun d ls st M Q => w_iconst (show ins 169 178 = some (.iconst (-1), 1) by decide +kernel)
set_option maxRecDepth 100000 in
theorem r_169_179 : ∀ (d : Nat) (ls : Lc) (a : Nat) (j v : Int32) (st : List Value) (M : Mem) (Q : Outcome → Mem → Prop), Wp d 169 179 ls (.int v :: .int j :: .ref a :: st) M Q = (((kX M a).1 = 0 ∧ inB j (kX M a).2 = true) ∧ Wp d 169 180 ls st (sA M a j.toNatClampNeg v) Q) := fun d ls a j v st M Q => w_iastore (show ins 169 179 = some (.iastore, 1) by decide +kernel)
set_option maxRecDepth 100000 in
theorem r_169_180 : ∀ (d : Nat) (l1 l2 l3 l4 : Option Value) (v : Nat) (st : List Value) (M : Mem) (Q : Outcome → Mem → Prop), Wp d 169 180 [some (.ref v), l1, l2, l3, l4] st M Q = Wp d 169 181 [some (.ref v), l1, l2, l3, l4] (.ref v :: st) M Q := fun d l1 l2 l3 l4 v st M Q => wA (show ins 169 180 = some (.aload_n 0, 1) by decide +kernel) rfl
set_option maxRecDepth 100000 in
theorem r_169_181 : ∀ (d : Nat) (l0 l2 l3 l4 : Option Value) (v : Int32) (st : List Value) (M : Mem) (Q : Outcome → Mem → Prop), Wp d 169 181 [l0, some (.int v), l2, l3, l4] st M Q = Wp d 169 182 [l0, some (.int v), l2, l3, l4] (.int v :: st) M Q := fun d l0 l2 l3 l4 v st M Q => wA (show ins 169 181 = some (.iload_n 1, 1) by decide +kernel) rfl
set_option maxRecDepth 100000 in
theorem r_169_182 : ∀ (d : Nat) (ls : Lc) (v0 : Value) (a : Nat) (st : List Value) (M : Mem) (Q : Outcome → Mem → Prop), (smallR st = true) → Wp d 169 182 ls (v0 :: .ref a :: st) M Q = (kO M a = 8 ∧ Ca d 169 182 ls 173 (.ref a :: [v0]) st M Q) := fun d ls v0 a st M Q h0 => w_virt1 (as := [v0]) (show ins 169 182 = some (.invokevirtual 97, 3) by decide +kernel) (show mRes (mC 169) 97 = some (3, 8, [(8, 173)]) by decide +kernel) (by decide +kernel) rfl (by decide +kernel) (by decide +kernel) h0
set_option maxRecDepth 100000 in
theorem r_169_185 : ∀ (d : Nat) (ls : Lc) (st : List Value) (M : Mem) (Q : Outcome → Mem → Prop), Wp d 169 185 ls st M Q = Wp d 169 187 ls (.int (I 120) :: st) M Q := fun d ls st M Q => w_bipush (show ins 169 185 = some (.bipush 120, 2) by decide +kernel) (by decide)
set_option maxRecDepth 100000 in
theorem r_169_187 : ∀ (d : Nat) (ls : Lc) (a b : Int32) (st : List Value) (M : Mem) (Q : Outcome → Mem → Prop), Wp d 169 187 ls (.int b :: .int a :: st) M Q = Br (a ≤ b) d 169 213 190 ls st M Q := fun d ls a b st M Q => w_icmp (show ins 169 187 = some (.if_icmp .le 26, 3) by decide +kernel) rfl rfl
set_option maxRecDepth 100000 in
theorem r_169_190 : ∀ (d : Nat) (l1 l2 l3 l4 : Option Value) (v : Nat) (st : List Value) (M : Mem) (Q : Outcome → Mem → Prop), Wp d 169 190 [some (.ref v), l1, l2, l3, l4] st M Q = Wp d 169 191 [some (.ref v), l1, l2, l3, l4] (.ref v :: st) M Q := fun d l1 l2 l3 l4 v st M Q => wA (show ins 169 190 = some (.aload_n 0, 1) by decide +kernel) rfl
set_option maxRecDepth 100000 in
theorem r_169_191 : ∀ (d : Nat) (l0 l2 l3 l4 : Option Value) (v : Int32) (st : List Value) (M : Mem) (Q : Outcome → Mem → Prop), Wp d 169 191 [l0, some (.int v), l2, l3, l4] st M Q = Wp d 169 192 [l0, some (.int v), l2, l3, l4] (.int v :: st) M Q := fun d l0 l2 l3 l4 v st M Q => wA (show ins 169 191 = some (.iload_n 1, 1) by decide +kernel) rfl
set_option maxRecDepth 100000 in
theorem r_169_192 : ∀ (d : Nat) (l1 l2 l3 l4 : Option Value) (v : Nat) (st : List Value) (M : Mem) (Q : Outcome → Mem → Prop), Wp d 169 192 [some (.ref v), l1, l2, l3, l4] st M Q = Wp d 169 193 [some (.ref v), l1, l2, l3, l4] (.ref v :: st) M Q := fun d l1 l2 l3 l4 v st M Q => wA (show ins 169 192 = some (.aload_n 0, 1) by decide +kernel) rfl
set_option maxRecDepth 100000 in
theorem r_169_193 : ∀ (d : Nat) (ls : Lc) (a : Nat) (st : List Value) (M : Mem) (Q : Outcome → Mem → Prop), Wp d 169 193 ls (.ref a :: st) M Q = (fk 53 (kO M a) = true ∧ Wp d 169 196 ls (va_rf (mR M 53 a) :: st) M Q) := fun d ls a st M Q => w_getR (show ins 169 193 = some (.getfield 7, 3) by decide +kernel) (show fRes (mC 169) 7 = some (53, 8, false) by decide +kernel) (by decide +kernel)
set_option maxRecDepth 100000 in
theorem r_169_196 : ∀ (d : Nat) (ls : Lc) (st : List Value) (M : Mem) (Q : Outcome → Mem → Prop), Wp d 169 196 ls st M Q = Wp d 169 199 ls (.int (I 3852) :: st) M Q := fun d ls st M Q => w_sipush (show ins 169 196 = some (.sipush 3852, 3) by decide +kernel) (by decide)
set_option maxRecDepth 100000 in
theorem r_169_199 : ∀ (d : Nat) (l0 l2 l3 l4 : Option Value) (v : Int32) (st : List Value) (M : Mem) (Q : Outcome → Mem → Prop), Wp d 169 199 [l0, some (.int v), l2, l3, l4] st M Q = Wp d 169 200 [l0, some (.int v), l2, l3, l4] (.int v :: st) M Q := fun d l0 l2 l3 l4 v st M Q => wA (show ins 169 199 = some (.iload_n 1, 1) by decide +kernel) rfl
set_option maxRecDepth 100000 in
theorem r_169_200 : ∀ (d : Nat) (ls : Lc) (a b : Int) (st : List Value) (M : Mem) (Q : Outcome → Mem → Prop), Wp d 169 200 ls (.int (I b) :: .int (I a) :: st) M Q = Wp d 169 201 ls (.int (I (a + b)) :: st) M Q := fun d ls a b st M Q => w_iadd (show ins 169 200 = some (.iadd, 1) by decide +kernel)
set_option maxRecDepth 100000 in
theorem r_169_201 : ∀ (d : Nat) (ls : Lc) (a : Nat) (j : Int32) (st : List Value) (M : Mem) (Q : Outcome → Mem → Prop), Wp d 169 201 ls (.int j :: .ref a :: st) M Q = ((((kX M a).1 = 0 ∨ (kX M a).1 = 8) ∧ inB j (kX M a).2 = true) ∧ Wp d 169 202 ls (.int (mA M a j.toNatClampNeg) :: st) M Q) := fun d ls a j st M Q => w_iaload (show ins 169 201 = some (.iaload, 1) by decide +kernel)
set_option maxRecDepth 100000 in
theorem r_169_202 : ∀ (d : Nat) (ls : Lc) (st : List Value) (M : Mem) (Q : Outcome → Mem → Prop), Wp d 169 202 ls st M Q = Wp d 169 203 ls (.int (I 1) :: st) M Q := fun d ls st M Q => w_iconst (show ins 169 202 = some (.iconst 1, 1) by decide +kernel)
set_option maxRecDepth 100000 in
theorem r_169_203 : ∀ (d : Nat) (ls : Lc) (a b : Int) (st : List Value) (M : Mem) (Q : Outcome → Mem → Prop), Wp d 169 203 ls (.int (I b) :: .int (I a) :: st) M Q = Wp d 169 204 ls (.int (I (a - b)) :: st) M Q := fun d ls a b st M Q => w_isub (show ins 169 203 = some (.isub, 1) by decide +kernel)
set_option maxRecDepth 100000 in
theorem r_169_204 : ∀ (d : Nat) (l0 l1 l2 l3 : Option Value) (v : Int32) (st : List Value) (M : Mem) (Q : Outcome → Mem → Prop), Wp d 169 204 [l0, l1, l2, l3, some (.int v)] st M Q = Wp d 169 206 [l0, l1, l2, l3, some (.int v)] (.int v :: st) M Q := fun d l0 l1 l2 l3 v st M Q => wA (show ins 169 204 = some (.iload 4, 2) by decide +kernel) rfl
set_option maxRecDepth 100000 in
theorem r_169_206 : ∀ (d : Nat) (ls : Lc) (st : List Value) (M : Mem) (Q : Outcome → Mem → Prop), Wp d 169 206 ls st M Q = Wp d 169 207 ls (.int (I 0) :: st) M Q := fun d ls st M Q => w_iconst (show ins 169 206 = some (.iconst 0, 1) by decide +kernel)
set_option maxRecDepth 100000 in
theorem r_169_207 : ∀ (d : Nat) (ls : Lc) (v0 v1 v2 v3 : Value) (a : Nat) (st : List Value) (M : Mem) (Q : Outcome → Mem → Prop), (smallR st = true) → Wp d 169 207 ls (v3 :: v2 :: v1 :: v0 :: .ref a :: st) M Q = (kO M a = 8 ∧ Ca d 169 207 ls 175 (.ref a :: [v0, v1, v2, v3]) st M Q) := fun d ls v0 v1 v2 v3 a st M Q h0 => w_virt1 (as := [v0, v1, v2, v3]) (show ins 169 207 = some (.invokevirtual 103, 3) by decide +kernel) (show mRes (mC 169) 103 = some (3, 8, [(8, 175)]) by decide +kernel) (by decide +kernel) rfl (by decide +kernel) (by decide +kernel) h0
set_option maxRecDepth 100000 in
theorem r_169_210 : ∀ (d : Nat) (ls : Lc) (st : List Value) (M : Mem) (Q : Outcome → Mem → Prop), Wp d 169 210 ls st M Q = Wp d 169 180 ls st M Q := fun d ls st M Q => w_goto (show ins 169 210 = some (.goto (-30), 3) by decide +kernel) rfl
set_option maxRecDepth 100000 in
theorem r_169_213 : ∀ (d : Nat) (l1 l2 l3 l4 : Option Value) (v : Nat) (st : List Value) (M : Mem) (Q : Outcome → Mem → Prop), Wp d 169 213 [some (.ref v), l1, l2, l3, l4] st M Q = Wp d 169 214 [some (.ref v), l1, l2, l3, l4] (.ref v :: st) M Q := fun d l1 l2 l3 l4 v st M Q => wA (show ins 169 213 = some (.aload_n 0, 1) by decide +kernel) rfl
set_option maxRecDepth 100000 in
theorem r_169_214 : ∀ (d : Nat) (l0 l1 l2 l3 : Option Value) (v : Int32) (st : List Value) (M : Mem) (Q : Outcome → Mem → Prop), Wp d 169 214 [l0, l1, l2, l3, some (.int v)] st M Q = Wp d 169 216 [l0, l1, l2, l3, some (.int v)] (.int v :: st) M Q := fun d l0 l1 l2 l3 v st M Q => wA (show ins 169 214 = some (.iload 4, 2) by decide +kernel) rfl
set_option maxRecDepth 100000 in
theorem r_169_216 : ∀ (d : Nat) (l0 l2 l3 l4 : Option Value) (v : Int32) (st : List Value) (M : Mem) (Q : Outcome → Mem → Prop), Wp d 169 216 [l0, some (.int v), l2, l3, l4] st M Q = Wp d 169 217 [l0, some (.int v), l2, l3, l4] (.int v :: st) M Q := fun d l0 l2 l3 l4 v st M Q => wA (show ins 169 216 = some (.iload_n 1, 1) by decide +kernel) rfl
set_option maxRecDepth 100000 in
theorem r_169_217 : ∀ (d : Nat) (ls : Lc) (v0 v1 : Value) (a : Nat) (st : List Value) (M : Mem) (Q : Outcome → Mem → Prop), (smallR st = true) → Wp d 169 217 ls (v1 :: v0 :: .ref a :: st) M Q = (kO M a = 8 ∧ Ca d 169 217 ls 178 (.ref a :: [v0, v1]) st M Q) := fun d ls v0 v1 a st M Q h0 => w_virt1 (as := [v0, v1]) (show ins 169 217 = some (.invokevirtual 77, 3) by decide +kernel) (show mRes (mC 169) 77 = some (3, 8, [(8, 178)]) by decide +kernel) (by decide +kernel) rfl (by decide +kernel) (by decide +kernel) h0
set_option maxRecDepth 100000 in
theorem r_169_220 : ∀ (d : Nat) (l1 l2 l3 l4 : Option Value) (v : Nat) (st : List Value) (M : Mem) (Q : Outcome → Mem → Prop), Wp d 169 220 [some (.ref v), l1, l2, l3, l4] st M Q = Wp d 169 221 [some (.ref v), l1, l2, l3, l4] (.ref v :: st) M Q := fun d l1 l2 l3 l4 v st M Q => wA (show ins 169 220 = some (.aload_n 0, 1) by decide +kernel) rfl
set_option maxRecDepth 100000 in
theorem r_169_221 : ∀ (d : Nat) (l0 l2 l3 l4 : Option Value) (v : Int32) (st : List Value) (M : Mem) (Q : Outcome → Mem → Prop), Wp d 169 221 [l0, some (.int v), l2, l3, l4] st M Q = Wp d 169 222 [l0, some (.int v), l2, l3, l4] (.int v :: st) M Q := fun d l0 l2 l3 l4 v st M Q => wA (show ins 169 221 = some (.iload_n 1, 1) by decide +kernel) rfl
set_option maxRecDepth 100000 in
theorem r_169_222 : ∀ (d : Nat) (l0 l1 l2 l3 : Option Value) (v : Int32) (st : List Value) (M : Mem) (Q : Outcome → Mem → Prop), Wp d 169 222 [l0, l1, l2, l3, some (.int v)] st M Q = Wp d 169 224 [l0, l1, l2, l3, some (.int v)] (.int v :: st) M Q := fun d l0 l1 l2 l3 v st M Q => wA (show ins 169 222 = some (.iload 4, 2) by decide +kernel) rfl
set_option maxRecDepth 100000 in
theorem r_169_224 : ∀ (d : Nat) (ls : Lc) (v0 v1 : Value) (a : Nat) (st : List Value) (M : Mem) (Q : Outcome → Mem → Prop), (smallR st = true) → Wp d 169 224 ls (v1 :: v0 :: .ref a :: st) M Q = (kO M a = 8 ∧ Ca d 169 224 ls 179 (.ref a :: [v0, v1]) st M Q) := fun d ls v0 v1 a st M Q h0 => w_virt1 (as := [v0, v1]) (show ins 169 224 = some (.invokevirtual 107, 3) by decide +kernel) (show mRes (mC 169) 107 = some (3, 8, [(8, 179)]) by decide +kernel) (by decide +kernel) rfl (by decide +kernel) (by decide +kernel) h0
set_option maxRecDepth 100000 in
theorem r_169_227 : ∀ (d : Nat) (ls : Lc) (M : Mem) (Q : Outcome → Mem → Prop), Wp d 169 227 ls [] M Q = Q (.returned none) M := fun d ls M Q => w_return (show ins 169 227 = some (.return_, 1) by decide +kernel) (by decide +kernel)
set_option maxRecDepth 100000 in
theorem w_169_7 : (type_of% r_169_7) := r_169_7
set_option maxRecDepth 100000 in
theorem w_169_66 : (type_of% r_169_66) := r_169_66
set_option maxRecDepth 100000 in
theorem w_169_180 : (type_of% r_169_180) := r_169_180
set_option maxRecDepth 100000 in
theorem W_169 : (type_of% r_169_0) ∧ (type_of% r_169_1) ∧ (type_of% r_169_2) ∧ (type_of% r_169_3) ∧ (type_of% r_169_6) ∧ (type_of% r_169_8) ∧ (type_of% r_169_9) ∧ (type_of% r_169_12) ∧ (type_of% r_169_14) ∧ (type_of% r_169_17) ∧ (type_of% r_169_18) ∧ (type_of% r_169_19) ∧ (type_of% r_169_22) ∧ (type_of% r_169_23) ∧ (type_of% r_169_24) ∧ (type_of% r_169_27) ∧ (type_of% r_169_28) ∧ (type_of% r_169_29) ∧ (type_of% r_169_30) ∧ (type_of% r_169_33) ∧ (type_of% r_169_34) ∧ (type_of% r_169_36) ∧ (type_of% r_169_39) ∧ (type_of% r_169_40) ∧ (type_of% r_169_41) ∧ (type_of% r_169_42) ∧ (type_of% r_169_43) ∧ (type_of% r_169_44) ∧ (type_of% r_169_47) ∧ (type_of% r_169_50) ∧ (type_of% r_169_51) ∧ (type_of% r_169_52) ∧ (type_of% r_169_53) ∧ (type_of% r_169_56) ∧ (type_of% r_169_59) ∧ (type_of% r_169_60) ∧ (type_of% r_169_61) ∧ (type_of% r_169_62) ∧ (type_of% r_169_65) ∧ (type_of% r_169_67) ∧ (type_of% r_169_68) ∧ (type_of% r_169_71) ∧ (type_of% r_169_73) ∧ (type_of% r_169_76) ∧ (type_of% r_169_77) ∧ (type_of% r_169_78) ∧ (type_of% r_169_81) ∧ (type_of% r_169_82) ∧ (type_of% r_169_83) ∧ (type_of% r_169_86) ∧ (type_of% r_169_87) ∧ (type_of% r_169_88) ∧ (type_of% r_169_89) ∧ (type_of% r_169_92) ∧ (type_of% r_169_95) ∧ (type_of% r_169_96) ∧ (type_of% r_169_97) ∧ (type_of% r_169_98) ∧ (type_of% r_169_99) ∧ (type_of% r_169_100) ∧ (type_of% r_169_103) ∧ (type_of% r_169_104) ∧ (type_of% r_169_106) ∧ (type_of% r_169_109) ∧ (type_of% r_169_110) ∧ (type_of% r_169_111) ∧ (type_of% r_169_112) ∧ (type_of% r_169_115) ∧ (type_of% r_169_118) ∧ (type_of% r_169_119) ∧ (type_of% r_169_120) ∧ (type_of% r_169_121) ∧ (type_of% r_169_122) ∧ (type_of% r_169_123) ∧ (type_of% r_169_124) ∧ (type_of% r_169_125) ∧ (type_of% r_169_128) ∧ (type_of% r_169_131) ∧ (type_of% r_169_132) ∧ (type_of% r_169_133) ∧ (type_of% r_169_136) ∧ (type_of% r_169_138) ∧ (type_of% r_169_141) ∧ (type_of% r_169_142) ∧ (type_of% r_169_143) ∧ (type_of% r_169_146) ∧ (type_of% r_169_148) ∧ (type_of% r_169_149) ∧ (type_of% r_169_152) ∧ (type_of% r_169_155) ∧ (type_of% r_169_156) ∧ (type_of% r_169_157) ∧ (type_of% r_169_160) ∧ (type_of% r_169_163) ∧ (type_of% r_169_165) ∧ (type_of% r_169_166) ∧ (type_of% r_169_167) ∧ (type_of% r_169_168) ∧ (type_of% r_169_169) ∧ (type_of% r_169_172) ∧ (type_of% r_169_175) ∧ (type_of% r_169_177) ∧ (type_of% r_169_178) ∧ (type_of% r_169_179) ∧ (type_of% r_169_181) ∧ (type_of% r_169_182) ∧ (type_of% r_169_185) ∧ (type_of% r_169_187) ∧ (type_of% r_169_190) ∧ (type_of% r_169_191) ∧ (type_of% r_169_192) ∧ (type_of% r_169_193) ∧ (type_of% r_169_196) ∧ (type_of% r_169_199) ∧ (type_of% r_169_200) ∧ (type_of% r_169_201) ∧ (type_of% r_169_202) ∧ (type_of% r_169_203) ∧ (type_of% r_169_204) ∧ (type_of% r_169_206) ∧ (type_of% r_169_207) ∧ (type_of% r_169_210) ∧ (type_of% r_169_213) ∧ (type_of% r_169_214) ∧ (type_of% r_169_216) ∧ (type_of% r_169_217) ∧ (type_of% r_169_220) ∧ (type_of% r_169_221) ∧ (type_of% r_169_222) ∧ (type_of% r_169_224) ∧ (type_of% r_169_227) := ⟨r_169_0, r_169_1, r_169_2, r_169_3, r_169_6, r_169_8, r_169_9, r_169_12, r_169_14, r_169_17, r_169_18, r_169_19, r_169_22, r_169_23, r_169_24, r_169_27, r_169_28, r_169_29, r_169_30, r_169_33, r_169_34, r_169_36, r_169_39, r_169_40, r_169_41, r_169_42, r_169_43, r_169_44, r_169_47, r_169_50, r_169_51, r_169_52, r_169_53, r_169_56, r_169_59, r_169_60, r_169_61, r_169_62, r_169_65, r_169_67, r_169_68, r_169_71, r_169_73, r_169_76, r_169_77, r_169_78, r_169_81, r_169_82, r_169_83, r_169_86, r_169_87, r_169_88, r_169_89, r_169_92, r_169_95, r_169_96, r_169_97, r_169_98, r_169_99, r_169_100, r_169_103, r_169_104, r_169_106, r_169_109, r_169_110, r_169_111, r_169_112, r_169_115, r_169_118, r_169_119, r_169_120, r_169_121, r_169_122, r_169_123, r_169_124, r_169_125, r_169_128, r_169_131, r_169_132, r_169_133, r_169_136, r_169_138, r_169_141, r_169_142, r_169_143, r_169_146, r_169_148, r_169_149, r_169_152, r_169_155, r_169_156, r_169_157, r_169_160, r_169_163, r_169_165, r_169_166, r_169_167, r_169_168, r_169_169, r_169_172, r_169_175, r_169_177, r_169_178, r_169_179, r_169_181, r_169_182, r_169_185, r_169_187, r_169_190, r_169_191, r_169_192, r_169_193, r_169_196, r_169_199, r_169_200, r_169_201, r_169_202, r_169_203, r_169_204, r_169_206, r_169_207, r_169_210, r_169_213, r_169_214, r_169_216, r_169_217, r_169_220, r_169_221, r_169_222, r_169_224, r_169_227⟩
set_option maxRecDepth 100000 in
theorem ca_169 {d y pc : Nat} {ls : Lc} {a : Nat} {z0 : Int32} {r : List Value} {M : Mem} {Q : Outcome → Mem → Prop} (hd : 0 < d) (hw : Wp (d - 1) 169 0 [some (.ref a), some (.int z0), none, none, none] [] M (Cq d y pc ls r Q)) : Ca d y pc ls 169 [.ref a, .int z0] r M Q := ca_of (mq_get (by decide)) (by rfl) hd hw
/-! 170 PackedTreeModel.beside(II)I; loop heads [] -/
set_option maxRecDepth 100000 in
theorem r_170_0 : ∀ (d : Nat) (l1 l2 l3 l4 : Option Value) (v : Nat) (st : List Value) (M : Mem) (Q : Outcome → Mem → Prop), Wp d 170 0 [some (.ref v), l1, l2, l3, l4] st M Q = Wp d 170 1 [some (.ref v), l1, l2, l3, l4] (.ref v :: st) M Q := fun d l1 l2 l3 l4 v st M Q => wA (show ins 170 0 = some (.aload_n 0, 1) by decide +kernel) rfl
set_option maxRecDepth 100000 in
theorem r_170_1 : ∀ (d : Nat) (l0 l2 l3 l4 : Option Value) (v : Int32) (st : List Value) (M : Mem) (Q : Outcome → Mem → Prop), Wp d 170 1 [l0, some (.int v), l2, l3, l4] st M Q = Wp d 170 2 [l0, some (.int v), l2, l3, l4] (.int v :: st) M Q := fun d l0 l2 l3 l4 v st M Q => wA (show ins 170 1 = some (.iload_n 1, 1) by decide +kernel) rfl
set_option maxRecDepth 100000 in
theorem r_170_2 : ∀ (d : Nat) (ls : Lc) (v0 : Value) (a : Nat) (st : List Value) (M : Mem) (Q : Outcome → Mem → Prop), (smallR st = true) → Wp d 170 2 ls (v0 :: .ref a :: st) M Q = (kO M a = 8 ∧ Ca d 170 2 ls 171 (.ref a :: [v0]) st M Q) := fun d ls v0 a st M Q h0 => w_virt1 (as := [v0]) (show ins 170 2 = some (.invokevirtual 55, 3) by decide +kernel) (show mRes (mC 170) 55 = some (3, 8, [(8, 171)]) by decide +kernel) (by decide +kernel) rfl (by decide +kernel) (by decide +kernel) h0
set_option maxRecDepth 100000 in
theorem r_170_5 : ∀ (d : Nat) (l0 l1 l2 l3 l4 : Option Value) (v : Int32) (st : List Value) (M : Mem) (Q : Outcome → Mem → Prop), (lo l2 = false) → Wp d 170 5 [l0, l1, l2, l3, l4] (.int v :: st) M Q = Wp d 170 6 [l0, l1, l2, some (.int v), l4] st M Q := fun d l0 l1 l2 l3 l4 v st M Q hl => w_istore_n (show ins 170 5 = some (.istore_n 3, 1) by decide +kernel) (st1_S rfl rfl hl)
set_option maxRecDepth 100000 in
theorem r_170_6 : ∀ (d : Nat) (l1 l2 l3 l4 : Option Value) (v : Nat) (st : List Value) (M : Mem) (Q : Outcome → Mem → Prop), Wp d 170 6 [some (.ref v), l1, l2, l3, l4] st M Q = Wp d 170 7 [some (.ref v), l1, l2, l3, l4] (.ref v :: st) M Q := fun d l1 l2 l3 l4 v st M Q => wA (show ins 170 6 = some (.aload_n 0, 1) by decide +kernel) rfl
set_option maxRecDepth 100000 in
theorem r_170_7 : ∀ (d : Nat) (l0 l2 l3 l4 : Option Value) (v : Int32) (st : List Value) (M : Mem) (Q : Outcome → Mem → Prop), Wp d 170 7 [l0, some (.int v), l2, l3, l4] st M Q = Wp d 170 8 [l0, some (.int v), l2, l3, l4] (.int v :: st) M Q := fun d l0 l2 l3 l4 v st M Q => wA (show ins 170 7 = some (.iload_n 1, 1) by decide +kernel) rfl
set_option maxRecDepth 100000 in
theorem r_170_8 : ∀ (d : Nat) (ls : Lc) (v0 : Value) (a : Nat) (st : List Value) (M : Mem) (Q : Outcome → Mem → Prop), (smallR st = true) → Wp d 170 8 ls (v0 :: .ref a :: st) M Q = (kO M a = 8 ∧ Ca d 170 8 ls 172 (.ref a :: [v0]) st M Q) := fun d ls v0 a st M Q h0 => w_virt1 (as := [v0]) (show ins 170 8 = some (.invokevirtual 59, 3) by decide +kernel) (show mRes (mC 170) 59 = some (3, 8, [(8, 172)]) by decide +kernel) (by decide +kernel) rfl (by decide +kernel) (by decide +kernel) h0
set_option maxRecDepth 100000 in
theorem r_170_11 : ∀ (d : Nat) (l0 l1 l3 l4 : Option Value) (v : Int32) (st : List Value) (M : Mem) (Q : Outcome → Mem → Prop), Wp d 170 11 [l0, l1, some (.int v), l3, l4] st M Q = Wp d 170 12 [l0, l1, some (.int v), l3, l4] (.int v :: st) M Q := fun d l0 l1 l3 l4 v st M Q => wA (show ins 170 11 = some (.iload_n 2, 1) by decide +kernel) rfl
set_option maxRecDepth 100000 in
theorem r_170_12 : ∀ (d : Nat) (ls : Lc) (a b : Int) (st : List Value) (M : Mem) (Q : Outcome → Mem → Prop), Wp d 170 12 ls (.int (I b) :: .int (I a) :: st) M Q = Wp d 170 13 ls (.int (I (a + b)) :: st) M Q := fun d ls a b st M Q => w_iadd (show ins 170 12 = some (.iadd, 1) by decide +kernel)
set_option maxRecDepth 100000 in
theorem r_170_13 : ∀ (d : Nat) (l0 l1 l2 l3 l4 : Option Value) (v : Int32) (st : List Value) (M : Mem) (Q : Outcome → Mem → Prop), (lo l3 = false) → Wp d 170 13 [l0, l1, l2, l3, l4] (.int v :: st) M Q = Wp d 170 15 [l0, l1, l2, l3, some (.int v)] st M Q := fun d l0 l1 l2 l3 l4 v st M Q hl => w_istore (show ins 170 13 = some (.istore 4, 2) by decide +kernel) (st1_S rfl rfl hl)
set_option maxRecDepth 100000 in
theorem r_170_15 : ∀ (d : Nat) (l0 l1 l2 l3 : Option Value) (v : Int32) (st : List Value) (M : Mem) (Q : Outcome → Mem → Prop), Wp d 170 15 [l0, l1, l2, l3, some (.int v)] st M Q = Wp d 170 17 [l0, l1, l2, l3, some (.int v)] (.int v :: st) M Q := fun d l0 l1 l2 l3 v st M Q => wA (show ins 170 15 = some (.iload 4, 2) by decide +kernel) rfl
set_option maxRecDepth 100000 in
theorem r_170_17 : ∀ (d : Nat) (ls : Lc) (st : List Value) (M : Mem) (Q : Outcome → Mem → Prop), Wp d 170 17 ls st M Q = Wp d 170 18 ls (.int (I 0) :: st) M Q := fun d ls st M Q => w_iconst (show ins 170 17 = some (.iconst 0, 1) by decide +kernel)
set_option maxRecDepth 100000 in
theorem r_170_18 : ∀ (d : Nat) (l1 l2 l3 l4 : Option Value) (v : Nat) (st : List Value) (M : Mem) (Q : Outcome → Mem → Prop), Wp d 170 18 [some (.ref v), l1, l2, l3, l4] st M Q = Wp d 170 19 [some (.ref v), l1, l2, l3, l4] (.ref v :: st) M Q := fun d l1 l2 l3 l4 v st M Q => wA (show ins 170 18 = some (.aload_n 0, 1) by decide +kernel) rfl
set_option maxRecDepth 100000 in
theorem r_170_19 : ∀ (d : Nat) (ls : Lc) (a : Nat) (st : List Value) (M : Mem) (Q : Outcome → Mem → Prop), Wp d 170 19 ls (.ref a :: st) M Q = (fk 53 (kO M a) = true ∧ Wp d 170 22 ls (va_rf (mR M 53 a) :: st) M Q) := fun d ls a st M Q => w_getR (show ins 170 19 = some (.getfield 7, 3) by decide +kernel) (show fRes (mC 170) 7 = some (53, 8, false) by decide +kernel) (by decide +kernel)
set_option maxRecDepth 100000 in
theorem r_170_22 : ∀ (d : Nat) (ls : Lc) (st : List Value) (M : Mem) (Q : Outcome → Mem → Prop), Wp d 170 22 ls st M Q = Wp d 170 25 ls (.int (I 13068) :: st) M Q := fun d ls st M Q => w_sipush (show ins 170 22 = some (.sipush 13068, 3) by decide +kernel) (by decide)
set_option maxRecDepth 100000 in
theorem r_170_25 : ∀ (d : Nat) (l0 l1 l2 l4 : Option Value) (v : Int32) (st : List Value) (M : Mem) (Q : Outcome → Mem → Prop), Wp d 170 25 [l0, l1, l2, some (.int v), l4] st M Q = Wp d 170 26 [l0, l1, l2, some (.int v), l4] (.int v :: st) M Q := fun d l0 l1 l2 l4 v st M Q => wA (show ins 170 25 = some (.iload_n 3, 1) by decide +kernel) rfl
set_option maxRecDepth 100000 in
theorem r_170_26 : ∀ (d : Nat) (ls : Lc) (a b : Int) (st : List Value) (M : Mem) (Q : Outcome → Mem → Prop), Wp d 170 26 ls (.int (I b) :: .int (I a) :: st) M Q = Wp d 170 27 ls (.int (I (a + b)) :: st) M Q := fun d ls a b st M Q => w_iadd (show ins 170 26 = some (.iadd, 1) by decide +kernel)
set_option maxRecDepth 100000 in
theorem r_170_27 : ∀ (d : Nat) (ls : Lc) (a : Nat) (j : Int32) (st : List Value) (M : Mem) (Q : Outcome → Mem → Prop), Wp d 170 27 ls (.int j :: .ref a :: st) M Q = ((((kX M a).1 = 0 ∨ (kX M a).1 = 8) ∧ inB j (kX M a).2 = true) ∧ Wp d 170 28 ls (.int (mA M a j.toNatClampNeg) :: st) M Q) := fun d ls a j st M Q => w_iaload (show ins 170 27 = some (.iaload, 1) by decide +kernel)
set_option maxRecDepth 100000 in
theorem r_170_28 : ∀ (d : Nat) (ls : Lc) (st : List Value) (M : Mem) (Q : Outcome → Mem → Prop), Wp d 170 28 ls st M Q = Wp d 170 29 ls (.int (I 1) :: st) M Q := fun d ls st M Q => w_iconst (show ins 170 28 = some (.iconst 1, 1) by decide +kernel)
set_option maxRecDepth 100000 in
theorem r_170_29 : ∀ (d : Nat) (ls : Lc) (a b : Int) (st : List Value) (M : Mem) (Q : Outcome → Mem → Prop), Wp d 170 29 ls (.int (I b) :: .int (I a) :: st) M Q = Wp d 170 30 ls (.int (I (a - b)) :: st) M Q := fun d ls a b st M Q => w_isub (show ins 170 29 = some (.isub, 1) by decide +kernel)
set_option maxRecDepth 100000 in
theorem r_170_30 : ∀ (d : Nat) (ls : Lc) (v0 v1 v2 : Value)  (st : List Value) (M : Mem) (Q : Outcome → Mem → Prop), (smallR st = true) → Wp d 170 30 ls (v2 :: v1 :: v0 :: st) M Q = Ca d 170 30 ls 159 [v0, v1, v2] st M Q := fun d ls v0 v1 v2 st M Q h0 => w_stat (as := [v0, v1, v2]) (show ins 170 30 = some (.invokestatic 43, 3) by decide +kernel) (show mRes (mC 170) 43 = some (0, 8, [(0, 159)]) by decide +kernel) (by decide +kernel) (by decide +kernel) rfl h0
set_option maxRecDepth 100000 in
theorem r_170_33 : ∀ (d : Nat) (ls : Lc) (a : Int32) (st : List Value) (M : Mem) (Q : Outcome → Mem → Prop), Wp d 170 33 ls (.int a :: st) M Q = Br (a = I 0) d 170 55 36 ls st M Q := fun d ls a st M Q => w_if (show ins 170 33 = some (.ifCond .eq 22, 3) by decide +kernel) rfl rfl
set_option maxRecDepth 100000 in
theorem r_170_36 : ∀ (d : Nat) (l1 l2 l3 l4 : Option Value) (v : Nat) (st : List Value) (M : Mem) (Q : Outcome → Mem → Prop), Wp d 170 36 [some (.ref v), l1, l2, l3, l4] st M Q = Wp d 170 37 [some (.ref v), l1, l2, l3, l4] (.ref v :: st) M Q := fun d l1 l2 l3 l4 v st M Q => wA (show ins 170 36 = some (.aload_n 0, 1) by decide +kernel) rfl
set_option maxRecDepth 100000 in
theorem r_170_37 : ∀ (d : Nat) (ls : Lc) (a : Nat) (st : List Value) (M : Mem) (Q : Outcome → Mem → Prop), Wp d 170 37 ls (.ref a :: st) M Q = (fk 53 (kO M a) = true ∧ Wp d 170 40 ls (va_rf (mR M 53 a) :: st) M Q) := fun d ls a st M Q => w_getR (show ins 170 37 = some (.getfield 7, 3) by decide +kernel) (show fRes (mC 170) 7 = some (53, 8, false) by decide +kernel) (by decide +kernel)
set_option maxRecDepth 100000 in
theorem r_170_40 : ∀ (d : Nat) (ls : Lc) (st : List Value) (M : Mem) (Q : Outcome → Mem → Prop), Wp d 170 40 ls st M Q = Wp d 170 43 ls (.int (I 12300) :: st) M Q := fun d ls st M Q => w_sipush (show ins 170 40 = some (.sipush 12300, 3) by decide +kernel) (by decide)
set_option maxRecDepth 100000 in
theorem r_170_43 : ∀ (d : Nat) (ls : Lc) (st : List Value) (M : Mem) (Q : Outcome → Mem → Prop), Wp d 170 43 ls st M Q = Wp d 170 45 ls (.int (I 96) :: st) M Q := fun d ls st M Q => w_bipush (show ins 170 43 = some (.bipush 96, 2) by decide +kernel) (by decide)
set_option maxRecDepth 100000 in
theorem r_170_45 : ∀ (d : Nat) (l0 l1 l2 l4 : Option Value) (v : Int32) (st : List Value) (M : Mem) (Q : Outcome → Mem → Prop), Wp d 170 45 [l0, l1, l2, some (.int v), l4] st M Q = Wp d 170 46 [l0, l1, l2, some (.int v), l4] (.int v :: st) M Q := fun d l0 l1 l2 l4 v st M Q => wA (show ins 170 45 = some (.iload_n 3, 1) by decide +kernel) rfl
set_option maxRecDepth 100000 in
theorem r_170_46 : ∀ (d : Nat) (ls : Lc) (a b : Int) (st : List Value) (M : Mem) (Q : Outcome → Mem → Prop), Wp d 170 46 ls (.int (I b) :: .int (I a) :: st) M Q = Wp d 170 47 ls (.int (I (a * b)) :: st) M Q := fun d ls a b st M Q => w_imul (show ins 170 46 = some (.imul, 1) by decide +kernel)
set_option maxRecDepth 100000 in
theorem r_170_47 : ∀ (d : Nat) (ls : Lc) (a b : Int) (st : List Value) (M : Mem) (Q : Outcome → Mem → Prop), Wp d 170 47 ls (.int (I b) :: .int (I a) :: st) M Q = Wp d 170 48 ls (.int (I (a + b)) :: st) M Q := fun d ls a b st M Q => w_iadd (show ins 170 47 = some (.iadd, 1) by decide +kernel)
set_option maxRecDepth 100000 in
theorem r_170_48 : ∀ (d : Nat) (l0 l1 l2 l3 : Option Value) (v : Int32) (st : List Value) (M : Mem) (Q : Outcome → Mem → Prop), Wp d 170 48 [l0, l1, l2, l3, some (.int v)] st M Q = Wp d 170 50 [l0, l1, l2, l3, some (.int v)] (.int v :: st) M Q := fun d l0 l1 l2 l3 v st M Q => wA (show ins 170 48 = some (.iload 4, 2) by decide +kernel) rfl
set_option maxRecDepth 100000 in
theorem r_170_50 : ∀ (d : Nat) (ls : Lc) (a b : Int) (st : List Value) (M : Mem) (Q : Outcome → Mem → Prop), Wp d 170 50 ls (.int (I b) :: .int (I a) :: st) M Q = Wp d 170 51 ls (.int (I (a + b)) :: st) M Q := fun d ls a b st M Q => w_iadd (show ins 170 50 = some (.iadd, 1) by decide +kernel)
set_option maxRecDepth 100000 in
theorem r_170_51 : ∀ (d : Nat) (ls : Lc) (a : Nat) (j : Int32) (st : List Value) (M : Mem) (Q : Outcome → Mem → Prop), Wp d 170 51 ls (.int j :: .ref a :: st) M Q = ((((kX M a).1 = 0 ∨ (kX M a).1 = 8) ∧ inB j (kX M a).2 = true) ∧ Wp d 170 52 ls (.int (mA M a j.toNatClampNeg) :: st) M Q) := fun d ls a j st M Q => w_iaload (show ins 170 51 = some (.iaload, 1) by decide +kernel)
set_option maxRecDepth 100000 in
theorem r_170_52 : ∀ (d : Nat) (ls : Lc) (st : List Value) (M : Mem) (Q : Outcome → Mem → Prop), Wp d 170 52 ls st M Q = Wp d 170 56 ls st M Q := fun d ls st M Q => w_goto (show ins 170 52 = some (.goto 4, 3) by decide +kernel) rfl
set_option maxRecDepth 100000 in
theorem r_170_55 : ∀ (d : Nat) (ls : Lc) (st : List Value) (M : Mem) (Q : Outcome → Mem → Prop), Wp d 170 55 ls st M Q = Wp d 170 56 ls (.int (I (-1)) :: st) M Q := fun d ls st M Q => w_iconst (show ins 170 55 = some (.iconst (-1), 1) by decide +kernel)
set_option maxRecDepth 100000 in
theorem r_170_56 : ∀ (d : Nat) (ls : Lc) (v : Int32) (M : Mem) (Q : Outcome → Mem → Prop), Wp d 170 56 ls [.int v] M Q = Q (.returned (some (.int v))) M := fun d ls v M Q => w_ireturn (show ins 170 56 = some (.ireturn, 1) by decide +kernel) (by decide +kernel)
set_option maxRecDepth 100000 in
theorem W_170 : (type_of% r_170_0) ∧ (type_of% r_170_1) ∧ (type_of% r_170_2) ∧ (type_of% r_170_5) ∧ (type_of% r_170_6) ∧ (type_of% r_170_7) ∧ (type_of% r_170_8) ∧ (type_of% r_170_11) ∧ (type_of% r_170_12) ∧ (type_of% r_170_13) ∧ (type_of% r_170_15) ∧ (type_of% r_170_17) ∧ (type_of% r_170_18) ∧ (type_of% r_170_19) ∧ (type_of% r_170_22) ∧ (type_of% r_170_25) ∧ (type_of% r_170_26) ∧ (type_of% r_170_27) ∧ (type_of% r_170_28) ∧ (type_of% r_170_29) ∧ (type_of% r_170_30) ∧ (type_of% r_170_33) ∧ (type_of% r_170_36) ∧ (type_of% r_170_37) ∧ (type_of% r_170_40) ∧ (type_of% r_170_43) ∧ (type_of% r_170_45) ∧ (type_of% r_170_46) ∧ (type_of% r_170_47) ∧ (type_of% r_170_48) ∧ (type_of% r_170_50) ∧ (type_of% r_170_51) ∧ (type_of% r_170_52) ∧ (type_of% r_170_55) ∧ (type_of% r_170_56) := ⟨r_170_0, r_170_1, r_170_2, r_170_5, r_170_6, r_170_7, r_170_8, r_170_11, r_170_12, r_170_13, r_170_15, r_170_17, r_170_18, r_170_19, r_170_22, r_170_25, r_170_26, r_170_27, r_170_28, r_170_29, r_170_30, r_170_33, r_170_36, r_170_37, r_170_40, r_170_43, r_170_45, r_170_46, r_170_47, r_170_48, r_170_50, r_170_51, r_170_52, r_170_55, r_170_56⟩
set_option maxRecDepth 100000 in
theorem ca_170 {d y pc : Nat} {ls : Lc} {a : Nat} {z0 : Int32} {z1 : Int32} {r : List Value} {M : Mem} {Q : Outcome → Mem → Prop} (hd : 0 < d) (hw : Wp (d - 1) 170 0 [some (.ref a), some (.int z0), some (.int z1), none, none] [] M (Cq d y pc ls r Q)) : Ca d y pc ls 170 [.ref a, .int z0, .int z1] r M Q := ca_of (mq_get (by decide)) (by rfl) hd hw
/-! 171 PackedTreeModel.height(I)I; loop heads [] -/
set_option maxRecDepth 100000 in
theorem r_171_0 : ∀ (d : Nat) (l1 : Option Value) (v : Nat) (st : List Value) (M : Mem) (Q : Outcome → Mem → Prop), Wp d 171 0 [some (.ref v), l1] st M Q = Wp d 171 1 [some (.ref v), l1] (.ref v :: st) M Q := fun d l1 v st M Q => wA (show ins 171 0 = some (.aload_n 0, 1) by decide +kernel) rfl
set_option maxRecDepth 100000 in
theorem r_171_1 : ∀ (d : Nat) (ls : Lc) (a : Nat) (st : List Value) (M : Mem) (Q : Outcome → Mem → Prop), Wp d 171 1 ls (.ref a :: st) M Q = (fk 53 (kO M a) = true ∧ Wp d 171 4 ls (va_rf (mR M 53 a) :: st) M Q) := fun d ls a st M Q => w_getR (show ins 171 1 = some (.getfield 7, 3) by decide +kernel) (show fRes (mC 171) 7 = some (53, 8, false) by decide +kernel) (by decide +kernel)
set_option maxRecDepth 100000 in
theorem r_171_4 : ∀ (d : Nat) (ls : Lc) (st : List Value) (M : Mem) (Q : Outcome → Mem → Prop), Wp d 171 4 ls st M Q = Wp d 171 7 ls (.int (I 3756) :: st) M Q := fun d ls st M Q => w_sipush (show ins 171 4 = some (.sipush 3756, 3) by decide +kernel) (by decide)
set_option maxRecDepth 100000 in
theorem r_171_7 : ∀ (d : Nat) (l0 : Option Value) (v : Int32) (st : List Value) (M : Mem) (Q : Outcome → Mem → Prop), Wp d 171 7 [l0, some (.int v)] st M Q = Wp d 171 8 [l0, some (.int v)] (.int v :: st) M Q := fun d l0 v st M Q => wA (show ins 171 7 = some (.iload_n 1, 1) by decide +kernel) rfl
set_option maxRecDepth 100000 in
theorem r_171_8 : ∀ (d : Nat) (ls : Lc) (a b : Int) (st : List Value) (M : Mem) (Q : Outcome → Mem → Prop), Wp d 171 8 ls (.int (I b) :: .int (I a) :: st) M Q = Wp d 171 9 ls (.int (I (a + b)) :: st) M Q := fun d ls a b st M Q => w_iadd (show ins 171 8 = some (.iadd, 1) by decide +kernel)
set_option maxRecDepth 100000 in
theorem r_171_9 : ∀ (d : Nat) (ls : Lc) (a : Nat) (j : Int32) (st : List Value) (M : Mem) (Q : Outcome → Mem → Prop), Wp d 171 9 ls (.int j :: .ref a :: st) M Q = ((((kX M a).1 = 0 ∨ (kX M a).1 = 8) ∧ inB j (kX M a).2 = true) ∧ Wp d 171 10 ls (.int (mA M a j.toNatClampNeg) :: st) M Q) := fun d ls a j st M Q => w_iaload (show ins 171 9 = some (.iaload, 1) by decide +kernel)
set_option maxRecDepth 100000 in
theorem r_171_10 : ∀ (d : Nat) (ls : Lc) (st : List Value) (M : Mem) (Q : Outcome → Mem → Prop), Wp d 171 10 ls st M Q = Wp d 171 11 ls (.int (I 1) :: st) M Q := fun d ls st M Q => w_iconst (show ins 171 10 = some (.iconst 1, 1) by decide +kernel)
set_option maxRecDepth 100000 in
theorem r_171_11 : ∀ (d : Nat) (ls : Lc) (a b : Int) (st : List Value) (M : Mem) (Q : Outcome → Mem → Prop), Wp d 171 11 ls (.int (I b) :: .int (I a) :: st) M Q = Wp d 171 12 ls (.int (I (a - b)) :: st) M Q := fun d ls a b st M Q => w_isub (show ins 171 11 = some (.isub, 1) by decide +kernel)
set_option maxRecDepth 100000 in
theorem r_171_12 : ∀ (d : Nat) (ls : Lc) (v : Int32) (M : Mem) (Q : Outcome → Mem → Prop), Wp d 171 12 ls [.int v] M Q = Q (.returned (some (.int v))) M := fun d ls v M Q => w_ireturn (show ins 171 12 = some (.ireturn, 1) by decide +kernel) (by decide +kernel)
set_option maxRecDepth 100000 in
theorem W_171 : (type_of% r_171_0) ∧ (type_of% r_171_1) ∧ (type_of% r_171_4) ∧ (type_of% r_171_7) ∧ (type_of% r_171_8) ∧ (type_of% r_171_9) ∧ (type_of% r_171_10) ∧ (type_of% r_171_11) ∧ (type_of% r_171_12) := ⟨r_171_0, r_171_1, r_171_4, r_171_7, r_171_8, r_171_9, r_171_10, r_171_11, r_171_12⟩
set_option maxRecDepth 100000 in
theorem ca_171 {d y pc : Nat} {ls : Lc} {a : Nat} {z0 : Int32} {r : List Value} {M : Mem} {Q : Outcome → Mem → Prop} (hd : 0 < d) (hw : Wp (d - 1) 171 0 [some (.ref a), some (.int z0)] [] M (Cq d y pc ls r Q)) : Ca d y pc ls 171 [.ref a, .int z0] r M Q := ca_of (mq_get (by decide)) (by rfl) hd hw
/-! 172 PackedTreeModel.placeOf(I)I; loop heads [15] -/
set_option maxRecDepth 100000 in
theorem r_172_0 : ∀ (d : Nat) (ls : Lc) (st : List Value) (M : Mem) (Q : Outcome → Mem → Prop), Wp d 172 0 ls st M Q = Wp d 172 3 ls (.int (I 12300) :: st) M Q := fun d ls st M Q => w_sipush (show ins 172 0 = some (.sipush 12300, 3) by decide +kernel) (by decide)
set_option maxRecDepth 100000 in
theorem r_172_3 : ∀ (d : Nat) (ls : Lc) (st : List Value) (M : Mem) (Q : Outcome → Mem → Prop), Wp d 172 3 ls st M Q = Wp d 172 5 ls (.int (I 96) :: st) M Q := fun d ls st M Q => w_bipush (show ins 172 3 = some (.bipush 96, 2) by decide +kernel) (by decide)
set_option maxRecDepth 100000 in
theorem r_172_5 : ∀ (d : Nat) (l1 l2 l3 : Option Value) (v : Nat) (st : List Value) (M : Mem) (Q : Outcome → Mem → Prop), Wp d 172 5 [some (.ref v), l1, l2, l3] st M Q = Wp d 172 6 [some (.ref v), l1, l2, l3] (.ref v :: st) M Q := fun d l1 l2 l3 v st M Q => wA (show ins 172 5 = some (.aload_n 0, 1) by decide +kernel) rfl
set_option maxRecDepth 100000 in
theorem r_172_6 : ∀ (d : Nat) (l0 l2 l3 : Option Value) (v : Int32) (st : List Value) (M : Mem) (Q : Outcome → Mem → Prop), Wp d 172 6 [l0, some (.int v), l2, l3] st M Q = Wp d 172 7 [l0, some (.int v), l2, l3] (.int v :: st) M Q := fun d l0 l2 l3 v st M Q => wA (show ins 172 6 = some (.iload_n 1, 1) by decide +kernel) rfl
set_option maxRecDepth 100000 in
theorem r_172_7 : ∀ (d : Nat) (ls : Lc) (v0 : Value) (a : Nat) (st : List Value) (M : Mem) (Q : Outcome → Mem → Prop), (smallR st = true) → Wp d 172 7 ls (v0 :: .ref a :: st) M Q = (kO M a = 8 ∧ Ca d 172 7 ls 171 (.ref a :: [v0]) st M Q) := fun d ls v0 a st M Q h0 => w_virt1 (as := [v0]) (show ins 172 7 = some (.invokevirtual 55, 3) by decide +kernel) (show mRes (mC 172) 55 = some (3, 8, [(8, 171)]) by decide +kernel) (by decide +kernel) rfl (by decide +kernel) (by decide +kernel) h0
set_option maxRecDepth 100000 in
theorem r_172_10 : ∀ (d : Nat) (ls : Lc) (a b : Int) (st : List Value) (M : Mem) (Q : Outcome → Mem → Prop), Wp d 172 10 ls (.int (I b) :: .int (I a) :: st) M Q = Wp d 172 11 ls (.int (I (a * b)) :: st) M Q := fun d ls a b st M Q => w_imul (show ins 172 10 = some (.imul, 1) by decide +kernel)
set_option maxRecDepth 100000 in
theorem r_172_11 : ∀ (d : Nat) (ls : Lc) (a b : Int) (st : List Value) (M : Mem) (Q : Outcome → Mem → Prop), Wp d 172 11 ls (.int (I b) :: .int (I a) :: st) M Q = Wp d 172 12 ls (.int (I (a + b)) :: st) M Q := fun d ls a b st M Q => w_iadd (show ins 172 11 = some (.iadd, 1) by decide +kernel)
set_option maxRecDepth 100000 in
theorem r_172_12 : ∀ (d : Nat) (l0 l1 l2 l3 : Option Value) (v : Int32) (st : List Value) (M : Mem) (Q : Outcome → Mem → Prop), (lo l1 = false) → Wp d 172 12 [l0, l1, l2, l3] (.int v :: st) M Q = Wp d 172 13 [l0, l1, some (.int v), l3] st M Q := fun d l0 l1 l2 l3 v st M Q hl => w_istore_n (show ins 172 12 = some (.istore_n 2, 1) by decide +kernel) (st1_S rfl rfl hl)
set_option maxRecDepth 100000 in
theorem r_172_13 : ∀ (d : Nat) (ls : Lc) (st : List Value) (M : Mem) (Q : Outcome → Mem → Prop), Wp d 172 13 ls st M Q = Wp d 172 14 ls (.int (I 0) :: st) M Q := fun d ls st M Q => w_iconst (show ins 172 13 = some (.iconst 0, 1) by decide +kernel)
set_option maxRecDepth 100000 in
theorem r_172_14 : ∀ (d : Nat) (l0 l1 l2 l3 : Option Value) (v : Int32) (st : List Value) (M : Mem) (Q : Outcome → Mem → Prop), (lo l2 = false) → Wp d 172 14 [l0, l1, l2, l3] (.int v :: st) M Q = Wp d 172 15 [l0, l1, l2, some (.int v)] st M Q := fun d l0 l1 l2 l3 v st M Q hl => w_istore_n (show ins 172 14 = some (.istore_n 3, 1) by decide +kernel) (st1_S rfl rfl hl)
set_option maxRecDepth 100000 in
theorem r_172_15 : ∀ (d : Nat) (l1 l2 l3 : Option Value) (v : Nat) (st : List Value) (M : Mem) (Q : Outcome → Mem → Prop), Wp d 172 15 [some (.ref v), l1, l2, l3] st M Q = Wp d 172 16 [some (.ref v), l1, l2, l3] (.ref v :: st) M Q := fun d l1 l2 l3 v st M Q => wA (show ins 172 15 = some (.aload_n 0, 1) by decide +kernel) rfl
set_option maxRecDepth 100000 in
theorem r_172_16 : ∀ (d : Nat) (ls : Lc) (a : Nat) (st : List Value) (M : Mem) (Q : Outcome → Mem → Prop), Wp d 172 16 ls (.ref a :: st) M Q = (fk 53 (kO M a) = true ∧ Wp d 172 19 ls (va_rf (mR M 53 a) :: st) M Q) := fun d ls a st M Q => w_getR (show ins 172 16 = some (.getfield 7, 3) by decide +kernel) (show fRes (mC 172) 7 = some (53, 8, false) by decide +kernel) (by decide +kernel)
set_option maxRecDepth 100000 in
theorem r_172_19 : ∀ (d : Nat) (l0 l1 l3 : Option Value) (v : Int32) (st : List Value) (M : Mem) (Q : Outcome → Mem → Prop), Wp d 172 19 [l0, l1, some (.int v), l3] st M Q = Wp d 172 20 [l0, l1, some (.int v), l3] (.int v :: st) M Q := fun d l0 l1 l3 v st M Q => wA (show ins 172 19 = some (.iload_n 2, 1) by decide +kernel) rfl
set_option maxRecDepth 100000 in
theorem r_172_20 : ∀ (d : Nat) (l0 l1 l2 : Option Value) (v : Int32) (st : List Value) (M : Mem) (Q : Outcome → Mem → Prop), Wp d 172 20 [l0, l1, l2, some (.int v)] st M Q = Wp d 172 21 [l0, l1, l2, some (.int v)] (.int v :: st) M Q := fun d l0 l1 l2 v st M Q => wA (show ins 172 20 = some (.iload_n 3, 1) by decide +kernel) rfl
set_option maxRecDepth 100000 in
theorem r_172_21 : ∀ (d : Nat) (ls : Lc) (a b : Int) (st : List Value) (M : Mem) (Q : Outcome → Mem → Prop), Wp d 172 21 ls (.int (I b) :: .int (I a) :: st) M Q = Wp d 172 22 ls (.int (I (a + b)) :: st) M Q := fun d ls a b st M Q => w_iadd (show ins 172 21 = some (.iadd, 1) by decide +kernel)
set_option maxRecDepth 100000 in
theorem r_172_22 : ∀ (d : Nat) (ls : Lc) (a : Nat) (j : Int32) (st : List Value) (M : Mem) (Q : Outcome → Mem → Prop), Wp d 172 22 ls (.int j :: .ref a :: st) M Q = ((((kX M a).1 = 0 ∨ (kX M a).1 = 8) ∧ inB j (kX M a).2 = true) ∧ Wp d 172 23 ls (.int (mA M a j.toNatClampNeg) :: st) M Q) := fun d ls a j st M Q => w_iaload (show ins 172 22 = some (.iaload, 1) by decide +kernel)
set_option maxRecDepth 100000 in
theorem r_172_23 : ∀ (d : Nat) (l0 l2 l3 : Option Value) (v : Int32) (st : List Value) (M : Mem) (Q : Outcome → Mem → Prop), Wp d 172 23 [l0, some (.int v), l2, l3] st M Q = Wp d 172 24 [l0, some (.int v), l2, l3] (.int v :: st) M Q := fun d l0 l2 l3 v st M Q => wA (show ins 172 23 = some (.iload_n 1, 1) by decide +kernel) rfl
set_option maxRecDepth 100000 in
theorem r_172_24 : ∀ (d : Nat) (ls : Lc) (a b : Int32) (st : List Value) (M : Mem) (Q : Outcome → Mem → Prop), Wp d 172 24 ls (.int b :: .int a :: st) M Q = Br (a = b) d 172 33 27 ls st M Q := fun d ls a b st M Q => w_icmp (show ins 172 24 = some (.if_icmp .eq 9, 3) by decide +kernel) rfl rfl
set_option maxRecDepth 100000 in
theorem r_172_27 : ∀ (d : Nat) (l0 l1 l2 : Option Value) (z : Int) (st : List Value) (M : Mem) (Q : Outcome → Mem → Prop), (lo l2 = false) → Wp d 172 27 [l0, l1, l2, some (.int (I z))] st M Q = Wp d 172 30 [l0, l1, l2, some (.int (I (z + 1)))] st M Q := fun d l0 l1 l2 z st M Q hl => w_iinc (show ins 172 27 = some (.iinc 3 1, 3) by decide +kernel) rfl (st1_S rfl rfl hl)
set_option maxRecDepth 100000 in
theorem r_172_30 : ∀ (d : Nat) (ls : Lc) (st : List Value) (M : Mem) (Q : Outcome → Mem → Prop), Wp d 172 30 ls st M Q = Wp d 172 15 ls st M Q := fun d ls st M Q => w_goto (show ins 172 30 = some (.goto (-15), 3) by decide +kernel) rfl
set_option maxRecDepth 100000 in
theorem r_172_33 : ∀ (d : Nat) (l0 l1 l2 : Option Value) (v : Int32) (st : List Value) (M : Mem) (Q : Outcome → Mem → Prop), Wp d 172 33 [l0, l1, l2, some (.int v)] st M Q = Wp d 172 34 [l0, l1, l2, some (.int v)] (.int v :: st) M Q := fun d l0 l1 l2 v st M Q => wA (show ins 172 33 = some (.iload_n 3, 1) by decide +kernel) rfl
set_option maxRecDepth 100000 in
theorem r_172_34 : ∀ (d : Nat) (ls : Lc) (v : Int32) (M : Mem) (Q : Outcome → Mem → Prop), Wp d 172 34 ls [.int v] M Q = Q (.returned (some (.int v))) M := fun d ls v M Q => w_ireturn (show ins 172 34 = some (.ireturn, 1) by decide +kernel) (by decide +kernel)
set_option maxRecDepth 100000 in
theorem w_172_15 : (type_of% r_172_15) := r_172_15
set_option maxRecDepth 100000 in
theorem W_172 : (type_of% r_172_0) ∧ (type_of% r_172_3) ∧ (type_of% r_172_5) ∧ (type_of% r_172_6) ∧ (type_of% r_172_7) ∧ (type_of% r_172_10) ∧ (type_of% r_172_11) ∧ (type_of% r_172_12) ∧ (type_of% r_172_13) ∧ (type_of% r_172_14) ∧ (type_of% r_172_16) ∧ (type_of% r_172_19) ∧ (type_of% r_172_20) ∧ (type_of% r_172_21) ∧ (type_of% r_172_22) ∧ (type_of% r_172_23) ∧ (type_of% r_172_24) ∧ (type_of% r_172_27) ∧ (type_of% r_172_30) ∧ (type_of% r_172_33) ∧ (type_of% r_172_34) := ⟨r_172_0, r_172_3, r_172_5, r_172_6, r_172_7, r_172_10, r_172_11, r_172_12, r_172_13, r_172_14, r_172_16, r_172_19, r_172_20, r_172_21, r_172_22, r_172_23, r_172_24, r_172_27, r_172_30, r_172_33, r_172_34⟩
set_option maxRecDepth 100000 in
theorem ca_172 {d y pc : Nat} {ls : Lc} {a : Nat} {z0 : Int32} {r : List Value} {M : Mem} {Q : Outcome → Mem → Prop} (hd : 0 < d) (hw : Wp (d - 1) 172 0 [some (.ref a), some (.int z0), none, none] [] M (Cq d y pc ls r Q)) : Ca d y pc ls 172 [.ref a, .int z0] r M Q := ca_of (mq_get (by decide)) (by rfl) hd hw
/-! 173 PackedTreeModel.used(I)I; loop heads [4] -/
set_option maxRecDepth 100000 in
theorem r_173_0 : ∀ (d : Nat) (ls : Lc) (st : List Value) (M : Mem) (Q : Outcome → Mem → Prop), Wp d 173 0 ls st M Q = Wp d 173 1 ls (.int (I 0) :: st) M Q := fun d ls st M Q => w_iconst (show ins 173 0 = some (.iconst 0, 1) by decide +kernel)
set_option maxRecDepth 100000 in
theorem r_173_1 : ∀ (d : Nat) (l0 l1 l2 l3 : Option Value) (v : Int32) (st : List Value) (M : Mem) (Q : Outcome → Mem → Prop), (lo l1 = false) → Wp d 173 1 [l0, l1, l2, l3] (.int v :: st) M Q = Wp d 173 2 [l0, l1, some (.int v), l3] st M Q := fun d l0 l1 l2 l3 v st M Q hl => w_istore_n (show ins 173 1 = some (.istore_n 2, 1) by decide +kernel) (st1_S rfl rfl hl)
set_option maxRecDepth 100000 in
theorem r_173_2 : ∀ (d : Nat) (ls : Lc) (st : List Value) (M : Mem) (Q : Outcome → Mem → Prop), Wp d 173 2 ls st M Q = Wp d 173 3 ls (.int (I 0) :: st) M Q := fun d ls st M Q => w_iconst (show ins 173 2 = some (.iconst 0, 1) by decide +kernel)
set_option maxRecDepth 100000 in
theorem r_173_3 : ∀ (d : Nat) (l0 l1 l2 l3 : Option Value) (v : Int32) (st : List Value) (M : Mem) (Q : Outcome → Mem → Prop), (lo l2 = false) → Wp d 173 3 [l0, l1, l2, l3] (.int v :: st) M Q = Wp d 173 4 [l0, l1, l2, some (.int v)] st M Q := fun d l0 l1 l2 l3 v st M Q hl => w_istore_n (show ins 173 3 = some (.istore_n 3, 1) by decide +kernel) (st1_S rfl rfl hl)
set_option maxRecDepth 100000 in
theorem r_173_4 : ∀ (d : Nat) (l0 l1 l2 : Option Value) (v : Int32) (st : List Value) (M : Mem) (Q : Outcome → Mem → Prop), Wp d 173 4 [l0, l1, l2, some (.int v)] st M Q = Wp d 173 5 [l0, l1, l2, some (.int v)] (.int v :: st) M Q := fun d l0 l1 l2 v st M Q => wA (show ins 173 4 = some (.iload_n 3, 1) by decide +kernel) rfl
set_option maxRecDepth 100000 in
theorem r_173_5 : ∀ (d : Nat) (l1 l2 l3 : Option Value) (v : Nat) (st : List Value) (M : Mem) (Q : Outcome → Mem → Prop), Wp d 173 5 [some (.ref v), l1, l2, l3] st M Q = Wp d 173 6 [some (.ref v), l1, l2, l3] (.ref v :: st) M Q := fun d l1 l2 l3 v st M Q => wA (show ins 173 5 = some (.aload_n 0, 1) by decide +kernel) rfl
set_option maxRecDepth 100000 in
theorem r_173_6 : ∀ (d : Nat) (ls : Lc) (a : Nat) (st : List Value) (M : Mem) (Q : Outcome → Mem → Prop), Wp d 173 6 ls (.ref a :: st) M Q = (fk 53 (kO M a) = true ∧ Wp d 173 9 ls (va_rf (mR M 53 a) :: st) M Q) := fun d ls a st M Q => w_getR (show ins 173 6 = some (.getfield 7, 3) by decide +kernel) (show fRes (mC 173) 7 = some (53, 8, false) by decide +kernel) (by decide +kernel)
set_option maxRecDepth 100000 in
theorem r_173_9 : ∀ (d : Nat) (ls : Lc) (st : List Value) (M : Mem) (Q : Outcome → Mem → Prop), Wp d 173 9 ls st M Q = Wp d 173 12 ls (.int (I 3852) :: st) M Q := fun d ls st M Q => w_sipush (show ins 173 9 = some (.sipush 3852, 3) by decide +kernel) (by decide)
set_option maxRecDepth 100000 in
theorem r_173_12 : ∀ (d : Nat) (l0 l2 l3 : Option Value) (v : Int32) (st : List Value) (M : Mem) (Q : Outcome → Mem → Prop), Wp d 173 12 [l0, some (.int v), l2, l3] st M Q = Wp d 173 13 [l0, some (.int v), l2, l3] (.int v :: st) M Q := fun d l0 l2 l3 v st M Q => wA (show ins 173 12 = some (.iload_n 1, 1) by decide +kernel) rfl
set_option maxRecDepth 100000 in
theorem r_173_13 : ∀ (d : Nat) (ls : Lc) (a b : Int) (st : List Value) (M : Mem) (Q : Outcome → Mem → Prop), Wp d 173 13 ls (.int (I b) :: .int (I a) :: st) M Q = Wp d 173 14 ls (.int (I (a + b)) :: st) M Q := fun d ls a b st M Q => w_iadd (show ins 173 13 = some (.iadd, 1) by decide +kernel)
set_option maxRecDepth 100000 in
theorem r_173_14 : ∀ (d : Nat) (ls : Lc) (a : Nat) (j : Int32) (st : List Value) (M : Mem) (Q : Outcome → Mem → Prop), Wp d 173 14 ls (.int j :: .ref a :: st) M Q = ((((kX M a).1 = 0 ∨ (kX M a).1 = 8) ∧ inB j (kX M a).2 = true) ∧ Wp d 173 15 ls (.int (mA M a j.toNatClampNeg) :: st) M Q) := fun d ls a j st M Q => w_iaload (show ins 173 14 = some (.iaload, 1) by decide +kernel)
set_option maxRecDepth 100000 in
theorem r_173_15 : ∀ (d : Nat) (ls : Lc) (a b : Int32) (st : List Value) (M : Mem) (Q : Outcome → Mem → Prop), Wp d 173 15 ls (.int b :: .int a :: st) M Q = Br (b ≤ a) d 173 45 18 ls st M Q := fun d ls a b st M Q => w_icmp (show ins 173 15 = some (.if_icmp .ge 30, 3) by decide +kernel) rfl rfl
set_option maxRecDepth 100000 in
theorem r_173_18 : ∀ (d : Nat) (l0 l1 l3 : Option Value) (v : Int32) (st : List Value) (M : Mem) (Q : Outcome → Mem → Prop), Wp d 173 18 [l0, l1, some (.int v), l3] st M Q = Wp d 173 19 [l0, l1, some (.int v), l3] (.int v :: st) M Q := fun d l0 l1 l3 v st M Q => wA (show ins 173 18 = some (.iload_n 2, 1) by decide +kernel) rfl
set_option maxRecDepth 100000 in
theorem r_173_19 : ∀ (d : Nat) (ls : Lc) (st : List Value) (M : Mem) (Q : Outcome → Mem → Prop), Wp d 173 19 ls st M Q = Wp d 173 21 ls (.int (I 8) :: st) M Q := fun d ls st M Q => w_bipush (show ins 173 19 = some (.bipush 8, 2) by decide +kernel) (by decide)
set_option maxRecDepth 100000 in
theorem r_173_21 : ∀ (d : Nat) (l1 l2 l3 : Option Value) (v : Nat) (st : List Value) (M : Mem) (Q : Outcome → Mem → Prop), Wp d 173 21 [some (.ref v), l1, l2, l3] st M Q = Wp d 173 22 [some (.ref v), l1, l2, l3] (.ref v :: st) M Q := fun d l1 l2 l3 v st M Q => wA (show ins 173 21 = some (.aload_n 0, 1) by decide +kernel) rfl
set_option maxRecDepth 100000 in
theorem r_173_22 : ∀ (d : Nat) (ls : Lc) (a : Nat) (st : List Value) (M : Mem) (Q : Outcome → Mem → Prop), Wp d 173 22 ls (.ref a :: st) M Q = (fk 53 (kO M a) = true ∧ Wp d 173 25 ls (va_rf (mR M 53 a) :: st) M Q) := fun d ls a st M Q => w_getR (show ins 173 22 = some (.getfield 7, 3) by decide +kernel) (show fRes (mC 173) 7 = some (53, 8, false) by decide +kernel) (by decide +kernel)
set_option maxRecDepth 100000 in
theorem r_173_25 : ∀ (d : Nat) (ls : Lc) (st : List Value) (M : Mem) (Q : Outcome → Mem → Prop), Wp d 173 25 ls st M Q = Wp d 173 28 ls (.int (I 9228) :: st) M Q := fun d ls st M Q => w_sipush (show ins 173 25 = some (.sipush 9228, 3) by decide +kernel) (by decide)
set_option maxRecDepth 100000 in
theorem r_173_28 : ∀ (d : Nat) (ls : Lc) (st : List Value) (M : Mem) (Q : Outcome → Mem → Prop), Wp d 173 28 ls st M Q = Wp d 173 30 ls (.int (I 16) :: st) M Q := fun d ls st M Q => w_bipush (show ins 173 28 = some (.bipush 16, 2) by decide +kernel) (by decide)
set_option maxRecDepth 100000 in
theorem r_173_30 : ∀ (d : Nat) (l0 l2 l3 : Option Value) (v : Int32) (st : List Value) (M : Mem) (Q : Outcome → Mem → Prop), Wp d 173 30 [l0, some (.int v), l2, l3] st M Q = Wp d 173 31 [l0, some (.int v), l2, l3] (.int v :: st) M Q := fun d l0 l2 l3 v st M Q => wA (show ins 173 30 = some (.iload_n 1, 1) by decide +kernel) rfl
set_option maxRecDepth 100000 in
theorem r_173_31 : ∀ (d : Nat) (ls : Lc) (a b : Int) (st : List Value) (M : Mem) (Q : Outcome → Mem → Prop), Wp d 173 31 ls (.int (I b) :: .int (I a) :: st) M Q = Wp d 173 32 ls (.int (I (a * b)) :: st) M Q := fun d ls a b st M Q => w_imul (show ins 173 31 = some (.imul, 1) by decide +kernel)
set_option maxRecDepth 100000 in
theorem r_173_32 : ∀ (d : Nat) (ls : Lc) (a b : Int) (st : List Value) (M : Mem) (Q : Outcome → Mem → Prop), Wp d 173 32 ls (.int (I b) :: .int (I a) :: st) M Q = Wp d 173 33 ls (.int (I (a + b)) :: st) M Q := fun d ls a b st M Q => w_iadd (show ins 173 32 = some (.iadd, 1) by decide +kernel)
set_option maxRecDepth 100000 in
theorem r_173_33 : ∀ (d : Nat) (l0 l1 l2 : Option Value) (v : Int32) (st : List Value) (M : Mem) (Q : Outcome → Mem → Prop), Wp d 173 33 [l0, l1, l2, some (.int v)] st M Q = Wp d 173 34 [l0, l1, l2, some (.int v)] (.int v :: st) M Q := fun d l0 l1 l2 v st M Q => wA (show ins 173 33 = some (.iload_n 3, 1) by decide +kernel) rfl
set_option maxRecDepth 100000 in
theorem r_173_34 : ∀ (d : Nat) (ls : Lc) (a b : Int) (st : List Value) (M : Mem) (Q : Outcome → Mem → Prop), Wp d 173 34 ls (.int (I b) :: .int (I a) :: st) M Q = Wp d 173 35 ls (.int (I (a + b)) :: st) M Q := fun d ls a b st M Q => w_iadd (show ins 173 34 = some (.iadd, 1) by decide +kernel)
set_option maxRecDepth 100000 in
theorem r_173_35 : ∀ (d : Nat) (ls : Lc) (a : Nat) (j : Int32) (st : List Value) (M : Mem) (Q : Outcome → Mem → Prop), Wp d 173 35 ls (.int j :: .ref a :: st) M Q = ((((kX M a).1 = 0 ∨ (kX M a).1 = 8) ∧ inB j (kX M a).2 = true) ∧ Wp d 173 36 ls (.int (mA M a j.toNatClampNeg) :: st) M Q) := fun d ls a j st M Q => w_iaload (show ins 173 35 = some (.iaload, 1) by decide +kernel)
set_option maxRecDepth 100000 in
theorem r_173_36 : ∀ (d : Nat) (ls : Lc) (a b : Int) (st : List Value) (M : Mem) (Q : Outcome → Mem → Prop), Wp d 173 36 ls (.int (I b) :: .int (I a) :: st) M Q = Wp d 173 37 ls (.int (I (a + b)) :: st) M Q := fun d ls a b st M Q => w_iadd (show ins 173 36 = some (.iadd, 1) by decide +kernel)
set_option maxRecDepth 100000 in
theorem r_173_37 : ∀ (d : Nat) (ls : Lc) (a b : Int) (st : List Value) (M : Mem) (Q : Outcome → Mem → Prop), Wp d 173 37 ls (.int (I b) :: .int (I a) :: st) M Q = Wp d 173 38 ls (.int (I (a + b)) :: st) M Q := fun d ls a b st M Q => w_iadd (show ins 173 37 = some (.iadd, 1) by decide +kernel)
set_option maxRecDepth 100000 in
theorem r_173_38 : ∀ (d : Nat) (l0 l1 l2 l3 : Option Value) (v : Int32) (st : List Value) (M : Mem) (Q : Outcome → Mem → Prop), (lo l1 = false) → Wp d 173 38 [l0, l1, l2, l3] (.int v :: st) M Q = Wp d 173 39 [l0, l1, some (.int v), l3] st M Q := fun d l0 l1 l2 l3 v st M Q hl => w_istore_n (show ins 173 38 = some (.istore_n 2, 1) by decide +kernel) (st1_S rfl rfl hl)
set_option maxRecDepth 100000 in
theorem r_173_39 : ∀ (d : Nat) (l0 l1 l2 : Option Value) (z : Int) (st : List Value) (M : Mem) (Q : Outcome → Mem → Prop), (lo l2 = false) → Wp d 173 39 [l0, l1, l2, some (.int (I z))] st M Q = Wp d 173 42 [l0, l1, l2, some (.int (I (z + 1)))] st M Q := fun d l0 l1 l2 z st M Q hl => w_iinc (show ins 173 39 = some (.iinc 3 1, 3) by decide +kernel) rfl (st1_S rfl rfl hl)
set_option maxRecDepth 100000 in
theorem r_173_42 : ∀ (d : Nat) (ls : Lc) (st : List Value) (M : Mem) (Q : Outcome → Mem → Prop), Wp d 173 42 ls st M Q = Wp d 173 4 ls st M Q := fun d ls st M Q => w_goto (show ins 173 42 = some (.goto (-38), 3) by decide +kernel) rfl
set_option maxRecDepth 100000 in
theorem r_173_45 : ∀ (d : Nat) (l0 l1 l3 : Option Value) (v : Int32) (st : List Value) (M : Mem) (Q : Outcome → Mem → Prop), Wp d 173 45 [l0, l1, some (.int v), l3] st M Q = Wp d 173 46 [l0, l1, some (.int v), l3] (.int v :: st) M Q := fun d l0 l1 l3 v st M Q => wA (show ins 173 45 = some (.iload_n 2, 1) by decide +kernel) rfl
set_option maxRecDepth 100000 in
theorem r_173_46 : ∀ (d : Nat) (ls : Lc) (v : Int32) (M : Mem) (Q : Outcome → Mem → Prop), Wp d 173 46 ls [.int v] M Q = Q (.returned (some (.int v))) M := fun d ls v M Q => w_ireturn (show ins 173 46 = some (.ireturn, 1) by decide +kernel) (by decide +kernel)
set_option maxRecDepth 100000 in
theorem w_173_4 : (type_of% r_173_4) := r_173_4
set_option maxRecDepth 100000 in
theorem W_173 : (type_of% r_173_0) ∧ (type_of% r_173_1) ∧ (type_of% r_173_2) ∧ (type_of% r_173_3) ∧ (type_of% r_173_5) ∧ (type_of% r_173_6) ∧ (type_of% r_173_9) ∧ (type_of% r_173_12) ∧ (type_of% r_173_13) ∧ (type_of% r_173_14) ∧ (type_of% r_173_15) ∧ (type_of% r_173_18) ∧ (type_of% r_173_19) ∧ (type_of% r_173_21) ∧ (type_of% r_173_22) ∧ (type_of% r_173_25) ∧ (type_of% r_173_28) ∧ (type_of% r_173_30) ∧ (type_of% r_173_31) ∧ (type_of% r_173_32) ∧ (type_of% r_173_33) ∧ (type_of% r_173_34) ∧ (type_of% r_173_35) ∧ (type_of% r_173_36) ∧ (type_of% r_173_37) ∧ (type_of% r_173_38) ∧ (type_of% r_173_39) ∧ (type_of% r_173_42) ∧ (type_of% r_173_45) ∧ (type_of% r_173_46) := ⟨r_173_0, r_173_1, r_173_2, r_173_3, r_173_5, r_173_6, r_173_9, r_173_12, r_173_13, r_173_14, r_173_15, r_173_18, r_173_19, r_173_21, r_173_22, r_173_25, r_173_28, r_173_30, r_173_31, r_173_32, r_173_33, r_173_34, r_173_35, r_173_36, r_173_37, r_173_38, r_173_39, r_173_42, r_173_45, r_173_46⟩
set_option maxRecDepth 100000 in
theorem ca_173 {d y pc : Nat} {ls : Lc} {a : Nat} {z0 : Int32} {r : List Value} {M : Mem} {Q : Outcome → Mem → Prop} (hd : 0 < d) (hw : Wp (d - 1) 173 0 [some (.ref a), some (.int z0), none, none] [] M (Cq d y pc ls r Q)) : Ca d y pc ls 173 [.ref a, .int z0] r M Q := ca_of (mq_get (by decide)) (by rfl) hd hw
/-! 174 PackedTreeModel.cost(II)I; loop heads [] -/
set_option maxRecDepth 100000 in
theorem r_174_0 : ∀ (d : Nat) (ls : Lc) (st : List Value) (M : Mem) (Q : Outcome → Mem → Prop), Wp d 174 0 ls st M Q = Wp d 174 2 ls (.int (I 8) :: st) M Q := fun d ls st M Q => w_bipush (show ins 174 0 = some (.bipush 8, 2) by decide +kernel) (by decide)
set_option maxRecDepth 100000 in
theorem r_174_2 : ∀ (d : Nat) (l1 l2 : Option Value) (v : Nat) (st : List Value) (M : Mem) (Q : Outcome → Mem → Prop), Wp d 174 2 [some (.ref v), l1, l2] st M Q = Wp d 174 3 [some (.ref v), l1, l2] (.ref v :: st) M Q := fun d l1 l2 v st M Q => wA (show ins 174 2 = some (.aload_n 0, 1) by decide +kernel) rfl
set_option maxRecDepth 100000 in
theorem r_174_3 : ∀ (d : Nat) (ls : Lc) (a : Nat) (st : List Value) (M : Mem) (Q : Outcome → Mem → Prop), Wp d 174 3 ls (.ref a :: st) M Q = (fk 53 (kO M a) = true ∧ Wp d 174 6 ls (va_rf (mR M 53 a) :: st) M Q) := fun d ls a st M Q => w_getR (show ins 174 3 = some (.getfield 7, 3) by decide +kernel) (show fRes (mC 174) 7 = some (53, 8, false) by decide +kernel) (by decide +kernel)
set_option maxRecDepth 100000 in
theorem r_174_6 : ∀ (d : Nat) (ls : Lc) (st : List Value) (M : Mem) (Q : Outcome → Mem → Prop), Wp d 174 6 ls st M Q = Wp d 174 9 ls (.int (I 9228) :: st) M Q := fun d ls st M Q => w_sipush (show ins 174 6 = some (.sipush 9228, 3) by decide +kernel) (by decide)
set_option maxRecDepth 100000 in
theorem r_174_9 : ∀ (d : Nat) (ls : Lc) (st : List Value) (M : Mem) (Q : Outcome → Mem → Prop), Wp d 174 9 ls st M Q = Wp d 174 11 ls (.int (I 16) :: st) M Q := fun d ls st M Q => w_bipush (show ins 174 9 = some (.bipush 16, 2) by decide +kernel) (by decide)
set_option maxRecDepth 100000 in
theorem r_174_11 : ∀ (d : Nat) (l0 l2 : Option Value) (v : Int32) (st : List Value) (M : Mem) (Q : Outcome → Mem → Prop), Wp d 174 11 [l0, some (.int v), l2] st M Q = Wp d 174 12 [l0, some (.int v), l2] (.int v :: st) M Q := fun d l0 l2 v st M Q => wA (show ins 174 11 = some (.iload_n 1, 1) by decide +kernel) rfl
set_option maxRecDepth 100000 in
theorem r_174_12 : ∀ (d : Nat) (ls : Lc) (a b : Int) (st : List Value) (M : Mem) (Q : Outcome → Mem → Prop), Wp d 174 12 ls (.int (I b) :: .int (I a) :: st) M Q = Wp d 174 13 ls (.int (I (a * b)) :: st) M Q := fun d ls a b st M Q => w_imul (show ins 174 12 = some (.imul, 1) by decide +kernel)
set_option maxRecDepth 100000 in
theorem r_174_13 : ∀ (d : Nat) (ls : Lc) (a b : Int) (st : List Value) (M : Mem) (Q : Outcome → Mem → Prop), Wp d 174 13 ls (.int (I b) :: .int (I a) :: st) M Q = Wp d 174 14 ls (.int (I (a + b)) :: st) M Q := fun d ls a b st M Q => w_iadd (show ins 174 13 = some (.iadd, 1) by decide +kernel)
set_option maxRecDepth 100000 in
theorem r_174_14 : ∀ (d : Nat) (l0 l1 : Option Value) (v : Int32) (st : List Value) (M : Mem) (Q : Outcome → Mem → Prop), Wp d 174 14 [l0, l1, some (.int v)] st M Q = Wp d 174 15 [l0, l1, some (.int v)] (.int v :: st) M Q := fun d l0 l1 v st M Q => wA (show ins 174 14 = some (.iload_n 2, 1) by decide +kernel) rfl
set_option maxRecDepth 100000 in
theorem r_174_15 : ∀ (d : Nat) (ls : Lc) (a b : Int) (st : List Value) (M : Mem) (Q : Outcome → Mem → Prop), Wp d 174 15 ls (.int (I b) :: .int (I a) :: st) M Q = Wp d 174 16 ls (.int (I (a + b)) :: st) M Q := fun d ls a b st M Q => w_iadd (show ins 174 15 = some (.iadd, 1) by decide +kernel)
set_option maxRecDepth 100000 in
theorem r_174_16 : ∀ (d : Nat) (ls : Lc) (a : Nat) (j : Int32) (st : List Value) (M : Mem) (Q : Outcome → Mem → Prop), Wp d 174 16 ls (.int j :: .ref a :: st) M Q = ((((kX M a).1 = 0 ∨ (kX M a).1 = 8) ∧ inB j (kX M a).2 = true) ∧ Wp d 174 17 ls (.int (mA M a j.toNatClampNeg) :: st) M Q) := fun d ls a j st M Q => w_iaload (show ins 174 16 = some (.iaload, 1) by decide +kernel)
set_option maxRecDepth 100000 in
theorem r_174_17 : ∀ (d : Nat) (ls : Lc) (a b : Int) (st : List Value) (M : Mem) (Q : Outcome → Mem → Prop), Wp d 174 17 ls (.int (I b) :: .int (I a) :: st) M Q = Wp d 174 18 ls (.int (I (a + b)) :: st) M Q := fun d ls a b st M Q => w_iadd (show ins 174 17 = some (.iadd, 1) by decide +kernel)
set_option maxRecDepth 100000 in
theorem r_174_18 : ∀ (d : Nat) (ls : Lc) (v : Int32) (M : Mem) (Q : Outcome → Mem → Prop), Wp d 174 18 ls [.int v] M Q = Q (.returned (some (.int v))) M := fun d ls v M Q => w_ireturn (show ins 174 18 = some (.ireturn, 1) by decide +kernel) (by decide +kernel)
set_option maxRecDepth 100000 in
theorem W_174 : (type_of% r_174_0) ∧ (type_of% r_174_2) ∧ (type_of% r_174_3) ∧ (type_of% r_174_6) ∧ (type_of% r_174_9) ∧ (type_of% r_174_11) ∧ (type_of% r_174_12) ∧ (type_of% r_174_13) ∧ (type_of% r_174_14) ∧ (type_of% r_174_15) ∧ (type_of% r_174_16) ∧ (type_of% r_174_17) ∧ (type_of% r_174_18) := ⟨r_174_0, r_174_2, r_174_3, r_174_6, r_174_9, r_174_11, r_174_12, r_174_13, r_174_14, r_174_15, r_174_16, r_174_17, r_174_18⟩
set_option maxRecDepth 100000 in
theorem ca_174 {d y pc : Nat} {ls : Lc} {a : Nat} {z0 : Int32} {z1 : Int32} {r : List Value} {M : Mem} {Q : Outcome → Mem → Prop} (hd : 0 < d) (hw : Wp (d - 1) 174 0 [some (.ref a), some (.int z0), some (.int z1)] [] M (Cq d y pc ls r Q)) : Ca d y pc ls 174 [.ref a, .int z0, .int z1] r M Q := ca_of (mq_get (by decide)) (by rfl) hd hw
/-! 175 PackedTreeModel.carry(IIII)V; loop heads [12] -/
set_option maxRecDepth 100000 in
theorem r_175_0 : ∀ (d : Nat) (l1 l2 l3 l4 l5 : Option Value) (v : Nat) (st : List Value) (M : Mem) (Q : Outcome → Mem → Prop), Wp d 175 0 [some (.ref v), l1, l2, l3, l4, l5] st M Q = Wp d 175 1 [some (.ref v), l1, l2, l3, l4, l5] (.ref v :: st) M Q := fun d l1 l2 l3 l4 l5 v st M Q => wA (show ins 175 0 = some (.aload_n 0, 1) by decide +kernel) rfl
set_option maxRecDepth 100000 in
theorem r_175_1 : ∀ (d : Nat) (ls : Lc) (a : Nat) (st : List Value) (M : Mem) (Q : Outcome → Mem → Prop), Wp d 175 1 ls (.ref a :: st) M Q = (fk 53 (kO M a) = true ∧ Wp d 175 4 ls (va_rf (mR M 53 a) :: st) M Q) := fun d ls a st M Q => w_getR (show ins 175 1 = some (.getfield 7, 3) by decide +kernel) (show fRes (mC 175) 7 = some (53, 8, false) by decide +kernel) (by decide +kernel)
set_option maxRecDepth 100000 in
theorem r_175_4 : ∀ (d : Nat) (ls : Lc) (st : List Value) (M : Mem) (Q : Outcome → Mem → Prop), Wp d 175 4 ls st M Q = Wp d 175 7 ls (.int (I 3852) :: st) M Q := fun d ls st M Q => w_sipush (show ins 175 4 = some (.sipush 3852, 3) by decide +kernel) (by decide)
set_option maxRecDepth 100000 in
theorem r_175_7 : ∀ (d : Nat) (l0 l1 l2 l4 l5 : Option Value) (v : Int32) (st : List Value) (M : Mem) (Q : Outcome → Mem → Prop), Wp d 175 7 [l0, l1, l2, some (.int v), l4, l5] st M Q = Wp d 175 8 [l0, l1, l2, some (.int v), l4, l5] (.int v :: st) M Q := fun d l0 l1 l2 l4 l5 v st M Q => wA (show ins 175 7 = some (.iload_n 3, 1) by decide +kernel) rfl
set_option maxRecDepth 100000 in
theorem r_175_8 : ∀ (d : Nat) (ls : Lc) (a b : Int) (st : List Value) (M : Mem) (Q : Outcome → Mem → Prop), Wp d 175 8 ls (.int (I b) :: .int (I a) :: st) M Q = Wp d 175 9 ls (.int (I (a + b)) :: st) M Q := fun d ls a b st M Q => w_iadd (show ins 175 8 = some (.iadd, 1) by decide +kernel)
set_option maxRecDepth 100000 in
theorem r_175_9 : ∀ (d : Nat) (ls : Lc) (a : Nat) (j : Int32) (st : List Value) (M : Mem) (Q : Outcome → Mem → Prop), Wp d 175 9 ls (.int j :: .ref a :: st) M Q = ((((kX M a).1 = 0 ∨ (kX M a).1 = 8) ∧ inB j (kX M a).2 = true) ∧ Wp d 175 10 ls (.int (mA M a j.toNatClampNeg) :: st) M Q) := fun d ls a j st M Q => w_iaload (show ins 175 9 = some (.iaload, 1) by decide +kernel)
set_option maxRecDepth 100000 in
theorem r_175_10 : ∀ (d : Nat) (l0 l1 l2 l3 l4 l5 : Option Value) (v : Int32) (st : List Value) (M : Mem) (Q : Outcome → Mem → Prop), (lo l4 = false) → Wp d 175 10 [l0, l1, l2, l3, l4, l5] (.int v :: st) M Q = Wp d 175 12 [l0, l1, l2, l3, l4, some (.int v)] st M Q := fun d l0 l1 l2 l3 l4 l5 v st M Q hl => w_istore (show ins 175 10 = some (.istore 5, 2) by decide +kernel) (st1_S rfl rfl hl)
set_option maxRecDepth 100000 in
theorem r_175_12 : ∀ (d : Nat) (l0 l1 l2 l3 l4 : Option Value) (v : Int32) (st : List Value) (M : Mem) (Q : Outcome → Mem → Prop), Wp d 175 12 [l0, l1, l2, l3, l4, some (.int v)] st M Q = Wp d 175 14 [l0, l1, l2, l3, l4, some (.int v)] (.int v :: st) M Q := fun d l0 l1 l2 l3 l4 v st M Q => wA (show ins 175 12 = some (.iload 5, 2) by decide +kernel) rfl
set_option maxRecDepth 100000 in
theorem r_175_14 : ∀ (d : Nat) (l0 l1 l2 l3 l5 : Option Value) (v : Int32) (st : List Value) (M : Mem) (Q : Outcome → Mem → Prop), Wp d 175 14 [l0, l1, l2, l3, some (.int v), l5] st M Q = Wp d 175 16 [l0, l1, l2, l3, some (.int v), l5] (.int v :: st) M Q := fun d l0 l1 l2 l3 l5 v st M Q => wA (show ins 175 14 = some (.iload 4, 2) by decide +kernel) rfl
set_option maxRecDepth 100000 in
theorem r_175_16 : ∀ (d : Nat) (ls : Lc) (a b : Int32) (st : List Value) (M : Mem) (Q : Outcome → Mem → Prop), Wp d 175 16 ls (.int b :: .int a :: st) M Q = Br (a ≤ b) d 175 45 19 ls st M Q := fun d ls a b st M Q => w_icmp (show ins 175 16 = some (.if_icmp .le 29, 3) by decide +kernel) rfl rfl
set_option maxRecDepth 100000 in
theorem r_175_19 : ∀ (d : Nat) (l1 l2 l3 l4 l5 : Option Value) (v : Nat) (st : List Value) (M : Mem) (Q : Outcome → Mem → Prop), Wp d 175 19 [some (.ref v), l1, l2, l3, l4, l5] st M Q = Wp d 175 20 [some (.ref v), l1, l2, l3, l4, l5] (.ref v :: st) M Q := fun d l1 l2 l3 l4 l5 v st M Q => wA (show ins 175 19 = some (.aload_n 0, 1) by decide +kernel) rfl
set_option maxRecDepth 100000 in
theorem r_175_20 : ∀ (d : Nat) (ls : Lc) (st : List Value) (M : Mem) (Q : Outcome → Mem → Prop), Wp d 175 20 ls st M Q = Wp d 175 22 ls (.int (I 16) :: st) M Q := fun d ls st M Q => w_bipush (show ins 175 20 = some (.bipush 16, 2) by decide +kernel) (by decide)
set_option maxRecDepth 100000 in
theorem r_175_22 : ∀ (d : Nat) (l0 l1 l2 l4 l5 : Option Value) (v : Int32) (st : List Value) (M : Mem) (Q : Outcome → Mem → Prop), Wp d 175 22 [l0, l1, l2, some (.int v), l4, l5] st M Q = Wp d 175 23 [l0, l1, l2, some (.int v), l4, l5] (.int v :: st) M Q := fun d l0 l1 l2 l4 l5 v st M Q => wA (show ins 175 22 = some (.iload_n 3, 1) by decide +kernel) rfl
set_option maxRecDepth 100000 in
theorem r_175_23 : ∀ (d : Nat) (ls : Lc) (a b : Int) (st : List Value) (M : Mem) (Q : Outcome → Mem → Prop), Wp d 175 23 ls (.int (I b) :: .int (I a) :: st) M Q = Wp d 175 24 ls (.int (I (a * b)) :: st) M Q := fun d ls a b st M Q => w_imul (show ins 175 23 = some (.imul, 1) by decide +kernel)
set_option maxRecDepth 100000 in
theorem r_175_24 : ∀ (d : Nat) (l0 l1 l2 l3 l4 : Option Value) (v : Int32) (st : List Value) (M : Mem) (Q : Outcome → Mem → Prop), Wp d 175 24 [l0, l1, l2, l3, l4, some (.int v)] st M Q = Wp d 175 26 [l0, l1, l2, l3, l4, some (.int v)] (.int v :: st) M Q := fun d l0 l1 l2 l3 l4 v st M Q => wA (show ins 175 24 = some (.iload 5, 2) by decide +kernel) rfl
set_option maxRecDepth 100000 in
theorem r_175_26 : ∀ (d : Nat) (ls : Lc) (a b : Int) (st : List Value) (M : Mem) (Q : Outcome → Mem → Prop), Wp d 175 26 ls (.int (I b) :: .int (I a) :: st) M Q = Wp d 175 27 ls (.int (I (a + b)) :: st) M Q := fun d ls a b st M Q => w_iadd (show ins 175 26 = some (.iadd, 1) by decide +kernel)
set_option maxRecDepth 100000 in
theorem r_175_27 : ∀ (d : Nat) (ls : Lc) (st : List Value) (M : Mem) (Q : Outcome → Mem → Prop), Wp d 175 27 ls st M Q = Wp d 175 28 ls (.int (I 1) :: st) M Q := fun d ls st M Q => w_iconst (show ins 175 27 = some (.iconst 1, 1) by decide +kernel)
set_option maxRecDepth 100000 in
theorem r_175_28 : ∀ (d : Nat) (ls : Lc) (a b : Int) (st : List Value) (M : Mem) (Q : Outcome → Mem → Prop), Wp d 175 28 ls (.int (I b) :: .int (I a) :: st) M Q = Wp d 175 29 ls (.int (I (a - b)) :: st) M Q := fun d ls a b st M Q => w_isub (show ins 175 28 = some (.isub, 1) by decide +kernel)
set_option maxRecDepth 100000 in
theorem r_175_29 : ∀ (d : Nat) (ls : Lc) (st : List Value) (M : Mem) (Q : Outcome → Mem → Prop), Wp d 175 29 ls st M Q = Wp d 175 31 ls (.int (I 16) :: st) M Q := fun d ls st M Q => w_bipush (show ins 175 29 = some (.bipush 16, 2) by decide +kernel) (by decide)
set_option maxRecDepth 100000 in
theorem r_175_31 : ∀ (d : Nat) (l0 l1 l2 l4 l5 : Option Value) (v : Int32) (st : List Value) (M : Mem) (Q : Outcome → Mem → Prop), Wp d 175 31 [l0, l1, l2, some (.int v), l4, l5] st M Q = Wp d 175 32 [l0, l1, l2, some (.int v), l4, l5] (.int v :: st) M Q := fun d l0 l1 l2 l4 l5 v st M Q => wA (show ins 175 31 = some (.iload_n 3, 1) by decide +kernel) rfl
set_option maxRecDepth 100000 in
theorem r_175_32 : ∀ (d : Nat) (ls : Lc) (a b : Int) (st : List Value) (M : Mem) (Q : Outcome → Mem → Prop), Wp d 175 32 ls (.int (I b) :: .int (I a) :: st) M Q = Wp d 175 33 ls (.int (I (a * b)) :: st) M Q := fun d ls a b st M Q => w_imul (show ins 175 32 = some (.imul, 1) by decide +kernel)
set_option maxRecDepth 100000 in
theorem r_175_33 : ∀ (d : Nat) (l0 l1 l2 l3 l4 : Option Value) (v : Int32) (st : List Value) (M : Mem) (Q : Outcome → Mem → Prop), Wp d 175 33 [l0, l1, l2, l3, l4, some (.int v)] st M Q = Wp d 175 35 [l0, l1, l2, l3, l4, some (.int v)] (.int v :: st) M Q := fun d l0 l1 l2 l3 l4 v st M Q => wA (show ins 175 33 = some (.iload 5, 2) by decide +kernel) rfl
set_option maxRecDepth 100000 in
theorem r_175_35 : ∀ (d : Nat) (ls : Lc) (a b : Int) (st : List Value) (M : Mem) (Q : Outcome → Mem → Prop), Wp d 175 35 ls (.int (I b) :: .int (I a) :: st) M Q = Wp d 175 36 ls (.int (I (a + b)) :: st) M Q := fun d ls a b st M Q => w_iadd (show ins 175 35 = some (.iadd, 1) by decide +kernel)
set_option maxRecDepth 100000 in
theorem r_175_36 : ∀ (d : Nat) (ls : Lc) (v0 v1 : Value) (a : Nat) (st : List Value) (M : Mem) (Q : Outcome → Mem → Prop), (smallR st = true) → Wp d 175 36 ls (v1 :: v0 :: .ref a :: st) M Q = (kO M a = 8 ∧ Ca d 175 36 ls 168 (.ref a :: [v0, v1]) st M Q) := fun d ls v0 v1 a st M Q h0 => w_virt1 (as := [v0, v1]) (show ins 175 36 = some (.invokevirtual 91, 3) by decide +kernel) (show mRes (mC 175) 91 = some (3, 8, [(8, 168)]) by decide +kernel) (by decide +kernel) rfl (by decide +kernel) (by decide +kernel) h0
set_option maxRecDepth 100000 in
theorem r_175_39 : ∀ (d : Nat) (l0 l1 l2 l3 l4 : Option Value) (z : Int) (st : List Value) (M : Mem) (Q : Outcome → Mem → Prop), (lo l4 = false) → Wp d 175 39 [l0, l1, l2, l3, l4, some (.int (I z))] st M Q = Wp d 175 42 [l0, l1, l2, l3, l4, some (.int (I (z + (-1))))] st M Q := fun d l0 l1 l2 l3 l4 z st M Q hl => w_iinc (show ins 175 39 = some (.iinc 5 (-1), 3) by decide +kernel) rfl (st1_S rfl rfl hl)
set_option maxRecDepth 100000 in
theorem r_175_42 : ∀ (d : Nat) (ls : Lc) (st : List Value) (M : Mem) (Q : Outcome → Mem → Prop), Wp d 175 42 ls st M Q = Wp d 175 12 ls st M Q := fun d ls st M Q => w_goto (show ins 175 42 = some (.goto (-30), 3) by decide +kernel) rfl
set_option maxRecDepth 100000 in
theorem r_175_45 : ∀ (d : Nat) (l1 l2 l3 l4 l5 : Option Value) (v : Nat) (st : List Value) (M : Mem) (Q : Outcome → Mem → Prop), Wp d 175 45 [some (.ref v), l1, l2, l3, l4, l5] st M Q = Wp d 175 46 [some (.ref v), l1, l2, l3, l4, l5] (.ref v :: st) M Q := fun d l1 l2 l3 l4 l5 v st M Q => wA (show ins 175 45 = some (.aload_n 0, 1) by decide +kernel) rfl
set_option maxRecDepth 100000 in
theorem r_175_46 : ∀ (d : Nat) (ls : Lc) (st : List Value) (M : Mem) (Q : Outcome → Mem → Prop), Wp d 175 46 ls st M Q = Wp d 175 48 ls (.int (I 16) :: st) M Q := fun d ls st M Q => w_bipush (show ins 175 46 = some (.bipush 16, 2) by decide +kernel) (by decide)
set_option maxRecDepth 100000 in
theorem r_175_48 : ∀ (d : Nat) (l0 l2 l3 l4 l5 : Option Value) (v : Int32) (st : List Value) (M : Mem) (Q : Outcome → Mem → Prop), Wp d 175 48 [l0, some (.int v), l2, l3, l4, l5] st M Q = Wp d 175 49 [l0, some (.int v), l2, l3, l4, l5] (.int v :: st) M Q := fun d l0 l2 l3 l4 l5 v st M Q => wA (show ins 175 48 = some (.iload_n 1, 1) by decide +kernel) rfl
set_option maxRecDepth 100000 in
theorem r_175_49 : ∀ (d : Nat) (ls : Lc) (a b : Int) (st : List Value) (M : Mem) (Q : Outcome → Mem → Prop), Wp d 175 49 ls (.int (I b) :: .int (I a) :: st) M Q = Wp d 175 50 ls (.int (I (a * b)) :: st) M Q := fun d ls a b st M Q => w_imul (show ins 175 49 = some (.imul, 1) by decide +kernel)
set_option maxRecDepth 100000 in
theorem r_175_50 : ∀ (d : Nat) (l0 l1 l3 l4 l5 : Option Value) (v : Int32) (st : List Value) (M : Mem) (Q : Outcome → Mem → Prop), Wp d 175 50 [l0, l1, some (.int v), l3, l4, l5] st M Q = Wp d 175 51 [l0, l1, some (.int v), l3, l4, l5] (.int v :: st) M Q := fun d l0 l1 l3 l4 l5 v st M Q => wA (show ins 175 50 = some (.iload_n 2, 1) by decide +kernel) rfl
set_option maxRecDepth 100000 in
theorem r_175_51 : ∀ (d : Nat) (ls : Lc) (a b : Int) (st : List Value) (M : Mem) (Q : Outcome → Mem → Prop), Wp d 175 51 ls (.int (I b) :: .int (I a) :: st) M Q = Wp d 175 52 ls (.int (I (a + b)) :: st) M Q := fun d ls a b st M Q => w_iadd (show ins 175 51 = some (.iadd, 1) by decide +kernel)
set_option maxRecDepth 100000 in
theorem r_175_52 : ∀ (d : Nat) (ls : Lc) (st : List Value) (M : Mem) (Q : Outcome → Mem → Prop), Wp d 175 52 ls st M Q = Wp d 175 54 ls (.int (I 16) :: st) M Q := fun d ls st M Q => w_bipush (show ins 175 52 = some (.bipush 16, 2) by decide +kernel) (by decide)
set_option maxRecDepth 100000 in
theorem r_175_54 : ∀ (d : Nat) (l0 l1 l2 l4 l5 : Option Value) (v : Int32) (st : List Value) (M : Mem) (Q : Outcome → Mem → Prop), Wp d 175 54 [l0, l1, l2, some (.int v), l4, l5] st M Q = Wp d 175 55 [l0, l1, l2, some (.int v), l4, l5] (.int v :: st) M Q := fun d l0 l1 l2 l4 l5 v st M Q => wA (show ins 175 54 = some (.iload_n 3, 1) by decide +kernel) rfl
set_option maxRecDepth 100000 in
theorem r_175_55 : ∀ (d : Nat) (ls : Lc) (a b : Int) (st : List Value) (M : Mem) (Q : Outcome → Mem → Prop), Wp d 175 55 ls (.int (I b) :: .int (I a) :: st) M Q = Wp d 175 56 ls (.int (I (a * b)) :: st) M Q := fun d ls a b st M Q => w_imul (show ins 175 55 = some (.imul, 1) by decide +kernel)
set_option maxRecDepth 100000 in
theorem r_175_56 : ∀ (d : Nat) (l0 l1 l2 l3 l5 : Option Value) (v : Int32) (st : List Value) (M : Mem) (Q : Outcome → Mem → Prop), Wp d 175 56 [l0, l1, l2, l3, some (.int v), l5] st M Q = Wp d 175 58 [l0, l1, l2, l3, some (.int v), l5] (.int v :: st) M Q := fun d l0 l1 l2 l3 l5 v st M Q => wA (show ins 175 56 = some (.iload 4, 2) by decide +kernel) rfl
set_option maxRecDepth 100000 in
theorem r_175_58 : ∀ (d : Nat) (ls : Lc) (a b : Int) (st : List Value) (M : Mem) (Q : Outcome → Mem → Prop), Wp d 175 58 ls (.int (I b) :: .int (I a) :: st) M Q = Wp d 175 59 ls (.int (I (a + b)) :: st) M Q := fun d ls a b st M Q => w_iadd (show ins 175 58 = some (.iadd, 1) by decide +kernel)
set_option maxRecDepth 100000 in
theorem r_175_59 : ∀ (d : Nat) (ls : Lc) (v0 v1 : Value) (a : Nat) (st : List Value) (M : Mem) (Q : Outcome → Mem → Prop), (smallR st = true) → Wp d 175 59 ls (v1 :: v0 :: .ref a :: st) M Q = (kO M a = 8 ∧ Ca d 175 59 ls 168 (.ref a :: [v0, v1]) st M Q) := fun d ls v0 v1 a st M Q h0 => w_virt1 (as := [v0, v1]) (show ins 175 59 = some (.invokevirtual 91, 3) by decide +kernel) (show mRes (mC 175) 91 = some (3, 8, [(8, 168)]) by decide +kernel) (by decide +kernel) rfl (by decide +kernel) (by decide +kernel) h0
set_option maxRecDepth 100000 in
theorem r_175_62 : ∀ (d : Nat) (l1 l2 l3 l4 l5 : Option Value) (v : Nat) (st : List Value) (M : Mem) (Q : Outcome → Mem → Prop), Wp d 175 62 [some (.ref v), l1, l2, l3, l4, l5] st M Q = Wp d 175 63 [some (.ref v), l1, l2, l3, l4, l5] (.ref v :: st) M Q := fun d l1 l2 l3 l4 l5 v st M Q => wA (show ins 175 62 = some (.aload_n 0, 1) by decide +kernel) rfl
set_option maxRecDepth 100000 in
theorem r_175_63 : ∀ (d : Nat) (ls : Lc) (a : Nat) (st : List Value) (M : Mem) (Q : Outcome → Mem → Prop), Wp d 175 63 ls (.ref a :: st) M Q = (fk 53 (kO M a) = true ∧ Wp d 175 66 ls (va_rf (mR M 53 a) :: st) M Q) := fun d ls a st M Q => w_getR (show ins 175 63 = some (.getfield 7, 3) by decide +kernel) (show fRes (mC 175) 7 = some (53, 8, false) by decide +kernel) (by decide +kernel)
set_option maxRecDepth 100000 in
theorem r_175_66 : ∀ (d : Nat) (ls : Lc) (st : List Value) (M : Mem) (Q : Outcome → Mem → Prop), Wp d 175 66 ls st M Q = Wp d 175 69 ls (.int (I 3852) :: st) M Q := fun d ls st M Q => w_sipush (show ins 175 66 = some (.sipush 3852, 3) by decide +kernel) (by decide)
set_option maxRecDepth 100000 in
theorem r_175_69 : ∀ (d : Nat) (l0 l1 l2 l4 l5 : Option Value) (v : Int32) (st : List Value) (M : Mem) (Q : Outcome → Mem → Prop), Wp d 175 69 [l0, l1, l2, some (.int v), l4, l5] st M Q = Wp d 175 70 [l0, l1, l2, some (.int v), l4, l5] (.int v :: st) M Q := fun d l0 l1 l2 l4 l5 v st M Q => wA (show ins 175 69 = some (.iload_n 3, 1) by decide +kernel) rfl
set_option maxRecDepth 100000 in
theorem r_175_70 : ∀ (d : Nat) (ls : Lc) (a b : Int) (st : List Value) (M : Mem) (Q : Outcome → Mem → Prop), Wp d 175 70 ls (.int (I b) :: .int (I a) :: st) M Q = Wp d 175 71 ls (.int (I (a + b)) :: st) M Q := fun d ls a b st M Q => w_iadd (show ins 175 70 = some (.iadd, 1) by decide +kernel)
set_option maxRecDepth 100000 in
theorem r_175_71 : ∀ (d : Nat) (ls : Lc) (v : Int32) (a : Nat) (st : List Value) (M : Mem) (Q : Outcome → Mem → Prop), Wp d 175 71 ls (.int v :: .ref a :: st) M Q = Wp d 175 72 ls (.int v :: .ref a :: .int v :: .ref a :: st) M Q := fun d ls v a st M Q => wA (show ins 175 71 = some (.dup2, 1) by decide +kernel) rfl
set_option maxRecDepth 100000 in
theorem r_175_72 : ∀ (d : Nat) (ls : Lc) (a : Nat) (j : Int32) (st : List Value) (M : Mem) (Q : Outcome → Mem → Prop), Wp d 175 72 ls (.int j :: .ref a :: st) M Q = ((((kX M a).1 = 0 ∨ (kX M a).1 = 8) ∧ inB j (kX M a).2 = true) ∧ Wp d 175 73 ls (.int (mA M a j.toNatClampNeg) :: st) M Q) := fun d ls a j st M Q => w_iaload (show ins 175 72 = some (.iaload, 1) by decide +kernel)
set_option maxRecDepth 100000 in
theorem r_175_73 : ∀ (d : Nat) (ls : Lc) (st : List Value) (M : Mem) (Q : Outcome → Mem → Prop), Wp d 175 73 ls st M Q = Wp d 175 74 ls (.int (I 1) :: st) M Q := fun d ls st M Q => w_iconst (show ins 175 73 = some (.iconst 1, 1) by decide +kernel)
set_option maxRecDepth 100000 in
theorem r_175_74 : ∀ (d : Nat) (ls : Lc) (a b : Int) (st : List Value) (M : Mem) (Q : Outcome → Mem → Prop), Wp d 175 74 ls (.int (I b) :: .int (I a) :: st) M Q = Wp d 175 75 ls (.int (I (a + b)) :: st) M Q := fun d ls a b st M Q => w_iadd (show ins 175 74 = some (.iadd, 1) by decide +kernel)
set_option maxRecDepth 100000 in
theorem r_175_75 : ∀ (d : Nat) (ls : Lc) (a : Nat) (j v : Int32) (st : List Value) (M : Mem) (Q : Outcome → Mem → Prop), Wp d 175 75 ls (.int v :: .int j :: .ref a :: st) M Q = (((kX M a).1 = 0 ∧ inB j (kX M a).2 = true) ∧ Wp d 175 76 ls st (sA M a j.toNatClampNeg v) Q) := fun d ls a j v st M Q => w_iastore (show ins 175 75 = some (.iastore, 1) by decide +kernel)
set_option maxRecDepth 100000 in
theorem r_175_76 : ∀ (d : Nat) (l1 l2 l3 l4 l5 : Option Value) (v : Nat) (st : List Value) (M : Mem) (Q : Outcome → Mem → Prop), Wp d 175 76 [some (.ref v), l1, l2, l3, l4, l5] st M Q = Wp d 175 77 [some (.ref v), l1, l2, l3, l4, l5] (.ref v :: st) M Q := fun d l1 l2 l3 l4 l5 v st M Q => wA (show ins 175 76 = some (.aload_n 0, 1) by decide +kernel) rfl
set_option maxRecDepth 100000 in
theorem r_175_77 : ∀ (d : Nat) (l0 l2 l3 l4 l5 : Option Value) (v : Int32) (st : List Value) (M : Mem) (Q : Outcome → Mem → Prop), Wp d 175 77 [l0, some (.int v), l2, l3, l4, l5] st M Q = Wp d 175 78 [l0, some (.int v), l2, l3, l4, l5] (.int v :: st) M Q := fun d l0 l2 l3 l4 l5 v st M Q => wA (show ins 175 77 = some (.iload_n 1, 1) by decide +kernel) rfl
set_option maxRecDepth 100000 in
theorem r_175_78 : ∀ (d : Nat) (l0 l1 l3 l4 l5 : Option Value) (v : Int32) (st : List Value) (M : Mem) (Q : Outcome → Mem → Prop), Wp d 175 78 [l0, l1, some (.int v), l3, l4, l5] st M Q = Wp d 175 79 [l0, l1, some (.int v), l3, l4, l5] (.int v :: st) M Q := fun d l0 l1 l3 l4 l5 v st M Q => wA (show ins 175 78 = some (.iload_n 2, 1) by decide +kernel) rfl
set_option maxRecDepth 100000 in
theorem r_175_79 : ∀ (d : Nat) (ls : Lc) (v0 v1 : Value) (a : Nat) (st : List Value) (M : Mem) (Q : Outcome → Mem → Prop), (smallR st = true) → Wp d 175 79 ls (v1 :: v0 :: .ref a :: st) M Q = (kO M a = 8 ∧ Ca d 175 79 ls 176 (.ref a :: [v0, v1]) st M Q) := fun d ls v0 v1 a st M Q h0 => w_virt1 (as := [v0, v1]) (show ins 175 79 = some (.invokevirtual 94, 3) by decide +kernel) (show mRes (mC 175) 94 = some (3, 8, [(8, 176)]) by decide +kernel) (by decide +kernel) rfl (by decide +kernel) (by decide +kernel) h0
set_option maxRecDepth 100000 in
theorem r_175_82 : ∀ (d : Nat) (ls : Lc) (M : Mem) (Q : Outcome → Mem → Prop), Wp d 175 82 ls [] M Q = Q (.returned none) M := fun d ls M Q => w_return (show ins 175 82 = some (.return_, 1) by decide +kernel) (by decide +kernel)
set_option maxRecDepth 100000 in
theorem w_175_12 : (type_of% r_175_12) := r_175_12
set_option maxRecDepth 100000 in
theorem W_175 : (type_of% r_175_0) ∧ (type_of% r_175_1) ∧ (type_of% r_175_4) ∧ (type_of% r_175_7) ∧ (type_of% r_175_8) ∧ (type_of% r_175_9) ∧ (type_of% r_175_10) ∧ (type_of% r_175_14) ∧ (type_of% r_175_16) ∧ (type_of% r_175_19) ∧ (type_of% r_175_20) ∧ (type_of% r_175_22) ∧ (type_of% r_175_23) ∧ (type_of% r_175_24) ∧ (type_of% r_175_26) ∧ (type_of% r_175_27) ∧ (type_of% r_175_28) ∧ (type_of% r_175_29) ∧ (type_of% r_175_31) ∧ (type_of% r_175_32) ∧ (type_of% r_175_33) ∧ (type_of% r_175_35) ∧ (type_of% r_175_36) ∧ (type_of% r_175_39) ∧ (type_of% r_175_42) ∧ (type_of% r_175_45) ∧ (type_of% r_175_46) ∧ (type_of% r_175_48) ∧ (type_of% r_175_49) ∧ (type_of% r_175_50) ∧ (type_of% r_175_51) ∧ (type_of% r_175_52) ∧ (type_of% r_175_54) ∧ (type_of% r_175_55) ∧ (type_of% r_175_56) ∧ (type_of% r_175_58) ∧ (type_of% r_175_59) ∧ (type_of% r_175_62) ∧ (type_of% r_175_63) ∧ (type_of% r_175_66) ∧ (type_of% r_175_69) ∧ (type_of% r_175_70) ∧ (type_of% r_175_71) ∧ (type_of% r_175_72) ∧ (type_of% r_175_73) ∧ (type_of% r_175_74) ∧ (type_of% r_175_75) ∧ (type_of% r_175_76) ∧ (type_of% r_175_77) ∧ (type_of% r_175_78) ∧ (type_of% r_175_79) ∧ (type_of% r_175_82) := ⟨r_175_0, r_175_1, r_175_4, r_175_7, r_175_8, r_175_9, r_175_10, r_175_14, r_175_16, r_175_19, r_175_20, r_175_22, r_175_23, r_175_24, r_175_26, r_175_27, r_175_28, r_175_29, r_175_31, r_175_32, r_175_33, r_175_35, r_175_36, r_175_39, r_175_42, r_175_45, r_175_46, r_175_48, r_175_49, r_175_50, r_175_51, r_175_52, r_175_54, r_175_55, r_175_56, r_175_58, r_175_59, r_175_62, r_175_63, r_175_66, r_175_69, r_175_70, r_175_71, r_175_72, r_175_73, r_175_74, r_175_75, r_175_76, r_175_77, r_175_78, r_175_79, r_175_82⟩
set_option maxRecDepth 100000 in
theorem ca_175 {d y pc : Nat} {ls : Lc} {a : Nat} {z0 : Int32} {z1 : Int32} {z2 : Int32} {z3 : Int32} {r : List Value} {M : Mem} {Q : Outcome → Mem → Prop} (hd : 0 < d) (hw : Wp (d - 1) 175 0 [some (.ref a), some (.int z0), some (.int z1), some (.int z2), some (.int z3), none] [] M (Cq d y pc ls r Q)) : Ca d y pc ls 175 [.ref a, .int z0, .int z1, .int z2, .int z3] r M Q := ca_of (mq_get (by decide)) (by rfl) hd hw
/-! 176 PackedTreeModel.drop(II)V; loop heads [2] -/
set_option maxRecDepth 100000 in
theorem r_176_0 : ∀ (d : Nat) (l0 l1 l3 : Option Value) (v : Int32) (st : List Value) (M : Mem) (Q : Outcome → Mem → Prop), Wp d 176 0 [l0, l1, some (.int v), l3] st M Q = Wp d 176 1 [l0, l1, some (.int v), l3] (.int v :: st) M Q := fun d l0 l1 l3 v st M Q => wA (show ins 176 0 = some (.iload_n 2, 1) by decide +kernel) rfl
set_option maxRecDepth 100000 in
theorem r_176_1 : ∀ (d : Nat) (l0 l1 l2 l3 : Option Value) (v : Int32) (st : List Value) (M : Mem) (Q : Outcome → Mem → Prop), (lo l2 = false) → Wp d 176 1 [l0, l1, l2, l3] (.int v :: st) M Q = Wp d 176 2 [l0, l1, l2, some (.int v)] st M Q := fun d l0 l1 l2 l3 v st M Q hl => w_istore_n (show ins 176 1 = some (.istore_n 3, 1) by decide +kernel) (st1_S rfl rfl hl)
set_option maxRecDepth 100000 in
theorem r_176_2 : ∀ (d : Nat) (l0 l1 l2 : Option Value) (v : Int32) (st : List Value) (M : Mem) (Q : Outcome → Mem → Prop), Wp d 176 2 [l0, l1, l2, some (.int v)] st M Q = Wp d 176 3 [l0, l1, l2, some (.int v)] (.int v :: st) M Q := fun d l0 l1 l2 v st M Q => wA (show ins 176 2 = some (.iload_n 3, 1) by decide +kernel) rfl
set_option maxRecDepth 100000 in
theorem r_176_3 : ∀ (d : Nat) (ls : Lc) (st : List Value) (M : Mem) (Q : Outcome → Mem → Prop), Wp d 176 3 ls st M Q = Wp d 176 4 ls (.int (I 1) :: st) M Q := fun d ls st M Q => w_iconst (show ins 176 3 = some (.iconst 1, 1) by decide +kernel)
set_option maxRecDepth 100000 in
theorem r_176_4 : ∀ (d : Nat) (ls : Lc) (a b : Int) (st : List Value) (M : Mem) (Q : Outcome → Mem → Prop), Wp d 176 4 ls (.int (I b) :: .int (I a) :: st) M Q = Wp d 176 5 ls (.int (I (a + b)) :: st) M Q := fun d ls a b st M Q => w_iadd (show ins 176 4 = some (.iadd, 1) by decide +kernel)
set_option maxRecDepth 100000 in
theorem r_176_5 : ∀ (d : Nat) (l1 l2 l3 : Option Value) (v : Nat) (st : List Value) (M : Mem) (Q : Outcome → Mem → Prop), Wp d 176 5 [some (.ref v), l1, l2, l3] st M Q = Wp d 176 6 [some (.ref v), l1, l2, l3] (.ref v :: st) M Q := fun d l1 l2 l3 v st M Q => wA (show ins 176 5 = some (.aload_n 0, 1) by decide +kernel) rfl
set_option maxRecDepth 100000 in
theorem r_176_6 : ∀ (d : Nat) (ls : Lc) (a : Nat) (st : List Value) (M : Mem) (Q : Outcome → Mem → Prop), Wp d 176 6 ls (.ref a :: st) M Q = (fk 53 (kO M a) = true ∧ Wp d 176 9 ls (va_rf (mR M 53 a) :: st) M Q) := fun d ls a st M Q => w_getR (show ins 176 6 = some (.getfield 7, 3) by decide +kernel) (show fRes (mC 176) 7 = some (53, 8, false) by decide +kernel) (by decide +kernel)
set_option maxRecDepth 100000 in
theorem r_176_9 : ∀ (d : Nat) (ls : Lc) (st : List Value) (M : Mem) (Q : Outcome → Mem → Prop), Wp d 176 9 ls st M Q = Wp d 176 12 ls (.int (I 3852) :: st) M Q := fun d ls st M Q => w_sipush (show ins 176 9 = some (.sipush 3852, 3) by decide +kernel) (by decide)
set_option maxRecDepth 100000 in
theorem r_176_12 : ∀ (d : Nat) (l0 l2 l3 : Option Value) (v : Int32) (st : List Value) (M : Mem) (Q : Outcome → Mem → Prop), Wp d 176 12 [l0, some (.int v), l2, l3] st M Q = Wp d 176 13 [l0, some (.int v), l2, l3] (.int v :: st) M Q := fun d l0 l2 l3 v st M Q => wA (show ins 176 12 = some (.iload_n 1, 1) by decide +kernel) rfl
set_option maxRecDepth 100000 in
theorem r_176_13 : ∀ (d : Nat) (ls : Lc) (a b : Int) (st : List Value) (M : Mem) (Q : Outcome → Mem → Prop), Wp d 176 13 ls (.int (I b) :: .int (I a) :: st) M Q = Wp d 176 14 ls (.int (I (a + b)) :: st) M Q := fun d ls a b st M Q => w_iadd (show ins 176 13 = some (.iadd, 1) by decide +kernel)
set_option maxRecDepth 100000 in
theorem r_176_14 : ∀ (d : Nat) (ls : Lc) (a : Nat) (j : Int32) (st : List Value) (M : Mem) (Q : Outcome → Mem → Prop), Wp d 176 14 ls (.int j :: .ref a :: st) M Q = ((((kX M a).1 = 0 ∨ (kX M a).1 = 8) ∧ inB j (kX M a).2 = true) ∧ Wp d 176 15 ls (.int (mA M a j.toNatClampNeg) :: st) M Q) := fun d ls a j st M Q => w_iaload (show ins 176 14 = some (.iaload, 1) by decide +kernel)
set_option maxRecDepth 100000 in
theorem r_176_15 : ∀ (d : Nat) (ls : Lc) (a b : Int32) (st : List Value) (M : Mem) (Q : Outcome → Mem → Prop), Wp d 176 15 ls (.int b :: .int a :: st) M Q = Br (b ≤ a) d 176 42 18 ls st M Q := fun d ls a b st M Q => w_icmp (show ins 176 15 = some (.if_icmp .ge 27, 3) by decide +kernel) rfl rfl
set_option maxRecDepth 100000 in
theorem r_176_18 : ∀ (d : Nat) (l1 l2 l3 : Option Value) (v : Nat) (st : List Value) (M : Mem) (Q : Outcome → Mem → Prop), Wp d 176 18 [some (.ref v), l1, l2, l3] st M Q = Wp d 176 19 [some (.ref v), l1, l2, l3] (.ref v :: st) M Q := fun d l1 l2 l3 v st M Q => wA (show ins 176 18 = some (.aload_n 0, 1) by decide +kernel) rfl
set_option maxRecDepth 100000 in
theorem r_176_19 : ∀ (d : Nat) (ls : Lc) (st : List Value) (M : Mem) (Q : Outcome → Mem → Prop), Wp d 176 19 ls st M Q = Wp d 176 21 ls (.int (I 16) :: st) M Q := fun d ls st M Q => w_bipush (show ins 176 19 = some (.bipush 16, 2) by decide +kernel) (by decide)
set_option maxRecDepth 100000 in
theorem r_176_21 : ∀ (d : Nat) (l0 l2 l3 : Option Value) (v : Int32) (st : List Value) (M : Mem) (Q : Outcome → Mem → Prop), Wp d 176 21 [l0, some (.int v), l2, l3] st M Q = Wp d 176 22 [l0, some (.int v), l2, l3] (.int v :: st) M Q := fun d l0 l2 l3 v st M Q => wA (show ins 176 21 = some (.iload_n 1, 1) by decide +kernel) rfl
set_option maxRecDepth 100000 in
theorem r_176_22 : ∀ (d : Nat) (ls : Lc) (a b : Int) (st : List Value) (M : Mem) (Q : Outcome → Mem → Prop), Wp d 176 22 ls (.int (I b) :: .int (I a) :: st) M Q = Wp d 176 23 ls (.int (I (a * b)) :: st) M Q := fun d ls a b st M Q => w_imul (show ins 176 22 = some (.imul, 1) by decide +kernel)
set_option maxRecDepth 100000 in
theorem r_176_23 : ∀ (d : Nat) (l0 l1 l2 : Option Value) (v : Int32) (st : List Value) (M : Mem) (Q : Outcome → Mem → Prop), Wp d 176 23 [l0, l1, l2, some (.int v)] st M Q = Wp d 176 24 [l0, l1, l2, some (.int v)] (.int v :: st) M Q := fun d l0 l1 l2 v st M Q => wA (show ins 176 23 = some (.iload_n 3, 1) by decide +kernel) rfl
set_option maxRecDepth 100000 in
theorem r_176_24 : ∀ (d : Nat) (ls : Lc) (a b : Int) (st : List Value) (M : Mem) (Q : Outcome → Mem → Prop), Wp d 176 24 ls (.int (I b) :: .int (I a) :: st) M Q = Wp d 176 25 ls (.int (I (a + b)) :: st) M Q := fun d ls a b st M Q => w_iadd (show ins 176 24 = some (.iadd, 1) by decide +kernel)
set_option maxRecDepth 100000 in
theorem r_176_25 : ∀ (d : Nat) (ls : Lc) (st : List Value) (M : Mem) (Q : Outcome → Mem → Prop), Wp d 176 25 ls st M Q = Wp d 176 26 ls (.int (I 1) :: st) M Q := fun d ls st M Q => w_iconst (show ins 176 25 = some (.iconst 1, 1) by decide +kernel)
set_option maxRecDepth 100000 in
theorem r_176_26 : ∀ (d : Nat) (ls : Lc) (a b : Int) (st : List Value) (M : Mem) (Q : Outcome → Mem → Prop), Wp d 176 26 ls (.int (I b) :: .int (I a) :: st) M Q = Wp d 176 27 ls (.int (I (a + b)) :: st) M Q := fun d ls a b st M Q => w_iadd (show ins 176 26 = some (.iadd, 1) by decide +kernel)
set_option maxRecDepth 100000 in
theorem r_176_27 : ∀ (d : Nat) (ls : Lc) (st : List Value) (M : Mem) (Q : Outcome → Mem → Prop), Wp d 176 27 ls st M Q = Wp d 176 29 ls (.int (I 16) :: st) M Q := fun d ls st M Q => w_bipush (show ins 176 27 = some (.bipush 16, 2) by decide +kernel) (by decide)
set_option maxRecDepth 100000 in
theorem r_176_29 : ∀ (d : Nat) (l0 l2 l3 : Option Value) (v : Int32) (st : List Value) (M : Mem) (Q : Outcome → Mem → Prop), Wp d 176 29 [l0, some (.int v), l2, l3] st M Q = Wp d 176 30 [l0, some (.int v), l2, l3] (.int v :: st) M Q := fun d l0 l2 l3 v st M Q => wA (show ins 176 29 = some (.iload_n 1, 1) by decide +kernel) rfl
set_option maxRecDepth 100000 in
theorem r_176_30 : ∀ (d : Nat) (ls : Lc) (a b : Int) (st : List Value) (M : Mem) (Q : Outcome → Mem → Prop), Wp d 176 30 ls (.int (I b) :: .int (I a) :: st) M Q = Wp d 176 31 ls (.int (I (a * b)) :: st) M Q := fun d ls a b st M Q => w_imul (show ins 176 30 = some (.imul, 1) by decide +kernel)
set_option maxRecDepth 100000 in
theorem r_176_31 : ∀ (d : Nat) (l0 l1 l2 : Option Value) (v : Int32) (st : List Value) (M : Mem) (Q : Outcome → Mem → Prop), Wp d 176 31 [l0, l1, l2, some (.int v)] st M Q = Wp d 176 32 [l0, l1, l2, some (.int v)] (.int v :: st) M Q := fun d l0 l1 l2 v st M Q => wA (show ins 176 31 = some (.iload_n 3, 1) by decide +kernel) rfl
set_option maxRecDepth 100000 in
theorem r_176_32 : ∀ (d : Nat) (ls : Lc) (a b : Int) (st : List Value) (M : Mem) (Q : Outcome → Mem → Prop), Wp d 176 32 ls (.int (I b) :: .int (I a) :: st) M Q = Wp d 176 33 ls (.int (I (a + b)) :: st) M Q := fun d ls a b st M Q => w_iadd (show ins 176 32 = some (.iadd, 1) by decide +kernel)
set_option maxRecDepth 100000 in
theorem r_176_33 : ∀ (d : Nat) (ls : Lc) (v0 v1 : Value) (a : Nat) (st : List Value) (M : Mem) (Q : Outcome → Mem → Prop), (smallR st = true) → Wp d 176 33 ls (v1 :: v0 :: .ref a :: st) M Q = (kO M a = 8 ∧ Ca d 176 33 ls 168 (.ref a :: [v0, v1]) st M Q) := fun d ls v0 v1 a st M Q h0 => w_virt1 (as := [v0, v1]) (show ins 176 33 = some (.invokevirtual 91, 3) by decide +kernel) (show mRes (mC 176) 91 = some (3, 8, [(8, 168)]) by decide +kernel) (by decide +kernel) rfl (by decide +kernel) (by decide +kernel) h0
set_option maxRecDepth 100000 in
theorem r_176_36 : ∀ (d : Nat) (l0 l1 l2 : Option Value) (z : Int) (st : List Value) (M : Mem) (Q : Outcome → Mem → Prop), (lo l2 = false) → Wp d 176 36 [l0, l1, l2, some (.int (I z))] st M Q = Wp d 176 39 [l0, l1, l2, some (.int (I (z + 1)))] st M Q := fun d l0 l1 l2 z st M Q hl => w_iinc (show ins 176 36 = some (.iinc 3 1, 3) by decide +kernel) rfl (st1_S rfl rfl hl)
set_option maxRecDepth 100000 in
theorem r_176_39 : ∀ (d : Nat) (ls : Lc) (st : List Value) (M : Mem) (Q : Outcome → Mem → Prop), Wp d 176 39 ls st M Q = Wp d 176 2 ls st M Q := fun d ls st M Q => w_goto (show ins 176 39 = some (.goto (-37), 3) by decide +kernel) rfl
set_option maxRecDepth 100000 in
theorem r_176_42 : ∀ (d : Nat) (l1 l2 l3 : Option Value) (v : Nat) (st : List Value) (M : Mem) (Q : Outcome → Mem → Prop), Wp d 176 42 [some (.ref v), l1, l2, l3] st M Q = Wp d 176 43 [some (.ref v), l1, l2, l3] (.ref v :: st) M Q := fun d l1 l2 l3 v st M Q => wA (show ins 176 42 = some (.aload_n 0, 1) by decide +kernel) rfl
set_option maxRecDepth 100000 in
theorem r_176_43 : ∀ (d : Nat) (ls : Lc) (a : Nat) (st : List Value) (M : Mem) (Q : Outcome → Mem → Prop), Wp d 176 43 ls (.ref a :: st) M Q = (fk 53 (kO M a) = true ∧ Wp d 176 46 ls (va_rf (mR M 53 a) :: st) M Q) := fun d ls a st M Q => w_getR (show ins 176 43 = some (.getfield 7, 3) by decide +kernel) (show fRes (mC 176) 7 = some (53, 8, false) by decide +kernel) (by decide +kernel)
set_option maxRecDepth 100000 in
theorem r_176_46 : ∀ (d : Nat) (ls : Lc) (st : List Value) (M : Mem) (Q : Outcome → Mem → Prop), Wp d 176 46 ls st M Q = Wp d 176 49 ls (.int (I 3852) :: st) M Q := fun d ls st M Q => w_sipush (show ins 176 46 = some (.sipush 3852, 3) by decide +kernel) (by decide)
set_option maxRecDepth 100000 in
theorem r_176_49 : ∀ (d : Nat) (l0 l2 l3 : Option Value) (v : Int32) (st : List Value) (M : Mem) (Q : Outcome → Mem → Prop), Wp d 176 49 [l0, some (.int v), l2, l3] st M Q = Wp d 176 50 [l0, some (.int v), l2, l3] (.int v :: st) M Q := fun d l0 l2 l3 v st M Q => wA (show ins 176 49 = some (.iload_n 1, 1) by decide +kernel) rfl
set_option maxRecDepth 100000 in
theorem r_176_50 : ∀ (d : Nat) (ls : Lc) (a b : Int) (st : List Value) (M : Mem) (Q : Outcome → Mem → Prop), Wp d 176 50 ls (.int (I b) :: .int (I a) :: st) M Q = Wp d 176 51 ls (.int (I (a + b)) :: st) M Q := fun d ls a b st M Q => w_iadd (show ins 176 50 = some (.iadd, 1) by decide +kernel)
set_option maxRecDepth 100000 in
theorem r_176_51 : ∀ (d : Nat) (ls : Lc) (v : Int32) (a : Nat) (st : List Value) (M : Mem) (Q : Outcome → Mem → Prop), Wp d 176 51 ls (.int v :: .ref a :: st) M Q = Wp d 176 52 ls (.int v :: .ref a :: .int v :: .ref a :: st) M Q := fun d ls v a st M Q => wA (show ins 176 51 = some (.dup2, 1) by decide +kernel) rfl
set_option maxRecDepth 100000 in
theorem r_176_52 : ∀ (d : Nat) (ls : Lc) (a : Nat) (j : Int32) (st : List Value) (M : Mem) (Q : Outcome → Mem → Prop), Wp d 176 52 ls (.int j :: .ref a :: st) M Q = ((((kX M a).1 = 0 ∨ (kX M a).1 = 8) ∧ inB j (kX M a).2 = true) ∧ Wp d 176 53 ls (.int (mA M a j.toNatClampNeg) :: st) M Q) := fun d ls a j st M Q => w_iaload (show ins 176 52 = some (.iaload, 1) by decide +kernel)
set_option maxRecDepth 100000 in
theorem r_176_53 : ∀ (d : Nat) (ls : Lc) (st : List Value) (M : Mem) (Q : Outcome → Mem → Prop), Wp d 176 53 ls st M Q = Wp d 176 54 ls (.int (I 1) :: st) M Q := fun d ls st M Q => w_iconst (show ins 176 53 = some (.iconst 1, 1) by decide +kernel)
set_option maxRecDepth 100000 in
theorem r_176_54 : ∀ (d : Nat) (ls : Lc) (a b : Int) (st : List Value) (M : Mem) (Q : Outcome → Mem → Prop), Wp d 176 54 ls (.int (I b) :: .int (I a) :: st) M Q = Wp d 176 55 ls (.int (I (a - b)) :: st) M Q := fun d ls a b st M Q => w_isub (show ins 176 54 = some (.isub, 1) by decide +kernel)
set_option maxRecDepth 100000 in
theorem r_176_55 : ∀ (d : Nat) (ls : Lc) (a : Nat) (j v : Int32) (st : List Value) (M : Mem) (Q : Outcome → Mem → Prop), Wp d 176 55 ls (.int v :: .int j :: .ref a :: st) M Q = (((kX M a).1 = 0 ∧ inB j (kX M a).2 = true) ∧ Wp d 176 56 ls st (sA M a j.toNatClampNeg v) Q) := fun d ls a j v st M Q => w_iastore (show ins 176 55 = some (.iastore, 1) by decide +kernel)
set_option maxRecDepth 100000 in
theorem r_176_56 : ∀ (d : Nat) (ls : Lc) (M : Mem) (Q : Outcome → Mem → Prop), Wp d 176 56 ls [] M Q = Q (.returned none) M := fun d ls M Q => w_return (show ins 176 56 = some (.return_, 1) by decide +kernel) (by decide +kernel)
set_option maxRecDepth 100000 in
theorem w_176_2 : (type_of% r_176_2) := r_176_2
set_option maxRecDepth 100000 in
theorem W_176 : (type_of% r_176_0) ∧ (type_of% r_176_1) ∧ (type_of% r_176_3) ∧ (type_of% r_176_4) ∧ (type_of% r_176_5) ∧ (type_of% r_176_6) ∧ (type_of% r_176_9) ∧ (type_of% r_176_12) ∧ (type_of% r_176_13) ∧ (type_of% r_176_14) ∧ (type_of% r_176_15) ∧ (type_of% r_176_18) ∧ (type_of% r_176_19) ∧ (type_of% r_176_21) ∧ (type_of% r_176_22) ∧ (type_of% r_176_23) ∧ (type_of% r_176_24) ∧ (type_of% r_176_25) ∧ (type_of% r_176_26) ∧ (type_of% r_176_27) ∧ (type_of% r_176_29) ∧ (type_of% r_176_30) ∧ (type_of% r_176_31) ∧ (type_of% r_176_32) ∧ (type_of% r_176_33) ∧ (type_of% r_176_36) ∧ (type_of% r_176_39) ∧ (type_of% r_176_42) ∧ (type_of% r_176_43) ∧ (type_of% r_176_46) ∧ (type_of% r_176_49) ∧ (type_of% r_176_50) ∧ (type_of% r_176_51) ∧ (type_of% r_176_52) ∧ (type_of% r_176_53) ∧ (type_of% r_176_54) ∧ (type_of% r_176_55) ∧ (type_of% r_176_56) := ⟨r_176_0, r_176_1, r_176_3, r_176_4, r_176_5, r_176_6, r_176_9, r_176_12, r_176_13, r_176_14, r_176_15, r_176_18, r_176_19, r_176_21, r_176_22, r_176_23, r_176_24, r_176_25, r_176_26, r_176_27, r_176_29, r_176_30, r_176_31, r_176_32, r_176_33, r_176_36, r_176_39, r_176_42, r_176_43, r_176_46, r_176_49, r_176_50, r_176_51, r_176_52, r_176_53, r_176_54, r_176_55, r_176_56⟩
set_option maxRecDepth 100000 in
theorem ca_176 {d y pc : Nat} {ls : Lc} {a : Nat} {z0 : Int32} {z1 : Int32} {r : List Value} {M : Mem} {Q : Outcome → Mem → Prop} (hd : 0 < d) (hw : Wp (d - 1) 176 0 [some (.ref a), some (.int z0), some (.int z1), none] [] M (Cq d y pc ls r Q)) : Ca d y pc ls 176 [.ref a, .int z0, .int z1] r M Q := ca_of (mq_get (by decide)) (by rfl) hd hw
/-! 177 PackedTreeModel.take()I; loop heads [2] -/
set_option maxRecDepth 100000 in
theorem r_177_0 : ∀ (d : Nat) (ls : Lc) (st : List Value) (M : Mem) (Q : Outcome → Mem → Prop), Wp d 177 0 ls st M Q = Wp d 177 1 ls (.int (I 1) :: st) M Q := fun d ls st M Q => w_iconst (show ins 177 0 = some (.iconst 1, 1) by decide +kernel)
set_option maxRecDepth 100000 in
theorem r_177_1 : ∀ (d : Nat) (l0 l1 : Option Value) (v : Int32) (st : List Value) (M : Mem) (Q : Outcome → Mem → Prop), (lo l0 = false) → Wp d 177 1 [l0, l1] (.int v :: st) M Q = Wp d 177 2 [l0, some (.int v)] st M Q := fun d l0 l1 v st M Q hl => w_istore_n (show ins 177 1 = some (.istore_n 1, 1) by decide +kernel) (st1_S rfl rfl hl)
set_option maxRecDepth 100000 in
theorem r_177_2 : ∀ (d : Nat) (l0 : Option Value) (v : Int32) (st : List Value) (M : Mem) (Q : Outcome → Mem → Prop), Wp d 177 2 [l0, some (.int v)] st M Q = Wp d 177 3 [l0, some (.int v)] (.int v :: st) M Q := fun d l0 v st M Q => wA (show ins 177 2 = some (.iload_n 1, 1) by decide +kernel) rfl
set_option maxRecDepth 100000 in
theorem r_177_3 : ∀ (d : Nat) (l1 : Option Value) (v : Nat) (st : List Value) (M : Mem) (Q : Outcome → Mem → Prop), Wp d 177 3 [some (.ref v), l1] st M Q = Wp d 177 4 [some (.ref v), l1] (.ref v :: st) M Q := fun d l1 v st M Q => wA (show ins 177 3 = some (.aload_n 0, 1) by decide +kernel) rfl
set_option maxRecDepth 100000 in
theorem r_177_4 : ∀ (d : Nat) (ls : Lc) (a : Nat) (st : List Value) (M : Mem) (Q : Outcome → Mem → Prop), Wp d 177 4 ls (.ref a :: st) M Q = (fk 43 (kO M a) = true ∧ Wp d 177 7 ls (.int (mF M 43 a) :: st) M Q) := fun d ls a st M Q => w_getI (show ins 177 4 = some (.getfield 30, 3) by decide +kernel) (show fRes (mC 177) 30 = some (43, 8, false) by decide +kernel) (by decide +kernel)
set_option maxRecDepth 100000 in
theorem r_177_7 : ∀ (d : Nat) (ls : Lc) (a b : Int32) (st : List Value) (M : Mem) (Q : Outcome → Mem → Prop), Wp d 177 7 ls (.int b :: .int a :: st) M Q = Br (b ≤ a) d 177 60 10 ls st M Q := fun d ls a b st M Q => w_icmp (show ins 177 7 = some (.if_icmp .ge 53, 3) by decide +kernel) rfl rfl
set_option maxRecDepth 100000 in
theorem r_177_10 : ∀ (d : Nat) (l1 : Option Value) (v : Nat) (st : List Value) (M : Mem) (Q : Outcome → Mem → Prop), Wp d 177 10 [some (.ref v), l1] st M Q = Wp d 177 11 [some (.ref v), l1] (.ref v :: st) M Q := fun d l1 v st M Q => wA (show ins 177 10 = some (.aload_n 0, 1) by decide +kernel) rfl
set_option maxRecDepth 100000 in
theorem r_177_11 : ∀ (d : Nat) (ls : Lc) (a : Nat) (st : List Value) (M : Mem) (Q : Outcome → Mem → Prop), Wp d 177 11 ls (.ref a :: st) M Q = (fk 53 (kO M a) = true ∧ Wp d 177 14 ls (va_rf (mR M 53 a) :: st) M Q) := fun d ls a st M Q => w_getR (show ins 177 11 = some (.getfield 7, 3) by decide +kernel) (show fRes (mC 177) 7 = some (53, 8, false) by decide +kernel) (by decide +kernel)
set_option maxRecDepth 100000 in
theorem r_177_14 : ∀ (d : Nat) (ls : Lc) (st : List Value) (M : Mem) (Q : Outcome → Mem → Prop), Wp d 177 14 ls st M Q = Wp d 177 15 ls (.int (I 0) :: st) M Q := fun d ls st M Q => w_iconst (show ins 177 14 = some (.iconst 0, 1) by decide +kernel)
set_option maxRecDepth 100000 in
theorem r_177_15 : ∀ (d : Nat) (l0 : Option Value) (v : Int32) (st : List Value) (M : Mem) (Q : Outcome → Mem → Prop), Wp d 177 15 [l0, some (.int v)] st M Q = Wp d 177 16 [l0, some (.int v)] (.int v :: st) M Q := fun d l0 v st M Q => wA (show ins 177 15 = some (.iload_n 1, 1) by decide +kernel) rfl
set_option maxRecDepth 100000 in
theorem r_177_16 : ∀ (d : Nat) (ls : Lc) (a b : Int) (st : List Value) (M : Mem) (Q : Outcome → Mem → Prop), Wp d 177 16 ls (.int (I b) :: .int (I a) :: st) M Q = Wp d 177 17 ls (.int (I (a + b)) :: st) M Q := fun d ls a b st M Q => w_iadd (show ins 177 16 = some (.iadd, 1) by decide +kernel)
set_option maxRecDepth 100000 in
theorem r_177_17 : ∀ (d : Nat) (ls : Lc) (a : Nat) (j : Int32) (st : List Value) (M : Mem) (Q : Outcome → Mem → Prop), Wp d 177 17 ls (.int j :: .ref a :: st) M Q = ((((kX M a).1 = 0 ∨ (kX M a).1 = 8) ∧ inB j (kX M a).2 = true) ∧ Wp d 177 18 ls (.int (mA M a j.toNatClampNeg) :: st) M Q) := fun d ls a j st M Q => w_iaload (show ins 177 17 = some (.iaload, 1) by decide +kernel)
set_option maxRecDepth 100000 in
theorem r_177_18 : ∀ (d : Nat) (ls : Lc) (a : Int32) (st : List Value) (M : Mem) (Q : Outcome → Mem → Prop), Wp d 177 18 ls (.int a :: st) M Q = Br (¬ a = I 0) d 177 54 21 ls st M Q := fun d ls a st M Q => w_if (show ins 177 18 = some (.ifCond .ne 36, 3) by decide +kernel) rfl rfl
set_option maxRecDepth 100000 in
theorem r_177_21 : ∀ (d : Nat) (l1 : Option Value) (v : Nat) (st : List Value) (M : Mem) (Q : Outcome → Mem → Prop), Wp d 177 21 [some (.ref v), l1] st M Q = Wp d 177 22 [some (.ref v), l1] (.ref v :: st) M Q := fun d l1 v st M Q => wA (show ins 177 21 = some (.aload_n 0, 1) by decide +kernel) rfl
set_option maxRecDepth 100000 in
theorem r_177_22 : ∀ (d : Nat) (ls : Lc) (a : Nat) (st : List Value) (M : Mem) (Q : Outcome → Mem → Prop), Wp d 177 22 ls (.ref a :: st) M Q = (fk 53 (kO M a) = true ∧ Wp d 177 25 ls (va_rf (mR M 53 a) :: st) M Q) := fun d ls a st M Q => w_getR (show ins 177 22 = some (.getfield 7, 3) by decide +kernel) (show fRes (mC 177) 7 = some (53, 8, false) by decide +kernel) (by decide +kernel)
set_option maxRecDepth 100000 in
theorem r_177_25 : ∀ (d : Nat) (ls : Lc) (st : List Value) (M : Mem) (Q : Outcome → Mem → Prop), Wp d 177 25 ls st M Q = Wp d 177 26 ls (.int (I 0) :: st) M Q := fun d ls st M Q => w_iconst (show ins 177 25 = some (.iconst 0, 1) by decide +kernel)
set_option maxRecDepth 100000 in
theorem r_177_26 : ∀ (d : Nat) (l0 : Option Value) (v : Int32) (st : List Value) (M : Mem) (Q : Outcome → Mem → Prop), Wp d 177 26 [l0, some (.int v)] st M Q = Wp d 177 27 [l0, some (.int v)] (.int v :: st) M Q := fun d l0 v st M Q => wA (show ins 177 26 = some (.iload_n 1, 1) by decide +kernel) rfl
set_option maxRecDepth 100000 in
theorem r_177_27 : ∀ (d : Nat) (ls : Lc) (a b : Int) (st : List Value) (M : Mem) (Q : Outcome → Mem → Prop), Wp d 177 27 ls (.int (I b) :: .int (I a) :: st) M Q = Wp d 177 28 ls (.int (I (a + b)) :: st) M Q := fun d ls a b st M Q => w_iadd (show ins 177 27 = some (.iadd, 1) by decide +kernel)
set_option maxRecDepth 100000 in
theorem r_177_28 : ∀ (d : Nat) (ls : Lc) (st : List Value) (M : Mem) (Q : Outcome → Mem → Prop), Wp d 177 28 ls st M Q = Wp d 177 29 ls (.int (I 1) :: st) M Q := fun d ls st M Q => w_iconst (show ins 177 28 = some (.iconst 1, 1) by decide +kernel)
set_option maxRecDepth 100000 in
theorem r_177_29 : ∀ (d : Nat) (ls : Lc) (a : Nat) (j v : Int32) (st : List Value) (M : Mem) (Q : Outcome → Mem → Prop), Wp d 177 29 ls (.int v :: .int j :: .ref a :: st) M Q = (((kX M a).1 = 0 ∧ inB j (kX M a).2 = true) ∧ Wp d 177 30 ls st (sA M a j.toNatClampNeg v) Q) := fun d ls a j v st M Q => w_iastore (show ins 177 29 = some (.iastore, 1) by decide +kernel)
set_option maxRecDepth 100000 in
theorem r_177_30 : ∀ (d : Nat) (l1 : Option Value) (v : Nat) (st : List Value) (M : Mem) (Q : Outcome → Mem → Prop), Wp d 177 30 [some (.ref v), l1] st M Q = Wp d 177 31 [some (.ref v), l1] (.ref v :: st) M Q := fun d l1 v st M Q => wA (show ins 177 30 = some (.aload_n 0, 1) by decide +kernel) rfl
set_option maxRecDepth 100000 in
theorem r_177_31 : ∀ (d : Nat) (ls : Lc) (a : Nat) (st : List Value) (M : Mem) (Q : Outcome → Mem → Prop), Wp d 177 31 ls (.ref a :: st) M Q = (fk 53 (kO M a) = true ∧ Wp d 177 34 ls (va_rf (mR M 53 a) :: st) M Q) := fun d ls a st M Q => w_getR (show ins 177 31 = some (.getfield 7, 3) by decide +kernel) (show fRes (mC 177) 7 = some (53, 8, false) by decide +kernel) (by decide +kernel)
set_option maxRecDepth 100000 in
theorem r_177_34 : ∀ (d : Nat) (ls : Lc) (st : List Value) (M : Mem) (Q : Outcome → Mem → Prop), Wp d 177 34 ls st M Q = Wp d 177 37 ls (.int (I 3756) :: st) M Q := fun d ls st M Q => w_sipush (show ins 177 34 = some (.sipush 3756, 3) by decide +kernel) (by decide)
set_option maxRecDepth 100000 in
theorem r_177_37 : ∀ (d : Nat) (l0 : Option Value) (v : Int32) (st : List Value) (M : Mem) (Q : Outcome → Mem → Prop), Wp d 177 37 [l0, some (.int v)] st M Q = Wp d 177 38 [l0, some (.int v)] (.int v :: st) M Q := fun d l0 v st M Q => wA (show ins 177 37 = some (.iload_n 1, 1) by decide +kernel) rfl
set_option maxRecDepth 100000 in
theorem r_177_38 : ∀ (d : Nat) (ls : Lc) (a b : Int) (st : List Value) (M : Mem) (Q : Outcome → Mem → Prop), Wp d 177 38 ls (.int (I b) :: .int (I a) :: st) M Q = Wp d 177 39 ls (.int (I (a + b)) :: st) M Q := fun d ls a b st M Q => w_iadd (show ins 177 38 = some (.iadd, 1) by decide +kernel)
set_option maxRecDepth 100000 in
theorem r_177_39 : ∀ (d : Nat) (ls : Lc) (st : List Value) (M : Mem) (Q : Outcome → Mem → Prop), Wp d 177 39 ls st M Q = Wp d 177 40 ls (.int (I 0) :: st) M Q := fun d ls st M Q => w_iconst (show ins 177 39 = some (.iconst 0, 1) by decide +kernel)
set_option maxRecDepth 100000 in
theorem r_177_40 : ∀ (d : Nat) (ls : Lc) (a : Nat) (j v : Int32) (st : List Value) (M : Mem) (Q : Outcome → Mem → Prop), Wp d 177 40 ls (.int v :: .int j :: .ref a :: st) M Q = (((kX M a).1 = 0 ∧ inB j (kX M a).2 = true) ∧ Wp d 177 41 ls st (sA M a j.toNatClampNeg v) Q) := fun d ls a j v st M Q => w_iastore (show ins 177 40 = some (.iastore, 1) by decide +kernel)
set_option maxRecDepth 100000 in
theorem r_177_41 : ∀ (d : Nat) (l1 : Option Value) (v : Nat) (st : List Value) (M : Mem) (Q : Outcome → Mem → Prop), Wp d 177 41 [some (.ref v), l1] st M Q = Wp d 177 42 [some (.ref v), l1] (.ref v :: st) M Q := fun d l1 v st M Q => wA (show ins 177 41 = some (.aload_n 0, 1) by decide +kernel) rfl
set_option maxRecDepth 100000 in
theorem r_177_42 : ∀ (d : Nat) (ls : Lc) (a : Nat) (st : List Value) (M : Mem) (Q : Outcome → Mem → Prop), Wp d 177 42 ls (.ref a :: st) M Q = (fk 53 (kO M a) = true ∧ Wp d 177 45 ls (va_rf (mR M 53 a) :: st) M Q) := fun d ls a st M Q => w_getR (show ins 177 42 = some (.getfield 7, 3) by decide +kernel) (show fRes (mC 177) 7 = some (53, 8, false) by decide +kernel) (by decide +kernel)
set_option maxRecDepth 100000 in
theorem r_177_45 : ∀ (d : Nat) (ls : Lc) (st : List Value) (M : Mem) (Q : Outcome → Mem → Prop), Wp d 177 45 ls st M Q = Wp d 177 48 ls (.int (I 3852) :: st) M Q := fun d ls st M Q => w_sipush (show ins 177 45 = some (.sipush 3852, 3) by decide +kernel) (by decide)
set_option maxRecDepth 100000 in
theorem r_177_48 : ∀ (d : Nat) (l0 : Option Value) (v : Int32) (st : List Value) (M : Mem) (Q : Outcome → Mem → Prop), Wp d 177 48 [l0, some (.int v)] st M Q = Wp d 177 49 [l0, some (.int v)] (.int v :: st) M Q := fun d l0 v st M Q => wA (show ins 177 48 = some (.iload_n 1, 1) by decide +kernel) rfl
set_option maxRecDepth 100000 in
theorem r_177_49 : ∀ (d : Nat) (ls : Lc) (a b : Int) (st : List Value) (M : Mem) (Q : Outcome → Mem → Prop), Wp d 177 49 ls (.int (I b) :: .int (I a) :: st) M Q = Wp d 177 50 ls (.int (I (a + b)) :: st) M Q := fun d ls a b st M Q => w_iadd (show ins 177 49 = some (.iadd, 1) by decide +kernel)
set_option maxRecDepth 100000 in
theorem r_177_50 : ∀ (d : Nat) (ls : Lc) (st : List Value) (M : Mem) (Q : Outcome → Mem → Prop), Wp d 177 50 ls st M Q = Wp d 177 51 ls (.int (I 0) :: st) M Q := fun d ls st M Q => w_iconst (show ins 177 50 = some (.iconst 0, 1) by decide +kernel)
set_option maxRecDepth 100000 in
theorem r_177_51 : ∀ (d : Nat) (ls : Lc) (a : Nat) (j v : Int32) (st : List Value) (M : Mem) (Q : Outcome → Mem → Prop), Wp d 177 51 ls (.int v :: .int j :: .ref a :: st) M Q = (((kX M a).1 = 0 ∧ inB j (kX M a).2 = true) ∧ Wp d 177 52 ls st (sA M a j.toNatClampNeg v) Q) := fun d ls a j v st M Q => w_iastore (show ins 177 51 = some (.iastore, 1) by decide +kernel)
set_option maxRecDepth 100000 in
theorem r_177_52 : ∀ (d : Nat) (l0 : Option Value) (v : Int32) (st : List Value) (M : Mem) (Q : Outcome → Mem → Prop), Wp d 177 52 [l0, some (.int v)] st M Q = Wp d 177 53 [l0, some (.int v)] (.int v :: st) M Q := fun d l0 v st M Q => wA (show ins 177 52 = some (.iload_n 1, 1) by decide +kernel) rfl
set_option maxRecDepth 100000 in
theorem r_177_53 : ∀ (d : Nat) (ls : Lc) (v : Int32) (M : Mem) (Q : Outcome → Mem → Prop), Wp d 177 53 ls [.int v] M Q = Q (.returned (some (.int v))) M := fun d ls v M Q => w_ireturn (show ins 177 53 = some (.ireturn, 1) by decide +kernel) (by decide +kernel)
set_option maxRecDepth 100000 in
theorem r_177_54 : ∀ (d : Nat) (l0 : Option Value) (z : Int) (st : List Value) (M : Mem) (Q : Outcome → Mem → Prop), (lo l0 = false) → Wp d 177 54 [l0, some (.int (I z))] st M Q = Wp d 177 57 [l0, some (.int (I (z + 1)))] st M Q := fun d l0 z st M Q hl => w_iinc (show ins 177 54 = some (.iinc 1 1, 3) by decide +kernel) rfl (st1_S rfl rfl hl)
set_option maxRecDepth 100000 in
theorem r_177_57 : ∀ (d : Nat) (ls : Lc) (st : List Value) (M : Mem) (Q : Outcome → Mem → Prop), Wp d 177 57 ls st M Q = Wp d 177 2 ls st M Q := fun d ls st M Q => w_goto (show ins 177 57 = some (.goto (-55), 3) by decide +kernel) rfl
set_option maxRecDepth 100000 in
theorem r_177_60 : ∀ (d : Nat) (l1 : Option Value) (v : Nat) (st : List Value) (M : Mem) (Q : Outcome → Mem → Prop), Wp d 177 60 [some (.ref v), l1] st M Q = Wp d 177 61 [some (.ref v), l1] (.ref v :: st) M Q := fun d l1 v st M Q => wA (show ins 177 60 = some (.aload_n 0, 1) by decide +kernel) rfl
set_option maxRecDepth 100000 in
theorem r_177_61 : ∀ (d : Nat) (ls : Lc) (st : List Value) (M : Mem) (Q : Outcome → Mem → Prop), Wp d 177 61 ls st M Q = Wp d 177 62 ls (.int (I 1) :: st) M Q := fun d ls st M Q => w_iconst (show ins 177 61 = some (.iconst 1, 1) by decide +kernel)
set_option maxRecDepth 100000 in
theorem r_177_62 : ∀ (d : Nat) (ls : Lc) (a : Nat) (v : Int) (st : List Value) (M : Mem) (Q : Outcome → Mem → Prop), (v = 0 ∨ v = 1) → Wp d 177 62 ls (.int (I v) :: .ref a :: st) M Q = (fk 47 (kO M a) = true ∧ Wp d 177 65 ls st (sF M 47 a (I v)) Q) := fun d ls a v st M Q h0 => w_putZ (show ins 177 62 = some (.putfield 51, 3) by decide +kernel) (show fRes (mC 177) 51 = some (47, 8, false) by decide +kernel) (by decide +kernel) (by decide +kernel) h0
set_option maxRecDepth 100000 in
theorem r_177_65 : ∀ (d : Nat) (ls : Lc) (st : List Value) (M : Mem) (Q : Outcome → Mem → Prop), Wp d 177 65 ls st M Q = Wp d 177 66 ls (.int (I (-1)) :: st) M Q := fun d ls st M Q => w_iconst (show ins 177 65 = some (.iconst (-1), 1) by decide +kernel)
set_option maxRecDepth 100000 in
theorem r_177_66 : ∀ (d : Nat) (ls : Lc) (v : Int32) (M : Mem) (Q : Outcome → Mem → Prop), Wp d 177 66 ls [.int v] M Q = Q (.returned (some (.int v))) M := fun d ls v M Q => w_ireturn (show ins 177 66 = some (.ireturn, 1) by decide +kernel) (by decide +kernel)
set_option maxRecDepth 100000 in
theorem w_177_2 : (type_of% r_177_2) := r_177_2
set_option maxRecDepth 100000 in
theorem W_177 : (type_of% r_177_0) ∧ (type_of% r_177_1) ∧ (type_of% r_177_3) ∧ (type_of% r_177_4) ∧ (type_of% r_177_7) ∧ (type_of% r_177_10) ∧ (type_of% r_177_11) ∧ (type_of% r_177_14) ∧ (type_of% r_177_15) ∧ (type_of% r_177_16) ∧ (type_of% r_177_17) ∧ (type_of% r_177_18) ∧ (type_of% r_177_21) ∧ (type_of% r_177_22) ∧ (type_of% r_177_25) ∧ (type_of% r_177_26) ∧ (type_of% r_177_27) ∧ (type_of% r_177_28) ∧ (type_of% r_177_29) ∧ (type_of% r_177_30) ∧ (type_of% r_177_31) ∧ (type_of% r_177_34) ∧ (type_of% r_177_37) ∧ (type_of% r_177_38) ∧ (type_of% r_177_39) ∧ (type_of% r_177_40) ∧ (type_of% r_177_41) ∧ (type_of% r_177_42) ∧ (type_of% r_177_45) ∧ (type_of% r_177_48) ∧ (type_of% r_177_49) ∧ (type_of% r_177_50) ∧ (type_of% r_177_51) ∧ (type_of% r_177_52) ∧ (type_of% r_177_53) ∧ (type_of% r_177_54) ∧ (type_of% r_177_57) ∧ (type_of% r_177_60) ∧ (type_of% r_177_61) ∧ (type_of% r_177_62) ∧ (type_of% r_177_65) ∧ (type_of% r_177_66) := ⟨r_177_0, r_177_1, r_177_3, r_177_4, r_177_7, r_177_10, r_177_11, r_177_14, r_177_15, r_177_16, r_177_17, r_177_18, r_177_21, r_177_22, r_177_25, r_177_26, r_177_27, r_177_28, r_177_29, r_177_30, r_177_31, r_177_34, r_177_37, r_177_38, r_177_39, r_177_40, r_177_41, r_177_42, r_177_45, r_177_48, r_177_49, r_177_50, r_177_51, r_177_52, r_177_53, r_177_54, r_177_57, r_177_60, r_177_61, r_177_62, r_177_65, r_177_66⟩
set_option maxRecDepth 100000 in
theorem ca_177 {d y pc : Nat} {ls : Lc} {a : Nat} {r : List Value} {M : Mem} {Q : Outcome → Mem → Prop} (hd : 0 < d) (hw : Wp (d - 1) 177 0 [some (.ref a), none] [] M (Cq d y pc ls r Q)) : Ca d y pc ls 177 [.ref a] r M Q := ca_of (mq_get (by decide)) (by rfl) hd hw
/-! 178 PackedTreeModel.lineUp(II)V; loop heads [37] -/
set_option maxRecDepth 100000 in
theorem r_178_0 : ∀ (d : Nat) (l1 l2 l3 l4 l5 l6 : Option Value) (v : Nat) (st : List Value) (M : Mem) (Q : Outcome → Mem → Prop), Wp d 178 0 [some (.ref v), l1, l2, l3, l4, l5, l6] st M Q = Wp d 178 1 [some (.ref v), l1, l2, l3, l4, l5, l6] (.ref v :: st) M Q := fun d l1 l2 l3 l4 l5 l6 v st M Q => wA (show ins 178 0 = some (.aload_n 0, 1) by decide +kernel) rfl
set_option maxRecDepth 100000 in
theorem r_178_1 : ∀ (d : Nat) (l0 l2 l3 l4 l5 l6 : Option Value) (v : Int32) (st : List Value) (M : Mem) (Q : Outcome → Mem → Prop), Wp d 178 1 [l0, some (.int v), l2, l3, l4, l5, l6] st M Q = Wp d 178 2 [l0, some (.int v), l2, l3, l4, l5, l6] (.int v :: st) M Q := fun d l0 l2 l3 l4 l5 l6 v st M Q => wA (show ins 178 1 = some (.iload_n 1, 1) by decide +kernel) rfl
set_option maxRecDepth 100000 in
theorem r_178_2 : ∀ (d : Nat) (ls : Lc) (v0 : Value) (a : Nat) (st : List Value) (M : Mem) (Q : Outcome → Mem → Prop), (smallR st = true) → Wp d 178 2 ls (v0 :: .ref a :: st) M Q = (kO M a = 8 ∧ Ca d 178 2 ls 171 (.ref a :: [v0]) st M Q) := fun d ls v0 a st M Q h0 => w_virt1 (as := [v0]) (show ins 178 2 = some (.invokevirtual 55, 3) by decide +kernel) (show mRes (mC 178) 55 = some (3, 8, [(8, 171)]) by decide +kernel) (by decide +kernel) rfl (by decide +kernel) (by decide +kernel) h0
set_option maxRecDepth 100000 in
theorem r_178_5 : ∀ (d : Nat) (l0 l1 l2 l3 l4 l5 l6 : Option Value) (v : Int32) (st : List Value) (M : Mem) (Q : Outcome → Mem → Prop), (lo l2 = false) → Wp d 178 5 [l0, l1, l2, l3, l4, l5, l6] (.int v :: st) M Q = Wp d 178 6 [l0, l1, l2, some (.int v), l4, l5, l6] st M Q := fun d l0 l1 l2 l3 l4 l5 l6 v st M Q hl => w_istore_n (show ins 178 5 = some (.istore_n 3, 1) by decide +kernel) (st1_S rfl rfl hl)
set_option maxRecDepth 100000 in
theorem r_178_6 : ∀ (d : Nat) (ls : Lc) (st : List Value) (M : Mem) (Q : Outcome → Mem → Prop), Wp d 178 6 ls st M Q = Wp d 178 9 ls (.int (I 12300) :: st) M Q := fun d ls st M Q => w_sipush (show ins 178 6 = some (.sipush 12300, 3) by decide +kernel) (by decide)
set_option maxRecDepth 100000 in
theorem r_178_9 : ∀ (d : Nat) (ls : Lc) (st : List Value) (M : Mem) (Q : Outcome → Mem → Prop), Wp d 178 9 ls st M Q = Wp d 178 11 ls (.int (I 96) :: st) M Q := fun d ls st M Q => w_bipush (show ins 178 9 = some (.bipush 96, 2) by decide +kernel) (by decide)
set_option maxRecDepth 100000 in
theorem r_178_11 : ∀ (d : Nat) (l0 l1 l2 l4 l5 l6 : Option Value) (v : Int32) (st : List Value) (M : Mem) (Q : Outcome → Mem → Prop), Wp d 178 11 [l0, l1, l2, some (.int v), l4, l5, l6] st M Q = Wp d 178 12 [l0, l1, l2, some (.int v), l4, l5, l6] (.int v :: st) M Q := fun d l0 l1 l2 l4 l5 l6 v st M Q => wA (show ins 178 11 = some (.iload_n 3, 1) by decide +kernel) rfl
set_option maxRecDepth 100000 in
theorem r_178_12 : ∀ (d : Nat) (ls : Lc) (a b : Int) (st : List Value) (M : Mem) (Q : Outcome → Mem → Prop), Wp d 178 12 ls (.int (I b) :: .int (I a) :: st) M Q = Wp d 178 13 ls (.int (I (a * b)) :: st) M Q := fun d ls a b st M Q => w_imul (show ins 178 12 = some (.imul, 1) by decide +kernel)
set_option maxRecDepth 100000 in
theorem r_178_13 : ∀ (d : Nat) (ls : Lc) (a b : Int) (st : List Value) (M : Mem) (Q : Outcome → Mem → Prop), Wp d 178 13 ls (.int (I b) :: .int (I a) :: st) M Q = Wp d 178 14 ls (.int (I (a + b)) :: st) M Q := fun d ls a b st M Q => w_iadd (show ins 178 13 = some (.iadd, 1) by decide +kernel)
set_option maxRecDepth 100000 in
theorem r_178_14 : ∀ (d : Nat) (l0 l1 l2 l3 l4 l5 l6 : Option Value) (v : Int32) (st : List Value) (M : Mem) (Q : Outcome → Mem → Prop), (lo l3 = false) → Wp d 178 14 [l0, l1, l2, l3, l4, l5, l6] (.int v :: st) M Q = Wp d 178 16 [l0, l1, l2, l3, some (.int v), l5, l6] st M Q := fun d l0 l1 l2 l3 l4 l5 l6 v st M Q hl => w_istore (show ins 178 14 = some (.istore 4, 2) by decide +kernel) (st1_S rfl rfl hl)
set_option maxRecDepth 100000 in
theorem r_178_16 : ∀ (d : Nat) (l1 l2 l3 l4 l5 l6 : Option Value) (v : Nat) (st : List Value) (M : Mem) (Q : Outcome → Mem → Prop), Wp d 178 16 [some (.ref v), l1, l2, l3, l4, l5, l6] st M Q = Wp d 178 17 [some (.ref v), l1, l2, l3, l4, l5, l6] (.ref v :: st) M Q := fun d l1 l2 l3 l4 l5 l6 v st M Q => wA (show ins 178 16 = some (.aload_n 0, 1) by decide +kernel) rfl
set_option maxRecDepth 100000 in
theorem r_178_17 : ∀ (d : Nat) (l0 l1 l3 l4 l5 l6 : Option Value) (v : Int32) (st : List Value) (M : Mem) (Q : Outcome → Mem → Prop), Wp d 178 17 [l0, l1, some (.int v), l3, l4, l5, l6] st M Q = Wp d 178 18 [l0, l1, some (.int v), l3, l4, l5, l6] (.int v :: st) M Q := fun d l0 l1 l3 l4 l5 l6 v st M Q => wA (show ins 178 17 = some (.iload_n 2, 1) by decide +kernel) rfl
set_option maxRecDepth 100000 in
theorem r_178_18 : ∀ (d : Nat) (ls : Lc) (v0 : Value) (a : Nat) (st : List Value) (M : Mem) (Q : Outcome → Mem → Prop), (smallR st = true) → Wp d 178 18 ls (v0 :: .ref a :: st) M Q = (kO M a = 8 ∧ Ca d 178 18 ls 172 (.ref a :: [v0]) st M Q) := fun d ls v0 a st M Q h0 => w_virt1 (as := [v0]) (show ins 178 18 = some (.invokevirtual 59, 3) by decide +kernel) (show mRes (mC 178) 59 = some (3, 8, [(8, 172)]) by decide +kernel) (by decide +kernel) rfl (by decide +kernel) (by decide +kernel) h0
set_option maxRecDepth 100000 in
theorem r_178_21 : ∀ (d : Nat) (ls : Lc) (st : List Value) (M : Mem) (Q : Outcome → Mem → Prop), Wp d 178 21 ls st M Q = Wp d 178 22 ls (.int (I 1) :: st) M Q := fun d ls st M Q => w_iconst (show ins 178 21 = some (.iconst 1, 1) by decide +kernel)
set_option maxRecDepth 100000 in
theorem r_178_22 : ∀ (d : Nat) (ls : Lc) (a b : Int) (st : List Value) (M : Mem) (Q : Outcome → Mem → Prop), Wp d 178 22 ls (.int (I b) :: .int (I a) :: st) M Q = Wp d 178 23 ls (.int (I (a + b)) :: st) M Q := fun d ls a b st M Q => w_iadd (show ins 178 22 = some (.iadd, 1) by decide +kernel)
set_option maxRecDepth 100000 in
theorem r_178_23 : ∀ (d : Nat) (l0 l1 l2 l3 l4 l5 l6 : Option Value) (v : Int32) (st : List Value) (M : Mem) (Q : Outcome → Mem → Prop), (lo l4 = false) → Wp d 178 23 [l0, l1, l2, l3, l4, l5, l6] (.int v :: st) M Q = Wp d 178 25 [l0, l1, l2, l3, l4, some (.int v), l6] st M Q := fun d l0 l1 l2 l3 l4 l5 l6 v st M Q hl => w_istore (show ins 178 23 = some (.istore 5, 2) by decide +kernel) (st1_S rfl rfl hl)
set_option maxRecDepth 100000 in
theorem r_178_25 : ∀ (d : Nat) (l1 l2 l3 l4 l5 l6 : Option Value) (v : Nat) (st : List Value) (M : Mem) (Q : Outcome → Mem → Prop), Wp d 178 25 [some (.ref v), l1, l2, l3, l4, l5, l6] st M Q = Wp d 178 26 [some (.ref v), l1, l2, l3, l4, l5, l6] (.ref v :: st) M Q := fun d l1 l2 l3 l4 l5 l6 v st M Q => wA (show ins 178 25 = some (.aload_n 0, 1) by decide +kernel) rfl
set_option maxRecDepth 100000 in
theorem r_178_26 : ∀ (d : Nat) (ls : Lc) (a : Nat) (st : List Value) (M : Mem) (Q : Outcome → Mem → Prop), Wp d 178 26 ls (.ref a :: st) M Q = (fk 53 (kO M a) = true ∧ Wp d 178 29 ls (va_rf (mR M 53 a) :: st) M Q) := fun d ls a st M Q => w_getR (show ins 178 26 = some (.getfield 7, 3) by decide +kernel) (show fRes (mC 178) 7 = some (53, 8, false) by decide +kernel) (by decide +kernel)
set_option maxRecDepth 100000 in
theorem r_178_29 : ∀ (d : Nat) (ls : Lc) (st : List Value) (M : Mem) (Q : Outcome → Mem → Prop), Wp d 178 29 ls st M Q = Wp d 178 32 ls (.int (I 13068) :: st) M Q := fun d ls st M Q => w_sipush (show ins 178 29 = some (.sipush 13068, 3) by decide +kernel) (by decide)
set_option maxRecDepth 100000 in
theorem r_178_32 : ∀ (d : Nat) (l0 l1 l2 l4 l5 l6 : Option Value) (v : Int32) (st : List Value) (M : Mem) (Q : Outcome → Mem → Prop), Wp d 178 32 [l0, l1, l2, some (.int v), l4, l5, l6] st M Q = Wp d 178 33 [l0, l1, l2, some (.int v), l4, l5, l6] (.int v :: st) M Q := fun d l0 l1 l2 l4 l5 l6 v st M Q => wA (show ins 178 32 = some (.iload_n 3, 1) by decide +kernel) rfl
set_option maxRecDepth 100000 in
theorem r_178_33 : ∀ (d : Nat) (ls : Lc) (a b : Int) (st : List Value) (M : Mem) (Q : Outcome → Mem → Prop), Wp d 178 33 ls (.int (I b) :: .int (I a) :: st) M Q = Wp d 178 34 ls (.int (I (a + b)) :: st) M Q := fun d ls a b st M Q => w_iadd (show ins 178 33 = some (.iadd, 1) by decide +kernel)
set_option maxRecDepth 100000 in
theorem r_178_34 : ∀ (d : Nat) (ls : Lc) (a : Nat) (j : Int32) (st : List Value) (M : Mem) (Q : Outcome → Mem → Prop), Wp d 178 34 ls (.int j :: .ref a :: st) M Q = ((((kX M a).1 = 0 ∨ (kX M a).1 = 8) ∧ inB j (kX M a).2 = true) ∧ Wp d 178 35 ls (.int (mA M a j.toNatClampNeg) :: st) M Q) := fun d ls a j st M Q => w_iaload (show ins 178 34 = some (.iaload, 1) by decide +kernel)
set_option maxRecDepth 100000 in
theorem r_178_35 : ∀ (d : Nat) (l0 l1 l2 l3 l4 l5 l6 : Option Value) (v : Int32) (st : List Value) (M : Mem) (Q : Outcome → Mem → Prop), (lo l5 = false) → Wp d 178 35 [l0, l1, l2, l3, l4, l5, l6] (.int v :: st) M Q = Wp d 178 37 [l0, l1, l2, l3, l4, l5, some (.int v)] st M Q := fun d l0 l1 l2 l3 l4 l5 l6 v st M Q hl => w_istore (show ins 178 35 = some (.istore 6, 2) by decide +kernel) (st1_S rfl rfl hl)
set_option maxRecDepth 100000 in
theorem r_178_37 : ∀ (d : Nat) (l0 l1 l2 l3 l4 l5 : Option Value) (v : Int32) (st : List Value) (M : Mem) (Q : Outcome → Mem → Prop), Wp d 178 37 [l0, l1, l2, l3, l4, l5, some (.int v)] st M Q = Wp d 178 39 [l0, l1, l2, l3, l4, l5, some (.int v)] (.int v :: st) M Q := fun d l0 l1 l2 l3 l4 l5 v st M Q => wA (show ins 178 37 = some (.iload 6, 2) by decide +kernel) rfl
set_option maxRecDepth 100000 in
theorem r_178_39 : ∀ (d : Nat) (l0 l1 l2 l3 l4 l6 : Option Value) (v : Int32) (st : List Value) (M : Mem) (Q : Outcome → Mem → Prop), Wp d 178 39 [l0, l1, l2, l3, l4, some (.int v), l6] st M Q = Wp d 178 41 [l0, l1, l2, l3, l4, some (.int v), l6] (.int v :: st) M Q := fun d l0 l1 l2 l3 l4 l6 v st M Q => wA (show ins 178 39 = some (.iload 5, 2) by decide +kernel) rfl
set_option maxRecDepth 100000 in
theorem r_178_41 : ∀ (d : Nat) (ls : Lc) (a b : Int32) (st : List Value) (M : Mem) (Q : Outcome → Mem → Prop), Wp d 178 41 ls (.int b :: .int a :: st) M Q = Br (a ≤ b) d 178 72 44 ls st M Q := fun d ls a b st M Q => w_icmp (show ins 178 41 = some (.if_icmp .le 31, 3) by decide +kernel) rfl rfl
set_option maxRecDepth 100000 in
theorem r_178_44 : ∀ (d : Nat) (l1 l2 l3 l4 l5 l6 : Option Value) (v : Nat) (st : List Value) (M : Mem) (Q : Outcome → Mem → Prop), Wp d 178 44 [some (.ref v), l1, l2, l3, l4, l5, l6] st M Q = Wp d 178 45 [some (.ref v), l1, l2, l3, l4, l5, l6] (.ref v :: st) M Q := fun d l1 l2 l3 l4 l5 l6 v st M Q => wA (show ins 178 44 = some (.aload_n 0, 1) by decide +kernel) rfl
set_option maxRecDepth 100000 in
theorem r_178_45 : ∀ (d : Nat) (ls : Lc) (a : Nat) (st : List Value) (M : Mem) (Q : Outcome → Mem → Prop), Wp d 178 45 ls (.ref a :: st) M Q = (fk 53 (kO M a) = true ∧ Wp d 178 48 ls (va_rf (mR M 53 a) :: st) M Q) := fun d ls a st M Q => w_getR (show ins 178 45 = some (.getfield 7, 3) by decide +kernel) (show fRes (mC 178) 7 = some (53, 8, false) by decide +kernel) (by decide +kernel)
set_option maxRecDepth 100000 in
theorem r_178_48 : ∀ (d : Nat) (l0 l1 l2 l3 l5 l6 : Option Value) (v : Int32) (st : List Value) (M : Mem) (Q : Outcome → Mem → Prop), Wp d 178 48 [l0, l1, l2, l3, some (.int v), l5, l6] st M Q = Wp d 178 50 [l0, l1, l2, l3, some (.int v), l5, l6] (.int v :: st) M Q := fun d l0 l1 l2 l3 l5 l6 v st M Q => wA (show ins 178 48 = some (.iload 4, 2) by decide +kernel) rfl
set_option maxRecDepth 100000 in
theorem r_178_50 : ∀ (d : Nat) (l0 l1 l2 l3 l4 l5 : Option Value) (v : Int32) (st : List Value) (M : Mem) (Q : Outcome → Mem → Prop), Wp d 178 50 [l0, l1, l2, l3, l4, l5, some (.int v)] st M Q = Wp d 178 52 [l0, l1, l2, l3, l4, l5, some (.int v)] (.int v :: st) M Q := fun d l0 l1 l2 l3 l4 l5 v st M Q => wA (show ins 178 50 = some (.iload 6, 2) by decide +kernel) rfl
set_option maxRecDepth 100000 in
theorem r_178_52 : ∀ (d : Nat) (ls : Lc) (a b : Int) (st : List Value) (M : Mem) (Q : Outcome → Mem → Prop), Wp d 178 52 ls (.int (I b) :: .int (I a) :: st) M Q = Wp d 178 53 ls (.int (I (a + b)) :: st) M Q := fun d ls a b st M Q => w_iadd (show ins 178 52 = some (.iadd, 1) by decide +kernel)
set_option maxRecDepth 100000 in
theorem r_178_53 : ∀ (d : Nat) (l1 l2 l3 l4 l5 l6 : Option Value) (v : Nat) (st : List Value) (M : Mem) (Q : Outcome → Mem → Prop), Wp d 178 53 [some (.ref v), l1, l2, l3, l4, l5, l6] st M Q = Wp d 178 54 [some (.ref v), l1, l2, l3, l4, l5, l6] (.ref v :: st) M Q := fun d l1 l2 l3 l4 l5 l6 v st M Q => wA (show ins 178 53 = some (.aload_n 0, 1) by decide +kernel) rfl
set_option maxRecDepth 100000 in
theorem r_178_54 : ∀ (d : Nat) (ls : Lc) (a : Nat) (st : List Value) (M : Mem) (Q : Outcome → Mem → Prop), Wp d 178 54 ls (.ref a :: st) M Q = (fk 53 (kO M a) = true ∧ Wp d 178 57 ls (va_rf (mR M 53 a) :: st) M Q) := fun d ls a st M Q => w_getR (show ins 178 54 = some (.getfield 7, 3) by decide +kernel) (show fRes (mC 178) 7 = some (53, 8, false) by decide +kernel) (by decide +kernel)
set_option maxRecDepth 100000 in
theorem r_178_57 : ∀ (d : Nat) (l0 l1 l2 l3 l5 l6 : Option Value) (v : Int32) (st : List Value) (M : Mem) (Q : Outcome → Mem → Prop), Wp d 178 57 [l0, l1, l2, l3, some (.int v), l5, l6] st M Q = Wp d 178 59 [l0, l1, l2, l3, some (.int v), l5, l6] (.int v :: st) M Q := fun d l0 l1 l2 l3 l5 l6 v st M Q => wA (show ins 178 57 = some (.iload 4, 2) by decide +kernel) rfl
set_option maxRecDepth 100000 in
theorem r_178_59 : ∀ (d : Nat) (l0 l1 l2 l3 l4 l5 : Option Value) (v : Int32) (st : List Value) (M : Mem) (Q : Outcome → Mem → Prop), Wp d 178 59 [l0, l1, l2, l3, l4, l5, some (.int v)] st M Q = Wp d 178 61 [l0, l1, l2, l3, l4, l5, some (.int v)] (.int v :: st) M Q := fun d l0 l1 l2 l3 l4 l5 v st M Q => wA (show ins 178 59 = some (.iload 6, 2) by decide +kernel) rfl
set_option maxRecDepth 100000 in
theorem r_178_61 : ∀ (d : Nat) (ls : Lc) (a b : Int) (st : List Value) (M : Mem) (Q : Outcome → Mem → Prop), Wp d 178 61 ls (.int (I b) :: .int (I a) :: st) M Q = Wp d 178 62 ls (.int (I (a + b)) :: st) M Q := fun d ls a b st M Q => w_iadd (show ins 178 61 = some (.iadd, 1) by decide +kernel)
set_option maxRecDepth 100000 in
theorem r_178_62 : ∀ (d : Nat) (ls : Lc) (st : List Value) (M : Mem) (Q : Outcome → Mem → Prop), Wp d 178 62 ls st M Q = Wp d 178 63 ls (.int (I 1) :: st) M Q := fun d ls st M Q => w_iconst (show ins 178 62 = some (.iconst 1, 1) by decide +kernel)
set_option maxRecDepth 100000 in
theorem r_178_63 : ∀ (d : Nat) (ls : Lc) (a b : Int) (st : List Value) (M : Mem) (Q : Outcome → Mem → Prop), Wp d 178 63 ls (.int (I b) :: .int (I a) :: st) M Q = Wp d 178 64 ls (.int (I (a - b)) :: st) M Q := fun d ls a b st M Q => w_isub (show ins 178 63 = some (.isub, 1) by decide +kernel)
set_option maxRecDepth 100000 in
theorem r_178_64 : ∀ (d : Nat) (ls : Lc) (a : Nat) (j : Int32) (st : List Value) (M : Mem) (Q : Outcome → Mem → Prop), Wp d 178 64 ls (.int j :: .ref a :: st) M Q = ((((kX M a).1 = 0 ∨ (kX M a).1 = 8) ∧ inB j (kX M a).2 = true) ∧ Wp d 178 65 ls (.int (mA M a j.toNatClampNeg) :: st) M Q) := fun d ls a j st M Q => w_iaload (show ins 178 64 = some (.iaload, 1) by decide +kernel)
set_option maxRecDepth 100000 in
theorem r_178_65 : ∀ (d : Nat) (ls : Lc) (a : Nat) (j v : Int32) (st : List Value) (M : Mem) (Q : Outcome → Mem → Prop), Wp d 178 65 ls (.int v :: .int j :: .ref a :: st) M Q = (((kX M a).1 = 0 ∧ inB j (kX M a).2 = true) ∧ Wp d 178 66 ls st (sA M a j.toNatClampNeg v) Q) := fun d ls a j v st M Q => w_iastore (show ins 178 65 = some (.iastore, 1) by decide +kernel)
set_option maxRecDepth 100000 in
theorem r_178_66 : ∀ (d : Nat) (l0 l1 l2 l3 l4 l5 : Option Value) (z : Int) (st : List Value) (M : Mem) (Q : Outcome → Mem → Prop), (lo l5 = false) → Wp d 178 66 [l0, l1, l2, l3, l4, l5, some (.int (I z))] st M Q = Wp d 178 69 [l0, l1, l2, l3, l4, l5, some (.int (I (z + (-1))))] st M Q := fun d l0 l1 l2 l3 l4 l5 z st M Q hl => w_iinc (show ins 178 66 = some (.iinc 6 (-1), 3) by decide +kernel) rfl (st1_S rfl rfl hl)
set_option maxRecDepth 100000 in
theorem r_178_69 : ∀ (d : Nat) (ls : Lc) (st : List Value) (M : Mem) (Q : Outcome → Mem → Prop), Wp d 178 69 ls st M Q = Wp d 178 37 ls st M Q := fun d ls st M Q => w_goto (show ins 178 69 = some (.goto (-32), 3) by decide +kernel) rfl
set_option maxRecDepth 100000 in
theorem r_178_72 : ∀ (d : Nat) (l1 l2 l3 l4 l5 l6 : Option Value) (v : Nat) (st : List Value) (M : Mem) (Q : Outcome → Mem → Prop), Wp d 178 72 [some (.ref v), l1, l2, l3, l4, l5, l6] st M Q = Wp d 178 73 [some (.ref v), l1, l2, l3, l4, l5, l6] (.ref v :: st) M Q := fun d l1 l2 l3 l4 l5 l6 v st M Q => wA (show ins 178 72 = some (.aload_n 0, 1) by decide +kernel) rfl
set_option maxRecDepth 100000 in
theorem r_178_73 : ∀ (d : Nat) (ls : Lc) (a : Nat) (st : List Value) (M : Mem) (Q : Outcome → Mem → Prop), Wp d 178 73 ls (.ref a :: st) M Q = (fk 53 (kO M a) = true ∧ Wp d 178 76 ls (va_rf (mR M 53 a) :: st) M Q) := fun d ls a st M Q => w_getR (show ins 178 73 = some (.getfield 7, 3) by decide +kernel) (show fRes (mC 178) 7 = some (53, 8, false) by decide +kernel) (by decide +kernel)
set_option maxRecDepth 100000 in
theorem r_178_76 : ∀ (d : Nat) (l0 l1 l2 l3 l5 l6 : Option Value) (v : Int32) (st : List Value) (M : Mem) (Q : Outcome → Mem → Prop), Wp d 178 76 [l0, l1, l2, l3, some (.int v), l5, l6] st M Q = Wp d 178 78 [l0, l1, l2, l3, some (.int v), l5, l6] (.int v :: st) M Q := fun d l0 l1 l2 l3 l5 l6 v st M Q => wA (show ins 178 76 = some (.iload 4, 2) by decide +kernel) rfl
set_option maxRecDepth 100000 in
theorem r_178_78 : ∀ (d : Nat) (l0 l1 l2 l3 l4 l6 : Option Value) (v : Int32) (st : List Value) (M : Mem) (Q : Outcome → Mem → Prop), Wp d 178 78 [l0, l1, l2, l3, l4, some (.int v), l6] st M Q = Wp d 178 80 [l0, l1, l2, l3, l4, some (.int v), l6] (.int v :: st) M Q := fun d l0 l1 l2 l3 l4 l6 v st M Q => wA (show ins 178 78 = some (.iload 5, 2) by decide +kernel) rfl
set_option maxRecDepth 100000 in
theorem r_178_80 : ∀ (d : Nat) (ls : Lc) (a b : Int) (st : List Value) (M : Mem) (Q : Outcome → Mem → Prop), Wp d 178 80 ls (.int (I b) :: .int (I a) :: st) M Q = Wp d 178 81 ls (.int (I (a + b)) :: st) M Q := fun d ls a b st M Q => w_iadd (show ins 178 80 = some (.iadd, 1) by decide +kernel)
set_option maxRecDepth 100000 in
theorem r_178_81 : ∀ (d : Nat) (l0 l2 l3 l4 l5 l6 : Option Value) (v : Int32) (st : List Value) (M : Mem) (Q : Outcome → Mem → Prop), Wp d 178 81 [l0, some (.int v), l2, l3, l4, l5, l6] st M Q = Wp d 178 82 [l0, some (.int v), l2, l3, l4, l5, l6] (.int v :: st) M Q := fun d l0 l2 l3 l4 l5 l6 v st M Q => wA (show ins 178 81 = some (.iload_n 1, 1) by decide +kernel) rfl
set_option maxRecDepth 100000 in
theorem r_178_82 : ∀ (d : Nat) (ls : Lc) (a : Nat) (j v : Int32) (st : List Value) (M : Mem) (Q : Outcome → Mem → Prop), Wp d 178 82 ls (.int v :: .int j :: .ref a :: st) M Q = (((kX M a).1 = 0 ∧ inB j (kX M a).2 = true) ∧ Wp d 178 83 ls st (sA M a j.toNatClampNeg v) Q) := fun d ls a j v st M Q => w_iastore (show ins 178 82 = some (.iastore, 1) by decide +kernel)
set_option maxRecDepth 100000 in
theorem r_178_83 : ∀ (d : Nat) (l1 l2 l3 l4 l5 l6 : Option Value) (v : Nat) (st : List Value) (M : Mem) (Q : Outcome → Mem → Prop), Wp d 178 83 [some (.ref v), l1, l2, l3, l4, l5, l6] st M Q = Wp d 178 84 [some (.ref v), l1, l2, l3, l4, l5, l6] (.ref v :: st) M Q := fun d l1 l2 l3 l4 l5 l6 v st M Q => wA (show ins 178 83 = some (.aload_n 0, 1) by decide +kernel) rfl
set_option maxRecDepth 100000 in
theorem r_178_84 : ∀ (d : Nat) (ls : Lc) (a : Nat) (st : List Value) (M : Mem) (Q : Outcome → Mem → Prop), Wp d 178 84 ls (.ref a :: st) M Q = (fk 53 (kO M a) = true ∧ Wp d 178 87 ls (va_rf (mR M 53 a) :: st) M Q) := fun d ls a st M Q => w_getR (show ins 178 84 = some (.getfield 7, 3) by decide +kernel) (show fRes (mC 178) 7 = some (53, 8, false) by decide +kernel) (by decide +kernel)
set_option maxRecDepth 100000 in
theorem r_178_87 : ∀ (d : Nat) (ls : Lc) (st : List Value) (M : Mem) (Q : Outcome → Mem → Prop), Wp d 178 87 ls st M Q = Wp d 178 90 ls (.int (I 13068) :: st) M Q := fun d ls st M Q => w_sipush (show ins 178 87 = some (.sipush 13068, 3) by decide +kernel) (by decide)
set_option maxRecDepth 100000 in
theorem r_178_90 : ∀ (d : Nat) (l0 l1 l2 l4 l5 l6 : Option Value) (v : Int32) (st : List Value) (M : Mem) (Q : Outcome → Mem → Prop), Wp d 178 90 [l0, l1, l2, some (.int v), l4, l5, l6] st M Q = Wp d 178 91 [l0, l1, l2, some (.int v), l4, l5, l6] (.int v :: st) M Q := fun d l0 l1 l2 l4 l5 l6 v st M Q => wA (show ins 178 90 = some (.iload_n 3, 1) by decide +kernel) rfl
set_option maxRecDepth 100000 in
theorem r_178_91 : ∀ (d : Nat) (ls : Lc) (a b : Int) (st : List Value) (M : Mem) (Q : Outcome → Mem → Prop), Wp d 178 91 ls (.int (I b) :: .int (I a) :: st) M Q = Wp d 178 92 ls (.int (I (a + b)) :: st) M Q := fun d ls a b st M Q => w_iadd (show ins 178 91 = some (.iadd, 1) by decide +kernel)
set_option maxRecDepth 100000 in
theorem r_178_92 : ∀ (d : Nat) (ls : Lc) (v : Int32) (a : Nat) (st : List Value) (M : Mem) (Q : Outcome → Mem → Prop), Wp d 178 92 ls (.int v :: .ref a :: st) M Q = Wp d 178 93 ls (.int v :: .ref a :: .int v :: .ref a :: st) M Q := fun d ls v a st M Q => wA (show ins 178 92 = some (.dup2, 1) by decide +kernel) rfl
set_option maxRecDepth 100000 in
theorem r_178_93 : ∀ (d : Nat) (ls : Lc) (a : Nat) (j : Int32) (st : List Value) (M : Mem) (Q : Outcome → Mem → Prop), Wp d 178 93 ls (.int j :: .ref a :: st) M Q = ((((kX M a).1 = 0 ∨ (kX M a).1 = 8) ∧ inB j (kX M a).2 = true) ∧ Wp d 178 94 ls (.int (mA M a j.toNatClampNeg) :: st) M Q) := fun d ls a j st M Q => w_iaload (show ins 178 93 = some (.iaload, 1) by decide +kernel)
set_option maxRecDepth 100000 in
theorem r_178_94 : ∀ (d : Nat) (ls : Lc) (st : List Value) (M : Mem) (Q : Outcome → Mem → Prop), Wp d 178 94 ls st M Q = Wp d 178 95 ls (.int (I 1) :: st) M Q := fun d ls st M Q => w_iconst (show ins 178 94 = some (.iconst 1, 1) by decide +kernel)
set_option maxRecDepth 100000 in
theorem r_178_95 : ∀ (d : Nat) (ls : Lc) (a b : Int) (st : List Value) (M : Mem) (Q : Outcome → Mem → Prop), Wp d 178 95 ls (.int (I b) :: .int (I a) :: st) M Q = Wp d 178 96 ls (.int (I (a + b)) :: st) M Q := fun d ls a b st M Q => w_iadd (show ins 178 95 = some (.iadd, 1) by decide +kernel)
set_option maxRecDepth 100000 in
theorem r_178_96 : ∀ (d : Nat) (ls : Lc) (a : Nat) (j v : Int32) (st : List Value) (M : Mem) (Q : Outcome → Mem → Prop), Wp d 178 96 ls (.int v :: .int j :: .ref a :: st) M Q = (((kX M a).1 = 0 ∧ inB j (kX M a).2 = true) ∧ Wp d 178 97 ls st (sA M a j.toNatClampNeg v) Q) := fun d ls a j v st M Q => w_iastore (show ins 178 96 = some (.iastore, 1) by decide +kernel)
set_option maxRecDepth 100000 in
theorem r_178_97 : ∀ (d : Nat) (ls : Lc) (M : Mem) (Q : Outcome → Mem → Prop), Wp d 178 97 ls [] M Q = Q (.returned none) M := fun d ls M Q => w_return (show ins 178 97 = some (.return_, 1) by decide +kernel) (by decide +kernel)
set_option maxRecDepth 100000 in
theorem w_178_37 : (type_of% r_178_37) := r_178_37
set_option maxRecDepth 100000 in
theorem W_178 : (type_of% r_178_0) ∧ (type_of% r_178_1) ∧ (type_of% r_178_2) ∧ (type_of% r_178_5) ∧ (type_of% r_178_6) ∧ (type_of% r_178_9) ∧ (type_of% r_178_11) ∧ (type_of% r_178_12) ∧ (type_of% r_178_13) ∧ (type_of% r_178_14) ∧ (type_of% r_178_16) ∧ (type_of% r_178_17) ∧ (type_of% r_178_18) ∧ (type_of% r_178_21) ∧ (type_of% r_178_22) ∧ (type_of% r_178_23) ∧ (type_of% r_178_25) ∧ (type_of% r_178_26) ∧ (type_of% r_178_29) ∧ (type_of% r_178_32) ∧ (type_of% r_178_33) ∧ (type_of% r_178_34) ∧ (type_of% r_178_35) ∧ (type_of% r_178_39) ∧ (type_of% r_178_41) ∧ (type_of% r_178_44) ∧ (type_of% r_178_45) ∧ (type_of% r_178_48) ∧ (type_of% r_178_50) ∧ (type_of% r_178_52) ∧ (type_of% r_178_53) ∧ (type_of% r_178_54) ∧ (type_of% r_178_57) ∧ (type_of% r_178_59) ∧ (type_of% r_178_61) ∧ (type_of% r_178_62) ∧ (type_of% r_178_63) ∧ (type_of% r_178_64) ∧ (type_of% r_178_65) ∧ (type_of% r_178_66) ∧ (type_of% r_178_69) ∧ (type_of% r_178_72) ∧ (type_of% r_178_73) ∧ (type_of% r_178_76) ∧ (type_of% r_178_78) ∧ (type_of% r_178_80) ∧ (type_of% r_178_81) ∧ (type_of% r_178_82) ∧ (type_of% r_178_83) ∧ (type_of% r_178_84) ∧ (type_of% r_178_87) ∧ (type_of% r_178_90) ∧ (type_of% r_178_91) ∧ (type_of% r_178_92) ∧ (type_of% r_178_93) ∧ (type_of% r_178_94) ∧ (type_of% r_178_95) ∧ (type_of% r_178_96) ∧ (type_of% r_178_97) := ⟨r_178_0, r_178_1, r_178_2, r_178_5, r_178_6, r_178_9, r_178_11, r_178_12, r_178_13, r_178_14, r_178_16, r_178_17, r_178_18, r_178_21, r_178_22, r_178_23, r_178_25, r_178_26, r_178_29, r_178_32, r_178_33, r_178_34, r_178_35, r_178_39, r_178_41, r_178_44, r_178_45, r_178_48, r_178_50, r_178_52, r_178_53, r_178_54, r_178_57, r_178_59, r_178_61, r_178_62, r_178_63, r_178_64, r_178_65, r_178_66, r_178_69, r_178_72, r_178_73, r_178_76, r_178_78, r_178_80, r_178_81, r_178_82, r_178_83, r_178_84, r_178_87, r_178_90, r_178_91, r_178_92, r_178_93, r_178_94, r_178_95, r_178_96, r_178_97⟩
set_option maxRecDepth 100000 in
theorem ca_178 {d y pc : Nat} {ls : Lc} {a : Nat} {z0 : Int32} {z1 : Int32} {r : List Value} {M : Mem} {Q : Outcome → Mem → Prop} (hd : 0 < d) (hw : Wp (d - 1) 178 0 [some (.ref a), some (.int z0), some (.int z1), none, none, none, none] [] M (Cq d y pc ls r Q)) : Ca d y pc ls 178 [.ref a, .int z0, .int z1] r M Q := ca_of (mq_get (by decide)) (by rfl) hd hw
/-! 179 PackedTreeModel.added(II)V; loop heads [5, 220] -/
set_option maxRecDepth 100000 in
theorem r_179_0 : ∀ (d : Nat) (l0 l2 l3 l4 l5 l6 l7 : Option Value) (v : Int32) (st : List Value) (M : Mem) (Q : Outcome → Mem → Prop), Wp d 179 0 [l0, some (.int v), l2, l3, l4, l5, l6, l7] st M Q = Wp d 179 1 [l0, some (.int v), l2, l3, l4, l5, l6, l7] (.int v :: st) M Q := fun d l0 l2 l3 l4 l5 l6 l7 v st M Q => wA (show ins 179 0 = some (.iload_n 1, 1) by decide +kernel) rfl
set_option maxRecDepth 100000 in
theorem r_179_1 : ∀ (d : Nat) (l0 l1 l2 l3 l4 l5 l6 l7 : Option Value) (v : Int32) (st : List Value) (M : Mem) (Q : Outcome → Mem → Prop), (lo l2 = false) → Wp d 179 1 [l0, l1, l2, l3, l4, l5, l6, l7] (.int v :: st) M Q = Wp d 179 2 [l0, l1, l2, some (.int v), l4, l5, l6, l7] st M Q := fun d l0 l1 l2 l3 l4 l5 l6 l7 v st M Q hl => w_istore_n (show ins 179 1 = some (.istore_n 3, 1) by decide +kernel) (st1_S rfl rfl hl)
set_option maxRecDepth 100000 in
theorem r_179_2 : ∀ (d : Nat) (l0 l1 l3 l4 l5 l6 l7 : Option Value) (v : Int32) (st : List Value) (M : Mem) (Q : Outcome → Mem → Prop), Wp d 179 2 [l0, l1, some (.int v), l3, l4, l5, l6, l7] st M Q = Wp d 179 3 [l0, l1, some (.int v), l3, l4, l5, l6, l7] (.int v :: st) M Q := fun d l0 l1 l3 l4 l5 l6 l7 v st M Q => wA (show ins 179 2 = some (.iload_n 2, 1) by decide +kernel) rfl
set_option maxRecDepth 100000 in
theorem r_179_3 : ∀ (d : Nat) (l0 l1 l2 l3 l4 l5 l6 l7 : Option Value) (v : Int32) (st : List Value) (M : Mem) (Q : Outcome → Mem → Prop), (lo l3 = false) → Wp d 179 3 [l0, l1, l2, l3, l4, l5, l6, l7] (.int v :: st) M Q = Wp d 179 5 [l0, l1, l2, l3, some (.int v), l5, l6, l7] st M Q := fun d l0 l1 l2 l3 l4 l5 l6 l7 v st M Q hl => w_istore (show ins 179 3 = some (.istore 4, 2) by decide +kernel) (st1_S rfl rfl hl)
set_option maxRecDepth 100000 in
theorem r_179_5 : ∀ (d : Nat) (l1 l2 l3 l4 l5 l6 l7 : Option Value) (v : Nat) (st : List Value) (M : Mem) (Q : Outcome → Mem → Prop), Wp d 179 5 [some (.ref v), l1, l2, l3, l4, l5, l6, l7] st M Q = Wp d 179 6 [some (.ref v), l1, l2, l3, l4, l5, l6, l7] (.ref v :: st) M Q := fun d l1 l2 l3 l4 l5 l6 l7 v st M Q => wA (show ins 179 5 = some (.aload_n 0, 1) by decide +kernel) rfl
set_option maxRecDepth 100000 in
theorem r_179_6 : ∀ (d : Nat) (ls : Lc) (a : Nat) (st : List Value) (M : Mem) (Q : Outcome → Mem → Prop), Wp d 179 6 ls (.ref a :: st) M Q = (fk 47 (kO M a) = true ∧ Wp d 179 9 ls (.int (mF M 47 a) :: st) M Q) := fun d ls a st M Q => w_getI (show ins 179 6 = some (.getfield 51, 3) by decide +kernel) (show fRes (mC 179) 51 = some (47, 8, false) by decide +kernel) (by decide +kernel)
set_option maxRecDepth 100000 in
theorem r_179_9 : ∀ (d : Nat) (ls : Lc) (a : Int32) (st : List Value) (M : Mem) (Q : Outcome → Mem → Prop), Wp d 179 9 ls (.int a :: st) M Q = Br (¬ a = I 0) d 179 276 12 ls st M Q := fun d ls a st M Q => w_if (show ins 179 9 = some (.ifCond .ne 267, 3) by decide +kernel) rfl rfl
set_option maxRecDepth 100000 in
theorem r_179_12 : ∀ (d : Nat) (l1 l2 l3 l4 l5 l6 l7 : Option Value) (v : Nat) (st : List Value) (M : Mem) (Q : Outcome → Mem → Prop), Wp d 179 12 [some (.ref v), l1, l2, l3, l4, l5, l6, l7] st M Q = Wp d 179 13 [some (.ref v), l1, l2, l3, l4, l5, l6, l7] (.ref v :: st) M Q := fun d l1 l2 l3 l4 l5 l6 l7 v st M Q => wA (show ins 179 12 = some (.aload_n 0, 1) by decide +kernel) rfl
set_option maxRecDepth 100000 in
theorem r_179_13 : ∀ (d : Nat) (ls : Lc) (a : Nat) (st : List Value) (M : Mem) (Q : Outcome → Mem → Prop), Wp d 179 13 ls (.ref a :: st) M Q = (fk 53 (kO M a) = true ∧ Wp d 179 16 ls (va_rf (mR M 53 a) :: st) M Q) := fun d ls a st M Q => w_getR (show ins 179 13 = some (.getfield 7, 3) by decide +kernel) (show fRes (mC 179) 7 = some (53, 8, false) by decide +kernel) (by decide +kernel)
set_option maxRecDepth 100000 in
theorem r_179_16 : ∀ (d : Nat) (ls : Lc) (st : List Value) (M : Mem) (Q : Outcome → Mem → Prop), Wp d 179 16 ls st M Q = Wp d 179 19 ls (.int (I 3948) :: st) M Q := fun d ls st M Q => w_sipush (show ins 179 16 = some (.sipush 3948, 3) by decide +kernel) (by decide)
set_option maxRecDepth 100000 in
theorem r_179_19 : ∀ (d : Nat) (l0 l1 l2 l4 l5 l6 l7 : Option Value) (v : Int32) (st : List Value) (M : Mem) (Q : Outcome → Mem → Prop), Wp d 179 19 [l0, l1, l2, some (.int v), l4, l5, l6, l7] st M Q = Wp d 179 20 [l0, l1, l2, some (.int v), l4, l5, l6, l7] (.int v :: st) M Q := fun d l0 l1 l2 l4 l5 l6 l7 v st M Q => wA (show ins 179 19 = some (.iload_n 3, 1) by decide +kernel) rfl
set_option maxRecDepth 100000 in
theorem r_179_20 : ∀ (d : Nat) (ls : Lc) (a b : Int) (st : List Value) (M : Mem) (Q : Outcome → Mem → Prop), Wp d 179 20 ls (.int (I b) :: .int (I a) :: st) M Q = Wp d 179 21 ls (.int (I (a + b)) :: st) M Q := fun d ls a b st M Q => w_iadd (show ins 179 20 = some (.iadd, 1) by decide +kernel)
set_option maxRecDepth 100000 in
theorem r_179_21 : ∀ (d : Nat) (ls : Lc) (a : Nat) (j : Int32) (st : List Value) (M : Mem) (Q : Outcome → Mem → Prop), Wp d 179 21 ls (.int j :: .ref a :: st) M Q = ((((kX M a).1 = 0 ∨ (kX M a).1 = 8) ∧ inB j (kX M a).2 = true) ∧ Wp d 179 22 ls (.int (mA M a j.toNatClampNeg) :: st) M Q) := fun d ls a j st M Q => w_iaload (show ins 179 21 = some (.iaload, 1) by decide +kernel)
set_option maxRecDepth 100000 in
theorem r_179_22 : ∀ (d : Nat) (l0 l1 l2 l3 l4 l5 l6 l7 : Option Value) (v : Int32) (st : List Value) (M : Mem) (Q : Outcome → Mem → Prop), (lo l4 = false) → Wp d 179 22 [l0, l1, l2, l3, l4, l5, l6, l7] (.int v :: st) M Q = Wp d 179 24 [l0, l1, l2, l3, l4, some (.int v), l6, l7] st M Q := fun d l0 l1 l2 l3 l4 l5 l6 l7 v st M Q hl => w_istore (show ins 179 22 = some (.istore 5, 2) by decide +kernel) (st1_S rfl rfl hl)
set_option maxRecDepth 100000 in
theorem r_179_24 : ∀ (d : Nat) (l0 l1 l2 l3 l4 l6 l7 : Option Value) (v : Int32) (st : List Value) (M : Mem) (Q : Outcome → Mem → Prop), Wp d 179 24 [l0, l1, l2, l3, l4, some (.int v), l6, l7] st M Q = Wp d 179 26 [l0, l1, l2, l3, l4, some (.int v), l6, l7] (.int v :: st) M Q := fun d l0 l1 l2 l3 l4 l6 l7 v st M Q => wA (show ins 179 24 = some (.iload 5, 2) by decide +kernel) rfl
set_option maxRecDepth 100000 in
theorem r_179_26 : ∀ (d : Nat) (ls : Lc) (st : List Value) (M : Mem) (Q : Outcome → Mem → Prop), Wp d 179 26 ls st M Q = Wp d 179 27 ls (.int (I (-1)) :: st) M Q := fun d ls st M Q => w_iconst (show ins 179 26 = some (.iconst (-1), 1) by decide +kernel)
set_option maxRecDepth 100000 in
theorem r_179_27 : ∀ (d : Nat) (ls : Lc) (a b : Int32) (st : List Value) (M : Mem) (Q : Outcome → Mem → Prop), Wp d 179 27 ls (.int b :: .int a :: st) M Q = Br (¬ a = b) d 179 148 30 ls st M Q := fun d ls a b st M Q => w_icmp (show ins 179 27 = some (.if_icmp .ne 121, 3) by decide +kernel) rfl rfl
set_option maxRecDepth 100000 in
theorem r_179_30 : ∀ (d : Nat) (l1 l2 l3 l4 l5 l6 l7 : Option Value) (v : Nat) (st : List Value) (M : Mem) (Q : Outcome → Mem → Prop), Wp d 179 30 [some (.ref v), l1, l2, l3, l4, l5, l6, l7] st M Q = Wp d 179 31 [some (.ref v), l1, l2, l3, l4, l5, l6, l7] (.ref v :: st) M Q := fun d l1 l2 l3 l4 l5 l6 l7 v st M Q => wA (show ins 179 30 = some (.aload_n 0, 1) by decide +kernel) rfl
set_option maxRecDepth 100000 in
theorem r_179_31 : ∀ (d : Nat) (ls : Lc) (a : Nat) (st : List Value) (M : Mem) (Q : Outcome → Mem → Prop), (smallR st = true) → Wp d 179 31 ls (.ref a :: st) M Q = (kO M a = 8 ∧ Ca d 179 31 ls 177 (.ref a :: []) st M Q) := fun d ls a st M Q h0 => w_virt1 (as := []) (show ins 179 31 = some (.invokevirtual 62, 3) by decide +kernel) (show mRes (mC 179) 62 = some (3, 8, [(8, 177)]) by decide +kernel) (by decide +kernel) rfl (by decide +kernel) (by decide +kernel) h0
set_option maxRecDepth 100000 in
theorem r_179_34 : ∀ (d : Nat) (l0 l1 l2 l3 l4 l5 l6 l7 : Option Value) (v : Int32) (st : List Value) (M : Mem) (Q : Outcome → Mem → Prop), (lo l5 = false) → Wp d 179 34 [l0, l1, l2, l3, l4, l5, l6, l7] (.int v :: st) M Q = Wp d 179 36 [l0, l1, l2, l3, l4, l5, some (.int v), l7] st M Q := fun d l0 l1 l2 l3 l4 l5 l6 l7 v st M Q hl => w_istore (show ins 179 34 = some (.istore 6, 2) by decide +kernel) (st1_S rfl rfl hl)
set_option maxRecDepth 100000 in
theorem r_179_36 : ∀ (d : Nat) (l1 l2 l3 l4 l5 l6 l7 : Option Value) (v : Nat) (st : List Value) (M : Mem) (Q : Outcome → Mem → Prop), Wp d 179 36 [some (.ref v), l1, l2, l3, l4, l5, l6, l7] st M Q = Wp d 179 37 [some (.ref v), l1, l2, l3, l4, l5, l6, l7] (.ref v :: st) M Q := fun d l1 l2 l3 l4 l5 l6 l7 v st M Q => wA (show ins 179 36 = some (.aload_n 0, 1) by decide +kernel) rfl
set_option maxRecDepth 100000 in
theorem r_179_37 : ∀ (d : Nat) (ls : Lc) (a : Nat) (st : List Value) (M : Mem) (Q : Outcome → Mem → Prop), Wp d 179 37 ls (.ref a :: st) M Q = (fk 47 (kO M a) = true ∧ Wp d 179 40 ls (.int (mF M 47 a) :: st) M Q) := fun d ls a st M Q => w_getI (show ins 179 37 = some (.getfield 51, 3) by decide +kernel) (show fRes (mC 179) 51 = some (47, 8, false) by decide +kernel) (by decide +kernel)
set_option maxRecDepth 100000 in
theorem r_179_40 : ∀ (d : Nat) (ls : Lc) (a : Int32) (st : List Value) (M : Mem) (Q : Outcome → Mem → Prop), Wp d 179 40 ls (.int a :: st) M Q = Br (a = I 0) d 179 44 43 ls st M Q := fun d ls a st M Q => w_if (show ins 179 40 = some (.ifCond .eq 4, 3) by decide +kernel) rfl rfl
set_option maxRecDepth 100000 in
theorem r_179_43 : ∀ (d : Nat) (ls : Lc) (M : Mem) (Q : Outcome → Mem → Prop), Wp d 179 43 ls [] M Q = Q (.returned none) M := fun d ls M Q => w_return (show ins 179 43 = some (.return_, 1) by decide +kernel) (by decide +kernel)
set_option maxRecDepth 100000 in
theorem r_179_44 : ∀ (d : Nat) (l1 l2 l3 l4 l5 l6 l7 : Option Value) (v : Nat) (st : List Value) (M : Mem) (Q : Outcome → Mem → Prop), Wp d 179 44 [some (.ref v), l1, l2, l3, l4, l5, l6, l7] st M Q = Wp d 179 45 [some (.ref v), l1, l2, l3, l4, l5, l6, l7] (.ref v :: st) M Q := fun d l1 l2 l3 l4 l5 l6 l7 v st M Q => wA (show ins 179 44 = some (.aload_n 0, 1) by decide +kernel) rfl
set_option maxRecDepth 100000 in
theorem r_179_45 : ∀ (d : Nat) (l0 l1 l2 l4 l5 l6 l7 : Option Value) (v : Int32) (st : List Value) (M : Mem) (Q : Outcome → Mem → Prop), Wp d 179 45 [l0, l1, l2, some (.int v), l4, l5, l6, l7] st M Q = Wp d 179 46 [l0, l1, l2, some (.int v), l4, l5, l6, l7] (.int v :: st) M Q := fun d l0 l1 l2 l4 l5 l6 l7 v st M Q => wA (show ins 179 45 = some (.iload_n 3, 1) by decide +kernel) rfl
set_option maxRecDepth 100000 in
theorem r_179_46 : ∀ (d : Nat) (ls : Lc) (v0 : Value) (a : Nat) (st : List Value) (M : Mem) (Q : Outcome → Mem → Prop), (smallR st = true) → Wp d 179 46 ls (v0 :: .ref a :: st) M Q = (kO M a = 8 ∧ Ca d 179 46 ls 171 (.ref a :: [v0]) st M Q) := fun d ls v0 a st M Q h0 => w_virt1 (as := [v0]) (show ins 179 46 = some (.invokevirtual 55, 3) by decide +kernel) (show mRes (mC 179) 55 = some (3, 8, [(8, 171)]) by decide +kernel) (by decide +kernel) rfl (by decide +kernel) (by decide +kernel) h0
set_option maxRecDepth 100000 in
theorem r_179_49 : ∀ (d : Nat) (ls : Lc) (st : List Value) (M : Mem) (Q : Outcome → Mem → Prop), Wp d 179 49 ls st M Q = Wp d 179 50 ls (.int (I 1) :: st) M Q := fun d ls st M Q => w_iconst (show ins 179 49 = some (.iconst 1, 1) by decide +kernel)
set_option maxRecDepth 100000 in
theorem r_179_50 : ∀ (d : Nat) (ls : Lc) (a b : Int) (st : List Value) (M : Mem) (Q : Outcome → Mem → Prop), Wp d 179 50 ls (.int (I b) :: .int (I a) :: st) M Q = Wp d 179 51 ls (.int (I (a + b)) :: st) M Q := fun d ls a b st M Q => w_iadd (show ins 179 50 = some (.iadd, 1) by decide +kernel)
set_option maxRecDepth 100000 in
theorem r_179_51 : ∀ (d : Nat) (l0 l1 l2 l3 l4 l5 l6 l7 : Option Value) (v : Int32) (st : List Value) (M : Mem) (Q : Outcome → Mem → Prop), (lo l6 = false) → Wp d 179 51 [l0, l1, l2, l3, l4, l5, l6, l7] (.int v :: st) M Q = Wp d 179 53 [l0, l1, l2, l3, l4, l5, l6, some (.int v)] st M Q := fun d l0 l1 l2 l3 l4 l5 l6 l7 v st M Q hl => w_istore (show ins 179 51 = some (.istore 7, 2) by decide +kernel) (st1_S rfl rfl hl)
set_option maxRecDepth 100000 in
theorem r_179_53 : ∀ (d : Nat) (l1 l2 l3 l4 l5 l6 l7 : Option Value) (v : Nat) (st : List Value) (M : Mem) (Q : Outcome → Mem → Prop), Wp d 179 53 [some (.ref v), l1, l2, l3, l4, l5, l6, l7] st M Q = Wp d 179 54 [some (.ref v), l1, l2, l3, l4, l5, l6, l7] (.ref v :: st) M Q := fun d l1 l2 l3 l4 l5 l6 l7 v st M Q => wA (show ins 179 53 = some (.aload_n 0, 1) by decide +kernel) rfl
set_option maxRecDepth 100000 in
theorem r_179_54 : ∀ (d : Nat) (ls : Lc) (a : Nat) (st : List Value) (M : Mem) (Q : Outcome → Mem → Prop), Wp d 179 54 ls (.ref a :: st) M Q = (fk 53 (kO M a) = true ∧ Wp d 179 57 ls (va_rf (mR M 53 a) :: st) M Q) := fun d ls a st M Q => w_getR (show ins 179 54 = some (.getfield 7, 3) by decide +kernel) (show fRes (mC 179) 7 = some (53, 8, false) by decide +kernel) (by decide +kernel)
set_option maxRecDepth 100000 in
theorem r_179_57 : ∀ (d : Nat) (ls : Lc) (st : List Value) (M : Mem) (Q : Outcome → Mem → Prop), Wp d 179 57 ls st M Q = Wp d 179 60 ls (.int (I 3756) :: st) M Q := fun d ls st M Q => w_sipush (show ins 179 57 = some (.sipush 3756, 3) by decide +kernel) (by decide)
set_option maxRecDepth 100000 in
theorem r_179_60 : ∀ (d : Nat) (l0 l1 l2 l3 l4 l5 l7 : Option Value) (v : Int32) (st : List Value) (M : Mem) (Q : Outcome → Mem → Prop), Wp d 179 60 [l0, l1, l2, l3, l4, l5, some (.int v), l7] st M Q = Wp d 179 62 [l0, l1, l2, l3, l4, l5, some (.int v), l7] (.int v :: st) M Q := fun d l0 l1 l2 l3 l4 l5 l7 v st M Q => wA (show ins 179 60 = some (.iload 6, 2) by decide +kernel) rfl
set_option maxRecDepth 100000 in
theorem r_179_62 : ∀ (d : Nat) (ls : Lc) (a b : Int) (st : List Value) (M : Mem) (Q : Outcome → Mem → Prop), Wp d 179 62 ls (.int (I b) :: .int (I a) :: st) M Q = Wp d 179 63 ls (.int (I (a + b)) :: st) M Q := fun d ls a b st M Q => w_iadd (show ins 179 62 = some (.iadd, 1) by decide +kernel)
set_option maxRecDepth 100000 in
theorem r_179_63 : ∀ (d : Nat) (l0 l1 l2 l3 l4 l5 l6 : Option Value) (v : Int32) (st : List Value) (M : Mem) (Q : Outcome → Mem → Prop), Wp d 179 63 [l0, l1, l2, l3, l4, l5, l6, some (.int v)] st M Q = Wp d 179 65 [l0, l1, l2, l3, l4, l5, l6, some (.int v)] (.int v :: st) M Q := fun d l0 l1 l2 l3 l4 l5 l6 v st M Q => wA (show ins 179 63 = some (.iload 7, 2) by decide +kernel) rfl
set_option maxRecDepth 100000 in
theorem r_179_65 : ∀ (d : Nat) (ls : Lc) (st : List Value) (M : Mem) (Q : Outcome → Mem → Prop), Wp d 179 65 ls st M Q = Wp d 179 66 ls (.int (I 1) :: st) M Q := fun d ls st M Q => w_iconst (show ins 179 65 = some (.iconst 1, 1) by decide +kernel)
set_option maxRecDepth 100000 in
theorem r_179_66 : ∀ (d : Nat) (ls : Lc) (a b : Int) (st : List Value) (M : Mem) (Q : Outcome → Mem → Prop), Wp d 179 66 ls (.int (I b) :: .int (I a) :: st) M Q = Wp d 179 67 ls (.int (I (a + b)) :: st) M Q := fun d ls a b st M Q => w_iadd (show ins 179 66 = some (.iadd, 1) by decide +kernel)
set_option maxRecDepth 100000 in
theorem r_179_67 : ∀ (d : Nat) (ls : Lc) (a : Nat) (j v : Int32) (st : List Value) (M : Mem) (Q : Outcome → Mem → Prop), Wp d 179 67 ls (.int v :: .int j :: .ref a :: st) M Q = (((kX M a).1 = 0 ∧ inB j (kX M a).2 = true) ∧ Wp d 179 68 ls st (sA M a j.toNatClampNeg v) Q) := fun d ls a j v st M Q => w_iastore (show ins 179 67 = some (.iastore, 1) by decide +kernel)
set_option maxRecDepth 100000 in
theorem r_179_68 : ∀ (d : Nat) (l1 l2 l3 l4 l5 l6 l7 : Option Value) (v : Nat) (st : List Value) (M : Mem) (Q : Outcome → Mem → Prop), Wp d 179 68 [some (.ref v), l1, l2, l3, l4, l5, l6, l7] st M Q = Wp d 179 69 [some (.ref v), l1, l2, l3, l4, l5, l6, l7] (.ref v :: st) M Q := fun d l1 l2 l3 l4 l5 l6 l7 v st M Q => wA (show ins 179 68 = some (.aload_n 0, 1) by decide +kernel) rfl
set_option maxRecDepth 100000 in
theorem r_179_69 : ∀ (d : Nat) (ls : Lc) (a : Nat) (st : List Value) (M : Mem) (Q : Outcome → Mem → Prop), Wp d 179 69 ls (.ref a :: st) M Q = (fk 53 (kO M a) = true ∧ Wp d 179 72 ls (va_rf (mR M 53 a) :: st) M Q) := fun d ls a st M Q => w_getR (show ins 179 69 = some (.getfield 7, 3) by decide +kernel) (show fRes (mC 179) 7 = some (53, 8, false) by decide +kernel) (by decide +kernel)
set_option maxRecDepth 100000 in
theorem r_179_72 : ∀ (d : Nat) (ls : Lc) (st : List Value) (M : Mem) (Q : Outcome → Mem → Prop), Wp d 179 72 ls st M Q = Wp d 179 75 ls (.int (I 3948) :: st) M Q := fun d ls st M Q => w_sipush (show ins 179 72 = some (.sipush 3948, 3) by decide +kernel) (by decide)
set_option maxRecDepth 100000 in
theorem r_179_75 : ∀ (d : Nat) (l0 l1 l2 l3 l4 l5 l7 : Option Value) (v : Int32) (st : List Value) (M : Mem) (Q : Outcome → Mem → Prop), Wp d 179 75 [l0, l1, l2, l3, l4, l5, some (.int v), l7] st M Q = Wp d 179 77 [l0, l1, l2, l3, l4, l5, some (.int v), l7] (.int v :: st) M Q := fun d l0 l1 l2 l3 l4 l5 l7 v st M Q => wA (show ins 179 75 = some (.iload 6, 2) by decide +kernel) rfl
set_option maxRecDepth 100000 in
theorem r_179_77 : ∀ (d : Nat) (ls : Lc) (a b : Int) (st : List Value) (M : Mem) (Q : Outcome → Mem → Prop), Wp d 179 77 ls (.int (I b) :: .int (I a) :: st) M Q = Wp d 179 78 ls (.int (I (a + b)) :: st) M Q := fun d ls a b st M Q => w_iadd (show ins 179 77 = some (.iadd, 1) by decide +kernel)
set_option maxRecDepth 100000 in
theorem r_179_78 : ∀ (d : Nat) (ls : Lc) (st : List Value) (M : Mem) (Q : Outcome → Mem → Prop), Wp d 179 78 ls st M Q = Wp d 179 79 ls (.int (I (-1)) :: st) M Q := fun d ls st M Q => w_iconst (show ins 179 78 = some (.iconst (-1), 1) by decide +kernel)
set_option maxRecDepth 100000 in
theorem r_179_79 : ∀ (d : Nat) (ls : Lc) (a : Nat) (j v : Int32) (st : List Value) (M : Mem) (Q : Outcome → Mem → Prop), Wp d 179 79 ls (.int v :: .int j :: .ref a :: st) M Q = (((kX M a).1 = 0 ∧ inB j (kX M a).2 = true) ∧ Wp d 179 80 ls st (sA M a j.toNatClampNeg v) Q) := fun d ls a j v st M Q => w_iastore (show ins 179 79 = some (.iastore, 1) by decide +kernel)
set_option maxRecDepth 100000 in
theorem r_179_80 : ∀ (d : Nat) (l1 l2 l3 l4 l5 l6 l7 : Option Value) (v : Nat) (st : List Value) (M : Mem) (Q : Outcome → Mem → Prop), Wp d 179 80 [some (.ref v), l1, l2, l3, l4, l5, l6, l7] st M Q = Wp d 179 81 [some (.ref v), l1, l2, l3, l4, l5, l6, l7] (.ref v :: st) M Q := fun d l1 l2 l3 l4 l5 l6 l7 v st M Q => wA (show ins 179 80 = some (.aload_n 0, 1) by decide +kernel) rfl
set_option maxRecDepth 100000 in
theorem r_179_81 : ∀ (d : Nat) (l0 l1 l2 l3 l4 l5 l7 : Option Value) (v : Int32) (st : List Value) (M : Mem) (Q : Outcome → Mem → Prop), Wp d 179 81 [l0, l1, l2, l3, l4, l5, some (.int v), l7] st M Q = Wp d 179 83 [l0, l1, l2, l3, l4, l5, some (.int v), l7] (.int v :: st) M Q := fun d l0 l1 l2 l3 l4 l5 l7 v st M Q => wA (show ins 179 81 = some (.iload 6, 2) by decide +kernel) rfl
set_option maxRecDepth 100000 in
theorem r_179_83 : ∀ (d : Nat) (ls : Lc) (st : List Value) (M : Mem) (Q : Outcome → Mem → Prop), Wp d 179 83 ls st M Q = Wp d 179 84 ls (.int (I 0) :: st) M Q := fun d ls st M Q => w_iconst (show ins 179 83 = some (.iconst 0, 1) by decide +kernel)
set_option maxRecDepth 100000 in
theorem r_179_84 : ∀ (d : Nat) (l0 l1 l2 l4 l5 l6 l7 : Option Value) (v : Int32) (st : List Value) (M : Mem) (Q : Outcome → Mem → Prop), Wp d 179 84 [l0, l1, l2, some (.int v), l4, l5, l6, l7] st M Q = Wp d 179 85 [l0, l1, l2, some (.int v), l4, l5, l6, l7] (.int v :: st) M Q := fun d l0 l1 l2 l4 l5 l6 l7 v st M Q => wA (show ins 179 84 = some (.iload_n 3, 1) by decide +kernel) rfl
set_option maxRecDepth 100000 in
theorem r_179_85 : ∀ (d : Nat) (ls : Lc) (v0 v1 v2 : Value) (a : Nat) (st : List Value) (M : Mem) (Q : Outcome → Mem → Prop), (smallR st = true) → Wp d 179 85 ls (v2 :: v1 :: v0 :: .ref a :: st) M Q = (kO M a = 8 ∧ Ca d 179 85 ls 180 (.ref a :: [v0, v1, v2]) st M Q) := fun d ls v0 v1 v2 a st M Q h0 => w_virt1 (as := [v0, v1, v2]) (show ins 179 85 = some (.invokevirtual 66, 3) by decide +kernel) (show mRes (mC 179) 66 = some (3, 8, [(8, 180)]) by decide +kernel) (by decide +kernel) rfl (by decide +kernel) (by decide +kernel) h0
set_option maxRecDepth 100000 in
theorem r_179_88 : ∀ (d : Nat) (l1 l2 l3 l4 l5 l6 l7 : Option Value) (v : Nat) (st : List Value) (M : Mem) (Q : Outcome → Mem → Prop), Wp d 179 88 [some (.ref v), l1, l2, l3, l4, l5, l6, l7] st M Q = Wp d 179 89 [some (.ref v), l1, l2, l3, l4, l5, l6, l7] (.ref v :: st) M Q := fun d l1 l2 l3 l4 l5 l6 l7 v st M Q => wA (show ins 179 88 = some (.aload_n 0, 1) by decide +kernel) rfl
set_option maxRecDepth 100000 in
theorem r_179_89 : ∀ (d : Nat) (l0 l1 l2 l3 l4 l5 l7 : Option Value) (v : Int32) (st : List Value) (M : Mem) (Q : Outcome → Mem → Prop), Wp d 179 89 [l0, l1, l2, l3, l4, l5, some (.int v), l7] st M Q = Wp d 179 91 [l0, l1, l2, l3, l4, l5, some (.int v), l7] (.int v :: st) M Q := fun d l0 l1 l2 l3 l4 l5 l7 v st M Q => wA (show ins 179 89 = some (.iload 6, 2) by decide +kernel) rfl
set_option maxRecDepth 100000 in
theorem r_179_91 : ∀ (d : Nat) (ls : Lc) (st : List Value) (M : Mem) (Q : Outcome → Mem → Prop), Wp d 179 91 ls st M Q = Wp d 179 92 ls (.int (I 1) :: st) M Q := fun d ls st M Q => w_iconst (show ins 179 91 = some (.iconst 1, 1) by decide +kernel)
set_option maxRecDepth 100000 in
theorem r_179_92 : ∀ (d : Nat) (l0 l1 l2 l3 l5 l6 l7 : Option Value) (v : Int32) (st : List Value) (M : Mem) (Q : Outcome → Mem → Prop), Wp d 179 92 [l0, l1, l2, l3, some (.int v), l5, l6, l7] st M Q = Wp d 179 94 [l0, l1, l2, l3, some (.int v), l5, l6, l7] (.int v :: st) M Q := fun d l0 l1 l2 l3 l5 l6 l7 v st M Q => wA (show ins 179 92 = some (.iload 4, 2) by decide +kernel) rfl
set_option maxRecDepth 100000 in
theorem r_179_94 : ∀ (d : Nat) (ls : Lc) (v0 v1 v2 : Value) (a : Nat) (st : List Value) (M : Mem) (Q : Outcome → Mem → Prop), (smallR st = true) → Wp d 179 94 ls (v2 :: v1 :: v0 :: .ref a :: st) M Q = (kO M a = 8 ∧ Ca d 179 94 ls 180 (.ref a :: [v0, v1, v2]) st M Q) := fun d ls v0 v1 v2 a st M Q h0 => w_virt1 (as := [v0, v1, v2]) (show ins 179 94 = some (.invokevirtual 66, 3) by decide +kernel) (show mRes (mC 179) 66 = some (3, 8, [(8, 180)]) by decide +kernel) (by decide +kernel) rfl (by decide +kernel) (by decide +kernel) h0
set_option maxRecDepth 100000 in
theorem r_179_97 : ∀ (d : Nat) (l1 l2 l3 l4 l5 l6 l7 : Option Value) (v : Nat) (st : List Value) (M : Mem) (Q : Outcome → Mem → Prop), Wp d 179 97 [some (.ref v), l1, l2, l3, l4, l5, l6, l7] st M Q = Wp d 179 98 [some (.ref v), l1, l2, l3, l4, l5, l6, l7] (.ref v :: st) M Q := fun d l1 l2 l3 l4 l5 l6 l7 v st M Q => wA (show ins 179 97 = some (.aload_n 0, 1) by decide +kernel) rfl
set_option maxRecDepth 100000 in
theorem r_179_98 : ∀ (d : Nat) (ls : Lc) (a : Nat) (st : List Value) (M : Mem) (Q : Outcome → Mem → Prop), Wp d 179 98 ls (.ref a :: st) M Q = (fk 53 (kO M a) = true ∧ Wp d 179 101 ls (va_rf (mR M 53 a) :: st) M Q) := fun d ls a st M Q => w_getR (show ins 179 98 = some (.getfield 7, 3) by decide +kernel) (show fRes (mC 179) 7 = some (53, 8, false) by decide +kernel) (by decide +kernel)
set_option maxRecDepth 100000 in
theorem r_179_101 : ∀ (d : Nat) (ls : Lc) (st : List Value) (M : Mem) (Q : Outcome → Mem → Prop), Wp d 179 101 ls st M Q = Wp d 179 104 ls (.int (I 12300) :: st) M Q := fun d ls st M Q => w_sipush (show ins 179 101 = some (.sipush 12300, 3) by decide +kernel) (by decide)
set_option maxRecDepth 100000 in
theorem r_179_104 : ∀ (d : Nat) (ls : Lc) (st : List Value) (M : Mem) (Q : Outcome → Mem → Prop), Wp d 179 104 ls st M Q = Wp d 179 106 ls (.int (I 96) :: st) M Q := fun d ls st M Q => w_bipush (show ins 179 104 = some (.bipush 96, 2) by decide +kernel) (by decide)
set_option maxRecDepth 100000 in
theorem r_179_106 : ∀ (d : Nat) (l0 l1 l2 l3 l4 l5 l6 : Option Value) (v : Int32) (st : List Value) (M : Mem) (Q : Outcome → Mem → Prop), Wp d 179 106 [l0, l1, l2, l3, l4, l5, l6, some (.int v)] st M Q = Wp d 179 108 [l0, l1, l2, l3, l4, l5, l6, some (.int v)] (.int v :: st) M Q := fun d l0 l1 l2 l3 l4 l5 l6 v st M Q => wA (show ins 179 106 = some (.iload 7, 2) by decide +kernel) rfl
set_option maxRecDepth 100000 in
theorem r_179_108 : ∀ (d : Nat) (ls : Lc) (a b : Int) (st : List Value) (M : Mem) (Q : Outcome → Mem → Prop), Wp d 179 108 ls (.int (I b) :: .int (I a) :: st) M Q = Wp d 179 109 ls (.int (I (a * b)) :: st) M Q := fun d ls a b st M Q => w_imul (show ins 179 108 = some (.imul, 1) by decide +kernel)
set_option maxRecDepth 100000 in
theorem r_179_109 : ∀ (d : Nat) (ls : Lc) (a b : Int) (st : List Value) (M : Mem) (Q : Outcome → Mem → Prop), Wp d 179 109 ls (.int (I b) :: .int (I a) :: st) M Q = Wp d 179 110 ls (.int (I (a + b)) :: st) M Q := fun d ls a b st M Q => w_iadd (show ins 179 109 = some (.iadd, 1) by decide +kernel)
set_option maxRecDepth 100000 in
theorem r_179_110 : ∀ (d : Nat) (l0 l1 l2 l3 l4 l5 l7 : Option Value) (v : Int32) (st : List Value) (M : Mem) (Q : Outcome → Mem → Prop), Wp d 179 110 [l0, l1, l2, l3, l4, l5, some (.int v), l7] st M Q = Wp d 179 112 [l0, l1, l2, l3, l4, l5, some (.int v), l7] (.int v :: st) M Q := fun d l0 l1 l2 l3 l4 l5 l7 v st M Q => wA (show ins 179 110 = some (.iload 6, 2) by decide +kernel) rfl
set_option maxRecDepth 100000 in
theorem r_179_112 : ∀ (d : Nat) (ls : Lc) (a : Nat) (j v : Int32) (st : List Value) (M : Mem) (Q : Outcome → Mem → Prop), Wp d 179 112 ls (.int v :: .int j :: .ref a :: st) M Q = (((kX M a).1 = 0 ∧ inB j (kX M a).2 = true) ∧ Wp d 179 113 ls st (sA M a j.toNatClampNeg v) Q) := fun d ls a j v st M Q => w_iastore (show ins 179 112 = some (.iastore, 1) by decide +kernel)
set_option maxRecDepth 100000 in
theorem r_179_113 : ∀ (d : Nat) (l1 l2 l3 l4 l5 l6 l7 : Option Value) (v : Nat) (st : List Value) (M : Mem) (Q : Outcome → Mem → Prop), Wp d 179 113 [some (.ref v), l1, l2, l3, l4, l5, l6, l7] st M Q = Wp d 179 114 [some (.ref v), l1, l2, l3, l4, l5, l6, l7] (.ref v :: st) M Q := fun d l1 l2 l3 l4 l5 l6 l7 v st M Q => wA (show ins 179 113 = some (.aload_n 0, 1) by decide +kernel) rfl
set_option maxRecDepth 100000 in
theorem r_179_114 : ∀ (d : Nat) (ls : Lc) (a : Nat) (st : List Value) (M : Mem) (Q : Outcome → Mem → Prop), Wp d 179 114 ls (.ref a :: st) M Q = (fk 53 (kO M a) = true ∧ Wp d 179 117 ls (va_rf (mR M 53 a) :: st) M Q) := fun d ls a st M Q => w_getR (show ins 179 114 = some (.getfield 7, 3) by decide +kernel) (show fRes (mC 179) 7 = some (53, 8, false) by decide +kernel) (by decide +kernel)
set_option maxRecDepth 100000 in
theorem r_179_117 : ∀ (d : Nat) (ls : Lc) (st : List Value) (M : Mem) (Q : Outcome → Mem → Prop), Wp d 179 117 ls st M Q = Wp d 179 120 ls (.int (I 13068) :: st) M Q := fun d ls st M Q => w_sipush (show ins 179 117 = some (.sipush 13068, 3) by decide +kernel) (by decide)
set_option maxRecDepth 100000 in
theorem r_179_120 : ∀ (d : Nat) (l0 l1 l2 l3 l4 l5 l6 : Option Value) (v : Int32) (st : List Value) (M : Mem) (Q : Outcome → Mem → Prop), Wp d 179 120 [l0, l1, l2, l3, l4, l5, l6, some (.int v)] st M Q = Wp d 179 122 [l0, l1, l2, l3, l4, l5, l6, some (.int v)] (.int v :: st) M Q := fun d l0 l1 l2 l3 l4 l5 l6 v st M Q => wA (show ins 179 120 = some (.iload 7, 2) by decide +kernel) rfl
set_option maxRecDepth 100000 in
theorem r_179_122 : ∀ (d : Nat) (ls : Lc) (a b : Int) (st : List Value) (M : Mem) (Q : Outcome → Mem → Prop), Wp d 179 122 ls (.int (I b) :: .int (I a) :: st) M Q = Wp d 179 123 ls (.int (I (a + b)) :: st) M Q := fun d ls a b st M Q => w_iadd (show ins 179 122 = some (.iadd, 1) by decide +kernel)
set_option maxRecDepth 100000 in
theorem r_179_123 : ∀ (d : Nat) (ls : Lc) (st : List Value) (M : Mem) (Q : Outcome → Mem → Prop), Wp d 179 123 ls st M Q = Wp d 179 124 ls (.int (I 1) :: st) M Q := fun d ls st M Q => w_iconst (show ins 179 123 = some (.iconst 1, 1) by decide +kernel)
set_option maxRecDepth 100000 in
theorem r_179_124 : ∀ (d : Nat) (ls : Lc) (a : Nat) (j v : Int32) (st : List Value) (M : Mem) (Q : Outcome → Mem → Prop), Wp d 179 124 ls (.int v :: .int j :: .ref a :: st) M Q = (((kX M a).1 = 0 ∧ inB j (kX M a).2 = true) ∧ Wp d 179 125 ls st (sA M a j.toNatClampNeg v) Q) := fun d ls a j v st M Q => w_iastore (show ins 179 124 = some (.iastore, 1) by decide +kernel)
set_option maxRecDepth 100000 in
theorem r_179_125 : ∀ (d : Nat) (l1 l2 l3 l4 l5 l6 l7 : Option Value) (v : Nat) (st : List Value) (M : Mem) (Q : Outcome → Mem → Prop), Wp d 179 125 [some (.ref v), l1, l2, l3, l4, l5, l6, l7] st M Q = Wp d 179 126 [some (.ref v), l1, l2, l3, l4, l5, l6, l7] (.ref v :: st) M Q := fun d l1 l2 l3 l4 l5 l6 l7 v st M Q => wA (show ins 179 125 = some (.aload_n 0, 1) by decide +kernel) rfl
set_option maxRecDepth 100000 in
theorem r_179_126 : ∀ (d : Nat) (ls : Lc) (a : Nat) (st : List Value) (M : Mem) (Q : Outcome → Mem → Prop), Wp d 179 126 ls (.ref a :: st) M Q = (fk 53 (kO M a) = true ∧ Wp d 179 129 ls (va_rf (mR M 53 a) :: st) M Q) := fun d ls a st M Q => w_getR (show ins 179 126 = some (.getfield 7, 3) by decide +kernel) (show fRes (mC 179) 7 = some (53, 8, false) by decide +kernel) (by decide +kernel)
set_option maxRecDepth 100000 in
theorem r_179_129 : ∀ (d : Nat) (ls : Lc) (st : List Value) (M : Mem) (Q : Outcome → Mem → Prop), Wp d 179 129 ls st M Q = Wp d 179 132 ls (.int (I 13076) :: st) M Q := fun d ls st M Q => w_sipush (show ins 179 129 = some (.sipush 13076, 3) by decide +kernel) (by decide)
set_option maxRecDepth 100000 in
theorem r_179_132 : ∀ (d : Nat) (l0 l1 l2 l3 l4 l5 l7 : Option Value) (v : Int32) (st : List Value) (M : Mem) (Q : Outcome → Mem → Prop), Wp d 179 132 [l0, l1, l2, l3, l4, l5, some (.int v), l7] st M Q = Wp d 179 134 [l0, l1, l2, l3, l4, l5, some (.int v), l7] (.int v :: st) M Q := fun d l0 l1 l2 l3 l4 l5 l7 v st M Q => wA (show ins 179 132 = some (.iload 6, 2) by decide +kernel) rfl
set_option maxRecDepth 100000 in
theorem r_179_134 : ∀ (d : Nat) (ls : Lc) (a : Nat) (j v : Int32) (st : List Value) (M : Mem) (Q : Outcome → Mem → Prop), Wp d 179 134 ls (.int v :: .int j :: .ref a :: st) M Q = (((kX M a).1 = 0 ∧ inB j (kX M a).2 = true) ∧ Wp d 179 135 ls st (sA M a j.toNatClampNeg v) Q) := fun d ls a j v st M Q => w_iastore (show ins 179 134 = some (.iastore, 1) by decide +kernel)
set_option maxRecDepth 100000 in
theorem r_179_135 : ∀ (d : Nat) (l1 l2 l3 l4 l5 l6 l7 : Option Value) (v : Nat) (st : List Value) (M : Mem) (Q : Outcome → Mem → Prop), Wp d 179 135 [some (.ref v), l1, l2, l3, l4, l5, l6, l7] st M Q = Wp d 179 136 [some (.ref v), l1, l2, l3, l4, l5, l6, l7] (.ref v :: st) M Q := fun d l1 l2 l3 l4 l5 l6 l7 v st M Q => wA (show ins 179 135 = some (.aload_n 0, 1) by decide +kernel) rfl
set_option maxRecDepth 100000 in
theorem r_179_136 : ∀ (d : Nat) (ls : Lc) (a : Nat) (st : List Value) (M : Mem) (Q : Outcome → Mem → Prop), Wp d 179 136 ls (.ref a :: st) M Q = (fk 53 (kO M a) = true ∧ Wp d 179 139 ls (va_rf (mR M 53 a) :: st) M Q) := fun d ls a st M Q => w_getR (show ins 179 136 = some (.getfield 7, 3) by decide +kernel) (show fRes (mC 179) 7 = some (53, 8, false) by decide +kernel) (by decide +kernel)
set_option maxRecDepth 100000 in
theorem r_179_139 : ∀ (d : Nat) (ls : Lc) (st : List Value) (M : Mem) (Q : Outcome → Mem → Prop), Wp d 179 139 ls st M Q = Wp d 179 142 ls (.int (I 13077) :: st) M Q := fun d ls st M Q => w_sipush (show ins 179 139 = some (.sipush 13077, 3) by decide +kernel) (by decide)
set_option maxRecDepth 100000 in
theorem r_179_142 : ∀ (d : Nat) (ls : Lc) (v : Int32) (a : Nat) (st : List Value) (M : Mem) (Q : Outcome → Mem → Prop), Wp d 179 142 ls (.int v :: .ref a :: st) M Q = Wp d 179 143 ls (.int v :: .ref a :: .int v :: .ref a :: st) M Q := fun d ls v a st M Q => wA (show ins 179 142 = some (.dup2, 1) by decide +kernel) rfl
set_option maxRecDepth 100000 in
theorem r_179_143 : ∀ (d : Nat) (ls : Lc) (a : Nat) (j : Int32) (st : List Value) (M : Mem) (Q : Outcome → Mem → Prop), Wp d 179 143 ls (.int j :: .ref a :: st) M Q = ((((kX M a).1 = 0 ∨ (kX M a).1 = 8) ∧ inB j (kX M a).2 = true) ∧ Wp d 179 144 ls (.int (mA M a j.toNatClampNeg) :: st) M Q) := fun d ls a j st M Q => w_iaload (show ins 179 143 = some (.iaload, 1) by decide +kernel)
set_option maxRecDepth 100000 in
theorem r_179_144 : ∀ (d : Nat) (ls : Lc) (st : List Value) (M : Mem) (Q : Outcome → Mem → Prop), Wp d 179 144 ls st M Q = Wp d 179 145 ls (.int (I 1) :: st) M Q := fun d ls st M Q => w_iconst (show ins 179 144 = some (.iconst 1, 1) by decide +kernel)
set_option maxRecDepth 100000 in
theorem r_179_145 : ∀ (d : Nat) (ls : Lc) (a b : Int) (st : List Value) (M : Mem) (Q : Outcome → Mem → Prop), Wp d 179 145 ls (.int (I b) :: .int (I a) :: st) M Q = Wp d 179 146 ls (.int (I (a + b)) :: st) M Q := fun d ls a b st M Q => w_iadd (show ins 179 145 = some (.iadd, 1) by decide +kernel)
set_option maxRecDepth 100000 in
theorem r_179_146 : ∀ (d : Nat) (ls : Lc) (a : Nat) (j v : Int32) (st : List Value) (M : Mem) (Q : Outcome → Mem → Prop), Wp d 179 146 ls (.int v :: .int j :: .ref a :: st) M Q = (((kX M a).1 = 0 ∧ inB j (kX M a).2 = true) ∧ Wp d 179 147 ls st (sA M a j.toNatClampNeg v) Q) := fun d ls a j v st M Q => w_iastore (show ins 179 146 = some (.iastore, 1) by decide +kernel)
set_option maxRecDepth 100000 in
theorem r_179_147 : ∀ (d : Nat) (ls : Lc) (M : Mem) (Q : Outcome → Mem → Prop), Wp d 179 147 ls [] M Q = Q (.returned none) M := fun d ls M Q => w_return (show ins 179 147 = some (.return_, 1) by decide +kernel) (by decide +kernel)
set_option maxRecDepth 100000 in
theorem r_179_148 : ∀ (d : Nat) (l1 l2 l3 l4 l5 l6 l7 : Option Value) (v : Nat) (st : List Value) (M : Mem) (Q : Outcome → Mem → Prop), Wp d 179 148 [some (.ref v), l1, l2, l3, l4, l5, l6, l7] st M Q = Wp d 179 149 [some (.ref v), l1, l2, l3, l4, l5, l6, l7] (.ref v :: st) M Q := fun d l1 l2 l3 l4 l5 l6 l7 v st M Q => wA (show ins 179 148 = some (.aload_n 0, 1) by decide +kernel) rfl
set_option maxRecDepth 100000 in
theorem r_179_149 : ∀ (d : Nat) (l0 l1 l2 l3 l4 l6 l7 : Option Value) (v : Int32) (st : List Value) (M : Mem) (Q : Outcome → Mem → Prop), Wp d 179 149 [l0, l1, l2, l3, l4, some (.int v), l6, l7] st M Q = Wp d 179 151 [l0, l1, l2, l3, l4, some (.int v), l6, l7] (.int v :: st) M Q := fun d l0 l1 l2 l3 l4 l6 l7 v st M Q => wA (show ins 179 149 = some (.iload 5, 2) by decide +kernel) rfl
set_option maxRecDepth 100000 in
theorem r_179_151 : ∀ (d : Nat) (l1 l2 l3 l4 l5 l6 l7 : Option Value) (v : Nat) (st : List Value) (M : Mem) (Q : Outcome → Mem → Prop), Wp d 179 151 [some (.ref v), l1, l2, l3, l4, l5, l6, l7] st M Q = Wp d 179 152 [some (.ref v), l1, l2, l3, l4, l5, l6, l7] (.ref v :: st) M Q := fun d l1 l2 l3 l4 l5 l6 l7 v st M Q => wA (show ins 179 151 = some (.aload_n 0, 1) by decide +kernel) rfl
set_option maxRecDepth 100000 in
theorem r_179_152 : ∀ (d : Nat) (l0 l1 l2 l3 l4 l6 l7 : Option Value) (v : Int32) (st : List Value) (M : Mem) (Q : Outcome → Mem → Prop), Wp d 179 152 [l0, l1, l2, l3, l4, some (.int v), l6, l7] st M Q = Wp d 179 154 [l0, l1, l2, l3, l4, some (.int v), l6, l7] (.int v :: st) M Q := fun d l0 l1 l2 l3 l4 l6 l7 v st M Q => wA (show ins 179 152 = some (.iload 5, 2) by decide +kernel) rfl
set_option maxRecDepth 100000 in
theorem r_179_154 : ∀ (d : Nat) (l0 l1 l2 l4 l5 l6 l7 : Option Value) (v : Int32) (st : List Value) (M : Mem) (Q : Outcome → Mem → Prop), Wp d 179 154 [l0, l1, l2, some (.int v), l4, l5, l6, l7] st M Q = Wp d 179 155 [l0, l1, l2, some (.int v), l4, l5, l6, l7] (.int v :: st) M Q := fun d l0 l1 l2 l4 l5 l6 l7 v st M Q => wA (show ins 179 154 = some (.iload_n 3, 1) by decide +kernel) rfl
set_option maxRecDepth 100000 in
theorem r_179_155 : ∀ (d : Nat) (ls : Lc) (v0 v1 : Value) (a : Nat) (st : List Value) (M : Mem) (Q : Outcome → Mem → Prop), (smallR st = true) → Wp d 179 155 ls (v1 :: v0 :: .ref a :: st) M Q = (kO M a = 8 ∧ Ca d 179 155 ls 181 (.ref a :: [v0, v1]) st M Q) := fun d ls v0 v1 a st M Q h0 => w_virt1 (as := [v0, v1]) (show ins 179 155 = some (.invokevirtual 70, 3) by decide +kernel) (show mRes (mC 179) 70 = some (3, 8, [(8, 181)]) by decide +kernel) (by decide +kernel) rfl (by decide +kernel) (by decide +kernel) h0
set_option maxRecDepth 100000 in
theorem r_179_158 : ∀ (d : Nat) (ls : Lc) (st : List Value) (M : Mem) (Q : Outcome → Mem → Prop), Wp d 179 158 ls st M Q = Wp d 179 159 ls (.int (I 1) :: st) M Q := fun d ls st M Q => w_iconst (show ins 179 158 = some (.iconst 1, 1) by decide +kernel)
set_option maxRecDepth 100000 in
theorem r_179_159 : ∀ (d : Nat) (ls : Lc) (a b : Int) (st : List Value) (M : Mem) (Q : Outcome → Mem → Prop), Wp d 179 159 ls (.int (I b) :: .int (I a) :: st) M Q = Wp d 179 160 ls (.int (I (a + b)) :: st) M Q := fun d ls a b st M Q => w_iadd (show ins 179 159 = some (.iadd, 1) by decide +kernel)
set_option maxRecDepth 100000 in
theorem r_179_160 : ∀ (d : Nat) (l0 l1 l2 l3 l5 l6 l7 : Option Value) (v : Int32) (st : List Value) (M : Mem) (Q : Outcome → Mem → Prop), Wp d 179 160 [l0, l1, l2, l3, some (.int v), l5, l6, l7] st M Q = Wp d 179 162 [l0, l1, l2, l3, some (.int v), l5, l6, l7] (.int v :: st) M Q := fun d l0 l1 l2 l3 l5 l6 l7 v st M Q => wA (show ins 179 160 = some (.iload 4, 2) by decide +kernel) rfl
set_option maxRecDepth 100000 in
theorem r_179_162 : ∀ (d : Nat) (ls : Lc) (v0 v1 v2 : Value) (a : Nat) (st : List Value) (M : Mem) (Q : Outcome → Mem → Prop), (smallR st = true) → Wp d 179 162 ls (v2 :: v1 :: v0 :: .ref a :: st) M Q = (kO M a = 8 ∧ Ca d 179 162 ls 180 (.ref a :: [v0, v1, v2]) st M Q) := fun d ls v0 v1 v2 a st M Q h0 => w_virt1 (as := [v0, v1, v2]) (show ins 179 162 = some (.invokevirtual 66, 3) by decide +kernel) (show mRes (mC 179) 66 = some (3, 8, [(8, 180)]) by decide +kernel) (by decide +kernel) rfl (by decide +kernel) (by decide +kernel) h0
set_option maxRecDepth 100000 in
theorem r_179_165 : ∀ (d : Nat) (l1 l2 l3 l4 l5 l6 l7 : Option Value) (v : Nat) (st : List Value) (M : Mem) (Q : Outcome → Mem → Prop), Wp d 179 165 [some (.ref v), l1, l2, l3, l4, l5, l6, l7] st M Q = Wp d 179 166 [some (.ref v), l1, l2, l3, l4, l5, l6, l7] (.ref v :: st) M Q := fun d l1 l2 l3 l4 l5 l6 l7 v st M Q => wA (show ins 179 165 = some (.aload_n 0, 1) by decide +kernel) rfl
set_option maxRecDepth 100000 in
theorem r_179_166 : ∀ (d : Nat) (ls : Lc) (a : Nat) (st : List Value) (M : Mem) (Q : Outcome → Mem → Prop), Wp d 179 166 ls (.ref a :: st) M Q = (fk 53 (kO M a) = true ∧ Wp d 179 169 ls (va_rf (mR M 53 a) :: st) M Q) := fun d ls a st M Q => w_getR (show ins 179 166 = some (.getfield 7, 3) by decide +kernel) (show fRes (mC 179) 7 = some (53, 8, false) by decide +kernel) (by decide +kernel)
set_option maxRecDepth 100000 in
theorem r_179_169 : ∀ (d : Nat) (ls : Lc) (st : List Value) (M : Mem) (Q : Outcome → Mem → Prop), Wp d 179 169 ls st M Q = Wp d 179 172 ls (.int (I 3852) :: st) M Q := fun d ls st M Q => w_sipush (show ins 179 169 = some (.sipush 3852, 3) by decide +kernel) (by decide)
set_option maxRecDepth 100000 in
theorem r_179_172 : ∀ (d : Nat) (l0 l1 l2 l3 l4 l6 l7 : Option Value) (v : Int32) (st : List Value) (M : Mem) (Q : Outcome → Mem → Prop), Wp d 179 172 [l0, l1, l2, l3, l4, some (.int v), l6, l7] st M Q = Wp d 179 174 [l0, l1, l2, l3, l4, some (.int v), l6, l7] (.int v :: st) M Q := fun d l0 l1 l2 l3 l4 l6 l7 v st M Q => wA (show ins 179 172 = some (.iload 5, 2) by decide +kernel) rfl
set_option maxRecDepth 100000 in
theorem r_179_174 : ∀ (d : Nat) (ls : Lc) (a b : Int) (st : List Value) (M : Mem) (Q : Outcome → Mem → Prop), Wp d 179 174 ls (.int (I b) :: .int (I a) :: st) M Q = Wp d 179 175 ls (.int (I (a + b)) :: st) M Q := fun d ls a b st M Q => w_iadd (show ins 179 174 = some (.iadd, 1) by decide +kernel)
set_option maxRecDepth 100000 in
theorem r_179_175 : ∀ (d : Nat) (ls : Lc) (a : Nat) (j : Int32) (st : List Value) (M : Mem) (Q : Outcome → Mem → Prop), Wp d 179 175 ls (.int j :: .ref a :: st) M Q = ((((kX M a).1 = 0 ∨ (kX M a).1 = 8) ∧ inB j (kX M a).2 = true) ∧ Wp d 179 176 ls (.int (mA M a j.toNatClampNeg) :: st) M Q) := fun d ls a j st M Q => w_iaload (show ins 179 175 = some (.iaload, 1) by decide +kernel)
set_option maxRecDepth 100000 in
theorem r_179_176 : ∀ (d : Nat) (ls : Lc) (st : List Value) (M : Mem) (Q : Outcome → Mem → Prop), Wp d 179 176 ls st M Q = Wp d 179 177 ls (.int (I 5) :: st) M Q := fun d ls st M Q => w_iconst (show ins 179 176 = some (.iconst 5, 1) by decide +kernel)
set_option maxRecDepth 100000 in
theorem r_179_177 : ∀ (d : Nat) (ls : Lc) (a b : Int32) (st : List Value) (M : Mem) (Q : Outcome → Mem → Prop), Wp d 179 177 ls (.int b :: .int a :: st) M Q = Br (b < a) d 179 181 180 ls st M Q := fun d ls a b st M Q => w_icmp (show ins 179 177 = some (.if_icmp .gt 4, 3) by decide +kernel) rfl rfl
set_option maxRecDepth 100000 in
theorem r_179_180 : ∀ (d : Nat) (ls : Lc) (M : Mem) (Q : Outcome → Mem → Prop), Wp d 179 180 ls [] M Q = Q (.returned none) M := fun d ls M Q => w_return (show ins 179 180 = some (.return_, 1) by decide +kernel) (by decide +kernel)
set_option maxRecDepth 100000 in
theorem r_179_181 : ∀ (d : Nat) (l1 l2 l3 l4 l5 l6 l7 : Option Value) (v : Nat) (st : List Value) (M : Mem) (Q : Outcome → Mem → Prop), Wp d 179 181 [some (.ref v), l1, l2, l3, l4, l5, l6, l7] st M Q = Wp d 179 182 [some (.ref v), l1, l2, l3, l4, l5, l6, l7] (.ref v :: st) M Q := fun d l1 l2 l3 l4 l5 l6 l7 v st M Q => wA (show ins 179 181 = some (.aload_n 0, 1) by decide +kernel) rfl
set_option maxRecDepth 100000 in
theorem r_179_182 : ∀ (d : Nat) (ls : Lc) (a : Nat) (st : List Value) (M : Mem) (Q : Outcome → Mem → Prop), (smallR st = true) → Wp d 179 182 ls (.ref a :: st) M Q = (kO M a = 8 ∧ Ca d 179 182 ls 177 (.ref a :: []) st M Q) := fun d ls a st M Q h0 => w_virt1 (as := []) (show ins 179 182 = some (.invokevirtual 62, 3) by decide +kernel) (show mRes (mC 179) 62 = some (3, 8, [(8, 177)]) by decide +kernel) (by decide +kernel) rfl (by decide +kernel) (by decide +kernel) h0
set_option maxRecDepth 100000 in
theorem r_179_185 : ∀ (d : Nat) (l0 l1 l2 l3 l4 l5 l6 l7 : Option Value) (v : Int32) (st : List Value) (M : Mem) (Q : Outcome → Mem → Prop), (lo l5 = false) → Wp d 179 185 [l0, l1, l2, l3, l4, l5, l6, l7] (.int v :: st) M Q = Wp d 179 187 [l0, l1, l2, l3, l4, l5, some (.int v), l7] st M Q := fun d l0 l1 l2 l3 l4 l5 l6 l7 v st M Q hl => w_istore (show ins 179 185 = some (.istore 6, 2) by decide +kernel) (st1_S rfl rfl hl)
set_option maxRecDepth 100000 in
theorem r_179_187 : ∀ (d : Nat) (l1 l2 l3 l4 l5 l6 l7 : Option Value) (v : Nat) (st : List Value) (M : Mem) (Q : Outcome → Mem → Prop), Wp d 179 187 [some (.ref v), l1, l2, l3, l4, l5, l6, l7] st M Q = Wp d 179 188 [some (.ref v), l1, l2, l3, l4, l5, l6, l7] (.ref v :: st) M Q := fun d l1 l2 l3 l4 l5 l6 l7 v st M Q => wA (show ins 179 187 = some (.aload_n 0, 1) by decide +kernel) rfl
set_option maxRecDepth 100000 in
theorem r_179_188 : ∀ (d : Nat) (ls : Lc) (a : Nat) (st : List Value) (M : Mem) (Q : Outcome → Mem → Prop), Wp d 179 188 ls (.ref a :: st) M Q = (fk 47 (kO M a) = true ∧ Wp d 179 191 ls (.int (mF M 47 a) :: st) M Q) := fun d ls a st M Q => w_getI (show ins 179 188 = some (.getfield 51, 3) by decide +kernel) (show fRes (mC 179) 51 = some (47, 8, false) by decide +kernel) (by decide +kernel)
set_option maxRecDepth 100000 in
theorem r_179_191 : ∀ (d : Nat) (ls : Lc) (a : Int32) (st : List Value) (M : Mem) (Q : Outcome → Mem → Prop), Wp d 179 191 ls (.int a :: st) M Q = Br (a = I 0) d 179 195 194 ls st M Q := fun d ls a st M Q => w_if (show ins 179 191 = some (.ifCond .eq 4, 3) by decide +kernel) rfl rfl
set_option maxRecDepth 100000 in
theorem r_179_194 : ∀ (d : Nat) (ls : Lc) (M : Mem) (Q : Outcome → Mem → Prop), Wp d 179 194 ls [] M Q = Q (.returned none) M := fun d ls M Q => w_return (show ins 179 194 = some (.return_, 1) by decide +kernel) (by decide +kernel)
set_option maxRecDepth 100000 in
theorem r_179_195 : ∀ (d : Nat) (l1 l2 l3 l4 l5 l6 l7 : Option Value) (v : Nat) (st : List Value) (M : Mem) (Q : Outcome → Mem → Prop), Wp d 179 195 [some (.ref v), l1, l2, l3, l4, l5, l6, l7] st M Q = Wp d 179 196 [some (.ref v), l1, l2, l3, l4, l5, l6, l7] (.ref v :: st) M Q := fun d l1 l2 l3 l4 l5 l6 l7 v st M Q => wA (show ins 179 195 = some (.aload_n 0, 1) by decide +kernel) rfl
set_option maxRecDepth 100000 in
theorem r_179_196 : ∀ (d : Nat) (ls : Lc) (a : Nat) (st : List Value) (M : Mem) (Q : Outcome → Mem → Prop), Wp d 179 196 ls (.ref a :: st) M Q = (fk 53 (kO M a) = true ∧ Wp d 179 199 ls (va_rf (mR M 53 a) :: st) M Q) := fun d ls a st M Q => w_getR (show ins 179 196 = some (.getfield 7, 3) by decide +kernel) (show fRes (mC 179) 7 = some (53, 8, false) by decide +kernel) (by decide +kernel)
set_option maxRecDepth 100000 in
theorem r_179_199 : ∀ (d : Nat) (ls : Lc) (st : List Value) (M : Mem) (Q : Outcome → Mem → Prop), Wp d 179 199 ls st M Q = Wp d 179 202 ls (.int (I 3756) :: st) M Q := fun d ls st M Q => w_sipush (show ins 179 199 = some (.sipush 3756, 3) by decide +kernel) (by decide)
set_option maxRecDepth 100000 in
theorem r_179_202 : ∀ (d : Nat) (l0 l1 l2 l3 l4 l5 l7 : Option Value) (v : Int32) (st : List Value) (M : Mem) (Q : Outcome → Mem → Prop), Wp d 179 202 [l0, l1, l2, l3, l4, l5, some (.int v), l7] st M Q = Wp d 179 204 [l0, l1, l2, l3, l4, l5, some (.int v), l7] (.int v :: st) M Q := fun d l0 l1 l2 l3 l4 l5 l7 v st M Q => wA (show ins 179 202 = some (.iload 6, 2) by decide +kernel) rfl
set_option maxRecDepth 100000 in
theorem r_179_204 : ∀ (d : Nat) (ls : Lc) (a b : Int) (st : List Value) (M : Mem) (Q : Outcome → Mem → Prop), Wp d 179 204 ls (.int (I b) :: .int (I a) :: st) M Q = Wp d 179 205 ls (.int (I (a + b)) :: st) M Q := fun d ls a b st M Q => w_iadd (show ins 179 204 = some (.iadd, 1) by decide +kernel)
set_option maxRecDepth 100000 in
theorem r_179_205 : ∀ (d : Nat) (l1 l2 l3 l4 l5 l6 l7 : Option Value) (v : Nat) (st : List Value) (M : Mem) (Q : Outcome → Mem → Prop), Wp d 179 205 [some (.ref v), l1, l2, l3, l4, l5, l6, l7] st M Q = Wp d 179 206 [some (.ref v), l1, l2, l3, l4, l5, l6, l7] (.ref v :: st) M Q := fun d l1 l2 l3 l4 l5 l6 l7 v st M Q => wA (show ins 179 205 = some (.aload_n 0, 1) by decide +kernel) rfl
set_option maxRecDepth 100000 in
theorem r_179_206 : ∀ (d : Nat) (ls : Lc) (a : Nat) (st : List Value) (M : Mem) (Q : Outcome → Mem → Prop), Wp d 179 206 ls (.ref a :: st) M Q = (fk 53 (kO M a) = true ∧ Wp d 179 209 ls (va_rf (mR M 53 a) :: st) M Q) := fun d ls a st M Q => w_getR (show ins 179 206 = some (.getfield 7, 3) by decide +kernel) (show fRes (mC 179) 7 = some (53, 8, false) by decide +kernel) (by decide +kernel)
set_option maxRecDepth 100000 in
theorem r_179_209 : ∀ (d : Nat) (ls : Lc) (st : List Value) (M : Mem) (Q : Outcome → Mem → Prop), Wp d 179 209 ls st M Q = Wp d 179 212 ls (.int (I 3756) :: st) M Q := fun d ls st M Q => w_sipush (show ins 179 209 = some (.sipush 3756, 3) by decide +kernel) (by decide)
set_option maxRecDepth 100000 in
theorem r_179_212 : ∀ (d : Nat) (l0 l1 l2 l3 l4 l6 l7 : Option Value) (v : Int32) (st : List Value) (M : Mem) (Q : Outcome → Mem → Prop), Wp d 179 212 [l0, l1, l2, l3, l4, some (.int v), l6, l7] st M Q = Wp d 179 214 [l0, l1, l2, l3, l4, some (.int v), l6, l7] (.int v :: st) M Q := fun d l0 l1 l2 l3 l4 l6 l7 v st M Q => wA (show ins 179 212 = some (.iload 5, 2) by decide +kernel) rfl
set_option maxRecDepth 100000 in
theorem r_179_214 : ∀ (d : Nat) (ls : Lc) (a b : Int) (st : List Value) (M : Mem) (Q : Outcome → Mem → Prop), Wp d 179 214 ls (.int (I b) :: .int (I a) :: st) M Q = Wp d 179 215 ls (.int (I (a + b)) :: st) M Q := fun d ls a b st M Q => w_iadd (show ins 179 214 = some (.iadd, 1) by decide +kernel)
set_option maxRecDepth 100000 in
theorem r_179_215 : ∀ (d : Nat) (ls : Lc) (a : Nat) (j : Int32) (st : List Value) (M : Mem) (Q : Outcome → Mem → Prop), Wp d 179 215 ls (.int j :: .ref a :: st) M Q = ((((kX M a).1 = 0 ∨ (kX M a).1 = 8) ∧ inB j (kX M a).2 = true) ∧ Wp d 179 216 ls (.int (mA M a j.toNatClampNeg) :: st) M Q) := fun d ls a j st M Q => w_iaload (show ins 179 215 = some (.iaload, 1) by decide +kernel)
set_option maxRecDepth 100000 in
theorem r_179_216 : ∀ (d : Nat) (ls : Lc) (a : Nat) (j v : Int32) (st : List Value) (M : Mem) (Q : Outcome → Mem → Prop), Wp d 179 216 ls (.int v :: .int j :: .ref a :: st) M Q = (((kX M a).1 = 0 ∧ inB j (kX M a).2 = true) ∧ Wp d 179 217 ls st (sA M a j.toNatClampNeg v) Q) := fun d ls a j v st M Q => w_iastore (show ins 179 216 = some (.iastore, 1) by decide +kernel)
set_option maxRecDepth 100000 in
theorem r_179_217 : ∀ (d : Nat) (ls : Lc) (st : List Value) (M : Mem) (Q : Outcome → Mem → Prop), Wp d 179 217 ls st M Q = Wp d 179 218 ls (.int (I 0) :: st) M Q := fun d ls st M Q => w_iconst (show ins 179 217 = some (.iconst 0, 1) by decide +kernel)
set_option maxRecDepth 100000 in
theorem r_179_218 : ∀ (d : Nat) (l0 l1 l2 l3 l4 l5 l6 l7 : Option Value) (v : Int32) (st : List Value) (M : Mem) (Q : Outcome → Mem → Prop), (lo l6 = false) → Wp d 179 218 [l0, l1, l2, l3, l4, l5, l6, l7] (.int v :: st) M Q = Wp d 179 220 [l0, l1, l2, l3, l4, l5, l6, some (.int v)] st M Q := fun d l0 l1 l2 l3 l4 l5 l6 l7 v st M Q hl => w_istore (show ins 179 218 = some (.istore 7, 2) by decide +kernel) (st1_S rfl rfl hl)
set_option maxRecDepth 100000 in
theorem r_179_220 : ∀ (d : Nat) (l0 l1 l2 l3 l4 l5 l6 : Option Value) (v : Int32) (st : List Value) (M : Mem) (Q : Outcome → Mem → Prop), Wp d 179 220 [l0, l1, l2, l3, l4, l5, l6, some (.int v)] st M Q = Wp d 179 222 [l0, l1, l2, l3, l4, l5, l6, some (.int v)] (.int v :: st) M Q := fun d l0 l1 l2 l3 l4 l5 l6 v st M Q => wA (show ins 179 220 = some (.iload 7, 2) by decide +kernel) rfl
set_option maxRecDepth 100000 in
theorem r_179_222 : ∀ (d : Nat) (ls : Lc) (st : List Value) (M : Mem) (Q : Outcome → Mem → Prop), Wp d 179 222 ls st M Q = Wp d 179 223 ls (.int (I 3) :: st) M Q := fun d ls st M Q => w_iconst (show ins 179 222 = some (.iconst 3, 1) by decide +kernel)
set_option maxRecDepth 100000 in
theorem r_179_223 : ∀ (d : Nat) (ls : Lc) (a b : Int32) (st : List Value) (M : Mem) (Q : Outcome → Mem → Prop), Wp d 179 223 ls (.int b :: .int a :: st) M Q = Br (b ≤ a) d 179 258 226 ls st M Q := fun d ls a b st M Q => w_icmp (show ins 179 223 = some (.if_icmp .ge 35, 3) by decide +kernel) rfl rfl
set_option maxRecDepth 100000 in
theorem r_179_226 : ∀ (d : Nat) (l1 l2 l3 l4 l5 l6 l7 : Option Value) (v : Nat) (st : List Value) (M : Mem) (Q : Outcome → Mem → Prop), Wp d 179 226 [some (.ref v), l1, l2, l3, l4, l5, l6, l7] st M Q = Wp d 179 227 [some (.ref v), l1, l2, l3, l4, l5, l6, l7] (.ref v :: st) M Q := fun d l1 l2 l3 l4 l5 l6 l7 v st M Q => wA (show ins 179 226 = some (.aload_n 0, 1) by decide +kernel) rfl
set_option maxRecDepth 100000 in
theorem r_179_227 : ∀ (d : Nat) (l0 l1 l2 l3 l4 l5 l7 : Option Value) (v : Int32) (st : List Value) (M : Mem) (Q : Outcome → Mem → Prop), Wp d 179 227 [l0, l1, l2, l3, l4, l5, some (.int v), l7] st M Q = Wp d 179 229 [l0, l1, l2, l3, l4, l5, some (.int v), l7] (.int v :: st) M Q := fun d l0 l1 l2 l3 l4 l5 l7 v st M Q => wA (show ins 179 227 = some (.iload 6, 2) by decide +kernel) rfl
set_option maxRecDepth 100000 in
theorem r_179_229 : ∀ (d : Nat) (ls : Lc) (st : List Value) (M : Mem) (Q : Outcome → Mem → Prop), Wp d 179 229 ls st M Q = Wp d 179 230 ls (.int (I 0) :: st) M Q := fun d ls st M Q => w_iconst (show ins 179 229 = some (.iconst 0, 1) by decide +kernel)
set_option maxRecDepth 100000 in
theorem r_179_230 : ∀ (d : Nat) (l1 l2 l3 l4 l5 l6 l7 : Option Value) (v : Nat) (st : List Value) (M : Mem) (Q : Outcome → Mem → Prop), Wp d 179 230 [some (.ref v), l1, l2, l3, l4, l5, l6, l7] st M Q = Wp d 179 231 [some (.ref v), l1, l2, l3, l4, l5, l6, l7] (.ref v :: st) M Q := fun d l1 l2 l3 l4 l5 l6 l7 v st M Q => wA (show ins 179 230 = some (.aload_n 0, 1) by decide +kernel) rfl
set_option maxRecDepth 100000 in
theorem r_179_231 : ∀ (d : Nat) (l0 l1 l2 l3 l4 l6 l7 : Option Value) (v : Int32) (st : List Value) (M : Mem) (Q : Outcome → Mem → Prop), Wp d 179 231 [l0, l1, l2, l3, l4, some (.int v), l6, l7] st M Q = Wp d 179 233 [l0, l1, l2, l3, l4, some (.int v), l6, l7] (.int v :: st) M Q := fun d l0 l1 l2 l3 l4 l6 l7 v st M Q => wA (show ins 179 231 = some (.iload 5, 2) by decide +kernel) rfl
set_option maxRecDepth 100000 in
theorem r_179_233 : ∀ (d : Nat) (l1 l2 l3 l4 l5 l6 l7 : Option Value) (v : Nat) (st : List Value) (M : Mem) (Q : Outcome → Mem → Prop), Wp d 179 233 [some (.ref v), l1, l2, l3, l4, l5, l6, l7] st M Q = Wp d 179 234 [some (.ref v), l1, l2, l3, l4, l5, l6, l7] (.ref v :: st) M Q := fun d l1 l2 l3 l4 l5 l6 l7 v st M Q => wA (show ins 179 233 = some (.aload_n 0, 1) by decide +kernel) rfl
set_option maxRecDepth 100000 in
theorem r_179_234 : ∀ (d : Nat) (ls : Lc) (a : Nat) (st : List Value) (M : Mem) (Q : Outcome → Mem → Prop), Wp d 179 234 ls (.ref a :: st) M Q = (fk 53 (kO M a) = true ∧ Wp d 179 237 ls (va_rf (mR M 53 a) :: st) M Q) := fun d ls a st M Q => w_getR (show ins 179 234 = some (.getfield 7, 3) by decide +kernel) (show fRes (mC 179) 7 = some (53, 8, false) by decide +kernel) (by decide +kernel)
set_option maxRecDepth 100000 in
theorem r_179_237 : ∀ (d : Nat) (ls : Lc) (st : List Value) (M : Mem) (Q : Outcome → Mem → Prop), Wp d 179 237 ls st M Q = Wp d 179 240 ls (.int (I 3852) :: st) M Q := fun d ls st M Q => w_sipush (show ins 179 237 = some (.sipush 3852, 3) by decide +kernel) (by decide)
set_option maxRecDepth 100000 in
theorem r_179_240 : ∀ (d : Nat) (l0 l1 l2 l3 l4 l6 l7 : Option Value) (v : Int32) (st : List Value) (M : Mem) (Q : Outcome → Mem → Prop), Wp d 179 240 [l0, l1, l2, l3, l4, some (.int v), l6, l7] st M Q = Wp d 179 242 [l0, l1, l2, l3, l4, some (.int v), l6, l7] (.int v :: st) M Q := fun d l0 l1 l2 l3 l4 l6 l7 v st M Q => wA (show ins 179 240 = some (.iload 5, 2) by decide +kernel) rfl
set_option maxRecDepth 100000 in
theorem r_179_242 : ∀ (d : Nat) (ls : Lc) (a b : Int) (st : List Value) (M : Mem) (Q : Outcome → Mem → Prop), Wp d 179 242 ls (.int (I b) :: .int (I a) :: st) M Q = Wp d 179 243 ls (.int (I (a + b)) :: st) M Q := fun d ls a b st M Q => w_iadd (show ins 179 242 = some (.iadd, 1) by decide +kernel)
set_option maxRecDepth 100000 in
theorem r_179_243 : ∀ (d : Nat) (ls : Lc) (a : Nat) (j : Int32) (st : List Value) (M : Mem) (Q : Outcome → Mem → Prop), Wp d 179 243 ls (.int j :: .ref a :: st) M Q = ((((kX M a).1 = 0 ∨ (kX M a).1 = 8) ∧ inB j (kX M a).2 = true) ∧ Wp d 179 244 ls (.int (mA M a j.toNatClampNeg) :: st) M Q) := fun d ls a j st M Q => w_iaload (show ins 179 243 = some (.iaload, 1) by decide +kernel)
set_option maxRecDepth 100000 in
theorem r_179_244 : ∀ (d : Nat) (ls : Lc) (st : List Value) (M : Mem) (Q : Outcome → Mem → Prop), Wp d 179 244 ls st M Q = Wp d 179 245 ls (.int (I 1) :: st) M Q := fun d ls st M Q => w_iconst (show ins 179 244 = some (.iconst 1, 1) by decide +kernel)
set_option maxRecDepth 100000 in
theorem r_179_245 : ∀ (d : Nat) (ls : Lc) (a b : Int) (st : List Value) (M : Mem) (Q : Outcome → Mem → Prop), Wp d 179 245 ls (.int (I b) :: .int (I a) :: st) M Q = Wp d 179 246 ls (.int (I (a - b)) :: st) M Q := fun d ls a b st M Q => w_isub (show ins 179 245 = some (.isub, 1) by decide +kernel)
set_option maxRecDepth 100000 in
theorem r_179_246 : ∀ (d : Nat) (ls : Lc) (v0 v1 : Value) (a : Nat) (st : List Value) (M : Mem) (Q : Outcome → Mem → Prop), (smallR st = true) → Wp d 179 246 ls (v1 :: v0 :: .ref a :: st) M Q = (kO M a = 8 ∧ Ca d 179 246 ls 182 (.ref a :: [v0, v1]) st M Q) := fun d ls v0 v1 a st M Q h0 => w_virt1 (as := [v0, v1]) (show ins 179 246 = some (.invokevirtual 74, 3) by decide +kernel) (show mRes (mC 179) 74 = some (3, 8, [(8, 182)]) by decide +kernel) (by decide +kernel) rfl (by decide +kernel) (by decide +kernel) h0
set_option maxRecDepth 100000 in
theorem r_179_249 : ∀ (d : Nat) (ls : Lc) (v0 v1 v2 : Value) (a : Nat) (st : List Value) (M : Mem) (Q : Outcome → Mem → Prop), (smallR st = true) → Wp d 179 249 ls (v2 :: v1 :: v0 :: .ref a :: st) M Q = (kO M a = 8 ∧ Ca d 179 249 ls 180 (.ref a :: [v0, v1, v2]) st M Q) := fun d ls v0 v1 v2 a st M Q h0 => w_virt1 (as := [v0, v1, v2]) (show ins 179 249 = some (.invokevirtual 66, 3) by decide +kernel) (show mRes (mC 179) 66 = some (3, 8, [(8, 180)]) by decide +kernel) (by decide +kernel) rfl (by decide +kernel) (by decide +kernel) h0
set_option maxRecDepth 100000 in
theorem r_179_252 : ∀ (d : Nat) (l0 l1 l2 l3 l4 l5 l6 : Option Value) (z : Int) (st : List Value) (M : Mem) (Q : Outcome → Mem → Prop), (lo l6 = false) → Wp d 179 252 [l0, l1, l2, l3, l4, l5, l6, some (.int (I z))] st M Q = Wp d 179 255 [l0, l1, l2, l3, l4, l5, l6, some (.int (I (z + 1)))] st M Q := fun d l0 l1 l2 l3 l4 l5 l6 z st M Q hl => w_iinc (show ins 179 252 = some (.iinc 7 1, 3) by decide +kernel) rfl (st1_S rfl rfl hl)
set_option maxRecDepth 100000 in
theorem r_179_255 : ∀ (d : Nat) (ls : Lc) (st : List Value) (M : Mem) (Q : Outcome → Mem → Prop), Wp d 179 255 ls st M Q = Wp d 179 220 ls st M Q := fun d ls st M Q => w_goto (show ins 179 255 = some (.goto (-35), 3) by decide +kernel) rfl
set_option maxRecDepth 100000 in
theorem r_179_258 : ∀ (d : Nat) (l1 l2 l3 l4 l5 l6 l7 : Option Value) (v : Nat) (st : List Value) (M : Mem) (Q : Outcome → Mem → Prop), Wp d 179 258 [some (.ref v), l1, l2, l3, l4, l5, l6, l7] st M Q = Wp d 179 259 [some (.ref v), l1, l2, l3, l4, l5, l6, l7] (.ref v :: st) M Q := fun d l1 l2 l3 l4 l5 l6 l7 v st M Q => wA (show ins 179 258 = some (.aload_n 0, 1) by decide +kernel) rfl
set_option maxRecDepth 100000 in
theorem r_179_259 : ∀ (d : Nat) (l0 l1 l2 l3 l4 l5 l7 : Option Value) (v : Int32) (st : List Value) (M : Mem) (Q : Outcome → Mem → Prop), Wp d 179 259 [l0, l1, l2, l3, l4, l5, some (.int v), l7] st M Q = Wp d 179 261 [l0, l1, l2, l3, l4, l5, some (.int v), l7] (.int v :: st) M Q := fun d l0 l1 l2 l3 l4 l5 l7 v st M Q => wA (show ins 179 259 = some (.iload 6, 2) by decide +kernel) rfl
set_option maxRecDepth 100000 in
theorem r_179_261 : ∀ (d : Nat) (l0 l1 l2 l3 l4 l6 l7 : Option Value) (v : Int32) (st : List Value) (M : Mem) (Q : Outcome → Mem → Prop), Wp d 179 261 [l0, l1, l2, l3, l4, some (.int v), l6, l7] st M Q = Wp d 179 263 [l0, l1, l2, l3, l4, some (.int v), l6, l7] (.int v :: st) M Q := fun d l0 l1 l2 l3 l4 l6 l7 v st M Q => wA (show ins 179 261 = some (.iload 5, 2) by decide +kernel) rfl
set_option maxRecDepth 100000 in
theorem r_179_263 : ∀ (d : Nat) (ls : Lc) (v0 v1 : Value) (a : Nat) (st : List Value) (M : Mem) (Q : Outcome → Mem → Prop), (smallR st = true) → Wp d 179 263 ls (v1 :: v0 :: .ref a :: st) M Q = (kO M a = 8 ∧ Ca d 179 263 ls 178 (.ref a :: [v0, v1]) st M Q) := fun d ls v0 v1 a st M Q h0 => w_virt1 (as := [v0, v1]) (show ins 179 263 = some (.invokevirtual 77, 3) by decide +kernel) (show mRes (mC 179) 77 = some (3, 8, [(8, 178)]) by decide +kernel) (by decide +kernel) rfl (by decide +kernel) (by decide +kernel) h0
set_option maxRecDepth 100000 in
theorem r_179_266 : ∀ (d : Nat) (l0 l1 l2 l3 l4 l6 l7 : Option Value) (v : Int32) (st : List Value) (M : Mem) (Q : Outcome → Mem → Prop), Wp d 179 266 [l0, l1, l2, l3, l4, some (.int v), l6, l7] st M Q = Wp d 179 268 [l0, l1, l2, l3, l4, some (.int v), l6, l7] (.int v :: st) M Q := fun d l0 l1 l2 l3 l4 l6 l7 v st M Q => wA (show ins 179 266 = some (.iload 5, 2) by decide +kernel) rfl
set_option maxRecDepth 100000 in
theorem r_179_268 : ∀ (d : Nat) (l0 l1 l2 l3 l4 l5 l6 l7 : Option Value) (v : Int32) (st : List Value) (M : Mem) (Q : Outcome → Mem → Prop), (lo l2 = false) → Wp d 179 268 [l0, l1, l2, l3, l4, l5, l6, l7] (.int v :: st) M Q = Wp d 179 269 [l0, l1, l2, some (.int v), l4, l5, l6, l7] st M Q := fun d l0 l1 l2 l3 l4 l5 l6 l7 v st M Q hl => w_istore_n (show ins 179 268 = some (.istore_n 3, 1) by decide +kernel) (st1_S rfl rfl hl)
set_option maxRecDepth 100000 in
theorem r_179_269 : ∀ (d : Nat) (l0 l1 l2 l3 l4 l5 l7 : Option Value) (v : Int32) (st : List Value) (M : Mem) (Q : Outcome → Mem → Prop), Wp d 179 269 [l0, l1, l2, l3, l4, l5, some (.int v), l7] st M Q = Wp d 179 271 [l0, l1, l2, l3, l4, l5, some (.int v), l7] (.int v :: st) M Q := fun d l0 l1 l2 l3 l4 l5 l7 v st M Q => wA (show ins 179 269 = some (.iload 6, 2) by decide +kernel) rfl
set_option maxRecDepth 100000 in
theorem r_179_271 : ∀ (d : Nat) (l0 l1 l2 l3 l4 l5 l6 l7 : Option Value) (v : Int32) (st : List Value) (M : Mem) (Q : Outcome → Mem → Prop), (lo l3 = false) → Wp d 179 271 [l0, l1, l2, l3, l4, l5, l6, l7] (.int v :: st) M Q = Wp d 179 273 [l0, l1, l2, l3, some (.int v), l5, l6, l7] st M Q := fun d l0 l1 l2 l3 l4 l5 l6 l7 v st M Q hl => w_istore (show ins 179 271 = some (.istore 4, 2) by decide +kernel) (st1_S rfl rfl hl)
set_option maxRecDepth 100000 in
theorem r_179_273 : ∀ (d : Nat) (ls : Lc) (st : List Value) (M : Mem) (Q : Outcome → Mem → Prop), Wp d 179 273 ls st M Q = Wp d 179 5 ls st M Q := fun d ls st M Q => w_goto (show ins 179 273 = some (.goto (-268), 3) by decide +kernel) rfl
set_option maxRecDepth 100000 in
theorem r_179_276 : ∀ (d : Nat) (ls : Lc) (M : Mem) (Q : Outcome → Mem → Prop), Wp d 179 276 ls [] M Q = Q (.returned none) M := fun d ls M Q => w_return (show ins 179 276 = some (.return_, 1) by decide +kernel) (by decide +kernel)
set_option maxRecDepth 100000 in
theorem w_179_5 : (type_of% r_179_5) := r_179_5
set_option maxRecDepth 100000 in
theorem w_179_220 : (type_of% r_179_220) := r_179_220
set_option maxRecDepth 100000 in
theorem W_179 : (type_of% r_179_0) ∧ (type_of% r_179_1) ∧ (type_of% r_179_2) ∧ (type_of% r_179_3) ∧ (type_of% r_179_6) ∧ (type_of% r_179_9) ∧ (type_of% r_179_12) ∧ (type_of% r_179_13) ∧ (type_of% r_179_16) ∧ (type_of% r_179_19) ∧ (type_of% r_179_20) ∧ (type_of% r_179_21) ∧ (type_of% r_179_22) ∧ (type_of% r_179_24) ∧ (type_of% r_179_26) ∧ (type_of% r_179_27) ∧ (type_of% r_179_30) ∧ (type_of% r_179_31) ∧ (type_of% r_179_34) ∧ (type_of% r_179_36) ∧ (type_of% r_179_37) ∧ (type_of% r_179_40) ∧ (type_of% r_179_43) ∧ (type_of% r_179_44) ∧ (type_of% r_179_45) ∧ (type_of% r_179_46) ∧ (type_of% r_179_49) ∧ (type_of% r_179_50) ∧ (type_of% r_179_51) ∧ (type_of% r_179_53) ∧ (type_of% r_179_54) ∧ (type_of% r_179_57) ∧ (type_of% r_179_60) ∧ (type_of% r_179_62) ∧ (type_of% r_179_63) ∧ (type_of% r_179_65) ∧ (type_of% r_179_66) ∧ (type_of% r_179_67) ∧ (type_of% r_179_68) ∧ (type_of% r_179_69) ∧ (type_of% r_179_72) ∧ (type_of% r_179_75) ∧ (type_of% r_179_77) ∧ (type_of% r_179_78) ∧ (type_of% r_179_79) ∧ (type_of% r_179_80) ∧ (type_of% r_179_81) ∧ (type_of% r_179_83) ∧ (type_of% r_179_84) ∧ (type_of% r_179_85) ∧ (type_of% r_179_88) ∧ (type_of% r_179_89) ∧ (type_of% r_179_91) ∧ (type_of% r_179_92) ∧ (type_of% r_179_94) ∧ (type_of% r_179_97) ∧ (type_of% r_179_98) ∧ (type_of% r_179_101) ∧ (type_of% r_179_104) ∧ (type_of% r_179_106) ∧ (type_of% r_179_108) ∧ (type_of% r_179_109) ∧ (type_of% r_179_110) ∧ (type_of% r_179_112) ∧ (type_of% r_179_113) ∧ (type_of% r_179_114) ∧ (type_of% r_179_117) ∧ (type_of% r_179_120) ∧ (type_of% r_179_122) ∧ (type_of% r_179_123) ∧ (type_of% r_179_124) ∧ (type_of% r_179_125) ∧ (type_of% r_179_126) ∧ (type_of% r_179_129) ∧ (type_of% r_179_132) ∧ (type_of% r_179_134) ∧ (type_of% r_179_135) ∧ (type_of% r_179_136) ∧ (type_of% r_179_139) ∧ (type_of% r_179_142) ∧ (type_of% r_179_143) ∧ (type_of% r_179_144) ∧ (type_of% r_179_145) ∧ (type_of% r_179_146) ∧ (type_of% r_179_147) ∧ (type_of% r_179_148) ∧ (type_of% r_179_149) ∧ (type_of% r_179_151) ∧ (type_of% r_179_152) ∧ (type_of% r_179_154) ∧ (type_of% r_179_155) ∧ (type_of% r_179_158) ∧ (type_of% r_179_159) ∧ (type_of% r_179_160) ∧ (type_of% r_179_162) ∧ (type_of% r_179_165) ∧ (type_of% r_179_166) ∧ (type_of% r_179_169) ∧ (type_of% r_179_172) ∧ (type_of% r_179_174) ∧ (type_of% r_179_175) ∧ (type_of% r_179_176) ∧ (type_of% r_179_177) ∧ (type_of% r_179_180) ∧ (type_of% r_179_181) ∧ (type_of% r_179_182) ∧ (type_of% r_179_185) ∧ (type_of% r_179_187) ∧ (type_of% r_179_188) ∧ (type_of% r_179_191) ∧ (type_of% r_179_194) ∧ (type_of% r_179_195) ∧ (type_of% r_179_196) ∧ (type_of% r_179_199) ∧ (type_of% r_179_202) ∧ (type_of% r_179_204) ∧ (type_of% r_179_205) ∧ (type_of% r_179_206) ∧ (type_of% r_179_209) ∧ (type_of% r_179_212) ∧ (type_of% r_179_214) ∧ (type_of% r_179_215) ∧ (type_of% r_179_216) ∧ (type_of% r_179_217) ∧ (type_of% r_179_218) ∧ (type_of% r_179_222) ∧ (type_of% r_179_223) ∧ (type_of% r_179_226) ∧ (type_of% r_179_227) ∧ (type_of% r_179_229) ∧ (type_of% r_179_230) ∧ (type_of% r_179_231) ∧ (type_of% r_179_233) ∧ (type_of% r_179_234) ∧ (type_of% r_179_237) ∧ (type_of% r_179_240) ∧ (type_of% r_179_242) ∧ (type_of% r_179_243) ∧ (type_of% r_179_244) ∧ (type_of% r_179_245) ∧ (type_of% r_179_246) ∧ (type_of% r_179_249) ∧ (type_of% r_179_252) ∧ (type_of% r_179_255) ∧ (type_of% r_179_258) ∧ (type_of% r_179_259) ∧ (type_of% r_179_261) ∧ (type_of% r_179_263) ∧ (type_of% r_179_266) ∧ (type_of% r_179_268) ∧ (type_of% r_179_269) ∧ (type_of% r_179_271) ∧ (type_of% r_179_273) ∧ (type_of% r_179_276) := ⟨r_179_0, r_179_1, r_179_2, r_179_3, r_179_6, r_179_9, r_179_12, r_179_13, r_179_16, r_179_19, r_179_20, r_179_21, r_179_22, r_179_24, r_179_26, r_179_27, r_179_30, r_179_31, r_179_34, r_179_36, r_179_37, r_179_40, r_179_43, r_179_44, r_179_45, r_179_46, r_179_49, r_179_50, r_179_51, r_179_53, r_179_54, r_179_57, r_179_60, r_179_62, r_179_63, r_179_65, r_179_66, r_179_67, r_179_68, r_179_69, r_179_72, r_179_75, r_179_77, r_179_78, r_179_79, r_179_80, r_179_81, r_179_83, r_179_84, r_179_85, r_179_88, r_179_89, r_179_91, r_179_92, r_179_94, r_179_97, r_179_98, r_179_101, r_179_104, r_179_106, r_179_108, r_179_109, r_179_110, r_179_112, r_179_113, r_179_114, r_179_117, r_179_120, r_179_122, r_179_123, r_179_124, r_179_125, r_179_126, r_179_129, r_179_132, r_179_134, r_179_135, r_179_136, r_179_139, r_179_142, r_179_143, r_179_144, r_179_145, r_179_146, r_179_147, r_179_148, r_179_149, r_179_151, r_179_152, r_179_154, r_179_155, r_179_158, r_179_159, r_179_160, r_179_162, r_179_165, r_179_166, r_179_169, r_179_172, r_179_174, r_179_175, r_179_176, r_179_177, r_179_180, r_179_181, r_179_182, r_179_185, r_179_187, r_179_188, r_179_191, r_179_194, r_179_195, r_179_196, r_179_199, r_179_202, r_179_204, r_179_205, r_179_206, r_179_209, r_179_212, r_179_214, r_179_215, r_179_216, r_179_217, r_179_218, r_179_222, r_179_223, r_179_226, r_179_227, r_179_229, r_179_230, r_179_231, r_179_233, r_179_234, r_179_237, r_179_240, r_179_242, r_179_243, r_179_244, r_179_245, r_179_246, r_179_249, r_179_252, r_179_255, r_179_258, r_179_259, r_179_261, r_179_263, r_179_266, r_179_268, r_179_269, r_179_271, r_179_273, r_179_276⟩
set_option maxRecDepth 100000 in
theorem ca_179 {d y pc : Nat} {ls : Lc} {a : Nat} {z0 : Int32} {z1 : Int32} {r : List Value} {M : Mem} {Q : Outcome → Mem → Prop} (hd : 0 < d) (hw : Wp (d - 1) 179 0 [some (.ref a), some (.int z0), some (.int z1), none, none, none, none, none] [] M (Cq d y pc ls r Q)) : Ca d y pc ls 179 [.ref a, .int z0, .int z1] r M Q := ca_of (mq_get (by decide)) (by rfl) hd hw
/-! 180 PackedTreeModel.child(III)V; loop heads [12] -/
set_option maxRecDepth 100000 in
theorem r_180_0 : ∀ (d : Nat) (l1 l2 l3 l4 : Option Value) (v : Nat) (st : List Value) (M : Mem) (Q : Outcome → Mem → Prop), Wp d 180 0 [some (.ref v), l1, l2, l3, l4] st M Q = Wp d 180 1 [some (.ref v), l1, l2, l3, l4] (.ref v :: st) M Q := fun d l1 l2 l3 l4 v st M Q => wA (show ins 180 0 = some (.aload_n 0, 1) by decide +kernel) rfl
set_option maxRecDepth 100000 in
theorem r_180_1 : ∀ (d : Nat) (ls : Lc) (a : Nat) (st : List Value) (M : Mem) (Q : Outcome → Mem → Prop), Wp d 180 1 ls (.ref a :: st) M Q = (fk 53 (kO M a) = true ∧ Wp d 180 4 ls (va_rf (mR M 53 a) :: st) M Q) := fun d ls a st M Q => w_getR (show ins 180 1 = some (.getfield 7, 3) by decide +kernel) (show fRes (mC 180) 7 = some (53, 8, false) by decide +kernel) (by decide +kernel)
set_option maxRecDepth 100000 in
theorem r_180_4 : ∀ (d : Nat) (ls : Lc) (st : List Value) (M : Mem) (Q : Outcome → Mem → Prop), Wp d 180 4 ls st M Q = Wp d 180 7 ls (.int (I 3852) :: st) M Q := fun d ls st M Q => w_sipush (show ins 180 4 = some (.sipush 3852, 3) by decide +kernel) (by decide)
set_option maxRecDepth 100000 in
theorem r_180_7 : ∀ (d : Nat) (l0 l2 l3 l4 : Option Value) (v : Int32) (st : List Value) (M : Mem) (Q : Outcome → Mem → Prop), Wp d 180 7 [l0, some (.int v), l2, l3, l4] st M Q = Wp d 180 8 [l0, some (.int v), l2, l3, l4] (.int v :: st) M Q := fun d l0 l2 l3 l4 v st M Q => wA (show ins 180 7 = some (.iload_n 1, 1) by decide +kernel) rfl
set_option maxRecDepth 100000 in
theorem r_180_8 : ∀ (d : Nat) (ls : Lc) (a b : Int) (st : List Value) (M : Mem) (Q : Outcome → Mem → Prop), Wp d 180 8 ls (.int (I b) :: .int (I a) :: st) M Q = Wp d 180 9 ls (.int (I (a + b)) :: st) M Q := fun d ls a b st M Q => w_iadd (show ins 180 8 = some (.iadd, 1) by decide +kernel)
set_option maxRecDepth 100000 in
theorem r_180_9 : ∀ (d : Nat) (ls : Lc) (a : Nat) (j : Int32) (st : List Value) (M : Mem) (Q : Outcome → Mem → Prop), Wp d 180 9 ls (.int j :: .ref a :: st) M Q = ((((kX M a).1 = 0 ∨ (kX M a).1 = 8) ∧ inB j (kX M a).2 = true) ∧ Wp d 180 10 ls (.int (mA M a j.toNatClampNeg) :: st) M Q) := fun d ls a j st M Q => w_iaload (show ins 180 9 = some (.iaload, 1) by decide +kernel)
set_option maxRecDepth 100000 in
theorem r_180_10 : ∀ (d : Nat) (l0 l1 l2 l3 l4 : Option Value) (v : Int32) (st : List Value) (M : Mem) (Q : Outcome → Mem → Prop), (lo l3 = false) → Wp d 180 10 [l0, l1, l2, l3, l4] (.int v :: st) M Q = Wp d 180 12 [l0, l1, l2, l3, some (.int v)] st M Q := fun d l0 l1 l2 l3 l4 v st M Q hl => w_istore (show ins 180 10 = some (.istore 4, 2) by decide +kernel) (st1_S rfl rfl hl)
set_option maxRecDepth 100000 in
theorem r_180_12 : ∀ (d : Nat) (l0 l1 l2 l3 : Option Value) (v : Int32) (st : List Value) (M : Mem) (Q : Outcome → Mem → Prop), Wp d 180 12 [l0, l1, l2, l3, some (.int v)] st M Q = Wp d 180 14 [l0, l1, l2, l3, some (.int v)] (.int v :: st) M Q := fun d l0 l1 l2 l3 v st M Q => wA (show ins 180 12 = some (.iload 4, 2) by decide +kernel) rfl
set_option maxRecDepth 100000 in
theorem r_180_14 : ∀ (d : Nat) (l0 l1 l3 l4 : Option Value) (v : Int32) (st : List Value) (M : Mem) (Q : Outcome → Mem → Prop), Wp d 180 14 [l0, l1, some (.int v), l3, l4] st M Q = Wp d 180 15 [l0, l1, some (.int v), l3, l4] (.int v :: st) M Q := fun d l0 l1 l3 l4 v st M Q => wA (show ins 180 14 = some (.iload_n 2, 1) by decide +kernel) rfl
set_option maxRecDepth 100000 in
theorem r_180_15 : ∀ (d : Nat) (ls : Lc) (a b : Int32) (st : List Value) (M : Mem) (Q : Outcome → Mem → Prop), Wp d 180 15 ls (.int b :: .int a :: st) M Q = Br (a ≤ b) d 180 58 18 ls st M Q := fun d ls a b st M Q => w_icmp (show ins 180 15 = some (.if_icmp .le 43, 3) by decide +kernel) rfl rfl
set_option maxRecDepth 100000 in
theorem r_180_18 : ∀ (d : Nat) (l1 l2 l3 l4 : Option Value) (v : Nat) (st : List Value) (M : Mem) (Q : Outcome → Mem → Prop), Wp d 180 18 [some (.ref v), l1, l2, l3, l4] st M Q = Wp d 180 19 [some (.ref v), l1, l2, l3, l4] (.ref v :: st) M Q := fun d l1 l2 l3 l4 v st M Q => wA (show ins 180 18 = some (.aload_n 0, 1) by decide +kernel) rfl
set_option maxRecDepth 100000 in
theorem r_180_19 : ∀ (d : Nat) (ls : Lc) (a : Nat) (st : List Value) (M : Mem) (Q : Outcome → Mem → Prop), Wp d 180 19 ls (.ref a :: st) M Q = (fk 53 (kO M a) = true ∧ Wp d 180 22 ls (va_rf (mR M 53 a) :: st) M Q) := fun d ls a st M Q => w_getR (show ins 180 19 = some (.getfield 7, 3) by decide +kernel) (show fRes (mC 180) 7 = some (53, 8, false) by decide +kernel) (by decide +kernel)
set_option maxRecDepth 100000 in
theorem r_180_22 : ∀ (d : Nat) (ls : Lc) (st : List Value) (M : Mem) (Q : Outcome → Mem → Prop), Wp d 180 22 ls st M Q = Wp d 180 25 ls (.int (I 4044) :: st) M Q := fun d ls st M Q => w_sipush (show ins 180 22 = some (.sipush 4044, 3) by decide +kernel) (by decide)
set_option maxRecDepth 100000 in
theorem r_180_25 : ∀ (d : Nat) (ls : Lc) (st : List Value) (M : Mem) (Q : Outcome → Mem → Prop), Wp d 180 25 ls st M Q = Wp d 180 27 ls (.int (I 6) :: st) M Q := fun d ls st M Q => w_bipush (show ins 180 25 = some (.bipush 6, 2) by decide +kernel) (by decide)
set_option maxRecDepth 100000 in
theorem r_180_27 : ∀ (d : Nat) (l0 l2 l3 l4 : Option Value) (v : Int32) (st : List Value) (M : Mem) (Q : Outcome → Mem → Prop), Wp d 180 27 [l0, some (.int v), l2, l3, l4] st M Q = Wp d 180 28 [l0, some (.int v), l2, l3, l4] (.int v :: st) M Q := fun d l0 l2 l3 l4 v st M Q => wA (show ins 180 27 = some (.iload_n 1, 1) by decide +kernel) rfl
set_option maxRecDepth 100000 in
theorem r_180_28 : ∀ (d : Nat) (ls : Lc) (a b : Int) (st : List Value) (M : Mem) (Q : Outcome → Mem → Prop), Wp d 180 28 ls (.int (I b) :: .int (I a) :: st) M Q = Wp d 180 29 ls (.int (I (a * b)) :: st) M Q := fun d ls a b st M Q => w_imul (show ins 180 28 = some (.imul, 1) by decide +kernel)
set_option maxRecDepth 100000 in
theorem r_180_29 : ∀ (d : Nat) (ls : Lc) (a b : Int) (st : List Value) (M : Mem) (Q : Outcome → Mem → Prop), Wp d 180 29 ls (.int (I b) :: .int (I a) :: st) M Q = Wp d 180 30 ls (.int (I (a + b)) :: st) M Q := fun d ls a b st M Q => w_iadd (show ins 180 29 = some (.iadd, 1) by decide +kernel)
set_option maxRecDepth 100000 in
theorem r_180_30 : ∀ (d : Nat) (l0 l1 l2 l3 : Option Value) (v : Int32) (st : List Value) (M : Mem) (Q : Outcome → Mem → Prop), Wp d 180 30 [l0, l1, l2, l3, some (.int v)] st M Q = Wp d 180 32 [l0, l1, l2, l3, some (.int v)] (.int v :: st) M Q := fun d l0 l1 l2 l3 v st M Q => wA (show ins 180 30 = some (.iload 4, 2) by decide +kernel) rfl
set_option maxRecDepth 100000 in
theorem r_180_32 : ∀ (d : Nat) (ls : Lc) (a b : Int) (st : List Value) (M : Mem) (Q : Outcome → Mem → Prop), Wp d 180 32 ls (.int (I b) :: .int (I a) :: st) M Q = Wp d 180 33 ls (.int (I (a + b)) :: st) M Q := fun d ls a b st M Q => w_iadd (show ins 180 32 = some (.iadd, 1) by decide +kernel)
set_option maxRecDepth 100000 in
theorem r_180_33 : ∀ (d : Nat) (l1 l2 l3 l4 : Option Value) (v : Nat) (st : List Value) (M : Mem) (Q : Outcome → Mem → Prop), Wp d 180 33 [some (.ref v), l1, l2, l3, l4] st M Q = Wp d 180 34 [some (.ref v), l1, l2, l3, l4] (.ref v :: st) M Q := fun d l1 l2 l3 l4 v st M Q => wA (show ins 180 33 = some (.aload_n 0, 1) by decide +kernel) rfl
set_option maxRecDepth 100000 in
theorem r_180_34 : ∀ (d : Nat) (ls : Lc) (a : Nat) (st : List Value) (M : Mem) (Q : Outcome → Mem → Prop), Wp d 180 34 ls (.ref a :: st) M Q = (fk 53 (kO M a) = true ∧ Wp d 180 37 ls (va_rf (mR M 53 a) :: st) M Q) := fun d ls a st M Q => w_getR (show ins 180 34 = some (.getfield 7, 3) by decide +kernel) (show fRes (mC 180) 7 = some (53, 8, false) by decide +kernel) (by decide +kernel)
set_option maxRecDepth 100000 in
theorem r_180_37 : ∀ (d : Nat) (ls : Lc) (st : List Value) (M : Mem) (Q : Outcome → Mem → Prop), Wp d 180 37 ls st M Q = Wp d 180 40 ls (.int (I 4044) :: st) M Q := fun d ls st M Q => w_sipush (show ins 180 37 = some (.sipush 4044, 3) by decide +kernel) (by decide)
set_option maxRecDepth 100000 in
theorem r_180_40 : ∀ (d : Nat) (ls : Lc) (st : List Value) (M : Mem) (Q : Outcome → Mem → Prop), Wp d 180 40 ls st M Q = Wp d 180 42 ls (.int (I 6) :: st) M Q := fun d ls st M Q => w_bipush (show ins 180 40 = some (.bipush 6, 2) by decide +kernel) (by decide)
set_option maxRecDepth 100000 in
theorem r_180_42 : ∀ (d : Nat) (l0 l2 l3 l4 : Option Value) (v : Int32) (st : List Value) (M : Mem) (Q : Outcome → Mem → Prop), Wp d 180 42 [l0, some (.int v), l2, l3, l4] st M Q = Wp d 180 43 [l0, some (.int v), l2, l3, l4] (.int v :: st) M Q := fun d l0 l2 l3 l4 v st M Q => wA (show ins 180 42 = some (.iload_n 1, 1) by decide +kernel) rfl
set_option maxRecDepth 100000 in
theorem r_180_43 : ∀ (d : Nat) (ls : Lc) (a b : Int) (st : List Value) (M : Mem) (Q : Outcome → Mem → Prop), Wp d 180 43 ls (.int (I b) :: .int (I a) :: st) M Q = Wp d 180 44 ls (.int (I (a * b)) :: st) M Q := fun d ls a b st M Q => w_imul (show ins 180 43 = some (.imul, 1) by decide +kernel)
set_option maxRecDepth 100000 in
theorem r_180_44 : ∀ (d : Nat) (ls : Lc) (a b : Int) (st : List Value) (M : Mem) (Q : Outcome → Mem → Prop), Wp d 180 44 ls (.int (I b) :: .int (I a) :: st) M Q = Wp d 180 45 ls (.int (I (a + b)) :: st) M Q := fun d ls a b st M Q => w_iadd (show ins 180 44 = some (.iadd, 1) by decide +kernel)
set_option maxRecDepth 100000 in
theorem r_180_45 : ∀ (d : Nat) (l0 l1 l2 l3 : Option Value) (v : Int32) (st : List Value) (M : Mem) (Q : Outcome → Mem → Prop), Wp d 180 45 [l0, l1, l2, l3, some (.int v)] st M Q = Wp d 180 47 [l0, l1, l2, l3, some (.int v)] (.int v :: st) M Q := fun d l0 l1 l2 l3 v st M Q => wA (show ins 180 45 = some (.iload 4, 2) by decide +kernel) rfl
set_option maxRecDepth 100000 in
theorem r_180_47 : ∀ (d : Nat) (ls : Lc) (a b : Int) (st : List Value) (M : Mem) (Q : Outcome → Mem → Prop), Wp d 180 47 ls (.int (I b) :: .int (I a) :: st) M Q = Wp d 180 48 ls (.int (I (a + b)) :: st) M Q := fun d ls a b st M Q => w_iadd (show ins 180 47 = some (.iadd, 1) by decide +kernel)
set_option maxRecDepth 100000 in
theorem r_180_48 : ∀ (d : Nat) (ls : Lc) (st : List Value) (M : Mem) (Q : Outcome → Mem → Prop), Wp d 180 48 ls st M Q = Wp d 180 49 ls (.int (I 1) :: st) M Q := fun d ls st M Q => w_iconst (show ins 180 48 = some (.iconst 1, 1) by decide +kernel)
set_option maxRecDepth 100000 in
theorem r_180_49 : ∀ (d : Nat) (ls : Lc) (a b : Int) (st : List Value) (M : Mem) (Q : Outcome → Mem → Prop), Wp d 180 49 ls (.int (I b) :: .int (I a) :: st) M Q = Wp d 180 50 ls (.int (I (a - b)) :: st) M Q := fun d ls a b st M Q => w_isub (show ins 180 49 = some (.isub, 1) by decide +kernel)
set_option maxRecDepth 100000 in
theorem r_180_50 : ∀ (d : Nat) (ls : Lc) (a : Nat) (j : Int32) (st : List Value) (M : Mem) (Q : Outcome → Mem → Prop), Wp d 180 50 ls (.int j :: .ref a :: st) M Q = ((((kX M a).1 = 0 ∨ (kX M a).1 = 8) ∧ inB j (kX M a).2 = true) ∧ Wp d 180 51 ls (.int (mA M a j.toNatClampNeg) :: st) M Q) := fun d ls a j st M Q => w_iaload (show ins 180 50 = some (.iaload, 1) by decide +kernel)
set_option maxRecDepth 100000 in
theorem r_180_51 : ∀ (d : Nat) (ls : Lc) (a : Nat) (j v : Int32) (st : List Value) (M : Mem) (Q : Outcome → Mem → Prop), Wp d 180 51 ls (.int v :: .int j :: .ref a :: st) M Q = (((kX M a).1 = 0 ∧ inB j (kX M a).2 = true) ∧ Wp d 180 52 ls st (sA M a j.toNatClampNeg v) Q) := fun d ls a j v st M Q => w_iastore (show ins 180 51 = some (.iastore, 1) by decide +kernel)
set_option maxRecDepth 100000 in
theorem r_180_52 : ∀ (d : Nat) (l0 l1 l2 l3 : Option Value) (z : Int) (st : List Value) (M : Mem) (Q : Outcome → Mem → Prop), (lo l3 = false) → Wp d 180 52 [l0, l1, l2, l3, some (.int (I z))] st M Q = Wp d 180 55 [l0, l1, l2, l3, some (.int (I (z + (-1))))] st M Q := fun d l0 l1 l2 l3 z st M Q hl => w_iinc (show ins 180 52 = some (.iinc 4 (-1), 3) by decide +kernel) rfl (st1_S rfl rfl hl)
set_option maxRecDepth 100000 in
theorem r_180_55 : ∀ (d : Nat) (ls : Lc) (st : List Value) (M : Mem) (Q : Outcome → Mem → Prop), Wp d 180 55 ls st M Q = Wp d 180 12 ls st M Q := fun d ls st M Q => w_goto (show ins 180 55 = some (.goto (-43), 3) by decide +kernel) rfl
set_option maxRecDepth 100000 in
theorem r_180_58 : ∀ (d : Nat) (l1 l2 l3 l4 : Option Value) (v : Nat) (st : List Value) (M : Mem) (Q : Outcome → Mem → Prop), Wp d 180 58 [some (.ref v), l1, l2, l3, l4] st M Q = Wp d 180 59 [some (.ref v), l1, l2, l3, l4] (.ref v :: st) M Q := fun d l1 l2 l3 l4 v st M Q => wA (show ins 180 58 = some (.aload_n 0, 1) by decide +kernel) rfl
set_option maxRecDepth 100000 in
theorem r_180_59 : ∀ (d : Nat) (ls : Lc) (a : Nat) (st : List Value) (M : Mem) (Q : Outcome → Mem → Prop), Wp d 180 59 ls (.ref a :: st) M Q = (fk 53 (kO M a) = true ∧ Wp d 180 62 ls (va_rf (mR M 53 a) :: st) M Q) := fun d ls a st M Q => w_getR (show ins 180 59 = some (.getfield 7, 3) by decide +kernel) (show fRes (mC 180) 7 = some (53, 8, false) by decide +kernel) (by decide +kernel)
set_option maxRecDepth 100000 in
theorem r_180_62 : ∀ (d : Nat) (ls : Lc) (st : List Value) (M : Mem) (Q : Outcome → Mem → Prop), Wp d 180 62 ls st M Q = Wp d 180 65 ls (.int (I 4044) :: st) M Q := fun d ls st M Q => w_sipush (show ins 180 62 = some (.sipush 4044, 3) by decide +kernel) (by decide)
set_option maxRecDepth 100000 in
theorem r_180_65 : ∀ (d : Nat) (ls : Lc) (st : List Value) (M : Mem) (Q : Outcome → Mem → Prop), Wp d 180 65 ls st M Q = Wp d 180 67 ls (.int (I 6) :: st) M Q := fun d ls st M Q => w_bipush (show ins 180 65 = some (.bipush 6, 2) by decide +kernel) (by decide)
set_option maxRecDepth 100000 in
theorem r_180_67 : ∀ (d : Nat) (l0 l2 l3 l4 : Option Value) (v : Int32) (st : List Value) (M : Mem) (Q : Outcome → Mem → Prop), Wp d 180 67 [l0, some (.int v), l2, l3, l4] st M Q = Wp d 180 68 [l0, some (.int v), l2, l3, l4] (.int v :: st) M Q := fun d l0 l2 l3 l4 v st M Q => wA (show ins 180 67 = some (.iload_n 1, 1) by decide +kernel) rfl
set_option maxRecDepth 100000 in
theorem r_180_68 : ∀ (d : Nat) (ls : Lc) (a b : Int) (st : List Value) (M : Mem) (Q : Outcome → Mem → Prop), Wp d 180 68 ls (.int (I b) :: .int (I a) :: st) M Q = Wp d 180 69 ls (.int (I (a * b)) :: st) M Q := fun d ls a b st M Q => w_imul (show ins 180 68 = some (.imul, 1) by decide +kernel)
set_option maxRecDepth 100000 in
theorem r_180_69 : ∀ (d : Nat) (ls : Lc) (a b : Int) (st : List Value) (M : Mem) (Q : Outcome → Mem → Prop), Wp d 180 69 ls (.int (I b) :: .int (I a) :: st) M Q = Wp d 180 70 ls (.int (I (a + b)) :: st) M Q := fun d ls a b st M Q => w_iadd (show ins 180 69 = some (.iadd, 1) by decide +kernel)
set_option maxRecDepth 100000 in
theorem r_180_70 : ∀ (d : Nat) (l0 l1 l3 l4 : Option Value) (v : Int32) (st : List Value) (M : Mem) (Q : Outcome → Mem → Prop), Wp d 180 70 [l0, l1, some (.int v), l3, l4] st M Q = Wp d 180 71 [l0, l1, some (.int v), l3, l4] (.int v :: st) M Q := fun d l0 l1 l3 l4 v st M Q => wA (show ins 180 70 = some (.iload_n 2, 1) by decide +kernel) rfl
set_option maxRecDepth 100000 in
theorem r_180_71 : ∀ (d : Nat) (ls : Lc) (a b : Int) (st : List Value) (M : Mem) (Q : Outcome → Mem → Prop), Wp d 180 71 ls (.int (I b) :: .int (I a) :: st) M Q = Wp d 180 72 ls (.int (I (a + b)) :: st) M Q := fun d ls a b st M Q => w_iadd (show ins 180 71 = some (.iadd, 1) by decide +kernel)
set_option maxRecDepth 100000 in
theorem r_180_72 : ∀ (d : Nat) (l0 l1 l2 l4 : Option Value) (v : Int32) (st : List Value) (M : Mem) (Q : Outcome → Mem → Prop), Wp d 180 72 [l0, l1, l2, some (.int v), l4] st M Q = Wp d 180 73 [l0, l1, l2, some (.int v), l4] (.int v :: st) M Q := fun d l0 l1 l2 l4 v st M Q => wA (show ins 180 72 = some (.iload_n 3, 1) by decide +kernel) rfl
set_option maxRecDepth 100000 in
theorem r_180_73 : ∀ (d : Nat) (ls : Lc) (a : Nat) (j v : Int32) (st : List Value) (M : Mem) (Q : Outcome → Mem → Prop), Wp d 180 73 ls (.int v :: .int j :: .ref a :: st) M Q = (((kX M a).1 = 0 ∧ inB j (kX M a).2 = true) ∧ Wp d 180 74 ls st (sA M a j.toNatClampNeg v) Q) := fun d ls a j v st M Q => w_iastore (show ins 180 73 = some (.iastore, 1) by decide +kernel)
set_option maxRecDepth 100000 in
theorem r_180_74 : ∀ (d : Nat) (l1 l2 l3 l4 : Option Value) (v : Nat) (st : List Value) (M : Mem) (Q : Outcome → Mem → Prop), Wp d 180 74 [some (.ref v), l1, l2, l3, l4] st M Q = Wp d 180 75 [some (.ref v), l1, l2, l3, l4] (.ref v :: st) M Q := fun d l1 l2 l3 l4 v st M Q => wA (show ins 180 74 = some (.aload_n 0, 1) by decide +kernel) rfl
set_option maxRecDepth 100000 in
theorem r_180_75 : ∀ (d : Nat) (ls : Lc) (a : Nat) (st : List Value) (M : Mem) (Q : Outcome → Mem → Prop), Wp d 180 75 ls (.ref a :: st) M Q = (fk 53 (kO M a) = true ∧ Wp d 180 78 ls (va_rf (mR M 53 a) :: st) M Q) := fun d ls a st M Q => w_getR (show ins 180 75 = some (.getfield 7, 3) by decide +kernel) (show fRes (mC 180) 7 = some (53, 8, false) by decide +kernel) (by decide +kernel)
set_option maxRecDepth 100000 in
theorem r_180_78 : ∀ (d : Nat) (ls : Lc) (st : List Value) (M : Mem) (Q : Outcome → Mem → Prop), Wp d 180 78 ls st M Q = Wp d 180 81 ls (.int (I 3852) :: st) M Q := fun d ls st M Q => w_sipush (show ins 180 78 = some (.sipush 3852, 3) by decide +kernel) (by decide)
set_option maxRecDepth 100000 in
theorem r_180_81 : ∀ (d : Nat) (l0 l2 l3 l4 : Option Value) (v : Int32) (st : List Value) (M : Mem) (Q : Outcome → Mem → Prop), Wp d 180 81 [l0, some (.int v), l2, l3, l4] st M Q = Wp d 180 82 [l0, some (.int v), l2, l3, l4] (.int v :: st) M Q := fun d l0 l2 l3 l4 v st M Q => wA (show ins 180 81 = some (.iload_n 1, 1) by decide +kernel) rfl
set_option maxRecDepth 100000 in
theorem r_180_82 : ∀ (d : Nat) (ls : Lc) (a b : Int) (st : List Value) (M : Mem) (Q : Outcome → Mem → Prop), Wp d 180 82 ls (.int (I b) :: .int (I a) :: st) M Q = Wp d 180 83 ls (.int (I (a + b)) :: st) M Q := fun d ls a b st M Q => w_iadd (show ins 180 82 = some (.iadd, 1) by decide +kernel)
set_option maxRecDepth 100000 in
theorem r_180_83 : ∀ (d : Nat) (ls : Lc) (v : Int32) (a : Nat) (st : List Value) (M : Mem) (Q : Outcome → Mem → Prop), Wp d 180 83 ls (.int v :: .ref a :: st) M Q = Wp d 180 84 ls (.int v :: .ref a :: .int v :: .ref a :: st) M Q := fun d ls v a st M Q => wA (show ins 180 83 = some (.dup2, 1) by decide +kernel) rfl
set_option maxRecDepth 100000 in
theorem r_180_84 : ∀ (d : Nat) (ls : Lc) (a : Nat) (j : Int32) (st : List Value) (M : Mem) (Q : Outcome → Mem → Prop), Wp d 180 84 ls (.int j :: .ref a :: st) M Q = ((((kX M a).1 = 0 ∨ (kX M a).1 = 8) ∧ inB j (kX M a).2 = true) ∧ Wp d 180 85 ls (.int (mA M a j.toNatClampNeg) :: st) M Q) := fun d ls a j st M Q => w_iaload (show ins 180 84 = some (.iaload, 1) by decide +kernel)
set_option maxRecDepth 100000 in
theorem r_180_85 : ∀ (d : Nat) (ls : Lc) (st : List Value) (M : Mem) (Q : Outcome → Mem → Prop), Wp d 180 85 ls st M Q = Wp d 180 86 ls (.int (I 1) :: st) M Q := fun d ls st M Q => w_iconst (show ins 180 85 = some (.iconst 1, 1) by decide +kernel)
set_option maxRecDepth 100000 in
theorem r_180_86 : ∀ (d : Nat) (ls : Lc) (a b : Int) (st : List Value) (M : Mem) (Q : Outcome → Mem → Prop), Wp d 180 86 ls (.int (I b) :: .int (I a) :: st) M Q = Wp d 180 87 ls (.int (I (a + b)) :: st) M Q := fun d ls a b st M Q => w_iadd (show ins 180 86 = some (.iadd, 1) by decide +kernel)
set_option maxRecDepth 100000 in
theorem r_180_87 : ∀ (d : Nat) (ls : Lc) (a : Nat) (j v : Int32) (st : List Value) (M : Mem) (Q : Outcome → Mem → Prop), Wp d 180 87 ls (.int v :: .int j :: .ref a :: st) M Q = (((kX M a).1 = 0 ∧ inB j (kX M a).2 = true) ∧ Wp d 180 88 ls st (sA M a j.toNatClampNeg v) Q) := fun d ls a j v st M Q => w_iastore (show ins 180 87 = some (.iastore, 1) by decide +kernel)
set_option maxRecDepth 100000 in
theorem r_180_88 : ∀ (d : Nat) (l1 l2 l3 l4 : Option Value) (v : Nat) (st : List Value) (M : Mem) (Q : Outcome → Mem → Prop), Wp d 180 88 [some (.ref v), l1, l2, l3, l4] st M Q = Wp d 180 89 [some (.ref v), l1, l2, l3, l4] (.ref v :: st) M Q := fun d l1 l2 l3 l4 v st M Q => wA (show ins 180 88 = some (.aload_n 0, 1) by decide +kernel) rfl
set_option maxRecDepth 100000 in
theorem r_180_89 : ∀ (d : Nat) (ls : Lc) (a : Nat) (st : List Value) (M : Mem) (Q : Outcome → Mem → Prop), Wp d 180 89 ls (.ref a :: st) M Q = (fk 53 (kO M a) = true ∧ Wp d 180 92 ls (va_rf (mR M 53 a) :: st) M Q) := fun d ls a st M Q => w_getR (show ins 180 89 = some (.getfield 7, 3) by decide +kernel) (show fRes (mC 180) 7 = some (53, 8, false) by decide +kernel) (by decide +kernel)
set_option maxRecDepth 100000 in
theorem r_180_92 : ∀ (d : Nat) (ls : Lc) (st : List Value) (M : Mem) (Q : Outcome → Mem → Prop), Wp d 180 92 ls st M Q = Wp d 180 95 ls (.int (I 3948) :: st) M Q := fun d ls st M Q => w_sipush (show ins 180 92 = some (.sipush 3948, 3) by decide +kernel) (by decide)
set_option maxRecDepth 100000 in
theorem r_180_95 : ∀ (d : Nat) (l0 l1 l2 l4 : Option Value) (v : Int32) (st : List Value) (M : Mem) (Q : Outcome → Mem → Prop), Wp d 180 95 [l0, l1, l2, some (.int v), l4] st M Q = Wp d 180 96 [l0, l1, l2, some (.int v), l4] (.int v :: st) M Q := fun d l0 l1 l2 l4 v st M Q => wA (show ins 180 95 = some (.iload_n 3, 1) by decide +kernel) rfl
set_option maxRecDepth 100000 in
theorem r_180_96 : ∀ (d : Nat) (ls : Lc) (a b : Int) (st : List Value) (M : Mem) (Q : Outcome → Mem → Prop), Wp d 180 96 ls (.int (I b) :: .int (I a) :: st) M Q = Wp d 180 97 ls (.int (I (a + b)) :: st) M Q := fun d ls a b st M Q => w_iadd (show ins 180 96 = some (.iadd, 1) by decide +kernel)
set_option maxRecDepth 100000 in
theorem r_180_97 : ∀ (d : Nat) (l0 l2 l3 l4 : Option Value) (v : Int32) (st : List Value) (M : Mem) (Q : Outcome → Mem → Prop), Wp d 180 97 [l0, some (.int v), l2, l3, l4] st M Q = Wp d 180 98 [l0, some (.int v), l2, l3, l4] (.int v :: st) M Q := fun d l0 l2 l3 l4 v st M Q => wA (show ins 180 97 = some (.iload_n 1, 1) by decide +kernel) rfl
set_option maxRecDepth 100000 in
theorem r_180_98 : ∀ (d : Nat) (ls : Lc) (a : Nat) (j v : Int32) (st : List Value) (M : Mem) (Q : Outcome → Mem → Prop), Wp d 180 98 ls (.int v :: .int j :: .ref a :: st) M Q = (((kX M a).1 = 0 ∧ inB j (kX M a).2 = true) ∧ Wp d 180 99 ls st (sA M a j.toNatClampNeg v) Q) := fun d ls a j v st M Q => w_iastore (show ins 180 98 = some (.iastore, 1) by decide +kernel)
set_option maxRecDepth 100000 in
theorem r_180_99 : ∀ (d : Nat) (ls : Lc) (M : Mem) (Q : Outcome → Mem → Prop), Wp d 180 99 ls [] M Q = Q (.returned none) M := fun d ls M Q => w_return (show ins 180 99 = some (.return_, 1) by decide +kernel) (by decide +kernel)
set_option maxRecDepth 100000 in
theorem w_180_12 : (type_of% r_180_12) := r_180_12
set_option maxRecDepth 100000 in
theorem W_180 : (type_of% r_180_0) ∧ (type_of% r_180_1) ∧ (type_of% r_180_4) ∧ (type_of% r_180_7) ∧ (type_of% r_180_8) ∧ (type_of% r_180_9) ∧ (type_of% r_180_10) ∧ (type_of% r_180_14) ∧ (type_of% r_180_15) ∧ (type_of% r_180_18) ∧ (type_of% r_180_19) ∧ (type_of% r_180_22) ∧ (type_of% r_180_25) ∧ (type_of% r_180_27) ∧ (type_of% r_180_28) ∧ (type_of% r_180_29) ∧ (type_of% r_180_30) ∧ (type_of% r_180_32) ∧ (type_of% r_180_33) ∧ (type_of% r_180_34) ∧ (type_of% r_180_37) ∧ (type_of% r_180_40) ∧ (type_of% r_180_42) ∧ (type_of% r_180_43) ∧ (type_of% r_180_44) ∧ (type_of% r_180_45) ∧ (type_of% r_180_47) ∧ (type_of% r_180_48) ∧ (type_of% r_180_49) ∧ (type_of% r_180_50) ∧ (type_of% r_180_51) ∧ (type_of% r_180_52) ∧ (type_of% r_180_55) ∧ (type_of% r_180_58) ∧ (type_of% r_180_59) ∧ (type_of% r_180_62) ∧ (type_of% r_180_65) ∧ (type_of% r_180_67) ∧ (type_of% r_180_68) ∧ (type_of% r_180_69) ∧ (type_of% r_180_70) ∧ (type_of% r_180_71) ∧ (type_of% r_180_72) ∧ (type_of% r_180_73) ∧ (type_of% r_180_74) ∧ (type_of% r_180_75) ∧ (type_of% r_180_78) ∧ (type_of% r_180_81) ∧ (type_of% r_180_82) ∧ (type_of% r_180_83) ∧ (type_of% r_180_84) ∧ (type_of% r_180_85) ∧ (type_of% r_180_86) ∧ (type_of% r_180_87) ∧ (type_of% r_180_88) ∧ (type_of% r_180_89) ∧ (type_of% r_180_92) ∧ (type_of% r_180_95) ∧ (type_of% r_180_96) ∧ (type_of% r_180_97) ∧ (type_of% r_180_98) ∧ (type_of% r_180_99) := ⟨r_180_0, r_180_1, r_180_4, r_180_7, r_180_8, r_180_9, r_180_10, r_180_14, r_180_15, r_180_18, r_180_19, r_180_22, r_180_25, r_180_27, r_180_28, r_180_29, r_180_30, r_180_32, r_180_33, r_180_34, r_180_37, r_180_40, r_180_42, r_180_43, r_180_44, r_180_45, r_180_47, r_180_48, r_180_49, r_180_50, r_180_51, r_180_52, r_180_55, r_180_58, r_180_59, r_180_62, r_180_65, r_180_67, r_180_68, r_180_69, r_180_70, r_180_71, r_180_72, r_180_73, r_180_74, r_180_75, r_180_78, r_180_81, r_180_82, r_180_83, r_180_84, r_180_85, r_180_86, r_180_87, r_180_88, r_180_89, r_180_92, r_180_95, r_180_96, r_180_97, r_180_98, r_180_99⟩
set_option maxRecDepth 100000 in
theorem ca_180 {d y pc : Nat} {ls : Lc} {a : Nat} {z0 : Int32} {z1 : Int32} {z2 : Int32} {r : List Value} {M : Mem} {Q : Outcome → Mem → Prop} (hd : 0 < d) (hw : Wp (d - 1) 180 0 [some (.ref a), some (.int z0), some (.int z1), some (.int z2), none] [] M (Cq d y pc ls r Q)) : Ca d y pc ls 180 [.ref a, .int z0, .int z1, .int z2] r M Q := ca_of (mq_get (by decide)) (by rfl) hd hw
/-! 181 PackedTreeModel.childPlace(II)I; loop heads [2] -/
set_option maxRecDepth 100000 in
theorem r_181_0 : ∀ (d : Nat) (ls : Lc) (st : List Value) (M : Mem) (Q : Outcome → Mem → Prop), Wp d 181 0 ls st M Q = Wp d 181 1 ls (.int (I 0) :: st) M Q := fun d ls st M Q => w_iconst (show ins 181 0 = some (.iconst 0, 1) by decide +kernel)
set_option maxRecDepth 100000 in
theorem r_181_1 : ∀ (d : Nat) (l0 l1 l2 l3 : Option Value) (v : Int32) (st : List Value) (M : Mem) (Q : Outcome → Mem → Prop), (lo l2 = false) → Wp d 181 1 [l0, l1, l2, l3] (.int v :: st) M Q = Wp d 181 2 [l0, l1, l2, some (.int v)] st M Q := fun d l0 l1 l2 l3 v st M Q hl => w_istore_n (show ins 181 1 = some (.istore_n 3, 1) by decide +kernel) (st1_S rfl rfl hl)
set_option maxRecDepth 100000 in
theorem r_181_2 : ∀ (d : Nat) (l1 l2 l3 : Option Value) (v : Nat) (st : List Value) (M : Mem) (Q : Outcome → Mem → Prop), Wp d 181 2 [some (.ref v), l1, l2, l3] st M Q = Wp d 181 3 [some (.ref v), l1, l2, l3] (.ref v :: st) M Q := fun d l1 l2 l3 v st M Q => wA (show ins 181 2 = some (.aload_n 0, 1) by decide +kernel) rfl
set_option maxRecDepth 100000 in
theorem r_181_3 : ∀ (d : Nat) (ls : Lc) (a : Nat) (st : List Value) (M : Mem) (Q : Outcome → Mem → Prop), Wp d 181 3 ls (.ref a :: st) M Q = (fk 53 (kO M a) = true ∧ Wp d 181 6 ls (va_rf (mR M 53 a) :: st) M Q) := fun d ls a st M Q => w_getR (show ins 181 3 = some (.getfield 7, 3) by decide +kernel) (show fRes (mC 181) 7 = some (53, 8, false) by decide +kernel) (by decide +kernel)
set_option maxRecDepth 100000 in
theorem r_181_6 : ∀ (d : Nat) (ls : Lc) (st : List Value) (M : Mem) (Q : Outcome → Mem → Prop), Wp d 181 6 ls st M Q = Wp d 181 9 ls (.int (I 4044) :: st) M Q := fun d ls st M Q => w_sipush (show ins 181 6 = some (.sipush 4044, 3) by decide +kernel) (by decide)
set_option maxRecDepth 100000 in
theorem r_181_9 : ∀ (d : Nat) (ls : Lc) (st : List Value) (M : Mem) (Q : Outcome → Mem → Prop), Wp d 181 9 ls st M Q = Wp d 181 11 ls (.int (I 6) :: st) M Q := fun d ls st M Q => w_bipush (show ins 181 9 = some (.bipush 6, 2) by decide +kernel) (by decide)
set_option maxRecDepth 100000 in
theorem r_181_11 : ∀ (d : Nat) (l0 l2 l3 : Option Value) (v : Int32) (st : List Value) (M : Mem) (Q : Outcome → Mem → Prop), Wp d 181 11 [l0, some (.int v), l2, l3] st M Q = Wp d 181 12 [l0, some (.int v), l2, l3] (.int v :: st) M Q := fun d l0 l2 l3 v st M Q => wA (show ins 181 11 = some (.iload_n 1, 1) by decide +kernel) rfl
set_option maxRecDepth 100000 in
theorem r_181_12 : ∀ (d : Nat) (ls : Lc) (a b : Int) (st : List Value) (M : Mem) (Q : Outcome → Mem → Prop), Wp d 181 12 ls (.int (I b) :: .int (I a) :: st) M Q = Wp d 181 13 ls (.int (I (a * b)) :: st) M Q := fun d ls a b st M Q => w_imul (show ins 181 12 = some (.imul, 1) by decide +kernel)
set_option maxRecDepth 100000 in
theorem r_181_13 : ∀ (d : Nat) (ls : Lc) (a b : Int) (st : List Value) (M : Mem) (Q : Outcome → Mem → Prop), Wp d 181 13 ls (.int (I b) :: .int (I a) :: st) M Q = Wp d 181 14 ls (.int (I (a + b)) :: st) M Q := fun d ls a b st M Q => w_iadd (show ins 181 13 = some (.iadd, 1) by decide +kernel)
set_option maxRecDepth 100000 in
theorem r_181_14 : ∀ (d : Nat) (l0 l1 l2 : Option Value) (v : Int32) (st : List Value) (M : Mem) (Q : Outcome → Mem → Prop), Wp d 181 14 [l0, l1, l2, some (.int v)] st M Q = Wp d 181 15 [l0, l1, l2, some (.int v)] (.int v :: st) M Q := fun d l0 l1 l2 v st M Q => wA (show ins 181 14 = some (.iload_n 3, 1) by decide +kernel) rfl
set_option maxRecDepth 100000 in
theorem r_181_15 : ∀ (d : Nat) (ls : Lc) (a b : Int) (st : List Value) (M : Mem) (Q : Outcome → Mem → Prop), Wp d 181 15 ls (.int (I b) :: .int (I a) :: st) M Q = Wp d 181 16 ls (.int (I (a + b)) :: st) M Q := fun d ls a b st M Q => w_iadd (show ins 181 15 = some (.iadd, 1) by decide +kernel)
set_option maxRecDepth 100000 in
theorem r_181_16 : ∀ (d : Nat) (ls : Lc) (a : Nat) (j : Int32) (st : List Value) (M : Mem) (Q : Outcome → Mem → Prop), Wp d 181 16 ls (.int j :: .ref a :: st) M Q = ((((kX M a).1 = 0 ∨ (kX M a).1 = 8) ∧ inB j (kX M a).2 = true) ∧ Wp d 181 17 ls (.int (mA M a j.toNatClampNeg) :: st) M Q) := fun d ls a j st M Q => w_iaload (show ins 181 16 = some (.iaload, 1) by decide +kernel)
set_option maxRecDepth 100000 in
theorem r_181_17 : ∀ (d : Nat) (l0 l1 l3 : Option Value) (v : Int32) (st : List Value) (M : Mem) (Q : Outcome → Mem → Prop), Wp d 181 17 [l0, l1, some (.int v), l3] st M Q = Wp d 181 18 [l0, l1, some (.int v), l3] (.int v :: st) M Q := fun d l0 l1 l3 v st M Q => wA (show ins 181 17 = some (.iload_n 2, 1) by decide +kernel) rfl
set_option maxRecDepth 100000 in
theorem r_181_18 : ∀ (d : Nat) (ls : Lc) (a b : Int32) (st : List Value) (M : Mem) (Q : Outcome → Mem → Prop), Wp d 181 18 ls (.int b :: .int a :: st) M Q = Br (a = b) d 181 27 21 ls st M Q := fun d ls a b st M Q => w_icmp (show ins 181 18 = some (.if_icmp .eq 9, 3) by decide +kernel) rfl rfl
set_option maxRecDepth 100000 in
theorem r_181_21 : ∀ (d : Nat) (l0 l1 l2 : Option Value) (z : Int) (st : List Value) (M : Mem) (Q : Outcome → Mem → Prop), (lo l2 = false) → Wp d 181 21 [l0, l1, l2, some (.int (I z))] st M Q = Wp d 181 24 [l0, l1, l2, some (.int (I (z + 1)))] st M Q := fun d l0 l1 l2 z st M Q hl => w_iinc (show ins 181 21 = some (.iinc 3 1, 3) by decide +kernel) rfl (st1_S rfl rfl hl)
set_option maxRecDepth 100000 in
theorem r_181_24 : ∀ (d : Nat) (ls : Lc) (st : List Value) (M : Mem) (Q : Outcome → Mem → Prop), Wp d 181 24 ls st M Q = Wp d 181 2 ls st M Q := fun d ls st M Q => w_goto (show ins 181 24 = some (.goto (-22), 3) by decide +kernel) rfl
set_option maxRecDepth 100000 in
theorem r_181_27 : ∀ (d : Nat) (l0 l1 l2 : Option Value) (v : Int32) (st : List Value) (M : Mem) (Q : Outcome → Mem → Prop), Wp d 181 27 [l0, l1, l2, some (.int v)] st M Q = Wp d 181 28 [l0, l1, l2, some (.int v)] (.int v :: st) M Q := fun d l0 l1 l2 v st M Q => wA (show ins 181 27 = some (.iload_n 3, 1) by decide +kernel) rfl
set_option maxRecDepth 100000 in
theorem r_181_28 : ∀ (d : Nat) (ls : Lc) (v : Int32) (M : Mem) (Q : Outcome → Mem → Prop), Wp d 181 28 ls [.int v] M Q = Q (.returned (some (.int v))) M := fun d ls v M Q => w_ireturn (show ins 181 28 = some (.ireturn, 1) by decide +kernel) (by decide +kernel)
set_option maxRecDepth 100000 in
theorem w_181_2 : (type_of% r_181_2) := r_181_2
set_option maxRecDepth 100000 in
theorem W_181 : (type_of% r_181_0) ∧ (type_of% r_181_1) ∧ (type_of% r_181_3) ∧ (type_of% r_181_6) ∧ (type_of% r_181_9) ∧ (type_of% r_181_11) ∧ (type_of% r_181_12) ∧ (type_of% r_181_13) ∧ (type_of% r_181_14) ∧ (type_of% r_181_15) ∧ (type_of% r_181_16) ∧ (type_of% r_181_17) ∧ (type_of% r_181_18) ∧ (type_of% r_181_21) ∧ (type_of% r_181_24) ∧ (type_of% r_181_27) ∧ (type_of% r_181_28) := ⟨r_181_0, r_181_1, r_181_3, r_181_6, r_181_9, r_181_11, r_181_12, r_181_13, r_181_14, r_181_15, r_181_16, r_181_17, r_181_18, r_181_21, r_181_24, r_181_27, r_181_28⟩
set_option maxRecDepth 100000 in
theorem ca_181 {d y pc : Nat} {ls : Lc} {a : Nat} {z0 : Int32} {z1 : Int32} {r : List Value} {M : Mem} {Q : Outcome → Mem → Prop} (hd : 0 < d) (hw : Wp (d - 1) 181 0 [some (.ref a), some (.int z0), some (.int z1), none] [] M (Cq d y pc ls r Q)) : Ca d y pc ls 181 [.ref a, .int z0, .int z1] r M Q := ca_of (mq_get (by decide)) (by rfl) hd hw
/-! 182 PackedTreeModel.takeChild(II)I; loop heads [19] -/
set_option maxRecDepth 100000 in
theorem r_182_0 : ∀ (d : Nat) (l1 l2 l3 l4 : Option Value) (v : Nat) (st : List Value) (M : Mem) (Q : Outcome → Mem → Prop), Wp d 182 0 [some (.ref v), l1, l2, l3, l4] st M Q = Wp d 182 1 [some (.ref v), l1, l2, l3, l4] (.ref v :: st) M Q := fun d l1 l2 l3 l4 v st M Q => wA (show ins 182 0 = some (.aload_n 0, 1) by decide +kernel) rfl
set_option maxRecDepth 100000 in
theorem r_182_1 : ∀ (d : Nat) (ls : Lc) (a : Nat) (st : List Value) (M : Mem) (Q : Outcome → Mem → Prop), Wp d 182 1 ls (.ref a :: st) M Q = (fk 53 (kO M a) = true ∧ Wp d 182 4 ls (va_rf (mR M 53 a) :: st) M Q) := fun d ls a st M Q => w_getR (show ins 182 1 = some (.getfield 7, 3) by decide +kernel) (show fRes (mC 182) 7 = some (53, 8, false) by decide +kernel) (by decide +kernel)
set_option maxRecDepth 100000 in
theorem r_182_4 : ∀ (d : Nat) (ls : Lc) (st : List Value) (M : Mem) (Q : Outcome → Mem → Prop), Wp d 182 4 ls st M Q = Wp d 182 7 ls (.int (I 4044) :: st) M Q := fun d ls st M Q => w_sipush (show ins 182 4 = some (.sipush 4044, 3) by decide +kernel) (by decide)
set_option maxRecDepth 100000 in
theorem r_182_7 : ∀ (d : Nat) (ls : Lc) (st : List Value) (M : Mem) (Q : Outcome → Mem → Prop), Wp d 182 7 ls st M Q = Wp d 182 9 ls (.int (I 6) :: st) M Q := fun d ls st M Q => w_bipush (show ins 182 7 = some (.bipush 6, 2) by decide +kernel) (by decide)
set_option maxRecDepth 100000 in
theorem r_182_9 : ∀ (d : Nat) (l0 l2 l3 l4 : Option Value) (v : Int32) (st : List Value) (M : Mem) (Q : Outcome → Mem → Prop), Wp d 182 9 [l0, some (.int v), l2, l3, l4] st M Q = Wp d 182 10 [l0, some (.int v), l2, l3, l4] (.int v :: st) M Q := fun d l0 l2 l3 l4 v st M Q => wA (show ins 182 9 = some (.iload_n 1, 1) by decide +kernel) rfl
set_option maxRecDepth 100000 in
theorem r_182_10 : ∀ (d : Nat) (ls : Lc) (a b : Int) (st : List Value) (M : Mem) (Q : Outcome → Mem → Prop), Wp d 182 10 ls (.int (I b) :: .int (I a) :: st) M Q = Wp d 182 11 ls (.int (I (a * b)) :: st) M Q := fun d ls a b st M Q => w_imul (show ins 182 10 = some (.imul, 1) by decide +kernel)
set_option maxRecDepth 100000 in
theorem r_182_11 : ∀ (d : Nat) (ls : Lc) (a b : Int) (st : List Value) (M : Mem) (Q : Outcome → Mem → Prop), Wp d 182 11 ls (.int (I b) :: .int (I a) :: st) M Q = Wp d 182 12 ls (.int (I (a + b)) :: st) M Q := fun d ls a b st M Q => w_iadd (show ins 182 11 = some (.iadd, 1) by decide +kernel)
set_option maxRecDepth 100000 in
theorem r_182_12 : ∀ (d : Nat) (l0 l1 l3 l4 : Option Value) (v : Int32) (st : List Value) (M : Mem) (Q : Outcome → Mem → Prop), Wp d 182 12 [l0, l1, some (.int v), l3, l4] st M Q = Wp d 182 13 [l0, l1, some (.int v), l3, l4] (.int v :: st) M Q := fun d l0 l1 l3 l4 v st M Q => wA (show ins 182 12 = some (.iload_n 2, 1) by decide +kernel) rfl
set_option maxRecDepth 100000 in
theorem r_182_13 : ∀ (d : Nat) (ls : Lc) (a b : Int) (st : List Value) (M : Mem) (Q : Outcome → Mem → Prop), Wp d 182 13 ls (.int (I b) :: .int (I a) :: st) M Q = Wp d 182 14 ls (.int (I (a + b)) :: st) M Q := fun d ls a b st M Q => w_iadd (show ins 182 13 = some (.iadd, 1) by decide +kernel)
set_option maxRecDepth 100000 in
theorem r_182_14 : ∀ (d : Nat) (ls : Lc) (a : Nat) (j : Int32) (st : List Value) (M : Mem) (Q : Outcome → Mem → Prop), Wp d 182 14 ls (.int j :: .ref a :: st) M Q = ((((kX M a).1 = 0 ∨ (kX M a).1 = 8) ∧ inB j (kX M a).2 = true) ∧ Wp d 182 15 ls (.int (mA M a j.toNatClampNeg) :: st) M Q) := fun d ls a j st M Q => w_iaload (show ins 182 14 = some (.iaload, 1) by decide +kernel)
set_option maxRecDepth 100000 in
theorem r_182_15 : ∀ (d : Nat) (l0 l1 l2 l3 l4 : Option Value) (v : Int32) (st : List Value) (M : Mem) (Q : Outcome → Mem → Prop), (lo l2 = false) → Wp d 182 15 [l0, l1, l2, l3, l4] (.int v :: st) M Q = Wp d 182 16 [l0, l1, l2, some (.int v), l4] st M Q := fun d l0 l1 l2 l3 l4 v st M Q hl => w_istore_n (show ins 182 15 = some (.istore_n 3, 1) by decide +kernel) (st1_S rfl rfl hl)
set_option maxRecDepth 100000 in
theorem r_182_16 : ∀ (d : Nat) (l0 l1 l3 l4 : Option Value) (v : Int32) (st : List Value) (M : Mem) (Q : Outcome → Mem → Prop), Wp d 182 16 [l0, l1, some (.int v), l3, l4] st M Q = Wp d 182 17 [l0, l1, some (.int v), l3, l4] (.int v :: st) M Q := fun d l0 l1 l3 l4 v st M Q => wA (show ins 182 16 = some (.iload_n 2, 1) by decide +kernel) rfl
set_option maxRecDepth 100000 in
theorem r_182_17 : ∀ (d : Nat) (l0 l1 l2 l3 l4 : Option Value) (v : Int32) (st : List Value) (M : Mem) (Q : Outcome → Mem → Prop), (lo l3 = false) → Wp d 182 17 [l0, l1, l2, l3, l4] (.int v :: st) M Q = Wp d 182 19 [l0, l1, l2, l3, some (.int v)] st M Q := fun d l0 l1 l2 l3 l4 v st M Q hl => w_istore (show ins 182 17 = some (.istore 4, 2) by decide +kernel) (st1_S rfl rfl hl)
set_option maxRecDepth 100000 in
theorem r_182_19 : ∀ (d : Nat) (l0 l1 l2 l3 : Option Value) (v : Int32) (st : List Value) (M : Mem) (Q : Outcome → Mem → Prop), Wp d 182 19 [l0, l1, l2, l3, some (.int v)] st M Q = Wp d 182 21 [l0, l1, l2, l3, some (.int v)] (.int v :: st) M Q := fun d l0 l1 l2 l3 v st M Q => wA (show ins 182 19 = some (.iload 4, 2) by decide +kernel) rfl
set_option maxRecDepth 100000 in
theorem r_182_21 : ∀ (d : Nat) (ls : Lc) (st : List Value) (M : Mem) (Q : Outcome → Mem → Prop), Wp d 182 21 ls st M Q = Wp d 182 22 ls (.int (I 1) :: st) M Q := fun d ls st M Q => w_iconst (show ins 182 21 = some (.iconst 1, 1) by decide +kernel)
set_option maxRecDepth 100000 in
theorem r_182_22 : ∀ (d : Nat) (ls : Lc) (a b : Int) (st : List Value) (M : Mem) (Q : Outcome → Mem → Prop), Wp d 182 22 ls (.int (I b) :: .int (I a) :: st) M Q = Wp d 182 23 ls (.int (I (a + b)) :: st) M Q := fun d ls a b st M Q => w_iadd (show ins 182 22 = some (.iadd, 1) by decide +kernel)
set_option maxRecDepth 100000 in
theorem r_182_23 : ∀ (d : Nat) (l1 l2 l3 l4 : Option Value) (v : Nat) (st : List Value) (M : Mem) (Q : Outcome → Mem → Prop), Wp d 182 23 [some (.ref v), l1, l2, l3, l4] st M Q = Wp d 182 24 [some (.ref v), l1, l2, l3, l4] (.ref v :: st) M Q := fun d l1 l2 l3 l4 v st M Q => wA (show ins 182 23 = some (.aload_n 0, 1) by decide +kernel) rfl
set_option maxRecDepth 100000 in
theorem r_182_24 : ∀ (d : Nat) (ls : Lc) (a : Nat) (st : List Value) (M : Mem) (Q : Outcome → Mem → Prop), Wp d 182 24 ls (.ref a :: st) M Q = (fk 53 (kO M a) = true ∧ Wp d 182 27 ls (va_rf (mR M 53 a) :: st) M Q) := fun d ls a st M Q => w_getR (show ins 182 24 = some (.getfield 7, 3) by decide +kernel) (show fRes (mC 182) 7 = some (53, 8, false) by decide +kernel) (by decide +kernel)
set_option maxRecDepth 100000 in
theorem r_182_27 : ∀ (d : Nat) (ls : Lc) (st : List Value) (M : Mem) (Q : Outcome → Mem → Prop), Wp d 182 27 ls st M Q = Wp d 182 30 ls (.int (I 3852) :: st) M Q := fun d ls st M Q => w_sipush (show ins 182 27 = some (.sipush 3852, 3) by decide +kernel) (by decide)
set_option maxRecDepth 100000 in
theorem r_182_30 : ∀ (d : Nat) (l0 l2 l3 l4 : Option Value) (v : Int32) (st : List Value) (M : Mem) (Q : Outcome → Mem → Prop), Wp d 182 30 [l0, some (.int v), l2, l3, l4] st M Q = Wp d 182 31 [l0, some (.int v), l2, l3, l4] (.int v :: st) M Q := fun d l0 l2 l3 l4 v st M Q => wA (show ins 182 30 = some (.iload_n 1, 1) by decide +kernel) rfl
set_option maxRecDepth 100000 in
theorem r_182_31 : ∀ (d : Nat) (ls : Lc) (a b : Int) (st : List Value) (M : Mem) (Q : Outcome → Mem → Prop), Wp d 182 31 ls (.int (I b) :: .int (I a) :: st) M Q = Wp d 182 32 ls (.int (I (a + b)) :: st) M Q := fun d ls a b st M Q => w_iadd (show ins 182 31 = some (.iadd, 1) by decide +kernel)
set_option maxRecDepth 100000 in
theorem r_182_32 : ∀ (d : Nat) (ls : Lc) (a : Nat) (j : Int32) (st : List Value) (M : Mem) (Q : Outcome → Mem → Prop), Wp d 182 32 ls (.int j :: .ref a :: st) M Q = ((((kX M a).1 = 0 ∨ (kX M a).1 = 8) ∧ inB j (kX M a).2 = true) ∧ Wp d 182 33 ls (.int (mA M a j.toNatClampNeg) :: st) M Q) := fun d ls a j st M Q => w_iaload (show ins 182 32 = some (.iaload, 1) by decide +kernel)
set_option maxRecDepth 100000 in
theorem r_182_33 : ∀ (d : Nat) (ls : Lc) (a b : Int32) (st : List Value) (M : Mem) (Q : Outcome → Mem → Prop), Wp d 182 33 ls (.int b :: .int a :: st) M Q = Br (b ≤ a) d 182 76 36 ls st M Q := fun d ls a b st M Q => w_icmp (show ins 182 33 = some (.if_icmp .ge 43, 3) by decide +kernel) rfl rfl
set_option maxRecDepth 100000 in
theorem r_182_36 : ∀ (d : Nat) (l1 l2 l3 l4 : Option Value) (v : Nat) (st : List Value) (M : Mem) (Q : Outcome → Mem → Prop), Wp d 182 36 [some (.ref v), l1, l2, l3, l4] st M Q = Wp d 182 37 [some (.ref v), l1, l2, l3, l4] (.ref v :: st) M Q := fun d l1 l2 l3 l4 v st M Q => wA (show ins 182 36 = some (.aload_n 0, 1) by decide +kernel) rfl
set_option maxRecDepth 100000 in
theorem r_182_37 : ∀ (d : Nat) (ls : Lc) (a : Nat) (st : List Value) (M : Mem) (Q : Outcome → Mem → Prop), Wp d 182 37 ls (.ref a :: st) M Q = (fk 53 (kO M a) = true ∧ Wp d 182 40 ls (va_rf (mR M 53 a) :: st) M Q) := fun d ls a st M Q => w_getR (show ins 182 37 = some (.getfield 7, 3) by decide +kernel) (show fRes (mC 182) 7 = some (53, 8, false) by decide +kernel) (by decide +kernel)
set_option maxRecDepth 100000 in
theorem r_182_40 : ∀ (d : Nat) (ls : Lc) (st : List Value) (M : Mem) (Q : Outcome → Mem → Prop), Wp d 182 40 ls st M Q = Wp d 182 43 ls (.int (I 4044) :: st) M Q := fun d ls st M Q => w_sipush (show ins 182 40 = some (.sipush 4044, 3) by decide +kernel) (by decide)
set_option maxRecDepth 100000 in
theorem r_182_43 : ∀ (d : Nat) (ls : Lc) (st : List Value) (M : Mem) (Q : Outcome → Mem → Prop), Wp d 182 43 ls st M Q = Wp d 182 45 ls (.int (I 6) :: st) M Q := fun d ls st M Q => w_bipush (show ins 182 43 = some (.bipush 6, 2) by decide +kernel) (by decide)
set_option maxRecDepth 100000 in
theorem r_182_45 : ∀ (d : Nat) (l0 l2 l3 l4 : Option Value) (v : Int32) (st : List Value) (M : Mem) (Q : Outcome → Mem → Prop), Wp d 182 45 [l0, some (.int v), l2, l3, l4] st M Q = Wp d 182 46 [l0, some (.int v), l2, l3, l4] (.int v :: st) M Q := fun d l0 l2 l3 l4 v st M Q => wA (show ins 182 45 = some (.iload_n 1, 1) by decide +kernel) rfl
set_option maxRecDepth 100000 in
theorem r_182_46 : ∀ (d : Nat) (ls : Lc) (a b : Int) (st : List Value) (M : Mem) (Q : Outcome → Mem → Prop), Wp d 182 46 ls (.int (I b) :: .int (I a) :: st) M Q = Wp d 182 47 ls (.int (I (a * b)) :: st) M Q := fun d ls a b st M Q => w_imul (show ins 182 46 = some (.imul, 1) by decide +kernel)
set_option maxRecDepth 100000 in
theorem r_182_47 : ∀ (d : Nat) (ls : Lc) (a b : Int) (st : List Value) (M : Mem) (Q : Outcome → Mem → Prop), Wp d 182 47 ls (.int (I b) :: .int (I a) :: st) M Q = Wp d 182 48 ls (.int (I (a + b)) :: st) M Q := fun d ls a b st M Q => w_iadd (show ins 182 47 = some (.iadd, 1) by decide +kernel)
set_option maxRecDepth 100000 in
theorem r_182_48 : ∀ (d : Nat) (l0 l1 l2 l3 : Option Value) (v : Int32) (st : List Value) (M : Mem) (Q : Outcome → Mem → Prop), Wp d 182 48 [l0, l1, l2, l3, some (.int v)] st M Q = Wp d 182 50 [l0, l1, l2, l3, some (.int v)] (.int v :: st) M Q := fun d l0 l1 l2 l3 v st M Q => wA (show ins 182 48 = some (.iload 4, 2) by decide +kernel) rfl
set_option maxRecDepth 100000 in
theorem r_182_50 : ∀ (d : Nat) (ls : Lc) (a b : Int) (st : List Value) (M : Mem) (Q : Outcome → Mem → Prop), Wp d 182 50 ls (.int (I b) :: .int (I a) :: st) M Q = Wp d 182 51 ls (.int (I (a + b)) :: st) M Q := fun d ls a b st M Q => w_iadd (show ins 182 50 = some (.iadd, 1) by decide +kernel)
set_option maxRecDepth 100000 in
theorem r_182_51 : ∀ (d : Nat) (l1 l2 l3 l4 : Option Value) (v : Nat) (st : List Value) (M : Mem) (Q : Outcome → Mem → Prop), Wp d 182 51 [some (.ref v), l1, l2, l3, l4] st M Q = Wp d 182 52 [some (.ref v), l1, l2, l3, l4] (.ref v :: st) M Q := fun d l1 l2 l3 l4 v st M Q => wA (show ins 182 51 = some (.aload_n 0, 1) by decide +kernel) rfl
set_option maxRecDepth 100000 in
theorem r_182_52 : ∀ (d : Nat) (ls : Lc) (a : Nat) (st : List Value) (M : Mem) (Q : Outcome → Mem → Prop), Wp d 182 52 ls (.ref a :: st) M Q = (fk 53 (kO M a) = true ∧ Wp d 182 55 ls (va_rf (mR M 53 a) :: st) M Q) := fun d ls a st M Q => w_getR (show ins 182 52 = some (.getfield 7, 3) by decide +kernel) (show fRes (mC 182) 7 = some (53, 8, false) by decide +kernel) (by decide +kernel)
set_option maxRecDepth 100000 in
theorem r_182_55 : ∀ (d : Nat) (ls : Lc) (st : List Value) (M : Mem) (Q : Outcome → Mem → Prop), Wp d 182 55 ls st M Q = Wp d 182 58 ls (.int (I 4044) :: st) M Q := fun d ls st M Q => w_sipush (show ins 182 55 = some (.sipush 4044, 3) by decide +kernel) (by decide)
set_option maxRecDepth 100000 in
theorem r_182_58 : ∀ (d : Nat) (ls : Lc) (st : List Value) (M : Mem) (Q : Outcome → Mem → Prop), Wp d 182 58 ls st M Q = Wp d 182 60 ls (.int (I 6) :: st) M Q := fun d ls st M Q => w_bipush (show ins 182 58 = some (.bipush 6, 2) by decide +kernel) (by decide)
set_option maxRecDepth 100000 in
theorem r_182_60 : ∀ (d : Nat) (l0 l2 l3 l4 : Option Value) (v : Int32) (st : List Value) (M : Mem) (Q : Outcome → Mem → Prop), Wp d 182 60 [l0, some (.int v), l2, l3, l4] st M Q = Wp d 182 61 [l0, some (.int v), l2, l3, l4] (.int v :: st) M Q := fun d l0 l2 l3 l4 v st M Q => wA (show ins 182 60 = some (.iload_n 1, 1) by decide +kernel) rfl
set_option maxRecDepth 100000 in
theorem r_182_61 : ∀ (d : Nat) (ls : Lc) (a b : Int) (st : List Value) (M : Mem) (Q : Outcome → Mem → Prop), Wp d 182 61 ls (.int (I b) :: .int (I a) :: st) M Q = Wp d 182 62 ls (.int (I (a * b)) :: st) M Q := fun d ls a b st M Q => w_imul (show ins 182 61 = some (.imul, 1) by decide +kernel)
set_option maxRecDepth 100000 in
theorem r_182_62 : ∀ (d : Nat) (ls : Lc) (a b : Int) (st : List Value) (M : Mem) (Q : Outcome → Mem → Prop), Wp d 182 62 ls (.int (I b) :: .int (I a) :: st) M Q = Wp d 182 63 ls (.int (I (a + b)) :: st) M Q := fun d ls a b st M Q => w_iadd (show ins 182 62 = some (.iadd, 1) by decide +kernel)
set_option maxRecDepth 100000 in
theorem r_182_63 : ∀ (d : Nat) (l0 l1 l2 l3 : Option Value) (v : Int32) (st : List Value) (M : Mem) (Q : Outcome → Mem → Prop), Wp d 182 63 [l0, l1, l2, l3, some (.int v)] st M Q = Wp d 182 65 [l0, l1, l2, l3, some (.int v)] (.int v :: st) M Q := fun d l0 l1 l2 l3 v st M Q => wA (show ins 182 63 = some (.iload 4, 2) by decide +kernel) rfl
set_option maxRecDepth 100000 in
theorem r_182_65 : ∀ (d : Nat) (ls : Lc) (a b : Int) (st : List Value) (M : Mem) (Q : Outcome → Mem → Prop), Wp d 182 65 ls (.int (I b) :: .int (I a) :: st) M Q = Wp d 182 66 ls (.int (I (a + b)) :: st) M Q := fun d ls a b st M Q => w_iadd (show ins 182 65 = some (.iadd, 1) by decide +kernel)
set_option maxRecDepth 100000 in
theorem r_182_66 : ∀ (d : Nat) (ls : Lc) (st : List Value) (M : Mem) (Q : Outcome → Mem → Prop), Wp d 182 66 ls st M Q = Wp d 182 67 ls (.int (I 1) :: st) M Q := fun d ls st M Q => w_iconst (show ins 182 66 = some (.iconst 1, 1) by decide +kernel)
set_option maxRecDepth 100000 in
theorem r_182_67 : ∀ (d : Nat) (ls : Lc) (a b : Int) (st : List Value) (M : Mem) (Q : Outcome → Mem → Prop), Wp d 182 67 ls (.int (I b) :: .int (I a) :: st) M Q = Wp d 182 68 ls (.int (I (a + b)) :: st) M Q := fun d ls a b st M Q => w_iadd (show ins 182 67 = some (.iadd, 1) by decide +kernel)
set_option maxRecDepth 100000 in
theorem r_182_68 : ∀ (d : Nat) (ls : Lc) (a : Nat) (j : Int32) (st : List Value) (M : Mem) (Q : Outcome → Mem → Prop), Wp d 182 68 ls (.int j :: .ref a :: st) M Q = ((((kX M a).1 = 0 ∨ (kX M a).1 = 8) ∧ inB j (kX M a).2 = true) ∧ Wp d 182 69 ls (.int (mA M a j.toNatClampNeg) :: st) M Q) := fun d ls a j st M Q => w_iaload (show ins 182 68 = some (.iaload, 1) by decide +kernel)
set_option maxRecDepth 100000 in
theorem r_182_69 : ∀ (d : Nat) (ls : Lc) (a : Nat) (j v : Int32) (st : List Value) (M : Mem) (Q : Outcome → Mem → Prop), Wp d 182 69 ls (.int v :: .int j :: .ref a :: st) M Q = (((kX M a).1 = 0 ∧ inB j (kX M a).2 = true) ∧ Wp d 182 70 ls st (sA M a j.toNatClampNeg v) Q) := fun d ls a j v st M Q => w_iastore (show ins 182 69 = some (.iastore, 1) by decide +kernel)
set_option maxRecDepth 100000 in
theorem r_182_70 : ∀ (d : Nat) (l0 l1 l2 l3 : Option Value) (z : Int) (st : List Value) (M : Mem) (Q : Outcome → Mem → Prop), (lo l3 = false) → Wp d 182 70 [l0, l1, l2, l3, some (.int (I z))] st M Q = Wp d 182 73 [l0, l1, l2, l3, some (.int (I (z + 1)))] st M Q := fun d l0 l1 l2 l3 z st M Q hl => w_iinc (show ins 182 70 = some (.iinc 4 1, 3) by decide +kernel) rfl (st1_S rfl rfl hl)
set_option maxRecDepth 100000 in
theorem r_182_73 : ∀ (d : Nat) (ls : Lc) (st : List Value) (M : Mem) (Q : Outcome → Mem → Prop), Wp d 182 73 ls st M Q = Wp d 182 19 ls st M Q := fun d ls st M Q => w_goto (show ins 182 73 = some (.goto (-54), 3) by decide +kernel) rfl
set_option maxRecDepth 100000 in
theorem r_182_76 : ∀ (d : Nat) (l1 l2 l3 l4 : Option Value) (v : Nat) (st : List Value) (M : Mem) (Q : Outcome → Mem → Prop), Wp d 182 76 [some (.ref v), l1, l2, l3, l4] st M Q = Wp d 182 77 [some (.ref v), l1, l2, l3, l4] (.ref v :: st) M Q := fun d l1 l2 l3 l4 v st M Q => wA (show ins 182 76 = some (.aload_n 0, 1) by decide +kernel) rfl
set_option maxRecDepth 100000 in
theorem r_182_77 : ∀ (d : Nat) (ls : Lc) (a : Nat) (st : List Value) (M : Mem) (Q : Outcome → Mem → Prop), Wp d 182 77 ls (.ref a :: st) M Q = (fk 53 (kO M a) = true ∧ Wp d 182 80 ls (va_rf (mR M 53 a) :: st) M Q) := fun d ls a st M Q => w_getR (show ins 182 77 = some (.getfield 7, 3) by decide +kernel) (show fRes (mC 182) 7 = some (53, 8, false) by decide +kernel) (by decide +kernel)
set_option maxRecDepth 100000 in
theorem r_182_80 : ∀ (d : Nat) (ls : Lc) (st : List Value) (M : Mem) (Q : Outcome → Mem → Prop), Wp d 182 80 ls st M Q = Wp d 182 83 ls (.int (I 3852) :: st) M Q := fun d ls st M Q => w_sipush (show ins 182 80 = some (.sipush 3852, 3) by decide +kernel) (by decide)
set_option maxRecDepth 100000 in
theorem r_182_83 : ∀ (d : Nat) (l0 l2 l3 l4 : Option Value) (v : Int32) (st : List Value) (M : Mem) (Q : Outcome → Mem → Prop), Wp d 182 83 [l0, some (.int v), l2, l3, l4] st M Q = Wp d 182 84 [l0, some (.int v), l2, l3, l4] (.int v :: st) M Q := fun d l0 l2 l3 l4 v st M Q => wA (show ins 182 83 = some (.iload_n 1, 1) by decide +kernel) rfl
set_option maxRecDepth 100000 in
theorem r_182_84 : ∀ (d : Nat) (ls : Lc) (a b : Int) (st : List Value) (M : Mem) (Q : Outcome → Mem → Prop), Wp d 182 84 ls (.int (I b) :: .int (I a) :: st) M Q = Wp d 182 85 ls (.int (I (a + b)) :: st) M Q := fun d ls a b st M Q => w_iadd (show ins 182 84 = some (.iadd, 1) by decide +kernel)
set_option maxRecDepth 100000 in
theorem r_182_85 : ∀ (d : Nat) (ls : Lc) (v : Int32) (a : Nat) (st : List Value) (M : Mem) (Q : Outcome → Mem → Prop), Wp d 182 85 ls (.int v :: .ref a :: st) M Q = Wp d 182 86 ls (.int v :: .ref a :: .int v :: .ref a :: st) M Q := fun d ls v a st M Q => wA (show ins 182 85 = some (.dup2, 1) by decide +kernel) rfl
set_option maxRecDepth 100000 in
theorem r_182_86 : ∀ (d : Nat) (ls : Lc) (a : Nat) (j : Int32) (st : List Value) (M : Mem) (Q : Outcome → Mem → Prop), Wp d 182 86 ls (.int j :: .ref a :: st) M Q = ((((kX M a).1 = 0 ∨ (kX M a).1 = 8) ∧ inB j (kX M a).2 = true) ∧ Wp d 182 87 ls (.int (mA M a j.toNatClampNeg) :: st) M Q) := fun d ls a j st M Q => w_iaload (show ins 182 86 = some (.iaload, 1) by decide +kernel)
set_option maxRecDepth 100000 in
theorem r_182_87 : ∀ (d : Nat) (ls : Lc) (st : List Value) (M : Mem) (Q : Outcome → Mem → Prop), Wp d 182 87 ls st M Q = Wp d 182 88 ls (.int (I 1) :: st) M Q := fun d ls st M Q => w_iconst (show ins 182 87 = some (.iconst 1, 1) by decide +kernel)
set_option maxRecDepth 100000 in
theorem r_182_88 : ∀ (d : Nat) (ls : Lc) (a b : Int) (st : List Value) (M : Mem) (Q : Outcome → Mem → Prop), Wp d 182 88 ls (.int (I b) :: .int (I a) :: st) M Q = Wp d 182 89 ls (.int (I (a - b)) :: st) M Q := fun d ls a b st M Q => w_isub (show ins 182 88 = some (.isub, 1) by decide +kernel)
set_option maxRecDepth 100000 in
theorem r_182_89 : ∀ (d : Nat) (ls : Lc) (a : Nat) (j v : Int32) (st : List Value) (M : Mem) (Q : Outcome → Mem → Prop), Wp d 182 89 ls (.int v :: .int j :: .ref a :: st) M Q = (((kX M a).1 = 0 ∧ inB j (kX M a).2 = true) ∧ Wp d 182 90 ls st (sA M a j.toNatClampNeg v) Q) := fun d ls a j v st M Q => w_iastore (show ins 182 89 = some (.iastore, 1) by decide +kernel)
set_option maxRecDepth 100000 in
theorem r_182_90 : ∀ (d : Nat) (l0 l1 l2 l4 : Option Value) (v : Int32) (st : List Value) (M : Mem) (Q : Outcome → Mem → Prop), Wp d 182 90 [l0, l1, l2, some (.int v), l4] st M Q = Wp d 182 91 [l0, l1, l2, some (.int v), l4] (.int v :: st) M Q := fun d l0 l1 l2 l4 v st M Q => wA (show ins 182 90 = some (.iload_n 3, 1) by decide +kernel) rfl
set_option maxRecDepth 100000 in
theorem r_182_91 : ∀ (d : Nat) (ls : Lc) (v : Int32) (M : Mem) (Q : Outcome → Mem → Prop), Wp d 182 91 ls [.int v] M Q = Q (.returned (some (.int v))) M := fun d ls v M Q => w_ireturn (show ins 182 91 = some (.ireturn, 1) by decide +kernel) (by decide +kernel)
set_option maxRecDepth 100000 in
theorem w_182_19 : (type_of% r_182_19) := r_182_19
set_option maxRecDepth 100000 in
theorem W_182 : (type_of% r_182_0) ∧ (type_of% r_182_1) ∧ (type_of% r_182_4) ∧ (type_of% r_182_7) ∧ (type_of% r_182_9) ∧ (type_of% r_182_10) ∧ (type_of% r_182_11) ∧ (type_of% r_182_12) ∧ (type_of% r_182_13) ∧ (type_of% r_182_14) ∧ (type_of% r_182_15) ∧ (type_of% r_182_16) ∧ (type_of% r_182_17) ∧ (type_of% r_182_21) ∧ (type_of% r_182_22) ∧ (type_of% r_182_23) ∧ (type_of% r_182_24) ∧ (type_of% r_182_27) ∧ (type_of% r_182_30) ∧ (type_of% r_182_31) ∧ (type_of% r_182_32) ∧ (type_of% r_182_33) ∧ (type_of% r_182_36) ∧ (type_of% r_182_37) ∧ (type_of% r_182_40) ∧ (type_of% r_182_43) ∧ (type_of% r_182_45) ∧ (type_of% r_182_46) ∧ (type_of% r_182_47) ∧ (type_of% r_182_48) ∧ (type_of% r_182_50) ∧ (type_of% r_182_51) ∧ (type_of% r_182_52) ∧ (type_of% r_182_55) ∧ (type_of% r_182_58) ∧ (type_of% r_182_60) ∧ (type_of% r_182_61) ∧ (type_of% r_182_62) ∧ (type_of% r_182_63) ∧ (type_of% r_182_65) ∧ (type_of% r_182_66) ∧ (type_of% r_182_67) ∧ (type_of% r_182_68) ∧ (type_of% r_182_69) ∧ (type_of% r_182_70) ∧ (type_of% r_182_73) ∧ (type_of% r_182_76) ∧ (type_of% r_182_77) ∧ (type_of% r_182_80) ∧ (type_of% r_182_83) ∧ (type_of% r_182_84) ∧ (type_of% r_182_85) ∧ (type_of% r_182_86) ∧ (type_of% r_182_87) ∧ (type_of% r_182_88) ∧ (type_of% r_182_89) ∧ (type_of% r_182_90) ∧ (type_of% r_182_91) := ⟨r_182_0, r_182_1, r_182_4, r_182_7, r_182_9, r_182_10, r_182_11, r_182_12, r_182_13, r_182_14, r_182_15, r_182_16, r_182_17, r_182_21, r_182_22, r_182_23, r_182_24, r_182_27, r_182_30, r_182_31, r_182_32, r_182_33, r_182_36, r_182_37, r_182_40, r_182_43, r_182_45, r_182_46, r_182_47, r_182_48, r_182_50, r_182_51, r_182_52, r_182_55, r_182_58, r_182_60, r_182_61, r_182_62, r_182_63, r_182_65, r_182_66, r_182_67, r_182_68, r_182_69, r_182_70, r_182_73, r_182_76, r_182_77, r_182_80, r_182_83, r_182_84, r_182_85, r_182_86, r_182_87, r_182_88, r_182_89, r_182_90, r_182_91⟩
set_option maxRecDepth 100000 in
theorem ca_182 {d y pc : Nat} {ls : Lc} {a : Nat} {z0 : Int32} {z1 : Int32} {r : List Value} {M : Mem} {Q : Outcome → Mem → Prop} (hd : 0 < d) (hw : Wp (d - 1) 182 0 [some (.ref a), some (.int z0), some (.int z1), none, none] [] M (Cq d y pc ls r Q)) : Ca d y pc ls 182 [.ref a, .int z0, .int z1] r M Q := ca_of (mq_get (by decide)) (by rfl) hd hw
/-! 183 PackedTreeModel.ended(I)Z; loop heads [] -/
set_option maxRecDepth 100000 in
theorem r_183_0 : ∀ (d : Nat) (l1 : Option Value) (v : Nat) (st : List Value) (M : Mem) (Q : Outcome → Mem → Prop), Wp d 183 0 [some (.ref v), l1] st M Q = Wp d 183 1 [some (.ref v), l1] (.ref v :: st) M Q := fun d l1 v st M Q => wA (show ins 183 0 = some (.aload_n 0, 1) by decide +kernel) rfl
set_option maxRecDepth 100000 in
theorem r_183_1 : ∀ (d : Nat) (ls : Lc) (a : Nat) (st : List Value) (M : Mem) (Q : Outcome → Mem → Prop), Wp d 183 1 ls (.ref a :: st) M Q = (fk 47 (kO M a) = true ∧ Wp d 183 4 ls (.int (mF M 47 a) :: st) M Q) := fun d ls a st M Q => w_getI (show ins 183 1 = some (.getfield 51, 3) by decide +kernel) (show fRes (mC 183) 51 = some (47, 8, false) by decide +kernel) (by decide +kernel)
set_option maxRecDepth 100000 in
theorem r_183_4 : ∀ (d : Nat) (ls : Lc) (a : Int32) (st : List Value) (M : Mem) (Q : Outcome → Mem → Prop), Wp d 183 4 ls (.int a :: st) M Q = Br (a = I 0) d 183 23 7 ls st M Q := fun d ls a st M Q => w_if (show ins 183 4 = some (.ifCond .eq 19, 3) by decide +kernel) rfl rfl
set_option maxRecDepth 100000 in
theorem r_183_7 : ∀ (d : Nat) (l1 : Option Value) (v : Nat) (st : List Value) (M : Mem) (Q : Outcome → Mem → Prop), Wp d 183 7 [some (.ref v), l1] st M Q = Wp d 183 8 [some (.ref v), l1] (.ref v :: st) M Q := fun d l1 v st M Q => wA (show ins 183 7 = some (.aload_n 0, 1) by decide +kernel) rfl
set_option maxRecDepth 100000 in
theorem r_183_8 : ∀ (d : Nat) (ls : Lc) (a : Nat) (st : List Value) (M : Mem) (Q : Outcome → Mem → Prop), Wp d 183 8 ls (.ref a :: st) M Q = (fk 42 (kO M a) = true ∧ Wp d 183 11 ls (va_rf (mR M 42 a) :: st) M Q) := fun d ls a st M Q => w_getR (show ins 183 8 = some (.getfield 13, 3) by decide +kernel) (show fRes (mC 183) 13 = some (42, 8, false) by decide +kernel) (by decide +kernel)
set_option maxRecDepth 100000 in
theorem r_183_11 : ∀ (d : Nat) (l1 : Option Value) (v : Nat) (st : List Value) (M : Mem) (Q : Outcome → Mem → Prop), Wp d 183 11 [some (.ref v), l1] st M Q = Wp d 183 12 [some (.ref v), l1] (.ref v :: st) M Q := fun d l1 v st M Q => wA (show ins 183 11 = some (.aload_n 0, 1) by decide +kernel) rfl
set_option maxRecDepth 100000 in
theorem r_183_12 : ∀ (d : Nat) (ls : Lc) (a : Nat) (st : List Value) (M : Mem) (Q : Outcome → Mem → Prop), Wp d 183 12 ls (.ref a :: st) M Q = (fk 53 (kO M a) = true ∧ Wp d 183 15 ls (va_rf (mR M 53 a) :: st) M Q) := fun d ls a st M Q => w_getR (show ins 183 12 = some (.getfield 7, 3) by decide +kernel) (show fRes (mC 183) 7 = some (53, 8, false) by decide +kernel) (by decide +kernel)
set_option maxRecDepth 100000 in
theorem r_183_15 : ∀ (d : Nat) (ls : Lc) (v0 v1 : Value)  (st : List Value) (M : Mem) (Q : Outcome → Mem → Prop), (smallR st = true) → Wp d 183 15 ls (v1 :: v0 :: st) M Q = Ca d 183 15 ls 154 [v0, v1] st M Q := fun d ls v0 v1 st M Q h0 => w_stat (as := [v0, v1]) (show ins 183 15 = some (.invokestatic 36, 3) by decide +kernel) (show mRes (mC 183) 36 = some (0, 8, [(0, 154)]) by decide +kernel) (by decide +kernel) (by decide +kernel) rfl h0
set_option maxRecDepth 100000 in
theorem r_183_18 : ∀ (d : Nat) (l1 : Option Value) (v : Nat) (st : List Value) (M : Mem) (Q : Outcome → Mem → Prop), Wp d 183 18 [some (.ref v), l1] st M Q = Wp d 183 19 [some (.ref v), l1] (.ref v :: st) M Q := fun d l1 v st M Q => wA (show ins 183 18 = some (.aload_n 0, 1) by decide +kernel) rfl
set_option maxRecDepth 100000 in
theorem r_183_19 : ∀ (d : Nat) (l0 : Option Value) (v : Int32) (st : List Value) (M : Mem) (Q : Outcome → Mem → Prop), Wp d 183 19 [l0, some (.int v)] st M Q = Wp d 183 20 [l0, some (.int v)] (.int v :: st) M Q := fun d l0 v st M Q => wA (show ins 183 19 = some (.iload_n 1, 1) by decide +kernel) rfl
set_option maxRecDepth 100000 in
theorem r_183_20 : ∀ (d : Nat) (ls : Lc) (a : Nat) (v : Int32) (st : List Value) (M : Mem) (Q : Outcome → Mem → Prop), Wp d 183 20 ls (.int v :: .ref a :: st) M Q = (fk 54 (kO M a) = true ∧ Wp d 183 23 ls st (sF M 54 a v) Q) := fun d ls a v st M Q => w_putI (show ins 183 20 = some (.putfield 40, 3) by decide +kernel) (show fRes (mC 183) 40 = some (54, 8, false) by decide +kernel) (by decide +kernel) (by decide +kernel)
set_option maxRecDepth 100000 in
theorem r_183_23 : ∀ (d : Nat) (l1 : Option Value) (v : Nat) (st : List Value) (M : Mem) (Q : Outcome → Mem → Prop), Wp d 183 23 [some (.ref v), l1] st M Q = Wp d 183 24 [some (.ref v), l1] (.ref v :: st) M Q := fun d l1 v st M Q => wA (show ins 183 23 = some (.aload_n 0, 1) by decide +kernel) rfl
set_option maxRecDepth 100000 in
theorem r_183_24 : ∀ (d : Nat) (ls : Lc) (a : Nat) (st : List Value) (M : Mem) (Q : Outcome → Mem → Prop), Wp d 183 24 ls (.ref a :: st) M Q = (fk 47 (kO M a) = true ∧ Wp d 183 27 ls (.int (mF M 47 a) :: st) M Q) := fun d ls a st M Q => w_getI (show ins 183 24 = some (.getfield 51, 3) by decide +kernel) (show fRes (mC 183) 51 = some (47, 8, false) by decide +kernel) (by decide +kernel)
set_option maxRecDepth 100000 in
theorem r_183_27 : ∀ (d : Nat) (ls : Lc) (a : Int32) (st : List Value) (M : Mem) (Q : Outcome → Mem → Prop), Wp d 183 27 ls (.int a :: st) M Q = Br (¬ a = I 0) d 183 34 30 ls st M Q := fun d ls a st M Q => w_if (show ins 183 27 = some (.ifCond .ne 7, 3) by decide +kernel) rfl rfl
set_option maxRecDepth 100000 in
theorem r_183_30 : ∀ (d : Nat) (ls : Lc) (st : List Value) (M : Mem) (Q : Outcome → Mem → Prop), Wp d 183 30 ls st M Q = Wp d 183 31 ls (.int (I 1) :: st) M Q := fun d ls st M Q => w_iconst (show ins 183 30 = some (.iconst 1, 1) by decide +kernel)
set_option maxRecDepth 100000 in
theorem r_183_31 : ∀ (d : Nat) (ls : Lc) (st : List Value) (M : Mem) (Q : Outcome → Mem → Prop), Wp d 183 31 ls st M Q = Wp d 183 35 ls st M Q := fun d ls st M Q => w_goto (show ins 183 31 = some (.goto 4, 3) by decide +kernel) rfl
set_option maxRecDepth 100000 in
theorem r_183_34 : ∀ (d : Nat) (ls : Lc) (st : List Value) (M : Mem) (Q : Outcome → Mem → Prop), Wp d 183 34 ls st M Q = Wp d 183 35 ls (.int (I 0) :: st) M Q := fun d ls st M Q => w_iconst (show ins 183 34 = some (.iconst 0, 1) by decide +kernel)
set_option maxRecDepth 100000 in
theorem r_183_35 : ∀ (d : Nat) (ls : Lc) (z : Int) (M : Mem) (Q : Outcome → Mem → Prop), (z = 0 ∨ z = 1) → Wp d 183 35 ls [.int (I z)] M Q = Q (.returned (some (.int (I z)))) M := fun d ls z M Q h0 => w_zretI (show ins 183 35 = some (.ireturn, 1) by decide +kernel) (by decide +kernel) h0
set_option maxRecDepth 100000 in
theorem r_183_35_1 : ∀ (d : Nat) (ls : Lc) (b : Bool) (M : Mem) (Q : Outcome → Mem → Prop), Wp d 183 35 ls [.int (I (bI b))] M Q = Q (.returned (some (.int (I (bI b))))) M := fun d ls b M Q => w_zretB (show ins 183 35 = some (.ireturn, 1) by decide +kernel) (by decide +kernel)
set_option maxRecDepth 100000 in
theorem W_183 : (type_of% r_183_0) ∧ (type_of% r_183_1) ∧ (type_of% r_183_4) ∧ (type_of% r_183_7) ∧ (type_of% r_183_8) ∧ (type_of% r_183_11) ∧ (type_of% r_183_12) ∧ (type_of% r_183_15) ∧ (type_of% r_183_18) ∧ (type_of% r_183_19) ∧ (type_of% r_183_20) ∧ (type_of% r_183_23) ∧ (type_of% r_183_24) ∧ (type_of% r_183_27) ∧ (type_of% r_183_30) ∧ (type_of% r_183_31) ∧ (type_of% r_183_34) ∧ (type_of% r_183_35) ∧ (type_of% r_183_35_1) := ⟨r_183_0, r_183_1, r_183_4, r_183_7, r_183_8, r_183_11, r_183_12, r_183_15, r_183_18, r_183_19, r_183_20, r_183_23, r_183_24, r_183_27, r_183_30, r_183_31, r_183_34, r_183_35, r_183_35_1⟩
set_option maxRecDepth 100000 in
theorem ca_183 {d y pc : Nat} {ls : Lc} {a : Nat} {z0 : Int32} {r : List Value} {M : Mem} {Q : Outcome → Mem → Prop} (hd : 0 < d) (hw : Wp (d - 1) 183 0 [some (.ref a), some (.int z0)] [] M (Cq d y pc ls r Q)) : Ca d y pc ls 183 [.ref a, .int z0] r M Q := ca_of (mq_get (by decide)) (by rfl) hd hw
/-! 184 PackedTreeModel.link(III)I; loop heads [] -/
set_option maxRecDepth 100000 in
theorem r_184_0 : ∀ (d : Nat) (l1 l2 l3 : Option Value) (v : Nat) (st : List Value) (M : Mem) (Q : Outcome → Mem → Prop), Wp d 184 0 [some (.ref v), l1, l2, l3] st M Q = Wp d 184 1 [some (.ref v), l1, l2, l3] (.ref v :: st) M Q := fun d l1 l2 l3 v st M Q => wA (show ins 184 0 = some (.aload_n 0, 1) by decide +kernel) rfl
set_option maxRecDepth 100000 in
theorem r_184_1 : ∀ (d : Nat) (l1 l2 l3 : Option Value) (v : Nat) (st : List Value) (M : Mem) (Q : Outcome → Mem → Prop), Wp d 184 1 [some (.ref v), l1, l2, l3] st M Q = Wp d 184 2 [some (.ref v), l1, l2, l3] (.ref v :: st) M Q := fun d l1 l2 l3 v st M Q => wA (show ins 184 1 = some (.aload_n 0, 1) by decide +kernel) rfl
set_option maxRecDepth 100000 in
theorem r_184_2 : ∀ (d : Nat) (ls : Lc) (a : Nat) (st : List Value) (M : Mem) (Q : Outcome → Mem → Prop), Wp d 184 2 ls (.ref a :: st) M Q = (fk 52 (kO M a) = true ∧ Wp d 184 5 ls (.int (mF M 52 a) :: st) M Q) := fun d ls a st M Q => w_getI (show ins 184 2 = some (.getfield 149, 3) by decide +kernel) (show fRes (mC 184) 149 = some (52, 8, false) by decide +kernel) (by decide +kernel)
set_option maxRecDepth 100000 in
theorem r_184_5 : ∀ (d : Nat) (ls : Lc) (a : Int32) (st : List Value) (M : Mem) (Q : Outcome → Mem → Prop), Wp d 184 5 ls (.int a :: st) M Q = Br (a = I 0) d 184 12 8 ls st M Q := fun d ls a st M Q => w_if (show ins 184 5 = some (.ifCond .eq 7, 3) by decide +kernel) rfl rfl
set_option maxRecDepth 100000 in
theorem r_184_8 : ∀ (d : Nat) (ls : Lc) (st : List Value) (M : Mem) (Q : Outcome → Mem → Prop), Wp d 184 8 ls st M Q = Wp d 184 9 ls (.int (I 1) :: st) M Q := fun d ls st M Q => w_iconst (show ins 184 8 = some (.iconst 1, 1) by decide +kernel)
set_option maxRecDepth 100000 in
theorem r_184_9 : ∀ (d : Nat) (ls : Lc) (st : List Value) (M : Mem) (Q : Outcome → Mem → Prop), Wp d 184 9 ls st M Q = Wp d 184 58 ls st M Q := fun d ls st M Q => w_goto (show ins 184 9 = some (.goto 49, 3) by decide +kernel) rfl
set_option maxRecDepth 100000 in
theorem r_184_12 : ∀ (d : Nat) (l1 l2 l3 : Option Value) (v : Nat) (st : List Value) (M : Mem) (Q : Outcome → Mem → Prop), Wp d 184 12 [some (.ref v), l1, l2, l3] st M Q = Wp d 184 13 [some (.ref v), l1, l2, l3] (.ref v :: st) M Q := fun d l1 l2 l3 v st M Q => wA (show ins 184 12 = some (.aload_n 0, 1) by decide +kernel) rfl
set_option maxRecDepth 100000 in
theorem r_184_13 : ∀ (d : Nat) (l0 l2 l3 : Option Value) (v : Int32) (st : List Value) (M : Mem) (Q : Outcome → Mem → Prop), Wp d 184 13 [l0, some (.int v), l2, l3] st M Q = Wp d 184 14 [l0, some (.int v), l2, l3] (.int v :: st) M Q := fun d l0 l2 l3 v st M Q => wA (show ins 184 13 = some (.iload_n 1, 1) by decide +kernel) rfl
set_option maxRecDepth 100000 in
theorem r_184_14 : ∀ (d : Nat) (ls : Lc) (v0 : Value) (a : Nat) (st : List Value) (M : Mem) (Q : Outcome → Mem → Prop), (smallR st = true) → Wp d 184 14 ls (v0 :: .ref a :: st) M Q = (kO M a = 8 ∧ Ca d 184 14 ls 157 (.ref a :: [v0]) st M Q) := fun d ls v0 a st M Q h0 => w_virt1 (as := [v0]) (show ins 184 14 = some (.invokevirtual 152, 3) by decide +kernel) (show mRes (mC 184) 152 = some (3, 8, [(8, 157)]) by decide +kernel) (by decide +kernel) rfl (by decide +kernel) (by decide +kernel) h0
set_option maxRecDepth 100000 in
theorem r_184_17 : ∀ (d : Nat) (ls : Lc) (a : Int32) (st : List Value) (M : Mem) (Q : Outcome → Mem → Prop), Wp d 184 17 ls (.int a :: st) M Q = Br (a = I 0) d 184 28 20 ls st M Q := fun d ls a st M Q => w_if (show ins 184 17 = some (.ifCond .eq 11, 3) by decide +kernel) rfl rfl
set_option maxRecDepth 100000 in
theorem r_184_20 : ∀ (d : Nat) (l1 l2 l3 : Option Value) (v : Nat) (st : List Value) (M : Mem) (Q : Outcome → Mem → Prop), Wp d 184 20 [some (.ref v), l1, l2, l3] st M Q = Wp d 184 21 [some (.ref v), l1, l2, l3] (.ref v :: st) M Q := fun d l1 l2 l3 v st M Q => wA (show ins 184 20 = some (.aload_n 0, 1) by decide +kernel) rfl
set_option maxRecDepth 100000 in
theorem r_184_21 : ∀ (d : Nat) (l0 l1 l2 : Option Value) (v : Int32) (st : List Value) (M : Mem) (Q : Outcome → Mem → Prop), Wp d 184 21 [l0, l1, l2, some (.int v)] st M Q = Wp d 184 22 [l0, l1, l2, some (.int v)] (.int v :: st) M Q := fun d l0 l1 l2 v st M Q => wA (show ins 184 21 = some (.iload_n 3, 1) by decide +kernel) rfl
set_option maxRecDepth 100000 in
theorem r_184_22 : ∀ (d : Nat) (ls : Lc) (v0 : Value) (a : Nat) (st : List Value) (M : Mem) (Q : Outcome → Mem → Prop), (smallR st = true) → Wp d 184 22 ls (v0 :: .ref a :: st) M Q = (kO M a = 8 ∧ Ca d 184 22 ls 185 (.ref a :: [v0]) st M Q) := fun d ls v0 a st M Q h0 => w_virt1 (as := [v0]) (show ins 184 22 = some (.invokevirtual 170, 3) by decide +kernel) (show mRes (mC 184) 170 = some (3, 8, [(8, 185)]) by decide +kernel) (by decide +kernel) rfl (by decide +kernel) (by decide +kernel) h0
set_option maxRecDepth 100000 in
theorem r_184_25 : ∀ (d : Nat) (ls : Lc) (a : Int32) (st : List Value) (M : Mem) (Q : Outcome → Mem → Prop), Wp d 184 25 ls (.int a :: st) M Q = Br (¬ a = I 0) d 184 32 28 ls st M Q := fun d ls a st M Q => w_if (show ins 184 25 = some (.ifCond .ne 7, 3) by decide +kernel) rfl rfl
set_option maxRecDepth 100000 in
theorem r_184_28 : ∀ (d : Nat) (ls : Lc) (st : List Value) (M : Mem) (Q : Outcome → Mem → Prop), Wp d 184 28 ls st M Q = Wp d 184 29 ls (.int (I 2) :: st) M Q := fun d ls st M Q => w_iconst (show ins 184 28 = some (.iconst 2, 1) by decide +kernel)
set_option maxRecDepth 100000 in
theorem r_184_29 : ∀ (d : Nat) (ls : Lc) (st : List Value) (M : Mem) (Q : Outcome → Mem → Prop), Wp d 184 29 ls st M Q = Wp d 184 58 ls st M Q := fun d ls st M Q => w_goto (show ins 184 29 = some (.goto 29, 3) by decide +kernel) rfl
set_option maxRecDepth 100000 in
theorem r_184_32 : ∀ (d : Nat) (l1 l2 l3 : Option Value) (v : Nat) (st : List Value) (M : Mem) (Q : Outcome → Mem → Prop), Wp d 184 32 [some (.ref v), l1, l2, l3] st M Q = Wp d 184 33 [some (.ref v), l1, l2, l3] (.ref v :: st) M Q := fun d l1 l2 l3 v st M Q => wA (show ins 184 32 = some (.aload_n 0, 1) by decide +kernel) rfl
set_option maxRecDepth 100000 in
theorem r_184_33 : ∀ (d : Nat) (l0 l1 l3 : Option Value) (v : Int32) (st : List Value) (M : Mem) (Q : Outcome → Mem → Prop), Wp d 184 33 [l0, l1, some (.int v), l3] st M Q = Wp d 184 34 [l0, l1, some (.int v), l3] (.int v :: st) M Q := fun d l0 l1 l3 v st M Q => wA (show ins 184 33 = some (.iload_n 2, 1) by decide +kernel) rfl
set_option maxRecDepth 100000 in
theorem r_184_34 : ∀ (d : Nat) (ls : Lc) (v0 : Value) (a : Nat) (st : List Value) (M : Mem) (Q : Outcome → Mem → Prop), (smallR st = true) → Wp d 184 34 ls (v0 :: .ref a :: st) M Q = (kO M a = 8 ∧ Ca d 184 34 ls 160 (.ref a :: [v0]) st M Q) := fun d ls v0 a st M Q h0 => w_virt1 (as := [v0]) (show ins 184 34 = some (.invokevirtual 155, 3) by decide +kernel) (show mRes (mC 184) 155 = some (3, 8, [(8, 160)]) by decide +kernel) (by decide +kernel) rfl (by decide +kernel) (by decide +kernel) h0
set_option maxRecDepth 100000 in
theorem r_184_37 : ∀ (d : Nat) (ls : Lc) (a : Int32) (st : List Value) (M : Mem) (Q : Outcome → Mem → Prop), Wp d 184 37 ls (.int a :: st) M Q = Br (¬ a = I 0) d 184 44 40 ls st M Q := fun d ls a st M Q => w_if (show ins 184 37 = some (.ifCond .ne 7, 3) by decide +kernel) rfl rfl
set_option maxRecDepth 100000 in
theorem r_184_40 : ∀ (d : Nat) (ls : Lc) (st : List Value) (M : Mem) (Q : Outcome → Mem → Prop), Wp d 184 40 ls st M Q = Wp d 184 41 ls (.int (I 3) :: st) M Q := fun d ls st M Q => w_iconst (show ins 184 40 = some (.iconst 3, 1) by decide +kernel)
set_option maxRecDepth 100000 in
theorem r_184_41 : ∀ (d : Nat) (ls : Lc) (st : List Value) (M : Mem) (Q : Outcome → Mem → Prop), Wp d 184 41 ls st M Q = Wp d 184 58 ls st M Q := fun d ls st M Q => w_goto (show ins 184 41 = some (.goto 17, 3) by decide +kernel) rfl
set_option maxRecDepth 100000 in
theorem r_184_44 : ∀ (d : Nat) (l1 l2 l3 : Option Value) (v : Nat) (st : List Value) (M : Mem) (Q : Outcome → Mem → Prop), Wp d 184 44 [some (.ref v), l1, l2, l3] st M Q = Wp d 184 45 [some (.ref v), l1, l2, l3] (.ref v :: st) M Q := fun d l1 l2 l3 v st M Q => wA (show ins 184 44 = some (.aload_n 0, 1) by decide +kernel) rfl
set_option maxRecDepth 100000 in
theorem r_184_45 : ∀ (d : Nat) (l0 l2 l3 : Option Value) (v : Int32) (st : List Value) (M : Mem) (Q : Outcome → Mem → Prop), Wp d 184 45 [l0, some (.int v), l2, l3] st M Q = Wp d 184 46 [l0, some (.int v), l2, l3] (.int v :: st) M Q := fun d l0 l2 l3 v st M Q => wA (show ins 184 45 = some (.iload_n 1, 1) by decide +kernel) rfl
set_option maxRecDepth 100000 in
theorem r_184_46 : ∀ (d : Nat) (l0 l1 l3 : Option Value) (v : Int32) (st : List Value) (M : Mem) (Q : Outcome → Mem → Prop), Wp d 184 46 [l0, l1, some (.int v), l3] st M Q = Wp d 184 47 [l0, l1, some (.int v), l3] (.int v :: st) M Q := fun d l0 l1 l3 v st M Q => wA (show ins 184 46 = some (.iload_n 2, 1) by decide +kernel) rfl
set_option maxRecDepth 100000 in
theorem r_184_47 : ∀ (d : Nat) (ls : Lc) (v0 v1 : Value) (a : Nat) (st : List Value) (M : Mem) (Q : Outcome → Mem → Prop), (smallR st = true) → Wp d 184 47 ls (v1 :: v0 :: .ref a :: st) M Q = (kO M a = 8 ∧ Ca d 184 47 ls 161 (.ref a :: [v0, v1]) st M Q) := fun d ls v0 v1 a st M Q h0 => w_virt1 (as := [v0, v1]) (show ins 184 47 = some (.invokevirtual 158, 3) by decide +kernel) (show mRes (mC 184) 158 = some (3, 8, [(8, 161)]) by decide +kernel) (by decide +kernel) rfl (by decide +kernel) (by decide +kernel) h0
set_option maxRecDepth 100000 in
theorem r_184_50 : ∀ (d : Nat) (ls : Lc) (a : Int32) (st : List Value) (M : Mem) (Q : Outcome → Mem → Prop), Wp d 184 50 ls (.int a :: st) M Q = Br (a < I 0) d 184 57 53 ls st M Q := fun d ls a st M Q => w_if (show ins 184 50 = some (.ifCond .lt 7, 3) by decide +kernel) rfl rfl
set_option maxRecDepth 100000 in
theorem r_184_53 : ∀ (d : Nat) (ls : Lc) (st : List Value) (M : Mem) (Q : Outcome → Mem → Prop), Wp d 184 53 ls st M Q = Wp d 184 54 ls (.int (I 4) :: st) M Q := fun d ls st M Q => w_iconst (show ins 184 53 = some (.iconst 4, 1) by decide +kernel)
set_option maxRecDepth 100000 in
theorem r_184_54 : ∀ (d : Nat) (ls : Lc) (st : List Value) (M : Mem) (Q : Outcome → Mem → Prop), Wp d 184 54 ls st M Q = Wp d 184 58 ls st M Q := fun d ls st M Q => w_goto (show ins 184 54 = some (.goto 4, 3) by decide +kernel) rfl
set_option maxRecDepth 100000 in
theorem r_184_57 : ∀ (d : Nat) (ls : Lc) (st : List Value) (M : Mem) (Q : Outcome → Mem → Prop), Wp d 184 57 ls st M Q = Wp d 184 58 ls (.int (I 0) :: st) M Q := fun d ls st M Q => w_iconst (show ins 184 57 = some (.iconst 0, 1) by decide +kernel)
set_option maxRecDepth 100000 in
theorem r_184_58 : ∀ (d : Nat) (ls : Lc) (a : Nat) (v : Int32) (st : List Value) (M : Mem) (Q : Outcome → Mem → Prop), Wp d 184 58 ls (.int v :: .ref a :: st) M Q = (fk 54 (kO M a) = true ∧ Wp d 184 61 ls st (sF M 54 a v) Q) := fun d ls a v st M Q => w_putI (show ins 184 58 = some (.putfield 40, 3) by decide +kernel) (show fRes (mC 184) 40 = some (54, 8, false) by decide +kernel) (by decide +kernel) (by decide +kernel)
set_option maxRecDepth 100000 in
theorem r_184_61 : ∀ (d : Nat) (l1 l2 l3 : Option Value) (v : Nat) (st : List Value) (M : Mem) (Q : Outcome → Mem → Prop), Wp d 184 61 [some (.ref v), l1, l2, l3] st M Q = Wp d 184 62 [some (.ref v), l1, l2, l3] (.ref v :: st) M Q := fun d l1 l2 l3 v st M Q => wA (show ins 184 61 = some (.aload_n 0, 1) by decide +kernel) rfl
set_option maxRecDepth 100000 in
theorem r_184_62 : ∀ (d : Nat) (ls : Lc) (a : Nat) (st : List Value) (M : Mem) (Q : Outcome → Mem → Prop), Wp d 184 62 ls (.ref a :: st) M Q = (fk 54 (kO M a) = true ∧ Wp d 184 65 ls (.int (mF M 54 a) :: st) M Q) := fun d ls a st M Q => w_getI (show ins 184 62 = some (.getfield 40, 3) by decide +kernel) (show fRes (mC 184) 40 = some (54, 8, false) by decide +kernel) (by decide +kernel)
set_option maxRecDepth 100000 in
theorem r_184_65 : ∀ (d : Nat) (ls : Lc) (a : Int32) (st : List Value) (M : Mem) (Q : Outcome → Mem → Prop), Wp d 184 65 ls (.int a :: st) M Q = Br (a ≤ I 0) d 184 70 68 ls st M Q := fun d ls a st M Q => w_if (show ins 184 65 = some (.ifCond .le 5, 3) by decide +kernel) rfl rfl
set_option maxRecDepth 100000 in
theorem r_184_68 : ∀ (d : Nat) (ls : Lc) (st : List Value) (M : Mem) (Q : Outcome → Mem → Prop), Wp d 184 68 ls st M Q = Wp d 184 69 ls (.int (I 0) :: st) M Q := fun d ls st M Q => w_iconst (show ins 184 68 = some (.iconst 0, 1) by decide +kernel)
set_option maxRecDepth 100000 in
theorem r_184_69 : ∀ (d : Nat) (ls : Lc) (v : Int32) (M : Mem) (Q : Outcome → Mem → Prop), Wp d 184 69 ls [.int v] M Q = Q (.returned (some (.int v))) M := fun d ls v M Q => w_ireturn (show ins 184 69 = some (.ireturn, 1) by decide +kernel) (by decide +kernel)
set_option maxRecDepth 100000 in
theorem r_184_70 : ∀ (d : Nat) (l1 l2 l3 : Option Value) (v : Nat) (st : List Value) (M : Mem) (Q : Outcome → Mem → Prop), Wp d 184 70 [some (.ref v), l1, l2, l3] st M Q = Wp d 184 71 [some (.ref v), l1, l2, l3] (.ref v :: st) M Q := fun d l1 l2 l3 v st M Q => wA (show ins 184 70 = some (.aload_n 0, 1) by decide +kernel) rfl
set_option maxRecDepth 100000 in
theorem r_184_71 : ∀ (d : Nat) (ls : Lc) (a : Nat) (st : List Value) (M : Mem) (Q : Outcome → Mem → Prop), (smallR st = true) → Wp d 184 71 ls (.ref a :: st) M Q = (kO M a = 8 ∧ Ca d 184 71 ls 166 (.ref a :: []) st M Q) := fun d ls a st M Q h0 => w_virt1 (as := []) (show ins 184 71 = some (.invokevirtual 164, 3) by decide +kernel) (show mRes (mC 184) 164 = some (3, 8, [(8, 166)]) by decide +kernel) (by decide +kernel) rfl (by decide +kernel) (by decide +kernel) h0
set_option maxRecDepth 100000 in
theorem r_184_74 : ∀ (d : Nat) (l1 l2 l3 : Option Value) (v : Nat) (st : List Value) (M : Mem) (Q : Outcome → Mem → Prop), Wp d 184 74 [some (.ref v), l1, l2, l3] st M Q = Wp d 184 75 [some (.ref v), l1, l2, l3] (.ref v :: st) M Q := fun d l1 l2 l3 v st M Q => wA (show ins 184 74 = some (.aload_n 0, 1) by decide +kernel) rfl
set_option maxRecDepth 100000 in
theorem r_184_75 : ∀ (d : Nat) (l0 l2 l3 : Option Value) (v : Int32) (st : List Value) (M : Mem) (Q : Outcome → Mem → Prop), Wp d 184 75 [l0, some (.int v), l2, l3] st M Q = Wp d 184 76 [l0, some (.int v), l2, l3] (.int v :: st) M Q := fun d l0 l2 l3 v st M Q => wA (show ins 184 75 = some (.iload_n 1, 1) by decide +kernel) rfl
set_option maxRecDepth 100000 in
theorem r_184_76 : ∀ (d : Nat) (ls : Lc) (st : List Value) (M : Mem) (Q : Outcome → Mem → Prop), Wp d 184 76 ls st M Q = Wp d 184 77 ls (.int (I 1) :: st) M Q := fun d ls st M Q => w_iconst (show ins 184 76 = some (.iconst 1, 1) by decide +kernel)
set_option maxRecDepth 100000 in
theorem r_184_77 : ∀ (d : Nat) (l0 l1 l3 : Option Value) (v : Int32) (st : List Value) (M : Mem) (Q : Outcome → Mem → Prop), Wp d 184 77 [l0, l1, some (.int v), l3] st M Q = Wp d 184 78 [l0, l1, some (.int v), l3] (.int v :: st) M Q := fun d l0 l1 l3 v st M Q => wA (show ins 184 77 = some (.iload_n 2, 1) by decide +kernel) rfl
set_option maxRecDepth 100000 in
theorem r_184_78 : ∀ (d : Nat) (ls : Lc) (st : List Value) (M : Mem) (Q : Outcome → Mem → Prop), Wp d 184 78 ls st M Q = Wp d 184 79 ls (.int (I 3) :: st) M Q := fun d ls st M Q => w_iconst (show ins 184 78 = some (.iconst 3, 1) by decide +kernel)
set_option maxRecDepth 100000 in
theorem r_184_79 : ∀ (d : Nat) (l0 l1 l2 : Option Value) (v : Int32) (st : List Value) (M : Mem) (Q : Outcome → Mem → Prop), Wp d 184 79 [l0, l1, l2, some (.int v)] st M Q = Wp d 184 80 [l0, l1, l2, some (.int v)] (.int v :: st) M Q := fun d l0 l1 l2 v st M Q => wA (show ins 184 79 = some (.iload_n 3, 1) by decide +kernel) rfl
set_option maxRecDepth 100000 in
theorem r_184_80 : ∀ (d : Nat) (ls : Lc) (v0 v1 v2 v3 v4 : Value) (a : Nat) (st : List Value) (M : Mem) (Q : Outcome → Mem → Prop), (smallR st = true) → Wp d 184 80 ls (v4 :: v3 :: v2 :: v1 :: v0 :: .ref a :: st) M Q = (kO M a = 8 ∧ Ca d 184 80 ls 167 (.ref a :: [v0, v1, v2, v3, v4]) st M Q) := fun d ls v0 v1 v2 v3 v4 a st M Q h0 => w_virt1 (as := [v0, v1, v2, v3, v4]) (show ins 184 80 = some (.invokevirtual 130, 3) by decide +kernel) (show mRes (mC 184) 130 = some (3, 8, [(8, 167)]) by decide +kernel) (by decide +kernel) rfl (by decide +kernel) (by decide +kernel) h0
set_option maxRecDepth 100000 in
theorem r_184_83 : ∀ (d : Nat) (l1 l2 l3 : Option Value) (v : Nat) (st : List Value) (M : Mem) (Q : Outcome → Mem → Prop), Wp d 184 83 [some (.ref v), l1, l2, l3] st M Q = Wp d 184 84 [some (.ref v), l1, l2, l3] (.ref v :: st) M Q := fun d l1 l2 l3 v st M Q => wA (show ins 184 83 = some (.aload_n 0, 1) by decide +kernel) rfl
set_option maxRecDepth 100000 in
theorem r_184_84 : ∀ (d : Nat) (ls : Lc) (a : Nat) (st : List Value) (M : Mem) (Q : Outcome → Mem → Prop), Wp d 184 84 ls (.ref a :: st) M Q = (fk 53 (kO M a) = true ∧ Wp d 184 87 ls (va_rf (mR M 53 a) :: st) M Q) := fun d ls a st M Q => w_getR (show ins 184 84 = some (.getfield 7, 3) by decide +kernel) (show fRes (mC 184) 7 = some (53, 8, false) by decide +kernel) (by decide +kernel)
set_option maxRecDepth 100000 in
theorem r_184_87 : ∀ (d : Nat) (ls : Lc) (st : List Value) (M : Mem) (Q : Outcome → Mem → Prop), Wp d 184 87 ls st M Q = Wp d 184 90 ls (.int (I 218) :: st) M Q := fun d ls st M Q => w_sipush (show ins 184 87 = some (.sipush 218, 3) by decide +kernel) (by decide)
set_option maxRecDepth 100000 in
theorem r_184_90 : ∀ (d : Nat) (l0 l2 l3 : Option Value) (v : Int32) (st : List Value) (M : Mem) (Q : Outcome → Mem → Prop), Wp d 184 90 [l0, some (.int v), l2, l3] st M Q = Wp d 184 91 [l0, some (.int v), l2, l3] (.int v :: st) M Q := fun d l0 l2 l3 v st M Q => wA (show ins 184 90 = some (.iload_n 1, 1) by decide +kernel) rfl
set_option maxRecDepth 100000 in
theorem r_184_91 : ∀ (d : Nat) (ls : Lc) (a b : Int) (st : List Value) (M : Mem) (Q : Outcome → Mem → Prop), Wp d 184 91 ls (.int (I b) :: .int (I a) :: st) M Q = Wp d 184 92 ls (.int (I (a + b)) :: st) M Q := fun d ls a b st M Q => w_iadd (show ins 184 91 = some (.iadd, 1) by decide +kernel)
set_option maxRecDepth 100000 in
theorem r_184_92 : ∀ (d : Nat) (ls : Lc) (v : Int32) (a : Nat) (st : List Value) (M : Mem) (Q : Outcome → Mem → Prop), Wp d 184 92 ls (.int v :: .ref a :: st) M Q = Wp d 184 93 ls (.int v :: .ref a :: .int v :: .ref a :: st) M Q := fun d ls v a st M Q => wA (show ins 184 92 = some (.dup2, 1) by decide +kernel) rfl
set_option maxRecDepth 100000 in
theorem r_184_93 : ∀ (d : Nat) (ls : Lc) (a : Nat) (j : Int32) (st : List Value) (M : Mem) (Q : Outcome → Mem → Prop), Wp d 184 93 ls (.int j :: .ref a :: st) M Q = ((((kX M a).1 = 0 ∨ (kX M a).1 = 8) ∧ inB j (kX M a).2 = true) ∧ Wp d 184 94 ls (.int (mA M a j.toNatClampNeg) :: st) M Q) := fun d ls a j st M Q => w_iaload (show ins 184 93 = some (.iaload, 1) by decide +kernel)
set_option maxRecDepth 100000 in
theorem r_184_94 : ∀ (d : Nat) (ls : Lc) (st : List Value) (M : Mem) (Q : Outcome → Mem → Prop), Wp d 184 94 ls st M Q = Wp d 184 95 ls (.int (I 1) :: st) M Q := fun d ls st M Q => w_iconst (show ins 184 94 = some (.iconst 1, 1) by decide +kernel)
set_option maxRecDepth 100000 in
theorem r_184_95 : ∀ (d : Nat) (ls : Lc) (a b : Int) (st : List Value) (M : Mem) (Q : Outcome → Mem → Prop), Wp d 184 95 ls (.int (I b) :: .int (I a) :: st) M Q = Wp d 184 96 ls (.int (I (a + b)) :: st) M Q := fun d ls a b st M Q => w_iadd (show ins 184 95 = some (.iadd, 1) by decide +kernel)
set_option maxRecDepth 100000 in
theorem r_184_96 : ∀ (d : Nat) (ls : Lc) (a : Nat) (j v : Int32) (st : List Value) (M : Mem) (Q : Outcome → Mem → Prop), Wp d 184 96 ls (.int v :: .int j :: .ref a :: st) M Q = (((kX M a).1 = 0 ∧ inB j (kX M a).2 = true) ∧ Wp d 184 97 ls st (sA M a j.toNatClampNeg v) Q) := fun d ls a j v st M Q => w_iastore (show ins 184 96 = some (.iastore, 1) by decide +kernel)
set_option maxRecDepth 100000 in
theorem r_184_97 : ∀ (d : Nat) (l1 l2 l3 : Option Value) (v : Nat) (st : List Value) (M : Mem) (Q : Outcome → Mem → Prop), Wp d 184 97 [some (.ref v), l1, l2, l3] st M Q = Wp d 184 98 [some (.ref v), l1, l2, l3] (.ref v :: st) M Q := fun d l1 l2 l3 v st M Q => wA (show ins 184 97 = some (.aload_n 0, 1) by decide +kernel) rfl
set_option maxRecDepth 100000 in
theorem r_184_98 : ∀ (d : Nat) (ls : Lc) (a : Nat) (st : List Value) (M : Mem) (Q : Outcome → Mem → Prop), Wp d 184 98 ls (.ref a :: st) M Q = (fk 53 (kO M a) = true ∧ Wp d 184 101 ls (va_rf (mR M 53 a) :: st) M Q) := fun d ls a st M Q => w_getR (show ins 184 98 = some (.getfield 7, 3) by decide +kernel) (show fRes (mC 184) 7 = some (53, 8, false) by decide +kernel) (by decide +kernel)
set_option maxRecDepth 100000 in
theorem r_184_101 : ∀ (d : Nat) (ls : Lc) (st : List Value) (M : Mem) (Q : Outcome → Mem → Prop), Wp d 184 101 ls st M Q = Wp d 184 104 ls (.int (I 157) :: st) M Q := fun d ls st M Q => w_sipush (show ins 184 101 = some (.sipush 157, 3) by decide +kernel) (by decide)
set_option maxRecDepth 100000 in
theorem r_184_104 : ∀ (d : Nat) (l0 l1 l2 : Option Value) (v : Int32) (st : List Value) (M : Mem) (Q : Outcome → Mem → Prop), Wp d 184 104 [l0, l1, l2, some (.int v)] st M Q = Wp d 184 105 [l0, l1, l2, some (.int v)] (.int v :: st) M Q := fun d l0 l1 l2 v st M Q => wA (show ins 184 104 = some (.iload_n 3, 1) by decide +kernel) rfl
set_option maxRecDepth 100000 in
theorem r_184_105 : ∀ (d : Nat) (ls : Lc) (a b : Int) (st : List Value) (M : Mem) (Q : Outcome → Mem → Prop), Wp d 184 105 ls (.int (I b) :: .int (I a) :: st) M Q = Wp d 184 106 ls (.int (I (a + b)) :: st) M Q := fun d ls a b st M Q => w_iadd (show ins 184 105 = some (.iadd, 1) by decide +kernel)
set_option maxRecDepth 100000 in
theorem r_184_106 : ∀ (d : Nat) (ls : Lc) (v : Int32) (a : Nat) (st : List Value) (M : Mem) (Q : Outcome → Mem → Prop), Wp d 184 106 ls (.int v :: .ref a :: st) M Q = Wp d 184 107 ls (.int v :: .ref a :: .int v :: .ref a :: st) M Q := fun d ls v a st M Q => wA (show ins 184 106 = some (.dup2, 1) by decide +kernel) rfl
set_option maxRecDepth 100000 in
theorem r_184_107 : ∀ (d : Nat) (ls : Lc) (a : Nat) (j : Int32) (st : List Value) (M : Mem) (Q : Outcome → Mem → Prop), Wp d 184 107 ls (.int j :: .ref a :: st) M Q = ((((kX M a).1 = 0 ∨ (kX M a).1 = 8) ∧ inB j (kX M a).2 = true) ∧ Wp d 184 108 ls (.int (mA M a j.toNatClampNeg) :: st) M Q) := fun d ls a j st M Q => w_iaload (show ins 184 107 = some (.iaload, 1) by decide +kernel)
set_option maxRecDepth 100000 in
theorem r_184_108 : ∀ (d : Nat) (ls : Lc) (st : List Value) (M : Mem) (Q : Outcome → Mem → Prop), Wp d 184 108 ls st M Q = Wp d 184 109 ls (.int (I 1) :: st) M Q := fun d ls st M Q => w_iconst (show ins 184 108 = some (.iconst 1, 1) by decide +kernel)
set_option maxRecDepth 100000 in
theorem r_184_109 : ∀ (d : Nat) (ls : Lc) (a b : Int) (st : List Value) (M : Mem) (Q : Outcome → Mem → Prop), Wp d 184 109 ls (.int (I b) :: .int (I a) :: st) M Q = Wp d 184 110 ls (.int (I (a + b)) :: st) M Q := fun d ls a b st M Q => w_iadd (show ins 184 109 = some (.iadd, 1) by decide +kernel)
set_option maxRecDepth 100000 in
theorem r_184_110 : ∀ (d : Nat) (ls : Lc) (a : Nat) (j v : Int32) (st : List Value) (M : Mem) (Q : Outcome → Mem → Prop), Wp d 184 110 ls (.int v :: .int j :: .ref a :: st) M Q = (((kX M a).1 = 0 ∧ inB j (kX M a).2 = true) ∧ Wp d 184 111 ls st (sA M a j.toNatClampNeg v) Q) := fun d ls a j v st M Q => w_iastore (show ins 184 110 = some (.iastore, 1) by decide +kernel)
set_option maxRecDepth 100000 in
theorem r_184_111 : ∀ (d : Nat) (l1 l2 l3 : Option Value) (v : Nat) (st : List Value) (M : Mem) (Q : Outcome → Mem → Prop), Wp d 184 111 [some (.ref v), l1, l2, l3] st M Q = Wp d 184 112 [some (.ref v), l1, l2, l3] (.ref v :: st) M Q := fun d l1 l2 l3 v st M Q => wA (show ins 184 111 = some (.aload_n 0, 1) by decide +kernel) rfl
set_option maxRecDepth 100000 in
theorem r_184_112 : ∀ (d : Nat) (ls : Lc) (st : List Value) (M : Mem) (Q : Outcome → Mem → Prop), Wp d 184 112 ls st M Q = Wp d 184 113 ls (.int (I 4) :: st) M Q := fun d ls st M Q => w_iconst (show ins 184 112 = some (.iconst 4, 1) by decide +kernel)
set_option maxRecDepth 100000 in
theorem r_184_113 : ∀ (d : Nat) (ls : Lc) (v0 : Value) (a : Nat) (st : List Value) (M : Mem) (Q : Outcome → Mem → Prop), (smallR st = true) → Wp d 184 113 ls (v0 :: .ref a :: st) M Q = (kO M a = 8 ∧ Ca d 184 113 ls 183 (.ref a :: [v0]) st M Q) := fun d ls v0 a st M Q h0 => w_virt1 (as := [v0]) (show ins 184 113 = some (.invokevirtual 167, 3) by decide +kernel) (show mRes (mC 184) 167 = some (3, 8, [(8, 183)]) by decide +kernel) (by decide +kernel) rfl (by decide +kernel) (by decide +kernel) h0
set_option maxRecDepth 100000 in
theorem r_184_116 : ∀ (d : Nat) (ls : Lc) (a : Int32) (st : List Value) (M : Mem) (Q : Outcome → Mem → Prop), Wp d 184 116 ls (.int a :: st) M Q = Br (a = I 0) d 184 132 119 ls st M Q := fun d ls a st M Q => w_if (show ins 184 116 = some (.ifCond .eq 16, 3) by decide +kernel) rfl rfl
set_option maxRecDepth 100000 in
theorem r_184_119 : ∀ (d : Nat) (l1 l2 l3 : Option Value) (v : Nat) (st : List Value) (M : Mem) (Q : Outcome → Mem → Prop), Wp d 184 119 [some (.ref v), l1, l2, l3] st M Q = Wp d 184 120 [some (.ref v), l1, l2, l3] (.ref v :: st) M Q := fun d l1 l2 l3 v st M Q => wA (show ins 184 119 = some (.aload_n 0, 1) by decide +kernel) rfl
set_option maxRecDepth 100000 in
theorem r_184_120 : ∀ (d : Nat) (ls : Lc) (a : Nat) (st : List Value) (M : Mem) (Q : Outcome → Mem → Prop), Wp d 184 120 ls (.ref a :: st) M Q = (fk 53 (kO M a) = true ∧ Wp d 184 123 ls (va_rf (mR M 53 a) :: st) M Q) := fun d ls a st M Q => w_getR (show ins 184 120 = some (.getfield 7, 3) by decide +kernel) (show fRes (mC 184) 7 = some (53, 8, false) by decide +kernel) (by decide +kernel)
set_option maxRecDepth 100000 in
theorem r_184_123 : ∀ (d : Nat) (ls : Lc) (st : List Value) (M : Mem) (Q : Outcome → Mem → Prop), Wp d 184 123 ls st M Q = Wp d 184 126 ls (.int (I 157) :: st) M Q := fun d ls st M Q => w_sipush (show ins 184 123 = some (.sipush 157, 3) by decide +kernel) (by decide)
set_option maxRecDepth 100000 in
theorem r_184_126 : ∀ (d : Nat) (l0 l1 l2 : Option Value) (v : Int32) (st : List Value) (M : Mem) (Q : Outcome → Mem → Prop), Wp d 184 126 [l0, l1, l2, some (.int v)] st M Q = Wp d 184 127 [l0, l1, l2, some (.int v)] (.int v :: st) M Q := fun d l0 l1 l2 v st M Q => wA (show ins 184 126 = some (.iload_n 3, 1) by decide +kernel) rfl
set_option maxRecDepth 100000 in
theorem r_184_127 : ∀ (d : Nat) (ls : Lc) (a b : Int) (st : List Value) (M : Mem) (Q : Outcome → Mem → Prop), Wp d 184 127 ls (.int (I b) :: .int (I a) :: st) M Q = Wp d 184 128 ls (.int (I (a + b)) :: st) M Q := fun d ls a b st M Q => w_iadd (show ins 184 127 = some (.iadd, 1) by decide +kernel)
set_option maxRecDepth 100000 in
theorem r_184_128 : ∀ (d : Nat) (ls : Lc) (a : Nat) (j : Int32) (st : List Value) (M : Mem) (Q : Outcome → Mem → Prop), Wp d 184 128 ls (.int j :: .ref a :: st) M Q = ((((kX M a).1 = 0 ∨ (kX M a).1 = 8) ∧ inB j (kX M a).2 = true) ∧ Wp d 184 129 ls (.int (mA M a j.toNatClampNeg) :: st) M Q) := fun d ls a j st M Q => w_iaload (show ins 184 128 = some (.iaload, 1) by decide +kernel)
set_option maxRecDepth 100000 in
theorem r_184_129 : ∀ (d : Nat) (ls : Lc) (st : List Value) (M : Mem) (Q : Outcome → Mem → Prop), Wp d 184 129 ls st M Q = Wp d 184 133 ls st M Q := fun d ls st M Q => w_goto (show ins 184 129 = some (.goto 4, 3) by decide +kernel) rfl
set_option maxRecDepth 100000 in
theorem r_184_132 : ∀ (d : Nat) (ls : Lc) (st : List Value) (M : Mem) (Q : Outcome → Mem → Prop), Wp d 184 132 ls st M Q = Wp d 184 133 ls (.int (I 0) :: st) M Q := fun d ls st M Q => w_iconst (show ins 184 132 = some (.iconst 0, 1) by decide +kernel)
set_option maxRecDepth 100000 in
theorem r_184_133 : ∀ (d : Nat) (ls : Lc) (v : Int32) (M : Mem) (Q : Outcome → Mem → Prop), Wp d 184 133 ls [.int v] M Q = Q (.returned (some (.int v))) M := fun d ls v M Q => w_ireturn (show ins 184 133 = some (.ireturn, 1) by decide +kernel) (by decide +kernel)
set_option maxRecDepth 100000 in
theorem W_184 : (type_of% r_184_0) ∧ (type_of% r_184_1) ∧ (type_of% r_184_2) ∧ (type_of% r_184_5) ∧ (type_of% r_184_8) ∧ (type_of% r_184_9) ∧ (type_of% r_184_12) ∧ (type_of% r_184_13) ∧ (type_of% r_184_14) ∧ (type_of% r_184_17) ∧ (type_of% r_184_20) ∧ (type_of% r_184_21) ∧ (type_of% r_184_22) ∧ (type_of% r_184_25) ∧ (type_of% r_184_28) ∧ (type_of% r_184_29) ∧ (type_of% r_184_32) ∧ (type_of% r_184_33) ∧ (type_of% r_184_34) ∧ (type_of% r_184_37) ∧ (type_of% r_184_40) ∧ (type_of% r_184_41) ∧ (type_of% r_184_44) ∧ (type_of% r_184_45) ∧ (type_of% r_184_46) ∧ (type_of% r_184_47) ∧ (type_of% r_184_50) ∧ (type_of% r_184_53) ∧ (type_of% r_184_54) ∧ (type_of% r_184_57) ∧ (type_of% r_184_58) ∧ (type_of% r_184_61) ∧ (type_of% r_184_62) ∧ (type_of% r_184_65) ∧ (type_of% r_184_68) ∧ (type_of% r_184_69) ∧ (type_of% r_184_70) ∧ (type_of% r_184_71) ∧ (type_of% r_184_74) ∧ (type_of% r_184_75) ∧ (type_of% r_184_76) ∧ (type_of% r_184_77) ∧ (type_of% r_184_78) ∧ (type_of% r_184_79) ∧ (type_of% r_184_80) ∧ (type_of% r_184_83) ∧ (type_of% r_184_84) ∧ (type_of% r_184_87) ∧ (type_of% r_184_90) ∧ (type_of% r_184_91) ∧ (type_of% r_184_92) ∧ (type_of% r_184_93) ∧ (type_of% r_184_94) ∧ (type_of% r_184_95) ∧ (type_of% r_184_96) ∧ (type_of% r_184_97) ∧ (type_of% r_184_98) ∧ (type_of% r_184_101) ∧ (type_of% r_184_104) ∧ (type_of% r_184_105) ∧ (type_of% r_184_106) ∧ (type_of% r_184_107) ∧ (type_of% r_184_108) ∧ (type_of% r_184_109) ∧ (type_of% r_184_110) ∧ (type_of% r_184_111) ∧ (type_of% r_184_112) ∧ (type_of% r_184_113) ∧ (type_of% r_184_116) ∧ (type_of% r_184_119) ∧ (type_of% r_184_120) ∧ (type_of% r_184_123) ∧ (type_of% r_184_126) ∧ (type_of% r_184_127) ∧ (type_of% r_184_128) ∧ (type_of% r_184_129) ∧ (type_of% r_184_132) ∧ (type_of% r_184_133) := ⟨r_184_0, r_184_1, r_184_2, r_184_5, r_184_8, r_184_9, r_184_12, r_184_13, r_184_14, r_184_17, r_184_20, r_184_21, r_184_22, r_184_25, r_184_28, r_184_29, r_184_32, r_184_33, r_184_34, r_184_37, r_184_40, r_184_41, r_184_44, r_184_45, r_184_46, r_184_47, r_184_50, r_184_53, r_184_54, r_184_57, r_184_58, r_184_61, r_184_62, r_184_65, r_184_68, r_184_69, r_184_70, r_184_71, r_184_74, r_184_75, r_184_76, r_184_77, r_184_78, r_184_79, r_184_80, r_184_83, r_184_84, r_184_87, r_184_90, r_184_91, r_184_92, r_184_93, r_184_94, r_184_95, r_184_96, r_184_97, r_184_98, r_184_101, r_184_104, r_184_105, r_184_106, r_184_107, r_184_108, r_184_109, r_184_110, r_184_111, r_184_112, r_184_113, r_184_116, r_184_119, r_184_120, r_184_123, r_184_126, r_184_127, r_184_128, r_184_129, r_184_132, r_184_133⟩
set_option maxRecDepth 100000 in
theorem ca_184 {d y pc : Nat} {ls : Lc} {a : Nat} {z0 : Int32} {z1 : Int32} {z2 : Int32} {r : List Value} {M : Mem} {Q : Outcome → Mem → Prop} (hd : 0 < d) (hw : Wp (d - 1) 184 0 [some (.ref a), some (.int z0), some (.int z1), some (.int z2)] [] M (Cq d y pc ls r Q)) : Ca d y pc ls 184 [.ref a, .int z0, .int z1, .int z2] r M Q := ca_of (mq_get (by decide)) (by rfl) hd hw
