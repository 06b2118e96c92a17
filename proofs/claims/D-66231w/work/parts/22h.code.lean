/-! 205 PackedTreeModel.cut(II)I; loop heads [] -/
set_option maxRecDepth 100000 in
theorem r_205_0 : ∀ (d : Nat) (l1 l2 : Option Value) (v : Nat) (st : List Value) (M : Mem) (Q : Outcome → Mem → Prop), Wp d 205 0 [some (.ref v), l1, l2] st M Q = Wp d 205 1 [some (.ref v), l1, l2] (.ref v :: st) M Q := fun d l1 l2 v st M Q => wA (show ins 205 0 = some (.aload_n 0, 1) by decide +kernel) rfl
set_option maxRecDepth 100000 in
theorem r_205_1 : ∀ (d : Nat) (l1 l2 : Option Value) (v : Nat) (st : List Value) (M : Mem) (Q : Outcome → Mem → Prop), Wp d 205 1 [some (.ref v), l1, l2] st M Q = Wp d 205 2 [some (.ref v), l1, l2] (.ref v :: st) M Q := fun d l1 l2 v st M Q => wA (show ins 205 1 = some (.aload_n 0, 1) by decide +kernel) rfl
set_option maxRecDepth 100000 in
theorem r_205_2 : ∀ (d : Nat) (ls : Lc) (a : Nat) (st : List Value) (M : Mem) (Q : Outcome → Mem → Prop), Wp d 205 2 ls (.ref a :: st) M Q = (fk 52 (kO M a) = true ∧ Wp d 205 5 ls (.int (mF M 52 a) :: st) M Q) := fun d ls a st M Q => w_getI (show ins 205 2 = some (.getfield 149, 3) by decide +kernel) (show fRes (mC 205) 149 = some (52, 8, false) by decide +kernel) (by decide +kernel)
set_option maxRecDepth 100000 in
theorem r_205_5 : ∀ (d : Nat) (ls : Lc) (a : Int32) (st : List Value) (M : Mem) (Q : Outcome → Mem → Prop), Wp d 205 5 ls (.int a :: st) M Q = Br (a = I 0) d 205 12 8 ls st M Q := fun d ls a st M Q => w_if (show ins 205 5 = some (.ifCond .eq 7, 3) by decide +kernel) rfl rfl
set_option maxRecDepth 100000 in
theorem r_205_8 : ∀ (d : Nat) (ls : Lc) (st : List Value) (M : Mem) (Q : Outcome → Mem → Prop), Wp d 205 8 ls st M Q = Wp d 205 9 ls (.int (I 1) :: st) M Q := fun d ls st M Q => w_iconst (show ins 205 8 = some (.iconst 1, 1) by decide +kernel)
set_option maxRecDepth 100000 in
theorem r_205_9 : ∀ (d : Nat) (ls : Lc) (st : List Value) (M : Mem) (Q : Outcome → Mem → Prop), Wp d 205 9 ls st M Q = Wp d 205 47 ls st M Q := fun d ls st M Q => w_goto (show ins 205 9 = some (.goto 38, 3) by decide +kernel) rfl
set_option maxRecDepth 100000 in
theorem r_205_12 : ∀ (d : Nat) (l1 l2 : Option Value) (v : Nat) (st : List Value) (M : Mem) (Q : Outcome → Mem → Prop), Wp d 205 12 [some (.ref v), l1, l2] st M Q = Wp d 205 13 [some (.ref v), l1, l2] (.ref v :: st) M Q := fun d l1 l2 v st M Q => wA (show ins 205 12 = some (.aload_n 0, 1) by decide +kernel) rfl
set_option maxRecDepth 100000 in
theorem r_205_13 : ∀ (d : Nat) (l0 l2 : Option Value) (v : Int32) (st : List Value) (M : Mem) (Q : Outcome → Mem → Prop), Wp d 205 13 [l0, some (.int v), l2] st M Q = Wp d 205 14 [l0, some (.int v), l2] (.int v :: st) M Q := fun d l0 l2 v st M Q => wA (show ins 205 13 = some (.iload_n 1, 1) by decide +kernel) rfl
set_option maxRecDepth 100000 in
theorem r_205_14 : ∀ (d : Nat) (ls : Lc) (v0 : Value) (a : Nat) (st : List Value) (M : Mem) (Q : Outcome → Mem → Prop), (smallR st = true) → Wp d 205 14 ls (v0 :: .ref a :: st) M Q = (kO M a = 8 ∧ Ca d 205 14 ls 185 (.ref a :: [v0]) st M Q) := fun d ls v0 a st M Q h0 => w_virt1 (as := [v0]) (show ins 205 14 = some (.invokevirtual 170, 3) by decide +kernel) (show mRes (mC 205) 170 = some (3, 8, [(8, 185)]) by decide +kernel) (by decide +kernel) rfl (by decide +kernel) (by decide +kernel) h0
set_option maxRecDepth 100000 in
theorem r_205_17 : ∀ (d : Nat) (ls : Lc) (a : Int32) (st : List Value) (M : Mem) (Q : Outcome → Mem → Prop), Wp d 205 17 ls (.int a :: st) M Q = Br (¬ a = I 0) d 205 24 20 ls st M Q := fun d ls a st M Q => w_if (show ins 205 17 = some (.ifCond .ne 7, 3) by decide +kernel) rfl rfl
set_option maxRecDepth 100000 in
theorem r_205_20 : ∀ (d : Nat) (ls : Lc) (st : List Value) (M : Mem) (Q : Outcome → Mem → Prop), Wp d 205 20 ls st M Q = Wp d 205 21 ls (.int (I 2) :: st) M Q := fun d ls st M Q => w_iconst (show ins 205 20 = some (.iconst 2, 1) by decide +kernel)
set_option maxRecDepth 100000 in
theorem r_205_21 : ∀ (d : Nat) (ls : Lc) (st : List Value) (M : Mem) (Q : Outcome → Mem → Prop), Wp d 205 21 ls st M Q = Wp d 205 47 ls st M Q := fun d ls st M Q => w_goto (show ins 205 21 = some (.goto 26, 3) by decide +kernel) rfl
set_option maxRecDepth 100000 in
theorem r_205_24 : ∀ (d : Nat) (l0 l1 : Option Value) (v : Int32) (st : List Value) (M : Mem) (Q : Outcome → Mem → Prop), Wp d 205 24 [l0, l1, some (.int v)] st M Q = Wp d 205 25 [l0, l1, some (.int v)] (.int v :: st) M Q := fun d l0 l1 v st M Q => wA (show ins 205 24 = some (.iload_n 2, 1) by decide +kernel) rfl
set_option maxRecDepth 100000 in
theorem r_205_25 : ∀ (d : Nat) (ls : Lc) (st : List Value) (M : Mem) (Q : Outcome → Mem → Prop), Wp d 205 25 ls st M Q = Wp d 205 26 ls (.int (I 0) :: st) M Q := fun d ls st M Q => w_iconst (show ins 205 25 = some (.iconst 0, 1) by decide +kernel)
set_option maxRecDepth 100000 in
theorem r_205_26 : ∀ (d : Nat) (l1 l2 : Option Value) (v : Nat) (st : List Value) (M : Mem) (Q : Outcome → Mem → Prop), Wp d 205 26 [some (.ref v), l1, l2] st M Q = Wp d 205 27 [some (.ref v), l1, l2] (.ref v :: st) M Q := fun d l1 l2 v st M Q => wA (show ins 205 26 = some (.aload_n 0, 1) by decide +kernel) rfl
set_option maxRecDepth 100000 in
theorem r_205_27 : ∀ (d : Nat) (ls : Lc) (a : Nat) (st : List Value) (M : Mem) (Q : Outcome → Mem → Prop), Wp d 205 27 ls (.ref a :: st) M Q = (fk 53 (kO M a) = true ∧ Wp d 205 30 ls (va_rf (mR M 53 a) :: st) M Q) := fun d ls a st M Q => w_getR (show ins 205 27 = some (.getfield 7, 3) by decide +kernel) (show fRes (mC 205) 7 = some (53, 8, false) by decide +kernel) (by decide +kernel)
set_option maxRecDepth 100000 in
theorem r_205_30 : ∀ (d : Nat) (ls : Lc) (st : List Value) (M : Mem) (Q : Outcome → Mem → Prop), Wp d 205 30 ls st M Q = Wp d 205 33 ls (.int (I 218) :: st) M Q := fun d ls st M Q => w_sipush (show ins 205 30 = some (.sipush 218, 3) by decide +kernel) (by decide)
set_option maxRecDepth 100000 in
theorem r_205_33 : ∀ (d : Nat) (l0 l2 : Option Value) (v : Int32) (st : List Value) (M : Mem) (Q : Outcome → Mem → Prop), Wp d 205 33 [l0, some (.int v), l2] st M Q = Wp d 205 34 [l0, some (.int v), l2] (.int v :: st) M Q := fun d l0 l2 v st M Q => wA (show ins 205 33 = some (.iload_n 1, 1) by decide +kernel) rfl
set_option maxRecDepth 100000 in
theorem r_205_34 : ∀ (d : Nat) (ls : Lc) (a b : Int) (st : List Value) (M : Mem) (Q : Outcome → Mem → Prop), Wp d 205 34 ls (.int (I b) :: .int (I a) :: st) M Q = Wp d 205 35 ls (.int (I (a + b)) :: st) M Q := fun d ls a b st M Q => w_iadd (show ins 205 34 = some (.iadd, 1) by decide +kernel)
set_option maxRecDepth 100000 in
theorem r_205_35 : ∀ (d : Nat) (ls : Lc) (a : Nat) (j : Int32) (st : List Value) (M : Mem) (Q : Outcome → Mem → Prop), Wp d 205 35 ls (.int j :: .ref a :: st) M Q = ((((kX M a).1 = 0 ∨ (kX M a).1 = 8) ∧ inB j (kX M a).2 = true) ∧ Wp d 205 36 ls (.int (mA M a j.toNatClampNeg) :: st) M Q) := fun d ls a j st M Q => w_iaload (show ins 205 35 = some (.iaload, 1) by decide +kernel)
set_option maxRecDepth 100000 in
theorem r_205_36 : ∀ (d : Nat) (ls : Lc) (v0 v1 v2 : Value)  (st : List Value) (M : Mem) (Q : Outcome → Mem → Prop), (smallR st = true) → Wp d 205 36 ls (v2 :: v1 :: v0 :: st) M Q = Ca d 205 36 ls 159 [v0, v1, v2] st M Q := fun d ls v0 v1 v2 st M Q h0 => w_stat (as := [v0, v1, v2]) (show ins 205 36 = some (.invokestatic 43, 3) by decide +kernel) (show mRes (mC 205) 43 = some (0, 8, [(0, 159)]) by decide +kernel) (by decide +kernel) (by decide +kernel) rfl h0
set_option maxRecDepth 100000 in
theorem r_205_39 : ∀ (d : Nat) (ls : Lc) (a : Int32) (st : List Value) (M : Mem) (Q : Outcome → Mem → Prop), Wp d 205 39 ls (.int a :: st) M Q = Br (¬ a = I 0) d 205 46 42 ls st M Q := fun d ls a st M Q => w_if (show ins 205 39 = some (.ifCond .ne 7, 3) by decide +kernel) rfl rfl
set_option maxRecDepth 100000 in
theorem r_205_42 : ∀ (d : Nat) (ls : Lc) (st : List Value) (M : Mem) (Q : Outcome → Mem → Prop), Wp d 205 42 ls st M Q = Wp d 205 43 ls (.int (I 3) :: st) M Q := fun d ls st M Q => w_iconst (show ins 205 42 = some (.iconst 3, 1) by decide +kernel)
set_option maxRecDepth 100000 in
theorem r_205_43 : ∀ (d : Nat) (ls : Lc) (st : List Value) (M : Mem) (Q : Outcome → Mem → Prop), Wp d 205 43 ls st M Q = Wp d 205 47 ls st M Q := fun d ls st M Q => w_goto (show ins 205 43 = some (.goto 4, 3) by decide +kernel) rfl
set_option maxRecDepth 100000 in
theorem r_205_46 : ∀ (d : Nat) (ls : Lc) (st : List Value) (M : Mem) (Q : Outcome → Mem → Prop), Wp d 205 46 ls st M Q = Wp d 205 47 ls (.int (I 0) :: st) M Q := fun d ls st M Q => w_iconst (show ins 205 46 = some (.iconst 0, 1) by decide +kernel)
set_option maxRecDepth 100000 in
theorem r_205_47 : ∀ (d : Nat) (ls : Lc) (a : Nat) (v : Int32) (st : List Value) (M : Mem) (Q : Outcome → Mem → Prop), Wp d 205 47 ls (.int v :: .ref a :: st) M Q = (fk 54 (kO M a) = true ∧ Wp d 205 50 ls st (sF M 54 a v) Q) := fun d ls a v st M Q => w_putI (show ins 205 47 = some (.putfield 40, 3) by decide +kernel) (show fRes (mC 205) 40 = some (54, 8, false) by decide +kernel) (by decide +kernel) (by decide +kernel)
set_option maxRecDepth 100000 in
theorem r_205_50 : ∀ (d : Nat) (l1 l2 : Option Value) (v : Nat) (st : List Value) (M : Mem) (Q : Outcome → Mem → Prop), Wp d 205 50 [some (.ref v), l1, l2] st M Q = Wp d 205 51 [some (.ref v), l1, l2] (.ref v :: st) M Q := fun d l1 l2 v st M Q => wA (show ins 205 50 = some (.aload_n 0, 1) by decide +kernel) rfl
set_option maxRecDepth 100000 in
theorem r_205_51 : ∀ (d : Nat) (ls : Lc) (a : Nat) (st : List Value) (M : Mem) (Q : Outcome → Mem → Prop), Wp d 205 51 ls (.ref a :: st) M Q = (fk 54 (kO M a) = true ∧ Wp d 205 54 ls (.int (mF M 54 a) :: st) M Q) := fun d ls a st M Q => w_getI (show ins 205 51 = some (.getfield 40, 3) by decide +kernel) (show fRes (mC 205) 40 = some (54, 8, false) by decide +kernel) (by decide +kernel)
set_option maxRecDepth 100000 in
theorem r_205_54 : ∀ (d : Nat) (ls : Lc) (a : Int32) (st : List Value) (M : Mem) (Q : Outcome → Mem → Prop), Wp d 205 54 ls (.int a :: st) M Q = Br (a ≤ I 0) d 205 59 57 ls st M Q := fun d ls a st M Q => w_if (show ins 205 54 = some (.ifCond .le 5, 3) by decide +kernel) rfl rfl
set_option maxRecDepth 100000 in
theorem r_205_57 : ∀ (d : Nat) (ls : Lc) (st : List Value) (M : Mem) (Q : Outcome → Mem → Prop), Wp d 205 57 ls st M Q = Wp d 205 58 ls (.int (I 0) :: st) M Q := fun d ls st M Q => w_iconst (show ins 205 57 = some (.iconst 0, 1) by decide +kernel)
set_option maxRecDepth 100000 in
theorem r_205_58 : ∀ (d : Nat) (ls : Lc) (v : Int32) (M : Mem) (Q : Outcome → Mem → Prop), Wp d 205 58 ls [.int v] M Q = Q (.returned (some (.int v))) M := fun d ls v M Q => w_ireturn (show ins 205 58 = some (.ireturn, 1) by decide +kernel) (by decide +kernel)
set_option maxRecDepth 100000 in
theorem r_205_59 : ∀ (d : Nat) (l1 l2 : Option Value) (v : Nat) (st : List Value) (M : Mem) (Q : Outcome → Mem → Prop), Wp d 205 59 [some (.ref v), l1, l2] st M Q = Wp d 205 60 [some (.ref v), l1, l2] (.ref v :: st) M Q := fun d l1 l2 v st M Q => wA (show ins 205 59 = some (.aload_n 0, 1) by decide +kernel) rfl
set_option maxRecDepth 100000 in
theorem r_205_60 : ∀ (d : Nat) (ls : Lc) (a : Nat) (st : List Value) (M : Mem) (Q : Outcome → Mem → Prop), (smallR st = true) → Wp d 205 60 ls (.ref a :: st) M Q = (kO M a = 8 ∧ Ca d 205 60 ls 166 (.ref a :: []) st M Q) := fun d ls a st M Q h0 => w_virt1 (as := []) (show ins 205 60 = some (.invokevirtual 164, 3) by decide +kernel) (show mRes (mC 205) 164 = some (3, 8, [(8, 166)]) by decide +kernel) (by decide +kernel) rfl (by decide +kernel) (by decide +kernel) h0
set_option maxRecDepth 100000 in
theorem r_205_63 : ∀ (d : Nat) (l1 l2 : Option Value) (v : Nat) (st : List Value) (M : Mem) (Q : Outcome → Mem → Prop), Wp d 205 63 [some (.ref v), l1, l2] st M Q = Wp d 205 64 [some (.ref v), l1, l2] (.ref v :: st) M Q := fun d l1 l2 v st M Q => wA (show ins 205 63 = some (.aload_n 0, 1) by decide +kernel) rfl
set_option maxRecDepth 100000 in
theorem r_205_64 : ∀ (d : Nat) (l0 l2 : Option Value) (v : Int32) (st : List Value) (M : Mem) (Q : Outcome → Mem → Prop), Wp d 205 64 [l0, some (.int v), l2] st M Q = Wp d 205 65 [l0, some (.int v), l2] (.int v :: st) M Q := fun d l0 l2 v st M Q => wA (show ins 205 64 = some (.iload_n 1, 1) by decide +kernel) rfl
set_option maxRecDepth 100000 in
theorem r_205_65 : ∀ (d : Nat) (ls : Lc) (v0 : Value) (a : Nat) (st : List Value) (M : Mem) (Q : Outcome → Mem → Prop), (smallR st = true) → Wp d 205 65 ls (v0 :: .ref a :: st) M Q = (kO M a = 8 ∧ Ca d 205 65 ls 199 (.ref a :: [v0]) st M Q) := fun d ls v0 a st M Q h0 => w_virt1 (as := [v0]) (show ins 205 65 = some (.invokevirtual 187, 3) by decide +kernel) (show mRes (mC 205) 187 = some (3, 8, [(8, 199)]) by decide +kernel) (by decide +kernel) rfl (by decide +kernel) (by decide +kernel) h0
set_option maxRecDepth 100000 in
theorem r_205_68 : ∀ (d : Nat) (l1 l2 : Option Value) (v : Nat) (st : List Value) (M : Mem) (Q : Outcome → Mem → Prop), Wp d 205 68 [some (.ref v), l1, l2] st M Q = Wp d 205 69 [some (.ref v), l1, l2] (.ref v :: st) M Q := fun d l1 l2 v st M Q => wA (show ins 205 68 = some (.aload_n 0, 1) by decide +kernel) rfl
set_option maxRecDepth 100000 in
theorem r_205_69 : ∀ (d : Nat) (l0 l2 : Option Value) (v : Int32) (st : List Value) (M : Mem) (Q : Outcome → Mem → Prop), Wp d 205 69 [l0, some (.int v), l2] st M Q = Wp d 205 70 [l0, some (.int v), l2] (.int v :: st) M Q := fun d l0 l2 v st M Q => wA (show ins 205 69 = some (.iload_n 1, 1) by decide +kernel) rfl
set_option maxRecDepth 100000 in
theorem r_205_70 : ∀ (d : Nat) (l0 l1 : Option Value) (v : Int32) (st : List Value) (M : Mem) (Q : Outcome → Mem → Prop), Wp d 205 70 [l0, l1, some (.int v)] st M Q = Wp d 205 71 [l0, l1, some (.int v)] (.int v :: st) M Q := fun d l0 l1 v st M Q => wA (show ins 205 70 = some (.iload_n 2, 1) by decide +kernel) rfl
set_option maxRecDepth 100000 in
theorem r_205_71 : ∀ (d : Nat) (ls : Lc) (v0 v1 : Value) (a : Nat) (st : List Value) (M : Mem) (Q : Outcome → Mem → Prop), (smallR st = true) → Wp d 205 71 ls (v1 :: v0 :: .ref a :: st) M Q = (kO M a = 8 ∧ Ca d 205 71 ls 202 (.ref a :: [v0, v1]) st M Q) := fun d ls v0 v1 a st M Q h0 => w_virt1 (as := [v0, v1]) (show ins 205 71 = some (.invokevirtual 180, 3) by decide +kernel) (show mRes (mC 205) 180 = some (3, 8, [(8, 202)]) by decide +kernel) (by decide +kernel) rfl (by decide +kernel) (by decide +kernel) h0
set_option maxRecDepth 100000 in
theorem r_205_74 : ∀ (d : Nat) (l1 l2 : Option Value) (v : Nat) (st : List Value) (M : Mem) (Q : Outcome → Mem → Prop), Wp d 205 74 [some (.ref v), l1, l2] st M Q = Wp d 205 75 [some (.ref v), l1, l2] (.ref v :: st) M Q := fun d l1 l2 v st M Q => wA (show ins 205 74 = some (.aload_n 0, 1) by decide +kernel) rfl
set_option maxRecDepth 100000 in
theorem r_205_75 : ∀ (d : Nat) (ls : Lc) (st : List Value) (M : Mem) (Q : Outcome → Mem → Prop), Wp d 205 75 ls st M Q = Wp d 205 76 ls (.int (I 4) :: st) M Q := fun d ls st M Q => w_iconst (show ins 205 75 = some (.iconst 4, 1) by decide +kernel)
set_option maxRecDepth 100000 in
theorem r_205_76 : ∀ (d : Nat) (ls : Lc) (v0 : Value) (a : Nat) (st : List Value) (M : Mem) (Q : Outcome → Mem → Prop), (smallR st = true) → Wp d 205 76 ls (v0 :: .ref a :: st) M Q = (kO M a = 8 ∧ Ca d 205 76 ls 183 (.ref a :: [v0]) st M Q) := fun d ls v0 a st M Q h0 => w_virt1 (as := [v0]) (show ins 205 76 = some (.invokevirtual 167, 3) by decide +kernel) (show mRes (mC 205) 167 = some (3, 8, [(8, 183)]) by decide +kernel) (by decide +kernel) rfl (by decide +kernel) (by decide +kernel) h0
set_option maxRecDepth 100000 in
theorem r_205_79 : ∀ (d : Nat) (ls : Lc) (a : Int32) (st : List Value) (M : Mem) (Q : Outcome → Mem → Prop), Wp d 205 79 ls (.int a :: st) M Q = Br (a = I 0) d 205 95 82 ls st M Q := fun d ls a st M Q => w_if (show ins 205 79 = some (.ifCond .eq 16, 3) by decide +kernel) rfl rfl
set_option maxRecDepth 100000 in
theorem r_205_82 : ∀ (d : Nat) (l1 l2 : Option Value) (v : Nat) (st : List Value) (M : Mem) (Q : Outcome → Mem → Prop), Wp d 205 82 [some (.ref v), l1, l2] st M Q = Wp d 205 83 [some (.ref v), l1, l2] (.ref v :: st) M Q := fun d l1 l2 v st M Q => wA (show ins 205 82 = some (.aload_n 0, 1) by decide +kernel) rfl
set_option maxRecDepth 100000 in
theorem r_205_83 : ∀ (d : Nat) (ls : Lc) (a : Nat) (st : List Value) (M : Mem) (Q : Outcome → Mem → Prop), Wp d 205 83 ls (.ref a :: st) M Q = (fk 53 (kO M a) = true ∧ Wp d 205 86 ls (va_rf (mR M 53 a) :: st) M Q) := fun d ls a st M Q => w_getR (show ins 205 83 = some (.getfield 7, 3) by decide +kernel) (show fRes (mC 205) 7 = some (53, 8, false) by decide +kernel) (by decide +kernel)
set_option maxRecDepth 100000 in
theorem r_205_86 : ∀ (d : Nat) (ls : Lc) (st : List Value) (M : Mem) (Q : Outcome → Mem → Prop), Wp d 205 86 ls st M Q = Wp d 205 89 ls (.int (I 279) :: st) M Q := fun d ls st M Q => w_sipush (show ins 205 86 = some (.sipush 279, 3) by decide +kernel) (by decide)
set_option maxRecDepth 100000 in
theorem r_205_89 : ∀ (d : Nat) (l0 l2 : Option Value) (v : Int32) (st : List Value) (M : Mem) (Q : Outcome → Mem → Prop), Wp d 205 89 [l0, some (.int v), l2] st M Q = Wp d 205 90 [l0, some (.int v), l2] (.int v :: st) M Q := fun d l0 l2 v st M Q => wA (show ins 205 89 = some (.iload_n 1, 1) by decide +kernel) rfl
set_option maxRecDepth 100000 in
theorem r_205_90 : ∀ (d : Nat) (ls : Lc) (a b : Int) (st : List Value) (M : Mem) (Q : Outcome → Mem → Prop), Wp d 205 90 ls (.int (I b) :: .int (I a) :: st) M Q = Wp d 205 91 ls (.int (I (a + b)) :: st) M Q := fun d ls a b st M Q => w_iadd (show ins 205 90 = some (.iadd, 1) by decide +kernel)
set_option maxRecDepth 100000 in
theorem r_205_91 : ∀ (d : Nat) (ls : Lc) (a : Nat) (j : Int32) (st : List Value) (M : Mem) (Q : Outcome → Mem → Prop), Wp d 205 91 ls (.int j :: .ref a :: st) M Q = ((((kX M a).1 = 0 ∨ (kX M a).1 = 8) ∧ inB j (kX M a).2 = true) ∧ Wp d 205 92 ls (.int (mA M a j.toNatClampNeg) :: st) M Q) := fun d ls a j st M Q => w_iaload (show ins 205 91 = some (.iaload, 1) by decide +kernel)
set_option maxRecDepth 100000 in
theorem r_205_92 : ∀ (d : Nat) (ls : Lc) (st : List Value) (M : Mem) (Q : Outcome → Mem → Prop), Wp d 205 92 ls st M Q = Wp d 205 96 ls st M Q := fun d ls st M Q => w_goto (show ins 205 92 = some (.goto 4, 3) by decide +kernel) rfl
set_option maxRecDepth 100000 in
theorem r_205_95 : ∀ (d : Nat) (ls : Lc) (st : List Value) (M : Mem) (Q : Outcome → Mem → Prop), Wp d 205 95 ls st M Q = Wp d 205 96 ls (.int (I 0) :: st) M Q := fun d ls st M Q => w_iconst (show ins 205 95 = some (.iconst 0, 1) by decide +kernel)
set_option maxRecDepth 100000 in
theorem r_205_96 : ∀ (d : Nat) (ls : Lc) (v : Int32) (M : Mem) (Q : Outcome → Mem → Prop), Wp d 205 96 ls [.int v] M Q = Q (.returned (some (.int v))) M := fun d ls v M Q => w_ireturn (show ins 205 96 = some (.ireturn, 1) by decide +kernel) (by decide +kernel)
set_option maxRecDepth 100000 in
theorem W_205 : (type_of% r_205_0) ∧ (type_of% r_205_1) ∧ (type_of% r_205_2) ∧ (type_of% r_205_5) ∧ (type_of% r_205_8) ∧ (type_of% r_205_9) ∧ (type_of% r_205_12) ∧ (type_of% r_205_13) ∧ (type_of% r_205_14) ∧ (type_of% r_205_17) ∧ (type_of% r_205_20) ∧ (type_of% r_205_21) ∧ (type_of% r_205_24) ∧ (type_of% r_205_25) ∧ (type_of% r_205_26) ∧ (type_of% r_205_27) ∧ (type_of% r_205_30) ∧ (type_of% r_205_33) ∧ (type_of% r_205_34) ∧ (type_of% r_205_35) ∧ (type_of% r_205_36) ∧ (type_of% r_205_39) ∧ (type_of% r_205_42) ∧ (type_of% r_205_43) ∧ (type_of% r_205_46) ∧ (type_of% r_205_47) ∧ (type_of% r_205_50) ∧ (type_of% r_205_51) ∧ (type_of% r_205_54) ∧ (type_of% r_205_57) ∧ (type_of% r_205_58) ∧ (type_of% r_205_59) ∧ (type_of% r_205_60) ∧ (type_of% r_205_63) ∧ (type_of% r_205_64) ∧ (type_of% r_205_65) ∧ (type_of% r_205_68) ∧ (type_of% r_205_69) ∧ (type_of% r_205_70) ∧ (type_of% r_205_71) ∧ (type_of% r_205_74) ∧ (type_of% r_205_75) ∧ (type_of% r_205_76) ∧ (type_of% r_205_79) ∧ (type_of% r_205_82) ∧ (type_of% r_205_83) ∧ (type_of% r_205_86) ∧ (type_of% r_205_89) ∧ (type_of% r_205_90) ∧ (type_of% r_205_91) ∧ (type_of% r_205_92) ∧ (type_of% r_205_95) ∧ (type_of% r_205_96) := ⟨r_205_0, r_205_1, r_205_2, r_205_5, r_205_8, r_205_9, r_205_12, r_205_13, r_205_14, r_205_17, r_205_20, r_205_21, r_205_24, r_205_25, r_205_26, r_205_27, r_205_30, r_205_33, r_205_34, r_205_35, r_205_36, r_205_39, r_205_42, r_205_43, r_205_46, r_205_47, r_205_50, r_205_51, r_205_54, r_205_57, r_205_58, r_205_59, r_205_60, r_205_63, r_205_64, r_205_65, r_205_68, r_205_69, r_205_70, r_205_71, r_205_74, r_205_75, r_205_76, r_205_79, r_205_82, r_205_83, r_205_86, r_205_89, r_205_90, r_205_91, r_205_92, r_205_95, r_205_96⟩
set_option maxRecDepth 100000 in
theorem ca_205 {d y pc : Nat} {ls : Lc} {a : Nat} {z0 : Int32} {z1 : Int32} {r : List Value} {M : Mem} {Q : Outcome → Mem → Prop} (hd : 0 < d) (hw : Wp (d - 1) 205 0 [some (.ref a), some (.int z0), some (.int z1)] [] M (Cq d y pc ls r Q)) : Ca d y pc ls 205 [.ref a, .int z0, .int z1] r M Q := ca_of (mq_get (by decide)) (by rfl) hd hw
/-! 206 PackedTreeModel.read(II)I; loop heads [] -/
set_option maxRecDepth 100000 in
theorem r_206_0 : ∀ (d : Nat) (l1 l2 : Option Value) (v : Nat) (st : List Value) (M : Mem) (Q : Outcome → Mem → Prop), Wp d 206 0 [some (.ref v), l1, l2] st M Q = Wp d 206 1 [some (.ref v), l1, l2] (.ref v :: st) M Q := fun d l1 l2 v st M Q => wA (show ins 206 0 = some (.aload_n 0, 1) by decide +kernel) rfl
set_option maxRecDepth 100000 in
theorem r_206_1 : ∀ (d : Nat) (l1 l2 : Option Value) (v : Nat) (st : List Value) (M : Mem) (Q : Outcome → Mem → Prop), Wp d 206 1 [some (.ref v), l1, l2] st M Q = Wp d 206 2 [some (.ref v), l1, l2] (.ref v :: st) M Q := fun d l1 l2 v st M Q => wA (show ins 206 1 = some (.aload_n 0, 1) by decide +kernel) rfl
set_option maxRecDepth 100000 in
theorem r_206_2 : ∀ (d : Nat) (ls : Lc) (a : Nat) (st : List Value) (M : Mem) (Q : Outcome → Mem → Prop), Wp d 206 2 ls (.ref a :: st) M Q = (fk 52 (kO M a) = true ∧ Wp d 206 5 ls (.int (mF M 52 a) :: st) M Q) := fun d ls a st M Q => w_getI (show ins 206 2 = some (.getfield 149, 3) by decide +kernel) (show fRes (mC 206) 149 = some (52, 8, false) by decide +kernel) (by decide +kernel)
set_option maxRecDepth 100000 in
theorem r_206_5 : ∀ (d : Nat) (ls : Lc) (a : Int32) (st : List Value) (M : Mem) (Q : Outcome → Mem → Prop), Wp d 206 5 ls (.int a :: st) M Q = Br (a = I 0) d 206 12 8 ls st M Q := fun d ls a st M Q => w_if (show ins 206 5 = some (.ifCond .eq 7, 3) by decide +kernel) rfl rfl
set_option maxRecDepth 100000 in
theorem r_206_8 : ∀ (d : Nat) (ls : Lc) (st : List Value) (M : Mem) (Q : Outcome → Mem → Prop), Wp d 206 8 ls st M Q = Wp d 206 9 ls (.int (I 1) :: st) M Q := fun d ls st M Q => w_iconst (show ins 206 8 = some (.iconst 1, 1) by decide +kernel)
set_option maxRecDepth 100000 in
theorem r_206_9 : ∀ (d : Nat) (ls : Lc) (st : List Value) (M : Mem) (Q : Outcome → Mem → Prop), Wp d 206 9 ls st M Q = Wp d 206 45 ls st M Q := fun d ls st M Q => w_goto (show ins 206 9 = some (.goto 36, 3) by decide +kernel) rfl
set_option maxRecDepth 100000 in
theorem r_206_12 : ∀ (d : Nat) (l1 l2 : Option Value) (v : Nat) (st : List Value) (M : Mem) (Q : Outcome → Mem → Prop), Wp d 206 12 [some (.ref v), l1, l2] st M Q = Wp d 206 13 [some (.ref v), l1, l2] (.ref v :: st) M Q := fun d l1 l2 v st M Q => wA (show ins 206 12 = some (.aload_n 0, 1) by decide +kernel) rfl
set_option maxRecDepth 100000 in
theorem r_206_13 : ∀ (d : Nat) (l0 l2 : Option Value) (v : Int32) (st : List Value) (M : Mem) (Q : Outcome → Mem → Prop), Wp d 206 13 [l0, some (.int v), l2] st M Q = Wp d 206 14 [l0, some (.int v), l2] (.int v :: st) M Q := fun d l0 l2 v st M Q => wA (show ins 206 13 = some (.iload_n 1, 1) by decide +kernel) rfl
set_option maxRecDepth 100000 in
theorem r_206_14 : ∀ (d : Nat) (ls : Lc) (v0 : Value) (a : Nat) (st : List Value) (M : Mem) (Q : Outcome → Mem → Prop), (smallR st = true) → Wp d 206 14 ls (v0 :: .ref a :: st) M Q = (kO M a = 8 ∧ Ca d 206 14 ls 185 (.ref a :: [v0]) st M Q) := fun d ls v0 a st M Q h0 => w_virt1 (as := [v0]) (show ins 206 14 = some (.invokevirtual 170, 3) by decide +kernel) (show mRes (mC 206) 170 = some (3, 8, [(8, 185)]) by decide +kernel) (by decide +kernel) rfl (by decide +kernel) (by decide +kernel) h0
set_option maxRecDepth 100000 in
theorem r_206_17 : ∀ (d : Nat) (ls : Lc) (a : Int32) (st : List Value) (M : Mem) (Q : Outcome → Mem → Prop), Wp d 206 17 ls (.int a :: st) M Q = Br (a = I 0) d 206 40 20 ls st M Q := fun d ls a st M Q => w_if (show ins 206 17 = some (.ifCond .eq 23, 3) by decide +kernel) rfl rfl
set_option maxRecDepth 100000 in
theorem r_206_20 : ∀ (d : Nat) (l0 l1 : Option Value) (v : Int32) (st : List Value) (M : Mem) (Q : Outcome → Mem → Prop), Wp d 206 20 [l0, l1, some (.int v)] st M Q = Wp d 206 21 [l0, l1, some (.int v)] (.int v :: st) M Q := fun d l0 l1 v st M Q => wA (show ins 206 20 = some (.iload_n 2, 1) by decide +kernel) rfl
set_option maxRecDepth 100000 in
theorem r_206_21 : ∀ (d : Nat) (ls : Lc) (st : List Value) (M : Mem) (Q : Outcome → Mem → Prop), Wp d 206 21 ls st M Q = Wp d 206 22 ls (.int (I 0) :: st) M Q := fun d ls st M Q => w_iconst (show ins 206 21 = some (.iconst 0, 1) by decide +kernel)
set_option maxRecDepth 100000 in
theorem r_206_22 : ∀ (d : Nat) (l1 l2 : Option Value) (v : Nat) (st : List Value) (M : Mem) (Q : Outcome → Mem → Prop), Wp d 206 22 [some (.ref v), l1, l2] st M Q = Wp d 206 23 [some (.ref v), l1, l2] (.ref v :: st) M Q := fun d l1 l2 v st M Q => wA (show ins 206 22 = some (.aload_n 0, 1) by decide +kernel) rfl
set_option maxRecDepth 100000 in
theorem r_206_23 : ∀ (d : Nat) (ls : Lc) (a : Nat) (st : List Value) (M : Mem) (Q : Outcome → Mem → Prop), Wp d 206 23 ls (.ref a :: st) M Q = (fk 53 (kO M a) = true ∧ Wp d 206 26 ls (va_rf (mR M 53 a) :: st) M Q) := fun d ls a st M Q => w_getR (show ins 206 23 = some (.getfield 7, 3) by decide +kernel) (show fRes (mC 206) 7 = some (53, 8, false) by decide +kernel) (by decide +kernel)
set_option maxRecDepth 100000 in
theorem r_206_26 : ∀ (d : Nat) (ls : Lc) (st : List Value) (M : Mem) (Q : Outcome → Mem → Prop), Wp d 206 26 ls st M Q = Wp d 206 29 ls (.int (I 218) :: st) M Q := fun d ls st M Q => w_sipush (show ins 206 26 = some (.sipush 218, 3) by decide +kernel) (by decide)
set_option maxRecDepth 100000 in
theorem r_206_29 : ∀ (d : Nat) (l0 l2 : Option Value) (v : Int32) (st : List Value) (M : Mem) (Q : Outcome → Mem → Prop), Wp d 206 29 [l0, some (.int v), l2] st M Q = Wp d 206 30 [l0, some (.int v), l2] (.int v :: st) M Q := fun d l0 l2 v st M Q => wA (show ins 206 29 = some (.iload_n 1, 1) by decide +kernel) rfl
set_option maxRecDepth 100000 in
theorem r_206_30 : ∀ (d : Nat) (ls : Lc) (a b : Int) (st : List Value) (M : Mem) (Q : Outcome → Mem → Prop), Wp d 206 30 ls (.int (I b) :: .int (I a) :: st) M Q = Wp d 206 31 ls (.int (I (a + b)) :: st) M Q := fun d ls a b st M Q => w_iadd (show ins 206 30 = some (.iadd, 1) by decide +kernel)
set_option maxRecDepth 100000 in
theorem r_206_31 : ∀ (d : Nat) (ls : Lc) (a : Nat) (j : Int32) (st : List Value) (M : Mem) (Q : Outcome → Mem → Prop), Wp d 206 31 ls (.int j :: .ref a :: st) M Q = ((((kX M a).1 = 0 ∨ (kX M a).1 = 8) ∧ inB j (kX M a).2 = true) ∧ Wp d 206 32 ls (.int (mA M a j.toNatClampNeg) :: st) M Q) := fun d ls a j st M Q => w_iaload (show ins 206 31 = some (.iaload, 1) by decide +kernel)
set_option maxRecDepth 100000 in
theorem r_206_32 : ∀ (d : Nat) (ls : Lc) (st : List Value) (M : Mem) (Q : Outcome → Mem → Prop), Wp d 206 32 ls st M Q = Wp d 206 33 ls (.int (I 1) :: st) M Q := fun d ls st M Q => w_iconst (show ins 206 32 = some (.iconst 1, 1) by decide +kernel)
set_option maxRecDepth 100000 in
theorem r_206_33 : ∀ (d : Nat) (ls : Lc) (a b : Int) (st : List Value) (M : Mem) (Q : Outcome → Mem → Prop), Wp d 206 33 ls (.int (I b) :: .int (I a) :: st) M Q = Wp d 206 34 ls (.int (I (a - b)) :: st) M Q := fun d ls a b st M Q => w_isub (show ins 206 33 = some (.isub, 1) by decide +kernel)
set_option maxRecDepth 100000 in
theorem r_206_34 : ∀ (d : Nat) (ls : Lc) (v0 v1 v2 : Value)  (st : List Value) (M : Mem) (Q : Outcome → Mem → Prop), (smallR st = true) → Wp d 206 34 ls (v2 :: v1 :: v0 :: st) M Q = Ca d 206 34 ls 159 [v0, v1, v2] st M Q := fun d ls v0 v1 v2 st M Q h0 => w_stat (as := [v0, v1, v2]) (show ins 206 34 = some (.invokestatic 43, 3) by decide +kernel) (show mRes (mC 206) 43 = some (0, 8, [(0, 159)]) by decide +kernel) (by decide +kernel) (by decide +kernel) rfl h0
set_option maxRecDepth 100000 in
theorem r_206_37 : ∀ (d : Nat) (ls : Lc) (a : Int32) (st : List Value) (M : Mem) (Q : Outcome → Mem → Prop), Wp d 206 37 ls (.int a :: st) M Q = Br (¬ a = I 0) d 206 44 40 ls st M Q := fun d ls a st M Q => w_if (show ins 206 37 = some (.ifCond .ne 7, 3) by decide +kernel) rfl rfl
set_option maxRecDepth 100000 in
theorem r_206_40 : ∀ (d : Nat) (ls : Lc) (st : List Value) (M : Mem) (Q : Outcome → Mem → Prop), Wp d 206 40 ls st M Q = Wp d 206 41 ls (.int (I 2) :: st) M Q := fun d ls st M Q => w_iconst (show ins 206 40 = some (.iconst 2, 1) by decide +kernel)
set_option maxRecDepth 100000 in
theorem r_206_41 : ∀ (d : Nat) (ls : Lc) (st : List Value) (M : Mem) (Q : Outcome → Mem → Prop), Wp d 206 41 ls st M Q = Wp d 206 45 ls st M Q := fun d ls st M Q => w_goto (show ins 206 41 = some (.goto 4, 3) by decide +kernel) rfl
set_option maxRecDepth 100000 in
theorem r_206_44 : ∀ (d : Nat) (ls : Lc) (st : List Value) (M : Mem) (Q : Outcome → Mem → Prop), Wp d 206 44 ls st M Q = Wp d 206 45 ls (.int (I 0) :: st) M Q := fun d ls st M Q => w_iconst (show ins 206 44 = some (.iconst 0, 1) by decide +kernel)
set_option maxRecDepth 100000 in
theorem r_206_45 : ∀ (d : Nat) (ls : Lc) (a : Nat) (v : Int32) (st : List Value) (M : Mem) (Q : Outcome → Mem → Prop), Wp d 206 45 ls (.int v :: .ref a :: st) M Q = (fk 54 (kO M a) = true ∧ Wp d 206 48 ls st (sF M 54 a v) Q) := fun d ls a v st M Q => w_putI (show ins 206 45 = some (.putfield 40, 3) by decide +kernel) (show fRes (mC 206) 40 = some (54, 8, false) by decide +kernel) (by decide +kernel) (by decide +kernel)
set_option maxRecDepth 100000 in
theorem r_206_48 : ∀ (d : Nat) (l1 l2 : Option Value) (v : Nat) (st : List Value) (M : Mem) (Q : Outcome → Mem → Prop), Wp d 206 48 [some (.ref v), l1, l2] st M Q = Wp d 206 49 [some (.ref v), l1, l2] (.ref v :: st) M Q := fun d l1 l2 v st M Q => wA (show ins 206 48 = some (.aload_n 0, 1) by decide +kernel) rfl
set_option maxRecDepth 100000 in
theorem r_206_49 : ∀ (d : Nat) (ls : Lc) (a : Nat) (st : List Value) (M : Mem) (Q : Outcome → Mem → Prop), Wp d 206 49 ls (.ref a :: st) M Q = (fk 54 (kO M a) = true ∧ Wp d 206 52 ls (.int (mF M 54 a) :: st) M Q) := fun d ls a st M Q => w_getI (show ins 206 49 = some (.getfield 40, 3) by decide +kernel) (show fRes (mC 206) 40 = some (54, 8, false) by decide +kernel) (by decide +kernel)
set_option maxRecDepth 100000 in
theorem r_206_52 : ∀ (d : Nat) (ls : Lc) (a : Int32) (st : List Value) (M : Mem) (Q : Outcome → Mem → Prop), Wp d 206 52 ls (.int a :: st) M Q = Br (a ≤ I 0) d 206 59 55 ls st M Q := fun d ls a st M Q => w_if (show ins 206 52 = some (.ifCond .le 7, 3) by decide +kernel) rfl rfl
set_option maxRecDepth 100000 in
theorem r_206_55 : ∀ (d : Nat) (ls : Lc) (st : List Value) (M : Mem) (Q : Outcome → Mem → Prop), Wp d 206 55 ls st M Q = Wp d 206 56 ls (.int (I 0) :: st) M Q := fun d ls st M Q => w_iconst (show ins 206 55 = some (.iconst 0, 1) by decide +kernel)
set_option maxRecDepth 100000 in
theorem r_206_56 : ∀ (d : Nat) (ls : Lc) (st : List Value) (M : Mem) (Q : Outcome → Mem → Prop), Wp d 206 56 ls st M Q = Wp d 206 65 ls st M Q := fun d ls st M Q => w_goto (show ins 206 56 = some (.goto 9, 3) by decide +kernel) rfl
set_option maxRecDepth 100000 in
theorem r_206_59 : ∀ (d : Nat) (l1 l2 : Option Value) (v : Nat) (st : List Value) (M : Mem) (Q : Outcome → Mem → Prop), Wp d 206 59 [some (.ref v), l1, l2] st M Q = Wp d 206 60 [some (.ref v), l1, l2] (.ref v :: st) M Q := fun d l1 l2 v st M Q => wA (show ins 206 59 = some (.aload_n 0, 1) by decide +kernel) rfl
set_option maxRecDepth 100000 in
theorem r_206_60 : ∀ (d : Nat) (l0 l2 : Option Value) (v : Int32) (st : List Value) (M : Mem) (Q : Outcome → Mem → Prop), Wp d 206 60 [l0, some (.int v), l2] st M Q = Wp d 206 61 [l0, some (.int v), l2] (.int v :: st) M Q := fun d l0 l2 v st M Q => wA (show ins 206 60 = some (.iload_n 1, 1) by decide +kernel) rfl
set_option maxRecDepth 100000 in
theorem r_206_61 : ∀ (d : Nat) (l0 l1 : Option Value) (v : Int32) (st : List Value) (M : Mem) (Q : Outcome → Mem → Prop), Wp d 206 61 [l0, l1, some (.int v)] st M Q = Wp d 206 62 [l0, l1, some (.int v)] (.int v :: st) M Q := fun d l0 l1 v st M Q => wA (show ins 206 61 = some (.iload_n 2, 1) by decide +kernel) rfl
set_option maxRecDepth 100000 in
theorem r_206_62 : ∀ (d : Nat) (ls : Lc) (v0 v1 : Value) (a : Nat) (st : List Value) (M : Mem) (Q : Outcome → Mem → Prop), (smallR st = true) → Wp d 206 62 ls (v1 :: v0 :: .ref a :: st) M Q = (kO M a = 8 ∧ Ca d 206 62 ls 200 (.ref a :: [v0, v1]) st M Q) := fun d ls v0 v1 a st M Q h0 => w_virt1 (as := [v0, v1]) (show ins 206 62 = some (.invokevirtual 140, 3) by decide +kernel) (show mRes (mC 206) 140 = some (3, 8, [(8, 200)]) by decide +kernel) (by decide +kernel) rfl (by decide +kernel) (by decide +kernel) h0
set_option maxRecDepth 100000 in
theorem r_206_65 : ∀ (d : Nat) (ls : Lc) (v : Int32) (M : Mem) (Q : Outcome → Mem → Prop), Wp d 206 65 ls [.int v] M Q = Q (.returned (some (.int v))) M := fun d ls v M Q => w_ireturn (show ins 206 65 = some (.ireturn, 1) by decide +kernel) (by decide +kernel)
set_option maxRecDepth 100000 in
theorem W_206 : (type_of% r_206_0) ∧ (type_of% r_206_1) ∧ (type_of% r_206_2) ∧ (type_of% r_206_5) ∧ (type_of% r_206_8) ∧ (type_of% r_206_9) ∧ (type_of% r_206_12) ∧ (type_of% r_206_13) ∧ (type_of% r_206_14) ∧ (type_of% r_206_17) ∧ (type_of% r_206_20) ∧ (type_of% r_206_21) ∧ (type_of% r_206_22) ∧ (type_of% r_206_23) ∧ (type_of% r_206_26) ∧ (type_of% r_206_29) ∧ (type_of% r_206_30) ∧ (type_of% r_206_31) ∧ (type_of% r_206_32) ∧ (type_of% r_206_33) ∧ (type_of% r_206_34) ∧ (type_of% r_206_37) ∧ (type_of% r_206_40) ∧ (type_of% r_206_41) ∧ (type_of% r_206_44) ∧ (type_of% r_206_45) ∧ (type_of% r_206_48) ∧ (type_of% r_206_49) ∧ (type_of% r_206_52) ∧ (type_of% r_206_55) ∧ (type_of% r_206_56) ∧ (type_of% r_206_59) ∧ (type_of% r_206_60) ∧ (type_of% r_206_61) ∧ (type_of% r_206_62) ∧ (type_of% r_206_65) := ⟨r_206_0, r_206_1, r_206_2, r_206_5, r_206_8, r_206_9, r_206_12, r_206_13, r_206_14, r_206_17, r_206_20, r_206_21, r_206_22, r_206_23, r_206_26, r_206_29, r_206_30, r_206_31, r_206_32, r_206_33, r_206_34, r_206_37, r_206_40, r_206_41, r_206_44, r_206_45, r_206_48, r_206_49, r_206_52, r_206_55, r_206_56, r_206_59, r_206_60, r_206_61, r_206_62, r_206_65⟩
set_option maxRecDepth 100000 in
theorem ca_206 {d y pc : Nat} {ls : Lc} {a : Nat} {z0 : Int32} {z1 : Int32} {r : List Value} {M : Mem} {Q : Outcome → Mem → Prop} (hd : 0 < d) (hw : Wp (d - 1) 206 0 [some (.ref a), some (.int z0), some (.int z1)] [] M (Cq d y pc ls r Q)) : Ca d y pc ls 206 [.ref a, .int z0, .int z1] r M Q := ca_of (mq_get (by decide)) (by rfl) hd hw
/-! 207 PackedTreeModel.look(II)I; loop heads [] -/
set_option maxRecDepth 100000 in
theorem r_207_0 : ∀ (d : Nat) (l1 l2 : Option Value) (v : Nat) (st : List Value) (M : Mem) (Q : Outcome → Mem → Prop), Wp d 207 0 [some (.ref v), l1, l2] st M Q = Wp d 207 1 [some (.ref v), l1, l2] (.ref v :: st) M Q := fun d l1 l2 v st M Q => wA (show ins 207 0 = some (.aload_n 0, 1) by decide +kernel) rfl
set_option maxRecDepth 100000 in
theorem r_207_1 : ∀ (d : Nat) (l1 l2 : Option Value) (v : Nat) (st : List Value) (M : Mem) (Q : Outcome → Mem → Prop), Wp d 207 1 [some (.ref v), l1, l2] st M Q = Wp d 207 2 [some (.ref v), l1, l2] (.ref v :: st) M Q := fun d l1 l2 v st M Q => wA (show ins 207 1 = some (.aload_n 0, 1) by decide +kernel) rfl
set_option maxRecDepth 100000 in
theorem r_207_2 : ∀ (d : Nat) (ls : Lc) (a : Nat) (st : List Value) (M : Mem) (Q : Outcome → Mem → Prop), Wp d 207 2 ls (.ref a :: st) M Q = (fk 52 (kO M a) = true ∧ Wp d 207 5 ls (.int (mF M 52 a) :: st) M Q) := fun d ls a st M Q => w_getI (show ins 207 2 = some (.getfield 149, 3) by decide +kernel) (show fRes (mC 207) 149 = some (52, 8, false) by decide +kernel) (by decide +kernel)
set_option maxRecDepth 100000 in
theorem r_207_5 : ∀ (d : Nat) (ls : Lc) (a : Int32) (st : List Value) (M : Mem) (Q : Outcome → Mem → Prop), Wp d 207 5 ls (.int a :: st) M Q = Br (a = I 0) d 207 12 8 ls st M Q := fun d ls a st M Q => w_if (show ins 207 5 = some (.ifCond .eq 7, 3) by decide +kernel) rfl rfl
set_option maxRecDepth 100000 in
theorem r_207_8 : ∀ (d : Nat) (ls : Lc) (st : List Value) (M : Mem) (Q : Outcome → Mem → Prop), Wp d 207 8 ls st M Q = Wp d 207 9 ls (.int (I 1) :: st) M Q := fun d ls st M Q => w_iconst (show ins 207 8 = some (.iconst 1, 1) by decide +kernel)
set_option maxRecDepth 100000 in
theorem r_207_9 : ∀ (d : Nat) (ls : Lc) (st : List Value) (M : Mem) (Q : Outcome → Mem → Prop), Wp d 207 9 ls st M Q = Wp d 207 25 ls st M Q := fun d ls st M Q => w_goto (show ins 207 9 = some (.goto 16, 3) by decide +kernel) rfl
set_option maxRecDepth 100000 in
theorem r_207_12 : ∀ (d : Nat) (l1 l2 : Option Value) (v : Nat) (st : List Value) (M : Mem) (Q : Outcome → Mem → Prop), Wp d 207 12 [some (.ref v), l1, l2] st M Q = Wp d 207 13 [some (.ref v), l1, l2] (.ref v :: st) M Q := fun d l1 l2 v st M Q => wA (show ins 207 12 = some (.aload_n 0, 1) by decide +kernel) rfl
set_option maxRecDepth 100000 in
theorem r_207_13 : ∀ (d : Nat) (l0 l2 : Option Value) (v : Int32) (st : List Value) (M : Mem) (Q : Outcome → Mem → Prop), Wp d 207 13 [l0, some (.int v), l2] st M Q = Wp d 207 14 [l0, some (.int v), l2] (.int v :: st) M Q := fun d l0 l2 v st M Q => wA (show ins 207 13 = some (.iload_n 1, 1) by decide +kernel) rfl
set_option maxRecDepth 100000 in
theorem r_207_14 : ∀ (d : Nat) (ls : Lc) (v0 : Value) (a : Nat) (st : List Value) (M : Mem) (Q : Outcome → Mem → Prop), (smallR st = true) → Wp d 207 14 ls (v0 :: .ref a :: st) M Q = (kO M a = 8 ∧ Ca d 207 14 ls 157 (.ref a :: [v0]) st M Q) := fun d ls v0 a st M Q h0 => w_virt1 (as := [v0]) (show ins 207 14 = some (.invokevirtual 152, 3) by decide +kernel) (show mRes (mC 207) 152 = some (3, 8, [(8, 157)]) by decide +kernel) (by decide +kernel) rfl (by decide +kernel) (by decide +kernel) h0
set_option maxRecDepth 100000 in
theorem r_207_17 : ∀ (d : Nat) (ls : Lc) (a : Int32) (st : List Value) (M : Mem) (Q : Outcome → Mem → Prop), Wp d 207 17 ls (.int a :: st) M Q = Br (¬ a = I 0) d 207 24 20 ls st M Q := fun d ls a st M Q => w_if (show ins 207 17 = some (.ifCond .ne 7, 3) by decide +kernel) rfl rfl
set_option maxRecDepth 100000 in
theorem r_207_20 : ∀ (d : Nat) (ls : Lc) (st : List Value) (M : Mem) (Q : Outcome → Mem → Prop), Wp d 207 20 ls st M Q = Wp d 207 21 ls (.int (I 2) :: st) M Q := fun d ls st M Q => w_iconst (show ins 207 20 = some (.iconst 2, 1) by decide +kernel)
set_option maxRecDepth 100000 in
theorem r_207_21 : ∀ (d : Nat) (ls : Lc) (st : List Value) (M : Mem) (Q : Outcome → Mem → Prop), Wp d 207 21 ls st M Q = Wp d 207 25 ls st M Q := fun d ls st M Q => w_goto (show ins 207 21 = some (.goto 4, 3) by decide +kernel) rfl
set_option maxRecDepth 100000 in
theorem r_207_24 : ∀ (d : Nat) (ls : Lc) (st : List Value) (M : Mem) (Q : Outcome → Mem → Prop), Wp d 207 24 ls st M Q = Wp d 207 25 ls (.int (I 0) :: st) M Q := fun d ls st M Q => w_iconst (show ins 207 24 = some (.iconst 0, 1) by decide +kernel)
set_option maxRecDepth 100000 in
theorem r_207_25 : ∀ (d : Nat) (ls : Lc) (a : Nat) (v : Int32) (st : List Value) (M : Mem) (Q : Outcome → Mem → Prop), Wp d 207 25 ls (.int v :: .ref a :: st) M Q = (fk 54 (kO M a) = true ∧ Wp d 207 28 ls st (sF M 54 a v) Q) := fun d ls a v st M Q => w_putI (show ins 207 25 = some (.putfield 40, 3) by decide +kernel) (show fRes (mC 207) 40 = some (54, 8, false) by decide +kernel) (by decide +kernel) (by decide +kernel)
set_option maxRecDepth 100000 in
theorem r_207_28 : ∀ (d : Nat) (l1 l2 : Option Value) (v : Nat) (st : List Value) (M : Mem) (Q : Outcome → Mem → Prop), Wp d 207 28 [some (.ref v), l1, l2] st M Q = Wp d 207 29 [some (.ref v), l1, l2] (.ref v :: st) M Q := fun d l1 l2 v st M Q => wA (show ins 207 28 = some (.aload_n 0, 1) by decide +kernel) rfl
set_option maxRecDepth 100000 in
theorem r_207_29 : ∀ (d : Nat) (ls : Lc) (a : Nat) (st : List Value) (M : Mem) (Q : Outcome → Mem → Prop), Wp d 207 29 ls (.ref a :: st) M Q = (fk 54 (kO M a) = true ∧ Wp d 207 32 ls (.int (mF M 54 a) :: st) M Q) := fun d ls a st M Q => w_getI (show ins 207 29 = some (.getfield 40, 3) by decide +kernel) (show fRes (mC 207) 40 = some (54, 8, false) by decide +kernel) (by decide +kernel)
set_option maxRecDepth 100000 in
theorem r_207_32 : ∀ (d : Nat) (ls : Lc) (a : Int32) (st : List Value) (M : Mem) (Q : Outcome → Mem → Prop), Wp d 207 32 ls (.int a :: st) M Q = Br (a ≤ I 0) d 207 39 35 ls st M Q := fun d ls a st M Q => w_if (show ins 207 32 = some (.ifCond .le 7, 3) by decide +kernel) rfl rfl
set_option maxRecDepth 100000 in
theorem r_207_35 : ∀ (d : Nat) (ls : Lc) (st : List Value) (M : Mem) (Q : Outcome → Mem → Prop), Wp d 207 35 ls st M Q = Wp d 207 36 ls (.int (I 0) :: st) M Q := fun d ls st M Q => w_iconst (show ins 207 35 = some (.iconst 0, 1) by decide +kernel)
set_option maxRecDepth 100000 in
theorem r_207_36 : ∀ (d : Nat) (ls : Lc) (st : List Value) (M : Mem) (Q : Outcome → Mem → Prop), Wp d 207 36 ls st M Q = Wp d 207 57 ls st M Q := fun d ls st M Q => w_goto (show ins 207 36 = some (.goto 21, 3) by decide +kernel) rfl
set_option maxRecDepth 100000 in
theorem r_207_39 : ∀ (d : Nat) (l1 l2 : Option Value) (v : Nat) (st : List Value) (M : Mem) (Q : Outcome → Mem → Prop), Wp d 207 39 [some (.ref v), l1, l2] st M Q = Wp d 207 40 [some (.ref v), l1, l2] (.ref v :: st) M Q := fun d l1 l2 v st M Q => wA (show ins 207 39 = some (.aload_n 0, 1) by decide +kernel) rfl
set_option maxRecDepth 100000 in
theorem r_207_40 : ∀ (d : Nat) (l0 l1 : Option Value) (v : Int32) (st : List Value) (M : Mem) (Q : Outcome → Mem → Prop), Wp d 207 40 [l0, l1, some (.int v)] st M Q = Wp d 207 41 [l0, l1, some (.int v)] (.int v :: st) M Q := fun d l0 l1 v st M Q => wA (show ins 207 40 = some (.iload_n 2, 1) by decide +kernel) rfl
set_option maxRecDepth 100000 in
theorem r_207_41 : ∀ (d : Nat) (ls : Lc) (v0 : Value) (a : Nat) (st : List Value) (M : Mem) (Q : Outcome → Mem → Prop), (smallR st = true) → Wp d 207 41 ls (v0 :: .ref a :: st) M Q = (kO M a = 8 ∧ Ca d 207 41 ls 160 (.ref a :: [v0]) st M Q) := fun d ls v0 a st M Q h0 => w_virt1 (as := [v0]) (show ins 207 41 = some (.invokevirtual 155, 3) by decide +kernel) (show mRes (mC 207) 155 = some (3, 8, [(8, 160)]) by decide +kernel) (by decide +kernel) rfl (by decide +kernel) (by decide +kernel) h0
set_option maxRecDepth 100000 in
theorem r_207_44 : ∀ (d : Nat) (ls : Lc) (a : Int32) (st : List Value) (M : Mem) (Q : Outcome → Mem → Prop), Wp d 207 44 ls (.int a :: st) M Q = Br (a = I 0) d 207 56 47 ls st M Q := fun d ls a st M Q => w_if (show ins 207 44 = some (.ifCond .eq 12, 3) by decide +kernel) rfl rfl
set_option maxRecDepth 100000 in
theorem r_207_47 : ∀ (d : Nat) (l1 l2 : Option Value) (v : Nat) (st : List Value) (M : Mem) (Q : Outcome → Mem → Prop), Wp d 207 47 [some (.ref v), l1, l2] st M Q = Wp d 207 48 [some (.ref v), l1, l2] (.ref v :: st) M Q := fun d l1 l2 v st M Q => wA (show ins 207 47 = some (.aload_n 0, 1) by decide +kernel) rfl
set_option maxRecDepth 100000 in
theorem r_207_48 : ∀ (d : Nat) (l0 l2 : Option Value) (v : Int32) (st : List Value) (M : Mem) (Q : Outcome → Mem → Prop), Wp d 207 48 [l0, some (.int v), l2] st M Q = Wp d 207 49 [l0, some (.int v), l2] (.int v :: st) M Q := fun d l0 l2 v st M Q => wA (show ins 207 48 = some (.iload_n 1, 1) by decide +kernel) rfl
set_option maxRecDepth 100000 in
theorem r_207_49 : ∀ (d : Nat) (l0 l1 : Option Value) (v : Int32) (st : List Value) (M : Mem) (Q : Outcome → Mem → Prop), Wp d 207 49 [l0, l1, some (.int v)] st M Q = Wp d 207 50 [l0, l1, some (.int v)] (.int v :: st) M Q := fun d l0 l1 v st M Q => wA (show ins 207 49 = some (.iload_n 2, 1) by decide +kernel) rfl
set_option maxRecDepth 100000 in
theorem r_207_50 : ∀ (d : Nat) (ls : Lc) (v0 v1 : Value) (a : Nat) (st : List Value) (M : Mem) (Q : Outcome → Mem → Prop), (smallR st = true) → Wp d 207 50 ls (v1 :: v0 :: .ref a :: st) M Q = (kO M a = 8 ∧ Ca d 207 50 ls 161 (.ref a :: [v0, v1]) st M Q) := fun d ls v0 v1 a st M Q h0 => w_virt1 (as := [v0, v1]) (show ins 207 50 = some (.invokevirtual 158, 3) by decide +kernel) (show mRes (mC 207) 158 = some (3, 8, [(8, 161)]) by decide +kernel) (by decide +kernel) rfl (by decide +kernel) (by decide +kernel) h0
set_option maxRecDepth 100000 in
theorem r_207_53 : ∀ (d : Nat) (ls : Lc) (st : List Value) (M : Mem) (Q : Outcome → Mem → Prop), Wp d 207 53 ls st M Q = Wp d 207 57 ls st M Q := fun d ls st M Q => w_goto (show ins 207 53 = some (.goto 4, 3) by decide +kernel) rfl
set_option maxRecDepth 100000 in
theorem r_207_56 : ∀ (d : Nat) (ls : Lc) (st : List Value) (M : Mem) (Q : Outcome → Mem → Prop), Wp d 207 56 ls st M Q = Wp d 207 57 ls (.int (I (-1)) :: st) M Q := fun d ls st M Q => w_iconst (show ins 207 56 = some (.iconst (-1), 1) by decide +kernel)
set_option maxRecDepth 100000 in
theorem r_207_57 : ∀ (d : Nat) (ls : Lc) (v : Int32) (M : Mem) (Q : Outcome → Mem → Prop), Wp d 207 57 ls [.int v] M Q = Q (.returned (some (.int v))) M := fun d ls v M Q => w_ireturn (show ins 207 57 = some (.ireturn, 1) by decide +kernel) (by decide +kernel)
set_option maxRecDepth 100000 in
theorem W_207 : (type_of% r_207_0) ∧ (type_of% r_207_1) ∧ (type_of% r_207_2) ∧ (type_of% r_207_5) ∧ (type_of% r_207_8) ∧ (type_of% r_207_9) ∧ (type_of% r_207_12) ∧ (type_of% r_207_13) ∧ (type_of% r_207_14) ∧ (type_of% r_207_17) ∧ (type_of% r_207_20) ∧ (type_of% r_207_21) ∧ (type_of% r_207_24) ∧ (type_of% r_207_25) ∧ (type_of% r_207_28) ∧ (type_of% r_207_29) ∧ (type_of% r_207_32) ∧ (type_of% r_207_35) ∧ (type_of% r_207_36) ∧ (type_of% r_207_39) ∧ (type_of% r_207_40) ∧ (type_of% r_207_41) ∧ (type_of% r_207_44) ∧ (type_of% r_207_47) ∧ (type_of% r_207_48) ∧ (type_of% r_207_49) ∧ (type_of% r_207_50) ∧ (type_of% r_207_53) ∧ (type_of% r_207_56) ∧ (type_of% r_207_57) := ⟨r_207_0, r_207_1, r_207_2, r_207_5, r_207_8, r_207_9, r_207_12, r_207_13, r_207_14, r_207_17, r_207_20, r_207_21, r_207_24, r_207_25, r_207_28, r_207_29, r_207_32, r_207_35, r_207_36, r_207_39, r_207_40, r_207_41, r_207_44, r_207_47, r_207_48, r_207_49, r_207_50, r_207_53, r_207_56, r_207_57⟩
set_option maxRecDepth 100000 in
theorem ca_207 {d y pc : Nat} {ls : Lc} {a : Nat} {z0 : Int32} {z1 : Int32} {r : List Value} {M : Mem} {Q : Outcome → Mem → Prop} (hd : 0 < d) (hw : Wp (d - 1) 207 0 [some (.ref a), some (.int z0), some (.int z1)] [] M (Cq d y pc ls r Q)) : Ca d y pc ls 207 [.ref a, .int z0, .int z1] r M Q := ca_of (mq_get (by decide)) (by rfl) hd hw
/-! 208 PackedTreeModel.name(II)I; loop heads [53, 89] -/
set_option maxRecDepth 100000 in
theorem r_208_0 : ∀ (d : Nat) (l1 l2 l3 l4 l5 l6 : Option Value) (v : Nat) (st : List Value) (M : Mem) (Q : Outcome → Mem → Prop), Wp d 208 0 [some (.ref v), l1, l2, l3, l4, l5, l6] st M Q = Wp d 208 1 [some (.ref v), l1, l2, l3, l4, l5, l6] (.ref v :: st) M Q := fun d l1 l2 l3 l4 l5 l6 v st M Q => wA (show ins 208 0 = some (.aload_n 0, 1) by decide +kernel) rfl
set_option maxRecDepth 100000 in
theorem r_208_1 : ∀ (d : Nat) (l1 l2 l3 l4 l5 l6 : Option Value) (v : Nat) (st : List Value) (M : Mem) (Q : Outcome → Mem → Prop), Wp d 208 1 [some (.ref v), l1, l2, l3, l4, l5, l6] st M Q = Wp d 208 2 [some (.ref v), l1, l2, l3, l4, l5, l6] (.ref v :: st) M Q := fun d l1 l2 l3 l4 l5 l6 v st M Q => wA (show ins 208 1 = some (.aload_n 0, 1) by decide +kernel) rfl
set_option maxRecDepth 100000 in
theorem r_208_2 : ∀ (d : Nat) (ls : Lc) (a : Nat) (st : List Value) (M : Mem) (Q : Outcome → Mem → Prop), Wp d 208 2 ls (.ref a :: st) M Q = (fk 52 (kO M a) = true ∧ Wp d 208 5 ls (.int (mF M 52 a) :: st) M Q) := fun d ls a st M Q => w_getI (show ins 208 2 = some (.getfield 149, 3) by decide +kernel) (show fRes (mC 208) 149 = some (52, 8, false) by decide +kernel) (by decide +kernel)
set_option maxRecDepth 100000 in
theorem r_208_5 : ∀ (d : Nat) (ls : Lc) (a : Int32) (st : List Value) (M : Mem) (Q : Outcome → Mem → Prop), Wp d 208 5 ls (.int a :: st) M Q = Br (a = I 0) d 208 12 8 ls st M Q := fun d ls a st M Q => w_if (show ins 208 5 = some (.ifCond .eq 7, 3) by decide +kernel) rfl rfl
set_option maxRecDepth 100000 in
theorem r_208_8 : ∀ (d : Nat) (ls : Lc) (st : List Value) (M : Mem) (Q : Outcome → Mem → Prop), Wp d 208 8 ls st M Q = Wp d 208 9 ls (.int (I 1) :: st) M Q := fun d ls st M Q => w_iconst (show ins 208 8 = some (.iconst 1, 1) by decide +kernel)
set_option maxRecDepth 100000 in
theorem r_208_9 : ∀ (d : Nat) (ls : Lc) (st : List Value) (M : Mem) (Q : Outcome → Mem → Prop), Wp d 208 9 ls st M Q = Wp d 208 45 ls st M Q := fun d ls st M Q => w_goto (show ins 208 9 = some (.goto 36, 3) by decide +kernel) rfl
set_option maxRecDepth 100000 in
theorem r_208_12 : ∀ (d : Nat) (l1 l2 l3 l4 l5 l6 : Option Value) (v : Nat) (st : List Value) (M : Mem) (Q : Outcome → Mem → Prop), Wp d 208 12 [some (.ref v), l1, l2, l3, l4, l5, l6] st M Q = Wp d 208 13 [some (.ref v), l1, l2, l3, l4, l5, l6] (.ref v :: st) M Q := fun d l1 l2 l3 l4 l5 l6 v st M Q => wA (show ins 208 12 = some (.aload_n 0, 1) by decide +kernel) rfl
set_option maxRecDepth 100000 in
theorem r_208_13 : ∀ (d : Nat) (l0 l2 l3 l4 l5 l6 : Option Value) (v : Int32) (st : List Value) (M : Mem) (Q : Outcome → Mem → Prop), Wp d 208 13 [l0, some (.int v), l2, l3, l4, l5, l6] st M Q = Wp d 208 14 [l0, some (.int v), l2, l3, l4, l5, l6] (.int v :: st) M Q := fun d l0 l2 l3 l4 l5 l6 v st M Q => wA (show ins 208 13 = some (.iload_n 1, 1) by decide +kernel) rfl
set_option maxRecDepth 100000 in
theorem r_208_14 : ∀ (d : Nat) (ls : Lc) (v0 : Value) (a : Nat) (st : List Value) (M : Mem) (Q : Outcome → Mem → Prop), (smallR st = true) → Wp d 208 14 ls (v0 :: .ref a :: st) M Q = (kO M a = 8 ∧ Ca d 208 14 ls 157 (.ref a :: [v0]) st M Q) := fun d ls v0 a st M Q h0 => w_virt1 (as := [v0]) (show ins 208 14 = some (.invokevirtual 152, 3) by decide +kernel) (show mRes (mC 208) 152 = some (3, 8, [(8, 157)]) by decide +kernel) (by decide +kernel) rfl (by decide +kernel) (by decide +kernel) h0
set_option maxRecDepth 100000 in
theorem r_208_17 : ∀ (d : Nat) (ls : Lc) (a : Int32) (st : List Value) (M : Mem) (Q : Outcome → Mem → Prop), Wp d 208 17 ls (.int a :: st) M Q = Br (a = I 0) d 208 40 20 ls st M Q := fun d ls a st M Q => w_if (show ins 208 17 = some (.ifCond .eq 23, 3) by decide +kernel) rfl rfl
set_option maxRecDepth 100000 in
theorem r_208_20 : ∀ (d : Nat) (l0 l1 l3 l4 l5 l6 : Option Value) (v : Int32) (st : List Value) (M : Mem) (Q : Outcome → Mem → Prop), Wp d 208 20 [l0, l1, some (.int v), l3, l4, l5, l6] st M Q = Wp d 208 21 [l0, l1, some (.int v), l3, l4, l5, l6] (.int v :: st) M Q := fun d l0 l1 l3 l4 l5 l6 v st M Q => wA (show ins 208 20 = some (.iload_n 2, 1) by decide +kernel) rfl
set_option maxRecDepth 100000 in
theorem r_208_21 : ∀ (d : Nat) (ls : Lc) (st : List Value) (M : Mem) (Q : Outcome → Mem → Prop), Wp d 208 21 ls st M Q = Wp d 208 22 ls (.int (I 0) :: st) M Q := fun d ls st M Q => w_iconst (show ins 208 21 = some (.iconst 0, 1) by decide +kernel)
set_option maxRecDepth 100000 in
theorem r_208_22 : ∀ (d : Nat) (l1 l2 l3 l4 l5 l6 : Option Value) (v : Nat) (st : List Value) (M : Mem) (Q : Outcome → Mem → Prop), Wp d 208 22 [some (.ref v), l1, l2, l3, l4, l5, l6] st M Q = Wp d 208 23 [some (.ref v), l1, l2, l3, l4, l5, l6] (.ref v :: st) M Q := fun d l1 l2 l3 l4 l5 l6 v st M Q => wA (show ins 208 22 = some (.aload_n 0, 1) by decide +kernel) rfl
set_option maxRecDepth 100000 in
theorem r_208_23 : ∀ (d : Nat) (ls : Lc) (a : Nat) (st : List Value) (M : Mem) (Q : Outcome → Mem → Prop), Wp d 208 23 ls (.ref a :: st) M Q = (fk 53 (kO M a) = true ∧ Wp d 208 26 ls (va_rf (mR M 53 a) :: st) M Q) := fun d ls a st M Q => w_getR (show ins 208 23 = some (.getfield 7, 3) by decide +kernel) (show fRes (mC 208) 7 = some (53, 8, false) by decide +kernel) (by decide +kernel)
set_option maxRecDepth 100000 in
theorem r_208_26 : ∀ (d : Nat) (ls : Lc) (st : List Value) (M : Mem) (Q : Outcome → Mem → Prop), Wp d 208 26 ls st M Q = Wp d 208 29 ls (.int (I 218) :: st) M Q := fun d ls st M Q => w_sipush (show ins 208 26 = some (.sipush 218, 3) by decide +kernel) (by decide)
set_option maxRecDepth 100000 in
theorem r_208_29 : ∀ (d : Nat) (l0 l2 l3 l4 l5 l6 : Option Value) (v : Int32) (st : List Value) (M : Mem) (Q : Outcome → Mem → Prop), Wp d 208 29 [l0, some (.int v), l2, l3, l4, l5, l6] st M Q = Wp d 208 30 [l0, some (.int v), l2, l3, l4, l5, l6] (.int v :: st) M Q := fun d l0 l2 l3 l4 l5 l6 v st M Q => wA (show ins 208 29 = some (.iload_n 1, 1) by decide +kernel) rfl
set_option maxRecDepth 100000 in
theorem r_208_30 : ∀ (d : Nat) (ls : Lc) (a b : Int) (st : List Value) (M : Mem) (Q : Outcome → Mem → Prop), Wp d 208 30 ls (.int (I b) :: .int (I a) :: st) M Q = Wp d 208 31 ls (.int (I (a + b)) :: st) M Q := fun d ls a b st M Q => w_iadd (show ins 208 30 = some (.iadd, 1) by decide +kernel)
set_option maxRecDepth 100000 in
theorem r_208_31 : ∀ (d : Nat) (ls : Lc) (a : Nat) (j : Int32) (st : List Value) (M : Mem) (Q : Outcome → Mem → Prop), Wp d 208 31 ls (.int j :: .ref a :: st) M Q = ((((kX M a).1 = 0 ∨ (kX M a).1 = 8) ∧ inB j (kX M a).2 = true) ∧ Wp d 208 32 ls (.int (mA M a j.toNatClampNeg) :: st) M Q) := fun d ls a j st M Q => w_iaload (show ins 208 31 = some (.iaload, 1) by decide +kernel)
set_option maxRecDepth 100000 in
theorem r_208_32 : ∀ (d : Nat) (ls : Lc) (st : List Value) (M : Mem) (Q : Outcome → Mem → Prop), Wp d 208 32 ls st M Q = Wp d 208 33 ls (.int (I 1) :: st) M Q := fun d ls st M Q => w_iconst (show ins 208 32 = some (.iconst 1, 1) by decide +kernel)
set_option maxRecDepth 100000 in
theorem r_208_33 : ∀ (d : Nat) (ls : Lc) (a b : Int) (st : List Value) (M : Mem) (Q : Outcome → Mem → Prop), Wp d 208 33 ls (.int (I b) :: .int (I a) :: st) M Q = Wp d 208 34 ls (.int (I (a - b)) :: st) M Q := fun d ls a b st M Q => w_isub (show ins 208 33 = some (.isub, 1) by decide +kernel)
set_option maxRecDepth 100000 in
theorem r_208_34 : ∀ (d : Nat) (ls : Lc) (v0 v1 v2 : Value)  (st : List Value) (M : Mem) (Q : Outcome → Mem → Prop), (smallR st = true) → Wp d 208 34 ls (v2 :: v1 :: v0 :: st) M Q = Ca d 208 34 ls 159 [v0, v1, v2] st M Q := fun d ls v0 v1 v2 st M Q h0 => w_stat (as := [v0, v1, v2]) (show ins 208 34 = some (.invokestatic 43, 3) by decide +kernel) (show mRes (mC 208) 43 = some (0, 8, [(0, 159)]) by decide +kernel) (by decide +kernel) (by decide +kernel) rfl h0
set_option maxRecDepth 100000 in
theorem r_208_37 : ∀ (d : Nat) (ls : Lc) (a : Int32) (st : List Value) (M : Mem) (Q : Outcome → Mem → Prop), Wp d 208 37 ls (.int a :: st) M Q = Br (¬ a = I 0) d 208 44 40 ls st M Q := fun d ls a st M Q => w_if (show ins 208 37 = some (.ifCond .ne 7, 3) by decide +kernel) rfl rfl
set_option maxRecDepth 100000 in
theorem r_208_40 : ∀ (d : Nat) (ls : Lc) (st : List Value) (M : Mem) (Q : Outcome → Mem → Prop), Wp d 208 40 ls st M Q = Wp d 208 41 ls (.int (I 2) :: st) M Q := fun d ls st M Q => w_iconst (show ins 208 40 = some (.iconst 2, 1) by decide +kernel)
set_option maxRecDepth 100000 in
theorem r_208_41 : ∀ (d : Nat) (ls : Lc) (st : List Value) (M : Mem) (Q : Outcome → Mem → Prop), Wp d 208 41 ls st M Q = Wp d 208 45 ls st M Q := fun d ls st M Q => w_goto (show ins 208 41 = some (.goto 4, 3) by decide +kernel) rfl
set_option maxRecDepth 100000 in
theorem r_208_44 : ∀ (d : Nat) (ls : Lc) (st : List Value) (M : Mem) (Q : Outcome → Mem → Prop), Wp d 208 44 ls st M Q = Wp d 208 45 ls (.int (I 0) :: st) M Q := fun d ls st M Q => w_iconst (show ins 208 44 = some (.iconst 0, 1) by decide +kernel)
set_option maxRecDepth 100000 in
theorem r_208_45 : ∀ (d : Nat) (ls : Lc) (a : Nat) (v : Int32) (st : List Value) (M : Mem) (Q : Outcome → Mem → Prop), Wp d 208 45 ls (.int v :: .ref a :: st) M Q = (fk 54 (kO M a) = true ∧ Wp d 208 48 ls st (sF M 54 a v) Q) := fun d ls a v st M Q => w_putI (show ins 208 45 = some (.putfield 40, 3) by decide +kernel) (show fRes (mC 208) 40 = some (54, 8, false) by decide +kernel) (by decide +kernel) (by decide +kernel)
set_option maxRecDepth 100000 in
theorem r_208_48 : ∀ (d : Nat) (l0 l1 l3 l4 l5 l6 : Option Value) (v : Int32) (st : List Value) (M : Mem) (Q : Outcome → Mem → Prop), Wp d 208 48 [l0, l1, some (.int v), l3, l4, l5, l6] st M Q = Wp d 208 49 [l0, l1, some (.int v), l3, l4, l5, l6] (.int v :: st) M Q := fun d l0 l1 l3 l4 l5 l6 v st M Q => wA (show ins 208 48 = some (.iload_n 2, 1) by decide +kernel) rfl
set_option maxRecDepth 100000 in
theorem r_208_49 : ∀ (d : Nat) (l0 l1 l2 l3 l4 l5 l6 : Option Value) (v : Int32) (st : List Value) (M : Mem) (Q : Outcome → Mem → Prop), (lo l2 = false) → Wp d 208 49 [l0, l1, l2, l3, l4, l5, l6] (.int v :: st) M Q = Wp d 208 50 [l0, l1, l2, some (.int v), l4, l5, l6] st M Q := fun d l0 l1 l2 l3 l4 l5 l6 v st M Q hl => w_istore_n (show ins 208 49 = some (.istore_n 3, 1) by decide +kernel) (st1_S rfl rfl hl)
set_option maxRecDepth 100000 in
theorem r_208_50 : ∀ (d : Nat) (ls : Lc) (st : List Value) (M : Mem) (Q : Outcome → Mem → Prop), Wp d 208 50 ls st M Q = Wp d 208 51 ls (.int (I 0) :: st) M Q := fun d ls st M Q => w_iconst (show ins 208 50 = some (.iconst 0, 1) by decide +kernel)
set_option maxRecDepth 100000 in
theorem r_208_51 : ∀ (d : Nat) (l0 l1 l2 l3 l4 l5 l6 : Option Value) (v : Int32) (st : List Value) (M : Mem) (Q : Outcome → Mem → Prop), (lo l3 = false) → Wp d 208 51 [l0, l1, l2, l3, l4, l5, l6] (.int v :: st) M Q = Wp d 208 53 [l0, l1, l2, l3, some (.int v), l5, l6] st M Q := fun d l0 l1 l2 l3 l4 l5 l6 v st M Q hl => w_istore (show ins 208 51 = some (.istore 4, 2) by decide +kernel) (st1_S rfl rfl hl)
set_option maxRecDepth 100000 in
theorem r_208_53 : ∀ (d : Nat) (l1 l2 l3 l4 l5 l6 : Option Value) (v : Nat) (st : List Value) (M : Mem) (Q : Outcome → Mem → Prop), Wp d 208 53 [some (.ref v), l1, l2, l3, l4, l5, l6] st M Q = Wp d 208 54 [some (.ref v), l1, l2, l3, l4, l5, l6] (.ref v :: st) M Q := fun d l1 l2 l3 l4 l5 l6 v st M Q => wA (show ins 208 53 = some (.aload_n 0, 1) by decide +kernel) rfl
set_option maxRecDepth 100000 in
theorem r_208_54 : ∀ (d : Nat) (ls : Lc) (a : Nat) (st : List Value) (M : Mem) (Q : Outcome → Mem → Prop), Wp d 208 54 ls (.ref a :: st) M Q = (fk 54 (kO M a) = true ∧ Wp d 208 57 ls (.int (mF M 54 a) :: st) M Q) := fun d ls a st M Q => w_getI (show ins 208 54 = some (.getfield 40, 3) by decide +kernel) (show fRes (mC 208) 40 = some (54, 8, false) by decide +kernel) (by decide +kernel)
set_option maxRecDepth 100000 in
theorem r_208_57 : ∀ (d : Nat) (ls : Lc) (a : Int32) (st : List Value) (M : Mem) (Q : Outcome → Mem → Prop), Wp d 208 57 ls (.int a :: st) M Q = Br (¬ a = I 0) d 208 184 60 ls st M Q := fun d ls a st M Q => w_if (show ins 208 57 = some (.ifCond .ne 127, 3) by decide +kernel) rfl rfl
set_option maxRecDepth 100000 in
theorem r_208_60 : ∀ (d : Nat) (l0 l1 l2 l3 l5 l6 : Option Value) (v : Int32) (st : List Value) (M : Mem) (Q : Outcome → Mem → Prop), Wp d 208 60 [l0, l1, l2, l3, some (.int v), l5, l6] st M Q = Wp d 208 62 [l0, l1, l2, l3, some (.int v), l5, l6] (.int v :: st) M Q := fun d l0 l1 l2 l3 l5 l6 v st M Q => wA (show ins 208 60 = some (.iload 4, 2) by decide +kernel) rfl
set_option maxRecDepth 100000 in
theorem r_208_62 : ∀ (d : Nat) (l1 l2 l3 l4 l5 l6 : Option Value) (v : Nat) (st : List Value) (M : Mem) (Q : Outcome → Mem → Prop), Wp d 208 62 [some (.ref v), l1, l2, l3, l4, l5, l6] st M Q = Wp d 208 63 [some (.ref v), l1, l2, l3, l4, l5, l6] (.ref v :: st) M Q := fun d l1 l2 l3 l4 l5 l6 v st M Q => wA (show ins 208 62 = some (.aload_n 0, 1) by decide +kernel) rfl
set_option maxRecDepth 100000 in
theorem r_208_63 : ∀ (d : Nat) (ls : Lc) (a : Nat) (st : List Value) (M : Mem) (Q : Outcome → Mem → Prop), Wp d 208 63 ls (.ref a :: st) M Q = (fk 53 (kO M a) = true ∧ Wp d 208 66 ls (va_rf (mR M 53 a) :: st) M Q) := fun d ls a st M Q => w_getR (show ins 208 63 = some (.getfield 7, 3) by decide +kernel) (show fRes (mC 208) 7 = some (53, 8, false) by decide +kernel) (by decide +kernel)
set_option maxRecDepth 100000 in
theorem r_208_66 : ∀ (d : Nat) (ls : Lc) (st : List Value) (M : Mem) (Q : Outcome → Mem → Prop), Wp d 208 66 ls st M Q = Wp d 208 69 ls (.int (I 13068) :: st) M Q := fun d ls st M Q => w_sipush (show ins 208 66 = some (.sipush 13068, 3) by decide +kernel) (by decide)
set_option maxRecDepth 100000 in
theorem r_208_69 : ∀ (d : Nat) (ls : Lc) (a : Nat) (j : Int32) (st : List Value) (M : Mem) (Q : Outcome → Mem → Prop), Wp d 208 69 ls (.int j :: .ref a :: st) M Q = ((((kX M a).1 = 0 ∨ (kX M a).1 = 8) ∧ inB j (kX M a).2 = true) ∧ Wp d 208 70 ls (.int (mA M a j.toNatClampNeg) :: st) M Q) := fun d ls a j st M Q => w_iaload (show ins 208 69 = some (.iaload, 1) by decide +kernel)
set_option maxRecDepth 100000 in
theorem r_208_70 : ∀ (d : Nat) (ls : Lc) (a b : Int32) (st : List Value) (M : Mem) (Q : Outcome → Mem → Prop), Wp d 208 70 ls (.int b :: .int a :: st) M Q = Br (b ≤ a) d 208 184 73 ls st M Q := fun d ls a b st M Q => w_icmp (show ins 208 70 = some (.if_icmp .ge 114, 3) by decide +kernel) rfl rfl
set_option maxRecDepth 100000 in
theorem r_208_73 : ∀ (d : Nat) (l1 l2 l3 l4 l5 l6 : Option Value) (v : Nat) (st : List Value) (M : Mem) (Q : Outcome → Mem → Prop), Wp d 208 73 [some (.ref v), l1, l2, l3, l4, l5, l6] st M Q = Wp d 208 74 [some (.ref v), l1, l2, l3, l4, l5, l6] (.ref v :: st) M Q := fun d l1 l2 l3 l4 l5 l6 v st M Q => wA (show ins 208 73 = some (.aload_n 0, 1) by decide +kernel) rfl
set_option maxRecDepth 100000 in
theorem r_208_74 : ∀ (d : Nat) (ls : Lc) (a : Nat) (st : List Value) (M : Mem) (Q : Outcome → Mem → Prop), Wp d 208 74 ls (.ref a :: st) M Q = (fk 53 (kO M a) = true ∧ Wp d 208 77 ls (va_rf (mR M 53 a) :: st) M Q) := fun d ls a st M Q => w_getR (show ins 208 74 = some (.getfield 7, 3) by decide +kernel) (show fRes (mC 208) 7 = some (53, 8, false) by decide +kernel) (by decide +kernel)
set_option maxRecDepth 100000 in
theorem r_208_77 : ∀ (d : Nat) (ls : Lc) (st : List Value) (M : Mem) (Q : Outcome → Mem → Prop), Wp d 208 77 ls st M Q = Wp d 208 80 ls (.int (I 12300) :: st) M Q := fun d ls st M Q => w_sipush (show ins 208 77 = some (.sipush 12300, 3) by decide +kernel) (by decide)
set_option maxRecDepth 100000 in
theorem r_208_80 : ∀ (d : Nat) (l0 l1 l2 l3 l5 l6 : Option Value) (v : Int32) (st : List Value) (M : Mem) (Q : Outcome → Mem → Prop), Wp d 208 80 [l0, l1, l2, l3, some (.int v), l5, l6] st M Q = Wp d 208 82 [l0, l1, l2, l3, some (.int v), l5, l6] (.int v :: st) M Q := fun d l0 l1 l2 l3 l5 l6 v st M Q => wA (show ins 208 80 = some (.iload 4, 2) by decide +kernel) rfl
set_option maxRecDepth 100000 in
theorem r_208_82 : ∀ (d : Nat) (ls : Lc) (a b : Int) (st : List Value) (M : Mem) (Q : Outcome → Mem → Prop), Wp d 208 82 ls (.int (I b) :: .int (I a) :: st) M Q = Wp d 208 83 ls (.int (I (a + b)) :: st) M Q := fun d ls a b st M Q => w_iadd (show ins 208 82 = some (.iadd, 1) by decide +kernel)
set_option maxRecDepth 100000 in
theorem r_208_83 : ∀ (d : Nat) (ls : Lc) (a : Nat) (j : Int32) (st : List Value) (M : Mem) (Q : Outcome → Mem → Prop), Wp d 208 83 ls (.int j :: .ref a :: st) M Q = ((((kX M a).1 = 0 ∨ (kX M a).1 = 8) ∧ inB j (kX M a).2 = true) ∧ Wp d 208 84 ls (.int (mA M a j.toNatClampNeg) :: st) M Q) := fun d ls a j st M Q => w_iaload (show ins 208 83 = some (.iaload, 1) by decide +kernel)
set_option maxRecDepth 100000 in
theorem r_208_84 : ∀ (d : Nat) (l0 l1 l2 l3 l4 l5 l6 : Option Value) (v : Int32) (st : List Value) (M : Mem) (Q : Outcome → Mem → Prop), (lo l4 = false) → Wp d 208 84 [l0, l1, l2, l3, l4, l5, l6] (.int v :: st) M Q = Wp d 208 86 [l0, l1, l2, l3, l4, some (.int v), l6] st M Q := fun d l0 l1 l2 l3 l4 l5 l6 v st M Q hl => w_istore (show ins 208 84 = some (.istore 5, 2) by decide +kernel) (st1_S rfl rfl hl)
set_option maxRecDepth 100000 in
theorem r_208_86 : ∀ (d : Nat) (ls : Lc) (st : List Value) (M : Mem) (Q : Outcome → Mem → Prop), Wp d 208 86 ls st M Q = Wp d 208 87 ls (.int (I 0) :: st) M Q := fun d ls st M Q => w_iconst (show ins 208 86 = some (.iconst 0, 1) by decide +kernel)
set_option maxRecDepth 100000 in
theorem r_208_87 : ∀ (d : Nat) (l0 l1 l2 l3 l4 l5 l6 : Option Value) (v : Int32) (st : List Value) (M : Mem) (Q : Outcome → Mem → Prop), (lo l5 = false) → Wp d 208 87 [l0, l1, l2, l3, l4, l5, l6] (.int v :: st) M Q = Wp d 208 89 [l0, l1, l2, l3, l4, l5, some (.int v)] st M Q := fun d l0 l1 l2 l3 l4 l5 l6 v st M Q hl => w_istore (show ins 208 87 = some (.istore 6, 2) by decide +kernel) (st1_S rfl rfl hl)
set_option maxRecDepth 100000 in
theorem r_208_89 : ∀ (d : Nat) (l0 l1 l2 l3 l4 l5 : Option Value) (v : Int32) (st : List Value) (M : Mem) (Q : Outcome → Mem → Prop), Wp d 208 89 [l0, l1, l2, l3, l4, l5, some (.int v)] st M Q = Wp d 208 91 [l0, l1, l2, l3, l4, l5, some (.int v)] (.int v :: st) M Q := fun d l0 l1 l2 l3 l4 l5 v st M Q => wA (show ins 208 89 = some (.iload 6, 2) by decide +kernel) rfl
set_option maxRecDepth 100000 in
theorem r_208_91 : ∀ (d : Nat) (l1 l2 l3 l4 l5 l6 : Option Value) (v : Nat) (st : List Value) (M : Mem) (Q : Outcome → Mem → Prop), Wp d 208 91 [some (.ref v), l1, l2, l3, l4, l5, l6] st M Q = Wp d 208 92 [some (.ref v), l1, l2, l3, l4, l5, l6] (.ref v :: st) M Q := fun d l1 l2 l3 l4 l5 l6 v st M Q => wA (show ins 208 91 = some (.aload_n 0, 1) by decide +kernel) rfl
set_option maxRecDepth 100000 in
theorem r_208_92 : ∀ (d : Nat) (ls : Lc) (a : Nat) (st : List Value) (M : Mem) (Q : Outcome → Mem → Prop), Wp d 208 92 ls (.ref a :: st) M Q = (fk 53 (kO M a) = true ∧ Wp d 208 95 ls (va_rf (mR M 53 a) :: st) M Q) := fun d ls a st M Q => w_getR (show ins 208 92 = some (.getfield 7, 3) by decide +kernel) (show fRes (mC 208) 7 = some (53, 8, false) by decide +kernel) (by decide +kernel)
set_option maxRecDepth 100000 in
theorem r_208_95 : ∀ (d : Nat) (ls : Lc) (st : List Value) (M : Mem) (Q : Outcome → Mem → Prop), Wp d 208 95 ls st M Q = Wp d 208 98 ls (.int (I 3852) :: st) M Q := fun d ls st M Q => w_sipush (show ins 208 95 = some (.sipush 3852, 3) by decide +kernel) (by decide)
set_option maxRecDepth 100000 in
theorem r_208_98 : ∀ (d : Nat) (l0 l1 l2 l3 l4 l6 : Option Value) (v : Int32) (st : List Value) (M : Mem) (Q : Outcome → Mem → Prop), Wp d 208 98 [l0, l1, l2, l3, l4, some (.int v), l6] st M Q = Wp d 208 100 [l0, l1, l2, l3, l4, some (.int v), l6] (.int v :: st) M Q := fun d l0 l1 l2 l3 l4 l6 v st M Q => wA (show ins 208 98 = some (.iload 5, 2) by decide +kernel) rfl
set_option maxRecDepth 100000 in
theorem r_208_100 : ∀ (d : Nat) (ls : Lc) (a b : Int) (st : List Value) (M : Mem) (Q : Outcome → Mem → Prop), Wp d 208 100 ls (.int (I b) :: .int (I a) :: st) M Q = Wp d 208 101 ls (.int (I (a + b)) :: st) M Q := fun d ls a b st M Q => w_iadd (show ins 208 100 = some (.iadd, 1) by decide +kernel)
set_option maxRecDepth 100000 in
theorem r_208_101 : ∀ (d : Nat) (ls : Lc) (a : Nat) (j : Int32) (st : List Value) (M : Mem) (Q : Outcome → Mem → Prop), Wp d 208 101 ls (.int j :: .ref a :: st) M Q = ((((kX M a).1 = 0 ∨ (kX M a).1 = 8) ∧ inB j (kX M a).2 = true) ∧ Wp d 208 102 ls (.int (mA M a j.toNatClampNeg) :: st) M Q) := fun d ls a j st M Q => w_iaload (show ins 208 101 = some (.iaload, 1) by decide +kernel)
set_option maxRecDepth 100000 in
theorem r_208_102 : ∀ (d : Nat) (ls : Lc) (a b : Int32) (st : List Value) (M : Mem) (Q : Outcome → Mem → Prop), Wp d 208 102 ls (.int b :: .int a :: st) M Q = Br (b ≤ a) d 208 178 105 ls st M Q := fun d ls a b st M Q => w_icmp (show ins 208 102 = some (.if_icmp .ge 76, 3) by decide +kernel) rfl rfl
set_option maxRecDepth 100000 in
theorem r_208_105 : ∀ (d : Nat) (l1 l2 l3 l4 l5 l6 : Option Value) (v : Nat) (st : List Value) (M : Mem) (Q : Outcome → Mem → Prop), Wp d 208 105 [some (.ref v), l1, l2, l3, l4, l5, l6] st M Q = Wp d 208 106 [some (.ref v), l1, l2, l3, l4, l5, l6] (.ref v :: st) M Q := fun d l1 l2 l3 l4 l5 l6 v st M Q => wA (show ins 208 105 = some (.aload_n 0, 1) by decide +kernel) rfl
set_option maxRecDepth 100000 in
theorem r_208_106 : ∀ (d : Nat) (ls : Lc) (a : Nat) (st : List Value) (M : Mem) (Q : Outcome → Mem → Prop), Wp d 208 106 ls (.ref a :: st) M Q = (fk 53 (kO M a) = true ∧ Wp d 208 109 ls (va_rf (mR M 53 a) :: st) M Q) := fun d ls a st M Q => w_getR (show ins 208 106 = some (.getfield 7, 3) by decide +kernel) (show fRes (mC 208) 7 = some (53, 8, false) by decide +kernel) (by decide +kernel)
set_option maxRecDepth 100000 in
theorem r_208_109 : ∀ (d : Nat) (ls : Lc) (st : List Value) (M : Mem) (Q : Outcome → Mem → Prop), Wp d 208 109 ls st M Q = Wp d 208 112 ls (.int (I 4620) :: st) M Q := fun d ls st M Q => w_sipush (show ins 208 109 = some (.sipush 4620, 3) by decide +kernel) (by decide)
set_option maxRecDepth 100000 in
theorem r_208_112 : ∀ (d : Nat) (ls : Lc) (st : List Value) (M : Mem) (Q : Outcome → Mem → Prop), Wp d 208 112 ls st M Q = Wp d 208 114 ls (.int (I 16) :: st) M Q := fun d ls st M Q => w_bipush (show ins 208 112 = some (.bipush 16, 2) by decide +kernel) (by decide)
set_option maxRecDepth 100000 in
theorem r_208_114 : ∀ (d : Nat) (l0 l1 l2 l3 l4 l6 : Option Value) (v : Int32) (st : List Value) (M : Mem) (Q : Outcome → Mem → Prop), Wp d 208 114 [l0, l1, l2, l3, l4, some (.int v), l6] st M Q = Wp d 208 116 [l0, l1, l2, l3, l4, some (.int v), l6] (.int v :: st) M Q := fun d l0 l1 l2 l3 l4 l6 v st M Q => wA (show ins 208 114 = some (.iload 5, 2) by decide +kernel) rfl
set_option maxRecDepth 100000 in
theorem r_208_116 : ∀ (d : Nat) (ls : Lc) (a b : Int) (st : List Value) (M : Mem) (Q : Outcome → Mem → Prop), Wp d 208 116 ls (.int (I b) :: .int (I a) :: st) M Q = Wp d 208 117 ls (.int (I (a * b)) :: st) M Q := fun d ls a b st M Q => w_imul (show ins 208 116 = some (.imul, 1) by decide +kernel)
set_option maxRecDepth 100000 in
theorem r_208_117 : ∀ (d : Nat) (ls : Lc) (a b : Int) (st : List Value) (M : Mem) (Q : Outcome → Mem → Prop), Wp d 208 117 ls (.int (I b) :: .int (I a) :: st) M Q = Wp d 208 118 ls (.int (I (a + b)) :: st) M Q := fun d ls a b st M Q => w_iadd (show ins 208 117 = some (.iadd, 1) by decide +kernel)
set_option maxRecDepth 100000 in
theorem r_208_118 : ∀ (d : Nat) (l0 l1 l2 l3 l4 l5 : Option Value) (v : Int32) (st : List Value) (M : Mem) (Q : Outcome → Mem → Prop), Wp d 208 118 [l0, l1, l2, l3, l4, l5, some (.int v)] st M Q = Wp d 208 120 [l0, l1, l2, l3, l4, l5, some (.int v)] (.int v :: st) M Q := fun d l0 l1 l2 l3 l4 l5 v st M Q => wA (show ins 208 118 = some (.iload 6, 2) by decide +kernel) rfl
set_option maxRecDepth 100000 in
theorem r_208_120 : ∀ (d : Nat) (ls : Lc) (a b : Int) (st : List Value) (M : Mem) (Q : Outcome → Mem → Prop), Wp d 208 120 ls (.int (I b) :: .int (I a) :: st) M Q = Wp d 208 121 ls (.int (I (a + b)) :: st) M Q := fun d ls a b st M Q => w_iadd (show ins 208 120 = some (.iadd, 1) by decide +kernel)
set_option maxRecDepth 100000 in
theorem r_208_121 : ∀ (d : Nat) (ls : Lc) (a : Nat) (j : Int32) (st : List Value) (M : Mem) (Q : Outcome → Mem → Prop), Wp d 208 121 ls (.int j :: .ref a :: st) M Q = ((((kX M a).1 = 0 ∨ (kX M a).1 = 8) ∧ inB j (kX M a).2 = true) ∧ Wp d 208 122 ls (.int (mA M a j.toNatClampNeg) :: st) M Q) := fun d ls a j st M Q => w_iaload (show ins 208 121 = some (.iaload, 1) by decide +kernel)
set_option maxRecDepth 100000 in
theorem r_208_122 : ∀ (d : Nat) (l0 l2 l3 l4 l5 l6 : Option Value) (v : Int32) (st : List Value) (M : Mem) (Q : Outcome → Mem → Prop), Wp d 208 122 [l0, some (.int v), l2, l3, l4, l5, l6] st M Q = Wp d 208 123 [l0, some (.int v), l2, l3, l4, l5, l6] (.int v :: st) M Q := fun d l0 l2 l3 l4 l5 l6 v st M Q => wA (show ins 208 122 = some (.iload_n 1, 1) by decide +kernel) rfl
set_option maxRecDepth 100000 in
theorem r_208_123 : ∀ (d : Nat) (ls : Lc) (a b : Int32) (st : List Value) (M : Mem) (Q : Outcome → Mem → Prop), Wp d 208 123 ls (.int b :: .int a :: st) M Q = Br (¬ a = b) d 208 172 126 ls st M Q := fun d ls a b st M Q => w_icmp (show ins 208 123 = some (.if_icmp .ne 49, 3) by decide +kernel) rfl rfl
set_option maxRecDepth 100000 in
theorem r_208_126 : ∀ (d : Nat) (l1 l2 l3 l4 l5 l6 : Option Value) (v : Nat) (st : List Value) (M : Mem) (Q : Outcome → Mem → Prop), Wp d 208 126 [some (.ref v), l1, l2, l3, l4, l5, l6] st M Q = Wp d 208 127 [some (.ref v), l1, l2, l3, l4, l5, l6] (.ref v :: st) M Q := fun d l1 l2 l3 l4 l5 l6 v st M Q => wA (show ins 208 126 = some (.aload_n 0, 1) by decide +kernel) rfl
set_option maxRecDepth 100000 in
theorem r_208_127 : ∀ (d : Nat) (ls : Lc) (a : Nat) (st : List Value) (M : Mem) (Q : Outcome → Mem → Prop), Wp d 208 127 ls (.ref a :: st) M Q = (fk 53 (kO M a) = true ∧ Wp d 208 130 ls (va_rf (mR M 53 a) :: st) M Q) := fun d ls a st M Q => w_getR (show ins 208 127 = some (.getfield 7, 3) by decide +kernel) (show fRes (mC 208) 7 = some (53, 8, false) by decide +kernel) (by decide +kernel)
set_option maxRecDepth 100000 in
theorem r_208_130 : ∀ (d : Nat) (ls : Lc) (st : List Value) (M : Mem) (Q : Outcome → Mem → Prop), Wp d 208 130 ls st M Q = Wp d 208 133 ls (.int (I 6156) :: st) M Q := fun d ls st M Q => w_sipush (show ins 208 130 = some (.sipush 6156, 3) by decide +kernel) (by decide)
set_option maxRecDepth 100000 in
theorem r_208_133 : ∀ (d : Nat) (ls : Lc) (st : List Value) (M : Mem) (Q : Outcome → Mem → Prop), Wp d 208 133 ls st M Q = Wp d 208 135 ls (.int (I 16) :: st) M Q := fun d ls st M Q => w_bipush (show ins 208 133 = some (.bipush 16, 2) by decide +kernel) (by decide)
set_option maxRecDepth 100000 in
theorem r_208_135 : ∀ (d : Nat) (l0 l1 l2 l3 l4 l6 : Option Value) (v : Int32) (st : List Value) (M : Mem) (Q : Outcome → Mem → Prop), Wp d 208 135 [l0, l1, l2, l3, l4, some (.int v), l6] st M Q = Wp d 208 137 [l0, l1, l2, l3, l4, some (.int v), l6] (.int v :: st) M Q := fun d l0 l1 l2 l3 l4 l6 v st M Q => wA (show ins 208 135 = some (.iload 5, 2) by decide +kernel) rfl
set_option maxRecDepth 100000 in
theorem r_208_137 : ∀ (d : Nat) (ls : Lc) (a b : Int) (st : List Value) (M : Mem) (Q : Outcome → Mem → Prop), Wp d 208 137 ls (.int (I b) :: .int (I a) :: st) M Q = Wp d 208 138 ls (.int (I (a * b)) :: st) M Q := fun d ls a b st M Q => w_imul (show ins 208 137 = some (.imul, 1) by decide +kernel)
set_option maxRecDepth 100000 in
theorem r_208_138 : ∀ (d : Nat) (ls : Lc) (a b : Int) (st : List Value) (M : Mem) (Q : Outcome → Mem → Prop), Wp d 208 138 ls (.int (I b) :: .int (I a) :: st) M Q = Wp d 208 139 ls (.int (I (a + b)) :: st) M Q := fun d ls a b st M Q => w_iadd (show ins 208 138 = some (.iadd, 1) by decide +kernel)
set_option maxRecDepth 100000 in
theorem r_208_139 : ∀ (d : Nat) (l0 l1 l2 l3 l4 l5 : Option Value) (v : Int32) (st : List Value) (M : Mem) (Q : Outcome → Mem → Prop), Wp d 208 139 [l0, l1, l2, l3, l4, l5, some (.int v)] st M Q = Wp d 208 141 [l0, l1, l2, l3, l4, l5, some (.int v)] (.int v :: st) M Q := fun d l0 l1 l2 l3 l4 l5 v st M Q => wA (show ins 208 139 = some (.iload 6, 2) by decide +kernel) rfl
set_option maxRecDepth 100000 in
theorem r_208_141 : ∀ (d : Nat) (ls : Lc) (a b : Int) (st : List Value) (M : Mem) (Q : Outcome → Mem → Prop), Wp d 208 141 ls (.int (I b) :: .int (I a) :: st) M Q = Wp d 208 142 ls (.int (I (a + b)) :: st) M Q := fun d ls a b st M Q => w_iadd (show ins 208 141 = some (.iadd, 1) by decide +kernel)
set_option maxRecDepth 100000 in
theorem r_208_142 : ∀ (d : Nat) (ls : Lc) (a : Nat) (j : Int32) (st : List Value) (M : Mem) (Q : Outcome → Mem → Prop), Wp d 208 142 ls (.int j :: .ref a :: st) M Q = ((((kX M a).1 = 0 ∨ (kX M a).1 = 8) ∧ inB j (kX M a).2 = true) ∧ Wp d 208 143 ls (.int (mA M a j.toNatClampNeg) :: st) M Q) := fun d ls a j st M Q => w_iaload (show ins 208 142 = some (.iaload, 1) by decide +kernel)
set_option maxRecDepth 100000 in
theorem r_208_143 : ∀ (d : Nat) (ls : Lc) (st : List Value) (M : Mem) (Q : Outcome → Mem → Prop), Wp d 208 143 ls st M Q = Wp d 208 144 ls (.int (I 1) :: st) M Q := fun d ls st M Q => w_iconst (show ins 208 143 = some (.iconst 1, 1) by decide +kernel)
set_option maxRecDepth 100000 in
theorem r_208_144 : ∀ (d : Nat) (ls : Lc) (a b : Int32) (st : List Value) (M : Mem) (Q : Outcome → Mem → Prop), Wp d 208 144 ls (.int b :: .int a :: st) M Q = Br (¬ a = b) d 208 172 147 ls st M Q := fun d ls a b st M Q => w_icmp (show ins 208 144 = some (.if_icmp .ne 28, 3) by decide +kernel) rfl rfl
set_option maxRecDepth 100000 in
theorem r_208_147 : ∀ (d : Nat) (l0 l1 l2 l4 l5 l6 : Option Value) (v : Int32) (st : List Value) (M : Mem) (Q : Outcome → Mem → Prop), Wp d 208 147 [l0, l1, l2, some (.int v), l4, l5, l6] st M Q = Wp d 208 148 [l0, l1, l2, some (.int v), l4, l5, l6] (.int v :: st) M Q := fun d l0 l1 l2 l4 l5 l6 v st M Q => wA (show ins 208 147 = some (.iload_n 3, 1) by decide +kernel) rfl
set_option maxRecDepth 100000 in
theorem r_208_148 : ∀ (d : Nat) (ls : Lc) (a : Int32) (st : List Value) (M : Mem) (Q : Outcome → Mem → Prop), Wp d 208 148 ls (.int a :: st) M Q = Br (¬ a = I 0) d 208 169 151 ls st M Q := fun d ls a st M Q => w_if (show ins 208 148 = some (.ifCond .ne 21, 3) by decide +kernel) rfl rfl
set_option maxRecDepth 100000 in
theorem r_208_151 : ∀ (d : Nat) (l1 l2 l3 l4 l5 l6 : Option Value) (v : Nat) (st : List Value) (M : Mem) (Q : Outcome → Mem → Prop), Wp d 208 151 [some (.ref v), l1, l2, l3, l4, l5, l6] st M Q = Wp d 208 152 [some (.ref v), l1, l2, l3, l4, l5, l6] (.ref v :: st) M Q := fun d l1 l2 l3 l4 l5 l6 v st M Q => wA (show ins 208 151 = some (.aload_n 0, 1) by decide +kernel) rfl
set_option maxRecDepth 100000 in
theorem r_208_152 : ∀ (d : Nat) (ls : Lc) (a : Nat) (st : List Value) (M : Mem) (Q : Outcome → Mem → Prop), Wp d 208 152 ls (.ref a :: st) M Q = (fk 53 (kO M a) = true ∧ Wp d 208 155 ls (va_rf (mR M 53 a) :: st) M Q) := fun d ls a st M Q => w_getR (show ins 208 152 = some (.getfield 7, 3) by decide +kernel) (show fRes (mC 208) 7 = some (53, 8, false) by decide +kernel) (by decide +kernel)
set_option maxRecDepth 100000 in
theorem r_208_155 : ∀ (d : Nat) (ls : Lc) (st : List Value) (M : Mem) (Q : Outcome → Mem → Prop), Wp d 208 155 ls st M Q = Wp d 208 158 ls (.int (I 7692) :: st) M Q := fun d ls st M Q => w_sipush (show ins 208 155 = some (.sipush 7692, 3) by decide +kernel) (by decide)
set_option maxRecDepth 100000 in
theorem r_208_158 : ∀ (d : Nat) (ls : Lc) (st : List Value) (M : Mem) (Q : Outcome → Mem → Prop), Wp d 208 158 ls st M Q = Wp d 208 160 ls (.int (I 16) :: st) M Q := fun d ls st M Q => w_bipush (show ins 208 158 = some (.bipush 16, 2) by decide +kernel) (by decide)
set_option maxRecDepth 100000 in
theorem r_208_160 : ∀ (d : Nat) (l0 l1 l2 l3 l4 l6 : Option Value) (v : Int32) (st : List Value) (M : Mem) (Q : Outcome → Mem → Prop), Wp d 208 160 [l0, l1, l2, l3, l4, some (.int v), l6] st M Q = Wp d 208 162 [l0, l1, l2, l3, l4, some (.int v), l6] (.int v :: st) M Q := fun d l0 l1 l2 l3 l4 l6 v st M Q => wA (show ins 208 160 = some (.iload 5, 2) by decide +kernel) rfl
set_option maxRecDepth 100000 in
theorem r_208_162 : ∀ (d : Nat) (ls : Lc) (a b : Int) (st : List Value) (M : Mem) (Q : Outcome → Mem → Prop), Wp d 208 162 ls (.int (I b) :: .int (I a) :: st) M Q = Wp d 208 163 ls (.int (I (a * b)) :: st) M Q := fun d ls a b st M Q => w_imul (show ins 208 162 = some (.imul, 1) by decide +kernel)
set_option maxRecDepth 100000 in
theorem r_208_163 : ∀ (d : Nat) (ls : Lc) (a b : Int) (st : List Value) (M : Mem) (Q : Outcome → Mem → Prop), Wp d 208 163 ls (.int (I b) :: .int (I a) :: st) M Q = Wp d 208 164 ls (.int (I (a + b)) :: st) M Q := fun d ls a b st M Q => w_iadd (show ins 208 163 = some (.iadd, 1) by decide +kernel)
set_option maxRecDepth 100000 in
theorem r_208_164 : ∀ (d : Nat) (l0 l1 l2 l3 l4 l5 : Option Value) (v : Int32) (st : List Value) (M : Mem) (Q : Outcome → Mem → Prop), Wp d 208 164 [l0, l1, l2, l3, l4, l5, some (.int v)] st M Q = Wp d 208 166 [l0, l1, l2, l3, l4, l5, some (.int v)] (.int v :: st) M Q := fun d l0 l1 l2 l3 l4 l5 v st M Q => wA (show ins 208 164 = some (.iload 6, 2) by decide +kernel) rfl
set_option maxRecDepth 100000 in
theorem r_208_166 : ∀ (d : Nat) (ls : Lc) (a b : Int) (st : List Value) (M : Mem) (Q : Outcome → Mem → Prop), Wp d 208 166 ls (.int (I b) :: .int (I a) :: st) M Q = Wp d 208 167 ls (.int (I (a + b)) :: st) M Q := fun d ls a b st M Q => w_iadd (show ins 208 166 = some (.iadd, 1) by decide +kernel)
set_option maxRecDepth 100000 in
theorem r_208_167 : ∀ (d : Nat) (ls : Lc) (a : Nat) (j : Int32) (st : List Value) (M : Mem) (Q : Outcome → Mem → Prop), Wp d 208 167 ls (.int j :: .ref a :: st) M Q = ((((kX M a).1 = 0 ∨ (kX M a).1 = 8) ∧ inB j (kX M a).2 = true) ∧ Wp d 208 168 ls (.int (mA M a j.toNatClampNeg) :: st) M Q) := fun d ls a j st M Q => w_iaload (show ins 208 167 = some (.iaload, 1) by decide +kernel)
set_option maxRecDepth 100000 in
theorem r_208_168 : ∀ (d : Nat) (ls : Lc) (v : Int32) (M : Mem) (Q : Outcome → Mem → Prop), Wp d 208 168 ls [.int v] M Q = Q (.returned (some (.int v))) M := fun d ls v M Q => w_ireturn (show ins 208 168 = some (.ireturn, 1) by decide +kernel) (by decide +kernel)
set_option maxRecDepth 100000 in
theorem r_208_169 : ∀ (d : Nat) (l0 l1 l2 l4 l5 l6 : Option Value) (z : Int) (st : List Value) (M : Mem) (Q : Outcome → Mem → Prop), (lo l2 = false) → Wp d 208 169 [l0, l1, l2, some (.int (I z)), l4, l5, l6] st M Q = Wp d 208 172 [l0, l1, l2, some (.int (I (z + (-1)))), l4, l5, l6] st M Q := fun d l0 l1 l2 l4 l5 l6 z st M Q hl => w_iinc (show ins 208 169 = some (.iinc 3 (-1), 3) by decide +kernel) rfl (st1_S rfl rfl hl)
set_option maxRecDepth 100000 in
theorem r_208_172 : ∀ (d : Nat) (l0 l1 l2 l3 l4 l5 : Option Value) (z : Int) (st : List Value) (M : Mem) (Q : Outcome → Mem → Prop), (lo l5 = false) → Wp d 208 172 [l0, l1, l2, l3, l4, l5, some (.int (I z))] st M Q = Wp d 208 175 [l0, l1, l2, l3, l4, l5, some (.int (I (z + 1)))] st M Q := fun d l0 l1 l2 l3 l4 l5 z st M Q hl => w_iinc (show ins 208 172 = some (.iinc 6 1, 3) by decide +kernel) rfl (st1_S rfl rfl hl)
set_option maxRecDepth 100000 in
theorem r_208_175 : ∀ (d : Nat) (ls : Lc) (st : List Value) (M : Mem) (Q : Outcome → Mem → Prop), Wp d 208 175 ls st M Q = Wp d 208 89 ls st M Q := fun d ls st M Q => w_goto (show ins 208 175 = some (.goto (-86), 3) by decide +kernel) rfl
set_option maxRecDepth 100000 in
theorem r_208_178 : ∀ (d : Nat) (l0 l1 l2 l3 l5 l6 : Option Value) (z : Int) (st : List Value) (M : Mem) (Q : Outcome → Mem → Prop), (lo l3 = false) → Wp d 208 178 [l0, l1, l2, l3, some (.int (I z)), l5, l6] st M Q = Wp d 208 181 [l0, l1, l2, l3, some (.int (I (z + 1))), l5, l6] st M Q := fun d l0 l1 l2 l3 l5 l6 z st M Q hl => w_iinc (show ins 208 178 = some (.iinc 4 1, 3) by decide +kernel) rfl (st1_S rfl rfl hl)
set_option maxRecDepth 100000 in
theorem r_208_181 : ∀ (d : Nat) (ls : Lc) (st : List Value) (M : Mem) (Q : Outcome → Mem → Prop), Wp d 208 181 ls st M Q = Wp d 208 53 ls st M Q := fun d ls st M Q => w_goto (show ins 208 181 = some (.goto (-128), 3) by decide +kernel) rfl
set_option maxRecDepth 100000 in
theorem r_208_184 : ∀ (d : Nat) (ls : Lc) (st : List Value) (M : Mem) (Q : Outcome → Mem → Prop), Wp d 208 184 ls st M Q = Wp d 208 185 ls (.int (I 0) :: st) M Q := fun d ls st M Q => w_iconst (show ins 208 184 = some (.iconst 0, 1) by decide +kernel)
set_option maxRecDepth 100000 in
theorem r_208_185 : ∀ (d : Nat) (ls : Lc) (v : Int32) (M : Mem) (Q : Outcome → Mem → Prop), Wp d 208 185 ls [.int v] M Q = Q (.returned (some (.int v))) M := fun d ls v M Q => w_ireturn (show ins 208 185 = some (.ireturn, 1) by decide +kernel) (by decide +kernel)
set_option maxRecDepth 100000 in
theorem w_208_53 : (type_of% r_208_53) := r_208_53
set_option maxRecDepth 100000 in
theorem w_208_89 : (type_of% r_208_89) := r_208_89
set_option maxRecDepth 100000 in
theorem W_208 : (type_of% r_208_0) ∧ (type_of% r_208_1) ∧ (type_of% r_208_2) ∧ (type_of% r_208_5) ∧ (type_of% r_208_8) ∧ (type_of% r_208_9) ∧ (type_of% r_208_12) ∧ (type_of% r_208_13) ∧ (type_of% r_208_14) ∧ (type_of% r_208_17) ∧ (type_of% r_208_20) ∧ (type_of% r_208_21) ∧ (type_of% r_208_22) ∧ (type_of% r_208_23) ∧ (type_of% r_208_26) ∧ (type_of% r_208_29) ∧ (type_of% r_208_30) ∧ (type_of% r_208_31) ∧ (type_of% r_208_32) ∧ (type_of% r_208_33) ∧ (type_of% r_208_34) ∧ (type_of% r_208_37) ∧ (type_of% r_208_40) ∧ (type_of% r_208_41) ∧ (type_of% r_208_44) ∧ (type_of% r_208_45) ∧ (type_of% r_208_48) ∧ (type_of% r_208_49) ∧ (type_of% r_208_50) ∧ (type_of% r_208_51) ∧ (type_of% r_208_54) ∧ (type_of% r_208_57) ∧ (type_of% r_208_60) ∧ (type_of% r_208_62) ∧ (type_of% r_208_63) ∧ (type_of% r_208_66) ∧ (type_of% r_208_69) ∧ (type_of% r_208_70) ∧ (type_of% r_208_73) ∧ (type_of% r_208_74) ∧ (type_of% r_208_77) ∧ (type_of% r_208_80) ∧ (type_of% r_208_82) ∧ (type_of% r_208_83) ∧ (type_of% r_208_84) ∧ (type_of% r_208_86) ∧ (type_of% r_208_87) ∧ (type_of% r_208_91) ∧ (type_of% r_208_92) ∧ (type_of% r_208_95) ∧ (type_of% r_208_98) ∧ (type_of% r_208_100) ∧ (type_of% r_208_101) ∧ (type_of% r_208_102) ∧ (type_of% r_208_105) ∧ (type_of% r_208_106) ∧ (type_of% r_208_109) ∧ (type_of% r_208_112) ∧ (type_of% r_208_114) ∧ (type_of% r_208_116) ∧ (type_of% r_208_117) ∧ (type_of% r_208_118) ∧ (type_of% r_208_120) ∧ (type_of% r_208_121) ∧ (type_of% r_208_122) ∧ (type_of% r_208_123) ∧ (type_of% r_208_126) ∧ (type_of% r_208_127) ∧ (type_of% r_208_130) ∧ (type_of% r_208_133) ∧ (type_of% r_208_135) ∧ (type_of% r_208_137) ∧ (type_of% r_208_138) ∧ (type_of% r_208_139) ∧ (type_of% r_208_141) ∧ (type_of% r_208_142) ∧ (type_of% r_208_143) ∧ (type_of% r_208_144) ∧ (type_of% r_208_147) ∧ (type_of% r_208_148) ∧ (type_of% r_208_151) ∧ (type_of% r_208_152) ∧ (type_of% r_208_155) ∧ (type_of% r_208_158) ∧ (type_of% r_208_160) ∧ (type_of% r_208_162) ∧ (type_of% r_208_163) ∧ (type_of% r_208_164) ∧ (type_of% r_208_166) ∧ (type_of% r_208_167) ∧ (type_of% r_208_168) ∧ (type_of% r_208_169) ∧ (type_of% r_208_172) ∧ (type_of% r_208_175) ∧ (type_of% r_208_178) ∧ (type_of% r_208_181) ∧ (type_of% r_208_184) ∧ (type_of% r_208_185) := ⟨r_208_0, r_208_1, r_208_2, r_208_5, r_208_8, r_208_9, r_208_12, r_208_13, r_208_14, r_208_17, r_208_20, r_208_21, r_208_22, r_208_23, r_208_26, r_208_29, r_208_30, r_208_31, r_208_32, r_208_33, r_208_34, r_208_37, r_208_40, r_208_41, r_208_44, r_208_45, r_208_48, r_208_49, r_208_50, r_208_51, r_208_54, r_208_57, r_208_60, r_208_62, r_208_63, r_208_66, r_208_69, r_208_70, r_208_73, r_208_74, r_208_77, r_208_80, r_208_82, r_208_83, r_208_84, r_208_86, r_208_87, r_208_91, r_208_92, r_208_95, r_208_98, r_208_100, r_208_101, r_208_102, r_208_105, r_208_106, r_208_109, r_208_112, r_208_114, r_208_116, r_208_117, r_208_118, r_208_120, r_208_121, r_208_122, r_208_123, r_208_126, r_208_127, r_208_130, r_208_133, r_208_135, r_208_137, r_208_138, r_208_139, r_208_141, r_208_142, r_208_143, r_208_144, r_208_147, r_208_148, r_208_151, r_208_152, r_208_155, r_208_158, r_208_160, r_208_162, r_208_163, r_208_164, r_208_166, r_208_167, r_208_168, r_208_169, r_208_172, r_208_175, r_208_178, r_208_181, r_208_184, r_208_185⟩
set_option maxRecDepth 100000 in
theorem ca_208 {d y pc : Nat} {ls : Lc} {a : Nat} {z0 : Int32} {z1 : Int32} {r : List Value} {M : Mem} {Q : Outcome → Mem → Prop} (hd : 0 < d) (hw : Wp (d - 1) 208 0 [some (.ref a), some (.int z0), some (.int z1), none, none, none, none] [] M (Cq d y pc ls r Q)) : Ca d y pc ls 208 [.ref a, .int z0, .int z1] r M Q := ca_of (mq_get (by decide)) (by rfl) hd hw
/-! 209 PackedTreeModel.about(II)I; loop heads [] -/
set_option maxRecDepth 100000 in
theorem r_209_0 : ∀ (d : Nat) (l1 l2 : Option Value) (v : Nat) (st : List Value) (M : Mem) (Q : Outcome → Mem → Prop), Wp d 209 0 [some (.ref v), l1, l2] st M Q = Wp d 209 1 [some (.ref v), l1, l2] (.ref v :: st) M Q := fun d l1 l2 v st M Q => wA (show ins 209 0 = some (.aload_n 0, 1) by decide +kernel) rfl
set_option maxRecDepth 100000 in
theorem r_209_1 : ∀ (d : Nat) (l1 l2 : Option Value) (v : Nat) (st : List Value) (M : Mem) (Q : Outcome → Mem → Prop), Wp d 209 1 [some (.ref v), l1, l2] st M Q = Wp d 209 2 [some (.ref v), l1, l2] (.ref v :: st) M Q := fun d l1 l2 v st M Q => wA (show ins 209 1 = some (.aload_n 0, 1) by decide +kernel) rfl
set_option maxRecDepth 100000 in
theorem r_209_2 : ∀ (d : Nat) (ls : Lc) (a : Nat) (st : List Value) (M : Mem) (Q : Outcome → Mem → Prop), Wp d 209 2 ls (.ref a :: st) M Q = (fk 52 (kO M a) = true ∧ Wp d 209 5 ls (.int (mF M 52 a) :: st) M Q) := fun d ls a st M Q => w_getI (show ins 209 2 = some (.getfield 149, 3) by decide +kernel) (show fRes (mC 209) 149 = some (52, 8, false) by decide +kernel) (by decide +kernel)
set_option maxRecDepth 100000 in
theorem r_209_5 : ∀ (d : Nat) (ls : Lc) (a : Int32) (st : List Value) (M : Mem) (Q : Outcome → Mem → Prop), Wp d 209 5 ls (.int a :: st) M Q = Br (a = I 0) d 209 12 8 ls st M Q := fun d ls a st M Q => w_if (show ins 209 5 = some (.ifCond .eq 7, 3) by decide +kernel) rfl rfl
set_option maxRecDepth 100000 in
theorem r_209_8 : ∀ (d : Nat) (ls : Lc) (st : List Value) (M : Mem) (Q : Outcome → Mem → Prop), Wp d 209 8 ls st M Q = Wp d 209 9 ls (.int (I 1) :: st) M Q := fun d ls st M Q => w_iconst (show ins 209 8 = some (.iconst 1, 1) by decide +kernel)
set_option maxRecDepth 100000 in
theorem r_209_9 : ∀ (d : Nat) (ls : Lc) (st : List Value) (M : Mem) (Q : Outcome → Mem → Prop), Wp d 209 9 ls st M Q = Wp d 209 54 ls st M Q := fun d ls st M Q => w_goto (show ins 209 9 = some (.goto 45, 3) by decide +kernel) rfl
set_option maxRecDepth 100000 in
theorem r_209_12 : ∀ (d : Nat) (l1 l2 : Option Value) (v : Nat) (st : List Value) (M : Mem) (Q : Outcome → Mem → Prop), Wp d 209 12 [some (.ref v), l1, l2] st M Q = Wp d 209 13 [some (.ref v), l1, l2] (.ref v :: st) M Q := fun d l1 l2 v st M Q => wA (show ins 209 12 = some (.aload_n 0, 1) by decide +kernel) rfl
set_option maxRecDepth 100000 in
theorem r_209_13 : ∀ (d : Nat) (l0 l2 : Option Value) (v : Int32) (st : List Value) (M : Mem) (Q : Outcome → Mem → Prop), Wp d 209 13 [l0, some (.int v), l2] st M Q = Wp d 209 14 [l0, some (.int v), l2] (.int v :: st) M Q := fun d l0 l2 v st M Q => wA (show ins 209 13 = some (.iload_n 1, 1) by decide +kernel) rfl
set_option maxRecDepth 100000 in
theorem r_209_14 : ∀ (d : Nat) (ls : Lc) (v0 : Value) (a : Nat) (st : List Value) (M : Mem) (Q : Outcome → Mem → Prop), (smallR st = true) → Wp d 209 14 ls (v0 :: .ref a :: st) M Q = (kO M a = 8 ∧ Ca d 209 14 ls 158 (.ref a :: [v0]) st M Q) := fun d ls v0 a st M Q h0 => w_virt1 (as := [v0]) (show ins 209 14 = some (.invokevirtual 47, 3) by decide +kernel) (show mRes (mC 209) 47 = some (3, 8, [(8, 158)]) by decide +kernel) (by decide +kernel) rfl (by decide +kernel) (by decide +kernel) h0
set_option maxRecDepth 100000 in
theorem r_209_17 : ∀ (d : Nat) (ls : Lc) (a : Int32) (st : List Value) (M : Mem) (Q : Outcome → Mem → Prop), Wp d 209 17 ls (.int a :: st) M Q = Br (a = I 0) d 209 41 20 ls st M Q := fun d ls a st M Q => w_if (show ins 209 17 = some (.ifCond .eq 24, 3) by decide +kernel) rfl rfl
set_option maxRecDepth 100000 in
theorem r_209_20 : ∀ (d : Nat) (l0 l1 : Option Value) (v : Int32) (st : List Value) (M : Mem) (Q : Outcome → Mem → Prop), Wp d 209 20 [l0, l1, some (.int v)] st M Q = Wp d 209 21 [l0, l1, some (.int v)] (.int v :: st) M Q := fun d l0 l1 v st M Q => wA (show ins 209 20 = some (.iload_n 2, 1) by decide +kernel) rfl
set_option maxRecDepth 100000 in
theorem r_209_21 : ∀ (d : Nat) (ls : Lc) (st : List Value) (M : Mem) (Q : Outcome → Mem → Prop), Wp d 209 21 ls st M Q = Wp d 209 22 ls (.int (I 5) :: st) M Q := fun d ls st M Q => w_iconst (show ins 209 21 = some (.iconst 5, 1) by decide +kernel)
set_option maxRecDepth 100000 in
theorem r_209_22 : ∀ (d : Nat) (ls : Lc) (a b : Int32) (st : List Value) (M : Mem) (Q : Outcome → Mem → Prop), Wp d 209 22 ls (.int b :: .int a :: st) M Q = Br (a < b) d 209 45 25 ls st M Q := fun d ls a b st M Q => w_icmp (show ins 209 22 = some (.if_icmp .lt 23, 3) by decide +kernel) rfl rfl
set_option maxRecDepth 100000 in
theorem r_209_25 : ∀ (d : Nat) (l0 l1 : Option Value) (v : Int32) (st : List Value) (M : Mem) (Q : Outcome → Mem → Prop), Wp d 209 25 [l0, l1, some (.int v)] st M Q = Wp d 209 26 [l0, l1, some (.int v)] (.int v :: st) M Q := fun d l0 l1 v st M Q => wA (show ins 209 25 = some (.iload_n 2, 1) by decide +kernel) rfl
set_option maxRecDepth 100000 in
theorem r_209_26 : ∀ (d : Nat) (ls : Lc) (st : List Value) (M : Mem) (Q : Outcome → Mem → Prop), Wp d 209 26 ls st M Q = Wp d 209 27 ls (.int (I 5) :: st) M Q := fun d ls st M Q => w_iconst (show ins 209 26 = some (.iconst 5, 1) by decide +kernel)
set_option maxRecDepth 100000 in
theorem r_209_27 : ∀ (d : Nat) (ls : Lc) (a b : Int) (st : List Value) (M : Mem) (Q : Outcome → Mem → Prop), Wp d 209 27 ls (.int (I b) :: .int (I a) :: st) M Q = Wp d 209 28 ls (.int (I (a - b)) :: st) M Q := fun d ls a b st M Q => w_isub (show ins 209 27 = some (.isub, 1) by decide +kernel)
set_option maxRecDepth 100000 in
theorem r_209_28 : ∀ (d : Nat) (l1 l2 : Option Value) (v : Nat) (st : List Value) (M : Mem) (Q : Outcome → Mem → Prop), Wp d 209 28 [some (.ref v), l1, l2] st M Q = Wp d 209 29 [some (.ref v), l1, l2] (.ref v :: st) M Q := fun d l1 l2 v st M Q => wA (show ins 209 28 = some (.aload_n 0, 1) by decide +kernel) rfl
set_option maxRecDepth 100000 in
theorem r_209_29 : ∀ (d : Nat) (ls : Lc) (a : Nat) (st : List Value) (M : Mem) (Q : Outcome → Mem → Prop), Wp d 209 29 ls (.ref a :: st) M Q = (fk 53 (kO M a) = true ∧ Wp d 209 32 ls (va_rf (mR M 53 a) :: st) M Q) := fun d ls a st M Q => w_getR (show ins 209 29 = some (.getfield 7, 3) by decide +kernel) (show fRes (mC 209) 7 = some (53, 8, false) by decide +kernel) (by decide +kernel)
set_option maxRecDepth 100000 in
theorem r_209_32 : ∀ (d : Nat) (ls : Lc) (st : List Value) (M : Mem) (Q : Outcome → Mem → Prop), Wp d 209 32 ls st M Q = Wp d 209 35 ls (.int (I 279) :: st) M Q := fun d ls st M Q => w_sipush (show ins 209 32 = some (.sipush 279, 3) by decide +kernel) (by decide)
set_option maxRecDepth 100000 in
theorem r_209_35 : ∀ (d : Nat) (l0 l2 : Option Value) (v : Int32) (st : List Value) (M : Mem) (Q : Outcome → Mem → Prop), Wp d 209 35 [l0, some (.int v), l2] st M Q = Wp d 209 36 [l0, some (.int v), l2] (.int v :: st) M Q := fun d l0 l2 v st M Q => wA (show ins 209 35 = some (.iload_n 1, 1) by decide +kernel) rfl
set_option maxRecDepth 100000 in
theorem r_209_36 : ∀ (d : Nat) (ls : Lc) (a b : Int) (st : List Value) (M : Mem) (Q : Outcome → Mem → Prop), Wp d 209 36 ls (.int (I b) :: .int (I a) :: st) M Q = Wp d 209 37 ls (.int (I (a + b)) :: st) M Q := fun d ls a b st M Q => w_iadd (show ins 209 36 = some (.iadd, 1) by decide +kernel)
set_option maxRecDepth 100000 in
theorem r_209_37 : ∀ (d : Nat) (ls : Lc) (a : Nat) (j : Int32) (st : List Value) (M : Mem) (Q : Outcome → Mem → Prop), Wp d 209 37 ls (.int j :: .ref a :: st) M Q = ((((kX M a).1 = 0 ∨ (kX M a).1 = 8) ∧ inB j (kX M a).2 = true) ∧ Wp d 209 38 ls (.int (mA M a j.toNatClampNeg) :: st) M Q) := fun d ls a j st M Q => w_iaload (show ins 209 37 = some (.iaload, 1) by decide +kernel)
set_option maxRecDepth 100000 in
theorem r_209_38 : ∀ (d : Nat) (ls : Lc) (a b : Int32) (st : List Value) (M : Mem) (Q : Outcome → Mem → Prop), Wp d 209 38 ls (.int b :: .int a :: st) M Q = Br (a < b) d 209 45 41 ls st M Q := fun d ls a b st M Q => w_icmp (show ins 209 38 = some (.if_icmp .lt 7, 3) by decide +kernel) rfl rfl
set_option maxRecDepth 100000 in
theorem r_209_41 : ∀ (d : Nat) (ls : Lc) (st : List Value) (M : Mem) (Q : Outcome → Mem → Prop), Wp d 209 41 ls st M Q = Wp d 209 42 ls (.int (I 2) :: st) M Q := fun d ls st M Q => w_iconst (show ins 209 41 = some (.iconst 2, 1) by decide +kernel)
set_option maxRecDepth 100000 in
theorem r_209_42 : ∀ (d : Nat) (ls : Lc) (st : List Value) (M : Mem) (Q : Outcome → Mem → Prop), Wp d 209 42 ls st M Q = Wp d 209 54 ls st M Q := fun d ls st M Q => w_goto (show ins 209 42 = some (.goto 12, 3) by decide +kernel) rfl
set_option maxRecDepth 100000 in
theorem r_209_45 : ∀ (d : Nat) (l0 l1 : Option Value) (v : Int32) (st : List Value) (M : Mem) (Q : Outcome → Mem → Prop), Wp d 209 45 [l0, l1, some (.int v)] st M Q = Wp d 209 46 [l0, l1, some (.int v)] (.int v :: st) M Q := fun d l0 l1 v st M Q => wA (show ins 209 45 = some (.iload_n 2, 1) by decide +kernel) rfl
set_option maxRecDepth 100000 in
theorem r_209_46 : ∀ (d : Nat) (ls : Lc) (a : Int32) (st : List Value) (M : Mem) (Q : Outcome → Mem → Prop), Wp d 209 46 ls (.int a :: st) M Q = Br (I 0 ≤ a) d 209 53 49 ls st M Q := fun d ls a st M Q => w_if (show ins 209 46 = some (.ifCond .ge 7, 3) by decide +kernel) rfl rfl
set_option maxRecDepth 100000 in
theorem r_209_49 : ∀ (d : Nat) (ls : Lc) (st : List Value) (M : Mem) (Q : Outcome → Mem → Prop), Wp d 209 49 ls st M Q = Wp d 209 50 ls (.int (I 3) :: st) M Q := fun d ls st M Q => w_iconst (show ins 209 49 = some (.iconst 3, 1) by decide +kernel)
set_option maxRecDepth 100000 in
theorem r_209_50 : ∀ (d : Nat) (ls : Lc) (st : List Value) (M : Mem) (Q : Outcome → Mem → Prop), Wp d 209 50 ls st M Q = Wp d 209 54 ls st M Q := fun d ls st M Q => w_goto (show ins 209 50 = some (.goto 4, 3) by decide +kernel) rfl
set_option maxRecDepth 100000 in
theorem r_209_53 : ∀ (d : Nat) (ls : Lc) (st : List Value) (M : Mem) (Q : Outcome → Mem → Prop), Wp d 209 53 ls st M Q = Wp d 209 54 ls (.int (I 0) :: st) M Q := fun d ls st M Q => w_iconst (show ins 209 53 = some (.iconst 0, 1) by decide +kernel)
set_option maxRecDepth 100000 in
theorem r_209_54 : ∀ (d : Nat) (ls : Lc) (a : Nat) (v : Int32) (st : List Value) (M : Mem) (Q : Outcome → Mem → Prop), Wp d 209 54 ls (.int v :: .ref a :: st) M Q = (fk 54 (kO M a) = true ∧ Wp d 209 57 ls st (sF M 54 a v) Q) := fun d ls a v st M Q => w_putI (show ins 209 54 = some (.putfield 40, 3) by decide +kernel) (show fRes (mC 209) 40 = some (54, 8, false) by decide +kernel) (by decide +kernel) (by decide +kernel)
set_option maxRecDepth 100000 in
theorem r_209_57 : ∀ (d : Nat) (l1 l2 : Option Value) (v : Nat) (st : List Value) (M : Mem) (Q : Outcome → Mem → Prop), Wp d 209 57 [some (.ref v), l1, l2] st M Q = Wp d 209 58 [some (.ref v), l1, l2] (.ref v :: st) M Q := fun d l1 l2 v st M Q => wA (show ins 209 57 = some (.aload_n 0, 1) by decide +kernel) rfl
set_option maxRecDepth 100000 in
theorem r_209_58 : ∀ (d : Nat) (ls : Lc) (a : Nat) (st : List Value) (M : Mem) (Q : Outcome → Mem → Prop), Wp d 209 58 ls (.ref a :: st) M Q = (fk 54 (kO M a) = true ∧ Wp d 209 61 ls (.int (mF M 54 a) :: st) M Q) := fun d ls a st M Q => w_getI (show ins 209 58 = some (.getfield 40, 3) by decide +kernel) (show fRes (mC 209) 40 = some (54, 8, false) by decide +kernel) (by decide +kernel)
set_option maxRecDepth 100000 in
theorem r_209_61 : ∀ (d : Nat) (ls : Lc) (a : Int32) (st : List Value) (M : Mem) (Q : Outcome → Mem → Prop), Wp d 209 61 ls (.int a :: st) M Q = Br (a ≤ I 0) d 209 66 64 ls st M Q := fun d ls a st M Q => w_if (show ins 209 61 = some (.ifCond .le 5, 3) by decide +kernel) rfl rfl
set_option maxRecDepth 100000 in
theorem r_209_64 : ∀ (d : Nat) (ls : Lc) (st : List Value) (M : Mem) (Q : Outcome → Mem → Prop), Wp d 209 64 ls st M Q = Wp d 209 65 ls (.int (I 0) :: st) M Q := fun d ls st M Q => w_iconst (show ins 209 64 = some (.iconst 0, 1) by decide +kernel)
set_option maxRecDepth 100000 in
theorem r_209_65 : ∀ (d : Nat) (ls : Lc) (v : Int32) (M : Mem) (Q : Outcome → Mem → Prop), Wp d 209 65 ls [.int v] M Q = Q (.returned (some (.int v))) M := fun d ls v M Q => w_ireturn (show ins 209 65 = some (.ireturn, 1) by decide +kernel) (by decide +kernel)
set_option maxRecDepth 100000 in
theorem r_209_66 : ∀ (d : Nat) (l0 l1 : Option Value) (v : Int32) (st : List Value) (M : Mem) (Q : Outcome → Mem → Prop), Wp d 209 66 [l0, l1, some (.int v)] st M Q = Wp d 209 67 [l0, l1, some (.int v)] (.int v :: st) M Q := fun d l0 l1 v st M Q => wA (show ins 209 66 = some (.iload_n 2, 1) by decide +kernel) rfl
set_option maxRecDepth 100000 in
theorem r_209_67 : ∀ (d : Nat) (ls : Lc) (st : List Value) (M : Mem) (Q : Outcome → Mem → Prop), Wp d 209 67 ls (.int (I 0) :: st) M Q = Wp d 209 100 ls st M Q := fun d ls st M Q => w_tswK (show ins 209 67 = some (.tableswitch 109 0 4 #[33, 45, 56, 67, 78], 33) by decide +kernel) (by decide) rfl rfl
set_option maxRecDepth 100000 in
theorem r_209_67_1 : ∀ (d : Nat) (ls : Lc) (st : List Value) (M : Mem) (Q : Outcome → Mem → Prop), Wp d 209 67 ls (.int (I 1) :: st) M Q = Wp d 209 112 ls st M Q := fun d ls st M Q => w_tswK (show ins 209 67 = some (.tableswitch 109 0 4 #[33, 45, 56, 67, 78], 33) by decide +kernel) (by decide) rfl rfl
set_option maxRecDepth 100000 in
theorem r_209_67_2 : ∀ (d : Nat) (ls : Lc) (st : List Value) (M : Mem) (Q : Outcome → Mem → Prop), Wp d 209 67 ls (.int (I 2) :: st) M Q = Wp d 209 123 ls st M Q := fun d ls st M Q => w_tswK (show ins 209 67 = some (.tableswitch 109 0 4 #[33, 45, 56, 67, 78], 33) by decide +kernel) (by decide) rfl rfl
set_option maxRecDepth 100000 in
theorem r_209_67_3 : ∀ (d : Nat) (ls : Lc) (st : List Value) (M : Mem) (Q : Outcome → Mem → Prop), Wp d 209 67 ls (.int (I 3) :: st) M Q = Wp d 209 134 ls st M Q := fun d ls st M Q => w_tswK (show ins 209 67 = some (.tableswitch 109 0 4 #[33, 45, 56, 67, 78], 33) by decide +kernel) (by decide) rfl rfl
set_option maxRecDepth 100000 in
theorem r_209_67_4 : ∀ (d : Nat) (ls : Lc) (st : List Value) (M : Mem) (Q : Outcome → Mem → Prop), Wp d 209 67 ls (.int (I 4) :: st) M Q = Wp d 209 145 ls st M Q := fun d ls st M Q => w_tswK (show ins 209 67 = some (.tableswitch 109 0 4 #[33, 45, 56, 67, 78], 33) by decide +kernel) (by decide) rfl rfl
set_option maxRecDepth 100000 in
theorem r_209_67_5 : ∀ (d : Nat) (ls : Lc) (z : Int) (st : List Value) (M : Mem) (Q : Outcome → Mem → Prop), (-2147483648 ≤ z) → (z < 2147483648) → (z < 0 ∨ 4 < z) → Wp d 209 67 ls (.int (I z) :: st) M Q = Wp d 209 176 ls st M Q := fun d ls z st M Q h0 h1 h2 => w_tswD (show ins 209 67 = some (.tableswitch 109 0 4 #[33, 45, 56, 67, 78], 33) by decide +kernel) (by rw [I_toInt h0 h1]; exact h2) rfl
set_option maxRecDepth 100000 in
theorem r_209_100 : ∀ (d : Nat) (l1 l2 : Option Value) (v : Nat) (st : List Value) (M : Mem) (Q : Outcome → Mem → Prop), Wp d 209 100 [some (.ref v), l1, l2] st M Q = Wp d 209 101 [some (.ref v), l1, l2] (.ref v :: st) M Q := fun d l1 l2 v st M Q => wA (show ins 209 100 = some (.aload_n 0, 1) by decide +kernel) rfl
set_option maxRecDepth 100000 in
theorem r_209_101 : ∀ (d : Nat) (ls : Lc) (a : Nat) (st : List Value) (M : Mem) (Q : Outcome → Mem → Prop), Wp d 209 101 ls (.ref a :: st) M Q = (fk 53 (kO M a) = true ∧ Wp d 209 104 ls (va_rf (mR M 53 a) :: st) M Q) := fun d ls a st M Q => w_getR (show ins 209 101 = some (.getfield 7, 3) by decide +kernel) (show fRes (mC 209) 7 = some (53, 8, false) by decide +kernel) (by decide +kernel)
set_option maxRecDepth 100000 in
theorem r_209_104 : ∀ (d : Nat) (ls : Lc) (st : List Value) (M : Mem) (Q : Outcome → Mem → Prop), Wp d 209 104 ls st M Q = Wp d 209 106 ls (.int (I 96) :: st) M Q := fun d ls st M Q => w_bipush (show ins 209 104 = some (.bipush 96, 2) by decide +kernel) (by decide)
set_option maxRecDepth 100000 in
theorem r_209_106 : ∀ (d : Nat) (l0 l2 : Option Value) (v : Int32) (st : List Value) (M : Mem) (Q : Outcome → Mem → Prop), Wp d 209 106 [l0, some (.int v), l2] st M Q = Wp d 209 107 [l0, some (.int v), l2] (.int v :: st) M Q := fun d l0 l2 v st M Q => wA (show ins 209 106 = some (.iload_n 1, 1) by decide +kernel) rfl
set_option maxRecDepth 100000 in
theorem r_209_107 : ∀ (d : Nat) (ls : Lc) (a b : Int) (st : List Value) (M : Mem) (Q : Outcome → Mem → Prop), Wp d 209 107 ls (.int (I b) :: .int (I a) :: st) M Q = Wp d 209 108 ls (.int (I (a + b)) :: st) M Q := fun d ls a b st M Q => w_iadd (show ins 209 107 = some (.iadd, 1) by decide +kernel)
set_option maxRecDepth 100000 in
theorem r_209_108 : ∀ (d : Nat) (ls : Lc) (a : Nat) (j : Int32) (st : List Value) (M : Mem) (Q : Outcome → Mem → Prop), Wp d 209 108 ls (.int j :: .ref a :: st) M Q = ((((kX M a).1 = 0 ∨ (kX M a).1 = 8) ∧ inB j (kX M a).2 = true) ∧ Wp d 209 109 ls (.int (mA M a j.toNatClampNeg) :: st) M Q) := fun d ls a j st M Q => w_iaload (show ins 209 108 = some (.iaload, 1) by decide +kernel)
set_option maxRecDepth 100000 in
theorem r_209_109 : ∀ (d : Nat) (ls : Lc) (st : List Value) (M : Mem) (Q : Outcome → Mem → Prop), Wp d 209 109 ls st M Q = Wp d 209 110 ls (.int (I 1) :: st) M Q := fun d ls st M Q => w_iconst (show ins 209 109 = some (.iconst 1, 1) by decide +kernel)
set_option maxRecDepth 100000 in
theorem r_209_110 : ∀ (d : Nat) (ls : Lc) (a b : Int) (st : List Value) (M : Mem) (Q : Outcome → Mem → Prop), Wp d 209 110 ls (.int (I b) :: .int (I a) :: st) M Q = Wp d 209 111 ls (.int (I (a - b)) :: st) M Q := fun d ls a b st M Q => w_isub (show ins 209 110 = some (.isub, 1) by decide +kernel)
set_option maxRecDepth 100000 in
theorem r_209_111 : ∀ (d : Nat) (ls : Lc) (v : Int32) (M : Mem) (Q : Outcome → Mem → Prop), Wp d 209 111 ls [.int v] M Q = Q (.returned (some (.int v))) M := fun d ls v M Q => w_ireturn (show ins 209 111 = some (.ireturn, 1) by decide +kernel) (by decide +kernel)
set_option maxRecDepth 100000 in
theorem r_209_112 : ∀ (d : Nat) (l1 l2 : Option Value) (v : Nat) (st : List Value) (M : Mem) (Q : Outcome → Mem → Prop), Wp d 209 112 [some (.ref v), l1, l2] st M Q = Wp d 209 113 [some (.ref v), l1, l2] (.ref v :: st) M Q := fun d l1 l2 v st M Q => wA (show ins 209 112 = some (.aload_n 0, 1) by decide +kernel) rfl
set_option maxRecDepth 100000 in
theorem r_209_113 : ∀ (d : Nat) (ls : Lc) (a : Nat) (st : List Value) (M : Mem) (Q : Outcome → Mem → Prop), Wp d 209 113 ls (.ref a :: st) M Q = (fk 53 (kO M a) = true ∧ Wp d 209 116 ls (va_rf (mR M 53 a) :: st) M Q) := fun d ls a st M Q => w_getR (show ins 209 113 = some (.getfield 7, 3) by decide +kernel) (show fRes (mC 209) 7 = some (53, 8, false) by decide +kernel) (by decide +kernel)
set_option maxRecDepth 100000 in
theorem r_209_116 : ∀ (d : Nat) (ls : Lc) (st : List Value) (M : Mem) (Q : Outcome → Mem → Prop), Wp d 209 116 ls st M Q = Wp d 209 119 ls (.int (I 157) :: st) M Q := fun d ls st M Q => w_sipush (show ins 209 116 = some (.sipush 157, 3) by decide +kernel) (by decide)
set_option maxRecDepth 100000 in
theorem r_209_119 : ∀ (d : Nat) (l0 l2 : Option Value) (v : Int32) (st : List Value) (M : Mem) (Q : Outcome → Mem → Prop), Wp d 209 119 [l0, some (.int v), l2] st M Q = Wp d 209 120 [l0, some (.int v), l2] (.int v :: st) M Q := fun d l0 l2 v st M Q => wA (show ins 209 119 = some (.iload_n 1, 1) by decide +kernel) rfl
set_option maxRecDepth 100000 in
theorem r_209_120 : ∀ (d : Nat) (ls : Lc) (a b : Int) (st : List Value) (M : Mem) (Q : Outcome → Mem → Prop), Wp d 209 120 ls (.int (I b) :: .int (I a) :: st) M Q = Wp d 209 121 ls (.int (I (a + b)) :: st) M Q := fun d ls a b st M Q => w_iadd (show ins 209 120 = some (.iadd, 1) by decide +kernel)
set_option maxRecDepth 100000 in
theorem r_209_121 : ∀ (d : Nat) (ls : Lc) (a : Nat) (j : Int32) (st : List Value) (M : Mem) (Q : Outcome → Mem → Prop), Wp d 209 121 ls (.int j :: .ref a :: st) M Q = ((((kX M a).1 = 0 ∨ (kX M a).1 = 8) ∧ inB j (kX M a).2 = true) ∧ Wp d 209 122 ls (.int (mA M a j.toNatClampNeg) :: st) M Q) := fun d ls a j st M Q => w_iaload (show ins 209 121 = some (.iaload, 1) by decide +kernel)
set_option maxRecDepth 100000 in
theorem r_209_122 : ∀ (d : Nat) (ls : Lc) (v : Int32) (M : Mem) (Q : Outcome → Mem → Prop), Wp d 209 122 ls [.int v] M Q = Q (.returned (some (.int v))) M := fun d ls v M Q => w_ireturn (show ins 209 122 = some (.ireturn, 1) by decide +kernel) (by decide +kernel)
set_option maxRecDepth 100000 in
theorem r_209_123 : ∀ (d : Nat) (l1 l2 : Option Value) (v : Nat) (st : List Value) (M : Mem) (Q : Outcome → Mem → Prop), Wp d 209 123 [some (.ref v), l1, l2] st M Q = Wp d 209 124 [some (.ref v), l1, l2] (.ref v :: st) M Q := fun d l1 l2 v st M Q => wA (show ins 209 123 = some (.aload_n 0, 1) by decide +kernel) rfl
set_option maxRecDepth 100000 in
theorem r_209_124 : ∀ (d : Nat) (ls : Lc) (a : Nat) (st : List Value) (M : Mem) (Q : Outcome → Mem → Prop), Wp d 209 124 ls (.ref a :: st) M Q = (fk 53 (kO M a) = true ∧ Wp d 209 127 ls (va_rf (mR M 53 a) :: st) M Q) := fun d ls a st M Q => w_getR (show ins 209 124 = some (.getfield 7, 3) by decide +kernel) (show fRes (mC 209) 7 = some (53, 8, false) by decide +kernel) (by decide +kernel)
set_option maxRecDepth 100000 in
theorem r_209_127 : ∀ (d : Nat) (ls : Lc) (st : List Value) (M : Mem) (Q : Outcome → Mem → Prop), Wp d 209 127 ls st M Q = Wp d 209 130 ls (.int (I 218) :: st) M Q := fun d ls st M Q => w_sipush (show ins 209 127 = some (.sipush 218, 3) by decide +kernel) (by decide)
set_option maxRecDepth 100000 in
theorem r_209_130 : ∀ (d : Nat) (l0 l2 : Option Value) (v : Int32) (st : List Value) (M : Mem) (Q : Outcome → Mem → Prop), Wp d 209 130 [l0, some (.int v), l2] st M Q = Wp d 209 131 [l0, some (.int v), l2] (.int v :: st) M Q := fun d l0 l2 v st M Q => wA (show ins 209 130 = some (.iload_n 1, 1) by decide +kernel) rfl
set_option maxRecDepth 100000 in
theorem r_209_131 : ∀ (d : Nat) (ls : Lc) (a b : Int) (st : List Value) (M : Mem) (Q : Outcome → Mem → Prop), Wp d 209 131 ls (.int (I b) :: .int (I a) :: st) M Q = Wp d 209 132 ls (.int (I (a + b)) :: st) M Q := fun d ls a b st M Q => w_iadd (show ins 209 131 = some (.iadd, 1) by decide +kernel)
set_option maxRecDepth 100000 in
theorem r_209_132 : ∀ (d : Nat) (ls : Lc) (a : Nat) (j : Int32) (st : List Value) (M : Mem) (Q : Outcome → Mem → Prop), Wp d 209 132 ls (.int j :: .ref a :: st) M Q = ((((kX M a).1 = 0 ∨ (kX M a).1 = 8) ∧ inB j (kX M a).2 = true) ∧ Wp d 209 133 ls (.int (mA M a j.toNatClampNeg) :: st) M Q) := fun d ls a j st M Q => w_iaload (show ins 209 132 = some (.iaload, 1) by decide +kernel)
set_option maxRecDepth 100000 in
theorem r_209_133 : ∀ (d : Nat) (ls : Lc) (v : Int32) (M : Mem) (Q : Outcome → Mem → Prop), Wp d 209 133 ls [.int v] M Q = Q (.returned (some (.int v))) M := fun d ls v M Q => w_ireturn (show ins 209 133 = some (.ireturn, 1) by decide +kernel) (by decide +kernel)
set_option maxRecDepth 100000 in
theorem r_209_134 : ∀ (d : Nat) (l1 l2 : Option Value) (v : Nat) (st : List Value) (M : Mem) (Q : Outcome → Mem → Prop), Wp d 209 134 [some (.ref v), l1, l2] st M Q = Wp d 209 135 [some (.ref v), l1, l2] (.ref v :: st) M Q := fun d l1 l2 v st M Q => wA (show ins 209 134 = some (.aload_n 0, 1) by decide +kernel) rfl
set_option maxRecDepth 100000 in
theorem r_209_135 : ∀ (d : Nat) (ls : Lc) (a : Nat) (st : List Value) (M : Mem) (Q : Outcome → Mem → Prop), Wp d 209 135 ls (.ref a :: st) M Q = (fk 53 (kO M a) = true ∧ Wp d 209 138 ls (va_rf (mR M 53 a) :: st) M Q) := fun d ls a st M Q => w_getR (show ins 209 135 = some (.getfield 7, 3) by decide +kernel) (show fRes (mC 209) 7 = some (53, 8, false) by decide +kernel) (by decide +kernel)
set_option maxRecDepth 100000 in
theorem r_209_138 : ∀ (d : Nat) (ls : Lc) (st : List Value) (M : Mem) (Q : Outcome → Mem → Prop), Wp d 209 138 ls st M Q = Wp d 209 141 ls (.int (I 279) :: st) M Q := fun d ls st M Q => w_sipush (show ins 209 138 = some (.sipush 279, 3) by decide +kernel) (by decide)
set_option maxRecDepth 100000 in
theorem r_209_141 : ∀ (d : Nat) (l0 l2 : Option Value) (v : Int32) (st : List Value) (M : Mem) (Q : Outcome → Mem → Prop), Wp d 209 141 [l0, some (.int v), l2] st M Q = Wp d 209 142 [l0, some (.int v), l2] (.int v :: st) M Q := fun d l0 l2 v st M Q => wA (show ins 209 141 = some (.iload_n 1, 1) by decide +kernel) rfl
set_option maxRecDepth 100000 in
theorem r_209_142 : ∀ (d : Nat) (ls : Lc) (a b : Int) (st : List Value) (M : Mem) (Q : Outcome → Mem → Prop), Wp d 209 142 ls (.int (I b) :: .int (I a) :: st) M Q = Wp d 209 143 ls (.int (I (a + b)) :: st) M Q := fun d ls a b st M Q => w_iadd (show ins 209 142 = some (.iadd, 1) by decide +kernel)
set_option maxRecDepth 100000 in
theorem r_209_143 : ∀ (d : Nat) (ls : Lc) (a : Nat) (j : Int32) (st : List Value) (M : Mem) (Q : Outcome → Mem → Prop), Wp d 209 143 ls (.int j :: .ref a :: st) M Q = ((((kX M a).1 = 0 ∨ (kX M a).1 = 8) ∧ inB j (kX M a).2 = true) ∧ Wp d 209 144 ls (.int (mA M a j.toNatClampNeg) :: st) M Q) := fun d ls a j st M Q => w_iaload (show ins 209 143 = some (.iaload, 1) by decide +kernel)
set_option maxRecDepth 100000 in
theorem r_209_144 : ∀ (d : Nat) (ls : Lc) (v : Int32) (M : Mem) (Q : Outcome → Mem → Prop), Wp d 209 144 ls [.int v] M Q = Q (.returned (some (.int v))) M := fun d ls v M Q => w_ireturn (show ins 209 144 = some (.ireturn, 1) by decide +kernel) (by decide +kernel)
set_option maxRecDepth 100000 in
theorem r_209_145 : ∀ (d : Nat) (l1 l2 : Option Value) (v : Nat) (st : List Value) (M : Mem) (Q : Outcome → Mem → Prop), Wp d 209 145 [some (.ref v), l1, l2] st M Q = Wp d 209 146 [some (.ref v), l1, l2] (.ref v :: st) M Q := fun d l1 l2 v st M Q => wA (show ins 209 145 = some (.aload_n 0, 1) by decide +kernel) rfl
set_option maxRecDepth 100000 in
theorem r_209_146 : ∀ (d : Nat) (ls : Lc) (a : Nat) (st : List Value) (M : Mem) (Q : Outcome → Mem → Prop), Wp d 209 146 ls (.ref a :: st) M Q = (fk 53 (kO M a) = true ∧ Wp d 209 149 ls (va_rf (mR M 53 a) :: st) M Q) := fun d ls a st M Q => w_getR (show ins 209 146 = some (.getfield 7, 3) by decide +kernel) (show fRes (mC 209) 7 = some (53, 8, false) by decide +kernel) (by decide +kernel)
set_option maxRecDepth 100000 in
theorem r_209_149 : ∀ (d : Nat) (ls : Lc) (st : List Value) (M : Mem) (Q : Outcome → Mem → Prop), Wp d 209 149 ls st M Q = Wp d 209 151 ls (.int (I 96) :: st) M Q := fun d ls st M Q => w_bipush (show ins 209 149 = some (.bipush 96, 2) by decide +kernel) (by decide)
set_option maxRecDepth 100000 in
theorem r_209_151 : ∀ (d : Nat) (l0 l2 : Option Value) (v : Int32) (st : List Value) (M : Mem) (Q : Outcome → Mem → Prop), Wp d 209 151 [l0, some (.int v), l2] st M Q = Wp d 209 152 [l0, some (.int v), l2] (.int v :: st) M Q := fun d l0 l2 v st M Q => wA (show ins 209 151 = some (.iload_n 1, 1) by decide +kernel) rfl
set_option maxRecDepth 100000 in
theorem r_209_152 : ∀ (d : Nat) (ls : Lc) (a b : Int) (st : List Value) (M : Mem) (Q : Outcome → Mem → Prop), Wp d 209 152 ls (.int (I b) :: .int (I a) :: st) M Q = Wp d 209 153 ls (.int (I (a + b)) :: st) M Q := fun d ls a b st M Q => w_iadd (show ins 209 152 = some (.iadd, 1) by decide +kernel)
set_option maxRecDepth 100000 in
theorem r_209_153 : ∀ (d : Nat) (ls : Lc) (a : Nat) (j : Int32) (st : List Value) (M : Mem) (Q : Outcome → Mem → Prop), Wp d 209 153 ls (.int j :: .ref a :: st) M Q = ((((kX M a).1 = 0 ∨ (kX M a).1 = 8) ∧ inB j (kX M a).2 = true) ∧ Wp d 209 154 ls (.int (mA M a j.toNatClampNeg) :: st) M Q) := fun d ls a j st M Q => w_iaload (show ins 209 153 = some (.iaload, 1) by decide +kernel)
set_option maxRecDepth 100000 in
theorem r_209_154 : ∀ (d : Nat) (ls : Lc) (st : List Value) (M : Mem) (Q : Outcome → Mem → Prop), Wp d 209 154 ls st M Q = Wp d 209 155 ls (.int (I 2) :: st) M Q := fun d ls st M Q => w_iconst (show ins 209 154 = some (.iconst 2, 1) by decide +kernel)
set_option maxRecDepth 100000 in
theorem r_209_155 : ∀ (d : Nat) (ls : Lc) (a b : Int32) (st : List Value) (M : Mem) (Q : Outcome → Mem → Prop), Wp d 209 155 ls (.int b :: .int a :: st) M Q = Br (¬ a = b) d 209 174 158 ls st M Q := fun d ls a b st M Q => w_icmp (show ins 209 155 = some (.if_icmp .ne 19, 3) by decide +kernel) rfl rfl
set_option maxRecDepth 100000 in
theorem r_209_158 : ∀ (d : Nat) (l1 l2 : Option Value) (v : Nat) (st : List Value) (M : Mem) (Q : Outcome → Mem → Prop), Wp d 209 158 [some (.ref v), l1, l2] st M Q = Wp d 209 159 [some (.ref v), l1, l2] (.ref v :: st) M Q := fun d l1 l2 v st M Q => wA (show ins 209 158 = some (.aload_n 0, 1) by decide +kernel) rfl
set_option maxRecDepth 100000 in
theorem r_209_159 : ∀ (d : Nat) (ls : Lc) (a : Nat) (st : List Value) (M : Mem) (Q : Outcome → Mem → Prop), Wp d 209 159 ls (.ref a :: st) M Q = (fk 53 (kO M a) = true ∧ Wp d 209 162 ls (va_rf (mR M 53 a) :: st) M Q) := fun d ls a st M Q => w_getR (show ins 209 159 = some (.getfield 7, 3) by decide +kernel) (show fRes (mC 209) 7 = some (53, 8, false) by decide +kernel) (by decide +kernel)
set_option maxRecDepth 100000 in
theorem r_209_162 : ∀ (d : Nat) (ls : Lc) (st : List Value) (M : Mem) (Q : Outcome → Mem → Prop), Wp d 209 162 ls st M Q = Wp d 209 165 ls (.int (I 218) :: st) M Q := fun d ls st M Q => w_sipush (show ins 209 162 = some (.sipush 218, 3) by decide +kernel) (by decide)
set_option maxRecDepth 100000 in
theorem r_209_165 : ∀ (d : Nat) (l0 l2 : Option Value) (v : Int32) (st : List Value) (M : Mem) (Q : Outcome → Mem → Prop), Wp d 209 165 [l0, some (.int v), l2] st M Q = Wp d 209 166 [l0, some (.int v), l2] (.int v :: st) M Q := fun d l0 l2 v st M Q => wA (show ins 209 165 = some (.iload_n 1, 1) by decide +kernel) rfl
set_option maxRecDepth 100000 in
theorem r_209_166 : ∀ (d : Nat) (ls : Lc) (a b : Int) (st : List Value) (M : Mem) (Q : Outcome → Mem → Prop), Wp d 209 166 ls (.int (I b) :: .int (I a) :: st) M Q = Wp d 209 167 ls (.int (I (a + b)) :: st) M Q := fun d ls a b st M Q => w_iadd (show ins 209 166 = some (.iadd, 1) by decide +kernel)
set_option maxRecDepth 100000 in
theorem r_209_167 : ∀ (d : Nat) (ls : Lc) (a : Nat) (j : Int32) (st : List Value) (M : Mem) (Q : Outcome → Mem → Prop), Wp d 209 167 ls (.int j :: .ref a :: st) M Q = ((((kX M a).1 = 0 ∨ (kX M a).1 = 8) ∧ inB j (kX M a).2 = true) ∧ Wp d 209 168 ls (.int (mA M a j.toNatClampNeg) :: st) M Q) := fun d ls a j st M Q => w_iaload (show ins 209 167 = some (.iaload, 1) by decide +kernel)
set_option maxRecDepth 100000 in
theorem r_209_168 : ∀ (d : Nat) (ls : Lc) (v0 : Value)  (st : List Value) (M : Mem) (Q : Outcome → Mem → Prop), (smallR st = true) → Wp d 209 168 ls (v0 :: st) M Q = Ca d 209 168 ls 192 [v0] st M Q := fun d ls v0 st M Q h0 => w_stat (as := [v0]) (show ins 209 168 = some (.invokestatic 137, 3) by decide +kernel) (show mRes (mC 209) 137 = some (0, 8, [(0, 192)]) by decide +kernel) (by decide +kernel) (by decide +kernel) rfl h0
set_option maxRecDepth 100000 in
theorem r_209_171 : ∀ (d : Nat) (ls : Lc) (st : List Value) (M : Mem) (Q : Outcome → Mem → Prop), Wp d 209 171 ls st M Q = Wp d 209 175 ls st M Q := fun d ls st M Q => w_goto (show ins 209 171 = some (.goto 4, 3) by decide +kernel) rfl
set_option maxRecDepth 100000 in
theorem r_209_174 : ∀ (d : Nat) (ls : Lc) (st : List Value) (M : Mem) (Q : Outcome → Mem → Prop), Wp d 209 174 ls st M Q = Wp d 209 175 ls (.int (I 0) :: st) M Q := fun d ls st M Q => w_iconst (show ins 209 174 = some (.iconst 0, 1) by decide +kernel)
set_option maxRecDepth 100000 in
theorem r_209_175 : ∀ (d : Nat) (ls : Lc) (v : Int32) (M : Mem) (Q : Outcome → Mem → Prop), Wp d 209 175 ls [.int v] M Q = Q (.returned (some (.int v))) M := fun d ls v M Q => w_ireturn (show ins 209 175 = some (.ireturn, 1) by decide +kernel) (by decide +kernel)
set_option maxRecDepth 100000 in
theorem r_209_176 : ∀ (d : Nat) (l1 l2 : Option Value) (v : Nat) (st : List Value) (M : Mem) (Q : Outcome → Mem → Prop), Wp d 209 176 [some (.ref v), l1, l2] st M Q = Wp d 209 177 [some (.ref v), l1, l2] (.ref v :: st) M Q := fun d l1 l2 v st M Q => wA (show ins 209 176 = some (.aload_n 0, 1) by decide +kernel) rfl
set_option maxRecDepth 100000 in
theorem r_209_177 : ∀ (d : Nat) (ls : Lc) (a : Nat) (st : List Value) (M : Mem) (Q : Outcome → Mem → Prop), Wp d 209 177 ls (.ref a :: st) M Q = (fk 53 (kO M a) = true ∧ Wp d 209 180 ls (va_rf (mR M 53 a) :: st) M Q) := fun d ls a st M Q => w_getR (show ins 209 177 = some (.getfield 7, 3) by decide +kernel) (show fRes (mC 209) 7 = some (53, 8, false) by decide +kernel) (by decide +kernel)
set_option maxRecDepth 100000 in
theorem r_209_180 : ∀ (d : Nat) (ls : Lc) (st : List Value) (M : Mem) (Q : Outcome → Mem → Prop), Wp d 209 180 ls st M Q = Wp d 209 183 ls (.int (I 340) :: st) M Q := fun d ls st M Q => w_sipush (show ins 209 180 = some (.sipush 340, 3) by decide +kernel) (by decide)
set_option maxRecDepth 100000 in
theorem r_209_183 : ∀ (d : Nat) (ls : Lc) (st : List Value) (M : Mem) (Q : Outcome → Mem → Prop), Wp d 209 183 ls st M Q = Wp d 209 185 ls (.int (I 16) :: st) M Q := fun d ls st M Q => w_bipush (show ins 209 183 = some (.bipush 16, 2) by decide +kernel) (by decide)
set_option maxRecDepth 100000 in
theorem r_209_185 : ∀ (d : Nat) (l0 l2 : Option Value) (v : Int32) (st : List Value) (M : Mem) (Q : Outcome → Mem → Prop), Wp d 209 185 [l0, some (.int v), l2] st M Q = Wp d 209 186 [l0, some (.int v), l2] (.int v :: st) M Q := fun d l0 l2 v st M Q => wA (show ins 209 185 = some (.iload_n 1, 1) by decide +kernel) rfl
set_option maxRecDepth 100000 in
theorem r_209_186 : ∀ (d : Nat) (ls : Lc) (a b : Int) (st : List Value) (M : Mem) (Q : Outcome → Mem → Prop), Wp d 209 186 ls (.int (I b) :: .int (I a) :: st) M Q = Wp d 209 187 ls (.int (I (a * b)) :: st) M Q := fun d ls a b st M Q => w_imul (show ins 209 186 = some (.imul, 1) by decide +kernel)
set_option maxRecDepth 100000 in
theorem r_209_187 : ∀ (d : Nat) (ls : Lc) (a b : Int) (st : List Value) (M : Mem) (Q : Outcome → Mem → Prop), Wp d 209 187 ls (.int (I b) :: .int (I a) :: st) M Q = Wp d 209 188 ls (.int (I (a + b)) :: st) M Q := fun d ls a b st M Q => w_iadd (show ins 209 187 = some (.iadd, 1) by decide +kernel)
set_option maxRecDepth 100000 in
theorem r_209_188 : ∀ (d : Nat) (l0 l1 : Option Value) (v : Int32) (st : List Value) (M : Mem) (Q : Outcome → Mem → Prop), Wp d 209 188 [l0, l1, some (.int v)] st M Q = Wp d 209 189 [l0, l1, some (.int v)] (.int v :: st) M Q := fun d l0 l1 v st M Q => wA (show ins 209 188 = some (.iload_n 2, 1) by decide +kernel) rfl
set_option maxRecDepth 100000 in
theorem r_209_189 : ∀ (d : Nat) (ls : Lc) (a b : Int) (st : List Value) (M : Mem) (Q : Outcome → Mem → Prop), Wp d 209 189 ls (.int (I b) :: .int (I a) :: st) M Q = Wp d 209 190 ls (.int (I (a + b)) :: st) M Q := fun d ls a b st M Q => w_iadd (show ins 209 189 = some (.iadd, 1) by decide +kernel)
set_option maxRecDepth 100000 in
theorem r_209_190 : ∀ (d : Nat) (ls : Lc) (st : List Value) (M : Mem) (Q : Outcome → Mem → Prop), Wp d 209 190 ls st M Q = Wp d 209 191 ls (.int (I 5) :: st) M Q := fun d ls st M Q => w_iconst (show ins 209 190 = some (.iconst 5, 1) by decide +kernel)
set_option maxRecDepth 100000 in
theorem r_209_191 : ∀ (d : Nat) (ls : Lc) (a b : Int) (st : List Value) (M : Mem) (Q : Outcome → Mem → Prop), Wp d 209 191 ls (.int (I b) :: .int (I a) :: st) M Q = Wp d 209 192 ls (.int (I (a - b)) :: st) M Q := fun d ls a b st M Q => w_isub (show ins 209 191 = some (.isub, 1) by decide +kernel)
set_option maxRecDepth 100000 in
theorem r_209_192 : ∀ (d : Nat) (ls : Lc) (a : Nat) (j : Int32) (st : List Value) (M : Mem) (Q : Outcome → Mem → Prop), Wp d 209 192 ls (.int j :: .ref a :: st) M Q = ((((kX M a).1 = 0 ∨ (kX M a).1 = 8) ∧ inB j (kX M a).2 = true) ∧ Wp d 209 193 ls (.int (mA M a j.toNatClampNeg) :: st) M Q) := fun d ls a j st M Q => w_iaload (show ins 209 192 = some (.iaload, 1) by decide +kernel)
set_option maxRecDepth 100000 in
theorem r_209_193 : ∀ (d : Nat) (ls : Lc) (v : Int32) (M : Mem) (Q : Outcome → Mem → Prop), Wp d 209 193 ls [.int v] M Q = Q (.returned (some (.int v))) M := fun d ls v M Q => w_ireturn (show ins 209 193 = some (.ireturn, 1) by decide +kernel) (by decide +kernel)
set_option maxRecDepth 100000 in
theorem W_209 : (type_of% r_209_0) ∧ (type_of% r_209_1) ∧ (type_of% r_209_2) ∧ (type_of% r_209_5) ∧ (type_of% r_209_8) ∧ (type_of% r_209_9) ∧ (type_of% r_209_12) ∧ (type_of% r_209_13) ∧ (type_of% r_209_14) ∧ (type_of% r_209_17) ∧ (type_of% r_209_20) ∧ (type_of% r_209_21) ∧ (type_of% r_209_22) ∧ (type_of% r_209_25) ∧ (type_of% r_209_26) ∧ (type_of% r_209_27) ∧ (type_of% r_209_28) ∧ (type_of% r_209_29) ∧ (type_of% r_209_32) ∧ (type_of% r_209_35) ∧ (type_of% r_209_36) ∧ (type_of% r_209_37) ∧ (type_of% r_209_38) ∧ (type_of% r_209_41) ∧ (type_of% r_209_42) ∧ (type_of% r_209_45) ∧ (type_of% r_209_46) ∧ (type_of% r_209_49) ∧ (type_of% r_209_50) ∧ (type_of% r_209_53) ∧ (type_of% r_209_54) ∧ (type_of% r_209_57) ∧ (type_of% r_209_58) ∧ (type_of% r_209_61) ∧ (type_of% r_209_64) ∧ (type_of% r_209_65) ∧ (type_of% r_209_66) ∧ (type_of% r_209_67) ∧ (type_of% r_209_67_1) ∧ (type_of% r_209_67_2) ∧ (type_of% r_209_67_3) ∧ (type_of% r_209_67_4) ∧ (type_of% r_209_67_5) ∧ (type_of% r_209_100) ∧ (type_of% r_209_101) ∧ (type_of% r_209_104) ∧ (type_of% r_209_106) ∧ (type_of% r_209_107) ∧ (type_of% r_209_108) ∧ (type_of% r_209_109) ∧ (type_of% r_209_110) ∧ (type_of% r_209_111) ∧ (type_of% r_209_112) ∧ (type_of% r_209_113) ∧ (type_of% r_209_116) ∧ (type_of% r_209_119) ∧ (type_of% r_209_120) ∧ (type_of% r_209_121) ∧ (type_of% r_209_122) ∧ (type_of% r_209_123) ∧ (type_of% r_209_124) ∧ (type_of% r_209_127) ∧ (type_of% r_209_130) ∧ (type_of% r_209_131) ∧ (type_of% r_209_132) ∧ (type_of% r_209_133) ∧ (type_of% r_209_134) ∧ (type_of% r_209_135) ∧ (type_of% r_209_138) ∧ (type_of% r_209_141) ∧ (type_of% r_209_142) ∧ (type_of% r_209_143) ∧ (type_of% r_209_144) ∧ (type_of% r_209_145) ∧ (type_of% r_209_146) ∧ (type_of% r_209_149) ∧ (type_of% r_209_151) ∧ (type_of% r_209_152) ∧ (type_of% r_209_153) ∧ (type_of% r_209_154) ∧ (type_of% r_209_155) ∧ (type_of% r_209_158) ∧ (type_of% r_209_159) ∧ (type_of% r_209_162) ∧ (type_of% r_209_165) ∧ (type_of% r_209_166) ∧ (type_of% r_209_167) ∧ (type_of% r_209_168) ∧ (type_of% r_209_171) ∧ (type_of% r_209_174) ∧ (type_of% r_209_175) ∧ (type_of% r_209_176) ∧ (type_of% r_209_177) ∧ (type_of% r_209_180) ∧ (type_of% r_209_183) ∧ (type_of% r_209_185) ∧ (type_of% r_209_186) ∧ (type_of% r_209_187) ∧ (type_of% r_209_188) ∧ (type_of% r_209_189) ∧ (type_of% r_209_190) ∧ (type_of% r_209_191) ∧ (type_of% r_209_192) ∧ (type_of% r_209_193) := ⟨r_209_0, r_209_1, r_209_2, r_209_5, r_209_8, r_209_9, r_209_12, r_209_13, r_209_14, r_209_17, r_209_20, r_209_21, r_209_22, r_209_25, r_209_26, r_209_27, r_209_28, r_209_29, r_209_32, r_209_35, r_209_36, r_209_37, r_209_38, r_209_41, r_209_42, r_209_45, r_209_46, r_209_49, r_209_50, r_209_53, r_209_54, r_209_57, r_209_58, r_209_61, r_209_64, r_209_65, r_209_66, r_209_67, r_209_67_1, r_209_67_2, r_209_67_3, r_209_67_4, r_209_67_5, r_209_100, r_209_101, r_209_104, r_209_106, r_209_107, r_209_108, r_209_109, r_209_110, r_209_111, r_209_112, r_209_113, r_209_116, r_209_119, r_209_120, r_209_121, r_209_122, r_209_123, r_209_124, r_209_127, r_209_130, r_209_131, r_209_132, r_209_133, r_209_134, r_209_135, r_209_138, r_209_141, r_209_142, r_209_143, r_209_144, r_209_145, r_209_146, r_209_149, r_209_151, r_209_152, r_209_153, r_209_154, r_209_155, r_209_158, r_209_159, r_209_162, r_209_165, r_209_166, r_209_167, r_209_168, r_209_171, r_209_174, r_209_175, r_209_176, r_209_177, r_209_180, r_209_183, r_209_185, r_209_186, r_209_187, r_209_188, r_209_189, r_209_190, r_209_191, r_209_192, r_209_193⟩
set_option maxRecDepth 100000 in
theorem ca_209 {d y pc : Nat} {ls : Lc} {a : Nat} {z0 : Int32} {z1 : Int32} {r : List Value} {M : Mem} {Q : Outcome → Mem → Prop} (hd : 0 < d) (hw : Wp (d - 1) 209 0 [some (.ref a), some (.int z0), some (.int z1)] [] M (Cq d y pc ls r Q)) : Ca d y pc ls 209 [.ref a, .int z0, .int z1] r M Q := ca_of (mq_get (by decide)) (by rfl) hd hw
/-! 210 PackedTreeModel.node(III)I; loop heads [] -/
set_option maxRecDepth 100000 in
theorem r_210_0 : ∀ (d : Nat) (l1 l2 l3 l4 : Option Value) (v : Nat) (st : List Value) (M : Mem) (Q : Outcome → Mem → Prop), Wp d 210 0 [some (.ref v), l1, l2, l3, l4] st M Q = Wp d 210 1 [some (.ref v), l1, l2, l3, l4] (.ref v :: st) M Q := fun d l1 l2 l3 l4 v st M Q => wA (show ins 210 0 = some (.aload_n 0, 1) by decide +kernel) rfl
set_option maxRecDepth 100000 in
theorem r_210_1 : ∀ (d : Nat) (l1 l2 l3 l4 : Option Value) (v : Nat) (st : List Value) (M : Mem) (Q : Outcome → Mem → Prop), Wp d 210 1 [some (.ref v), l1, l2, l3, l4] st M Q = Wp d 210 2 [some (.ref v), l1, l2, l3, l4] (.ref v :: st) M Q := fun d l1 l2 l3 l4 v st M Q => wA (show ins 210 1 = some (.aload_n 0, 1) by decide +kernel) rfl
set_option maxRecDepth 100000 in
theorem r_210_2 : ∀ (d : Nat) (ls : Lc) (a : Nat) (st : List Value) (M : Mem) (Q : Outcome → Mem → Prop), Wp d 210 2 ls (.ref a :: st) M Q = (fk 52 (kO M a) = true ∧ Wp d 210 5 ls (.int (mF M 52 a) :: st) M Q) := fun d ls a st M Q => w_getI (show ins 210 2 = some (.getfield 149, 3) by decide +kernel) (show fRes (mC 210) 149 = some (52, 8, false) by decide +kernel) (by decide +kernel)
set_option maxRecDepth 100000 in
theorem r_210_5 : ∀ (d : Nat) (ls : Lc) (a : Int32) (st : List Value) (M : Mem) (Q : Outcome → Mem → Prop), Wp d 210 5 ls (.int a :: st) M Q = Br (a = I 0) d 210 12 8 ls st M Q := fun d ls a st M Q => w_if (show ins 210 5 = some (.ifCond .eq 7, 3) by decide +kernel) rfl rfl
set_option maxRecDepth 100000 in
theorem r_210_8 : ∀ (d : Nat) (ls : Lc) (st : List Value) (M : Mem) (Q : Outcome → Mem → Prop), Wp d 210 8 ls st M Q = Wp d 210 9 ls (.int (I 1) :: st) M Q := fun d ls st M Q => w_iconst (show ins 210 8 = some (.iconst 1, 1) by decide +kernel)
set_option maxRecDepth 100000 in
theorem r_210_9 : ∀ (d : Nat) (ls : Lc) (st : List Value) (M : Mem) (Q : Outcome → Mem → Prop), Wp d 210 9 ls st M Q = Wp d 210 68 ls st M Q := fun d ls st M Q => w_goto (show ins 210 9 = some (.goto 59, 3) by decide +kernel) rfl
set_option maxRecDepth 100000 in
theorem r_210_12 : ∀ (d : Nat) (l0 l2 l3 l4 : Option Value) (v : Int32) (st : List Value) (M : Mem) (Q : Outcome → Mem → Prop), Wp d 210 12 [l0, some (.int v), l2, l3, l4] st M Q = Wp d 210 13 [l0, some (.int v), l2, l3, l4] (.int v :: st) M Q := fun d l0 l2 l3 l4 v st M Q => wA (show ins 210 12 = some (.iload_n 1, 1) by decide +kernel) rfl
set_option maxRecDepth 100000 in
theorem r_210_13 : ∀ (d : Nat) (ls : Lc) (st : List Value) (M : Mem) (Q : Outcome → Mem → Prop), Wp d 210 13 ls st M Q = Wp d 210 14 ls (.int (I 0) :: st) M Q := fun d ls st M Q => w_iconst (show ins 210 13 = some (.iconst 0, 1) by decide +kernel)
set_option maxRecDepth 100000 in
theorem r_210_14 : ∀ (d : Nat) (l1 l2 l3 l4 : Option Value) (v : Nat) (st : List Value) (M : Mem) (Q : Outcome → Mem → Prop), Wp d 210 14 [some (.ref v), l1, l2, l3, l4] st M Q = Wp d 210 15 [some (.ref v), l1, l2, l3, l4] (.ref v :: st) M Q := fun d l1 l2 l3 l4 v st M Q => wA (show ins 210 14 = some (.aload_n 0, 1) by decide +kernel) rfl
set_option maxRecDepth 100000 in
theorem r_210_15 : ∀ (d : Nat) (ls : Lc) (a : Nat) (st : List Value) (M : Mem) (Q : Outcome → Mem → Prop), Wp d 210 15 ls (.ref a :: st) M Q = (fk 53 (kO M a) = true ∧ Wp d 210 18 ls (va_rf (mR M 53 a) :: st) M Q) := fun d ls a st M Q => w_getR (show ins 210 15 = some (.getfield 7, 3) by decide +kernel) (show fRes (mC 210) 7 = some (53, 8, false) by decide +kernel) (by decide +kernel)
set_option maxRecDepth 100000 in
theorem r_210_18 : ∀ (d : Nat) (ls : Lc) (st : List Value) (M : Mem) (Q : Outcome → Mem → Prop), Wp d 210 18 ls st M Q = Wp d 210 21 ls (.int (I 13077) :: st) M Q := fun d ls st M Q => w_sipush (show ins 210 18 = some (.sipush 13077, 3) by decide +kernel) (by decide)
set_option maxRecDepth 100000 in
theorem r_210_21 : ∀ (d : Nat) (ls : Lc) (a : Nat) (j : Int32) (st : List Value) (M : Mem) (Q : Outcome → Mem → Prop), Wp d 210 21 ls (.int j :: .ref a :: st) M Q = ((((kX M a).1 = 0 ∨ (kX M a).1 = 8) ∧ inB j (kX M a).2 = true) ∧ Wp d 210 22 ls (.int (mA M a j.toNatClampNeg) :: st) M Q) := fun d ls a j st M Q => w_iaload (show ins 210 21 = some (.iaload, 1) by decide +kernel)
set_option maxRecDepth 100000 in
theorem r_210_22 : ∀ (d : Nat) (ls : Lc) (st : List Value) (M : Mem) (Q : Outcome → Mem → Prop), Wp d 210 22 ls st M Q = Wp d 210 23 ls (.int (I 1) :: st) M Q := fun d ls st M Q => w_iconst (show ins 210 22 = some (.iconst 1, 1) by decide +kernel)
set_option maxRecDepth 100000 in
theorem r_210_23 : ∀ (d : Nat) (ls : Lc) (a b : Int) (st : List Value) (M : Mem) (Q : Outcome → Mem → Prop), Wp d 210 23 ls (.int (I b) :: .int (I a) :: st) M Q = Wp d 210 24 ls (.int (I (a - b)) :: st) M Q := fun d ls a b st M Q => w_isub (show ins 210 23 = some (.isub, 1) by decide +kernel)
set_option maxRecDepth 100000 in
theorem r_210_24 : ∀ (d : Nat) (ls : Lc) (v0 v1 v2 : Value)  (st : List Value) (M : Mem) (Q : Outcome → Mem → Prop), (smallR st = true) → Wp d 210 24 ls (v2 :: v1 :: v0 :: st) M Q = Ca d 210 24 ls 159 [v0, v1, v2] st M Q := fun d ls v0 v1 v2 st M Q h0 => w_stat (as := [v0, v1, v2]) (show ins 210 24 = some (.invokestatic 43, 3) by decide +kernel) (show mRes (mC 210) 43 = some (0, 8, [(0, 159)]) by decide +kernel) (by decide +kernel) (by decide +kernel) rfl h0
set_option maxRecDepth 100000 in
theorem r_210_27 : ∀ (d : Nat) (ls : Lc) (a : Int32) (st : List Value) (M : Mem) (Q : Outcome → Mem → Prop), Wp d 210 27 ls (.int a :: st) M Q = Br (a = I 0) d 210 50 30 ls st M Q := fun d ls a st M Q => w_if (show ins 210 27 = some (.ifCond .eq 23, 3) by decide +kernel) rfl rfl
set_option maxRecDepth 100000 in
theorem r_210_30 : ∀ (d : Nat) (l0 l1 l3 l4 : Option Value) (v : Int32) (st : List Value) (M : Mem) (Q : Outcome → Mem → Prop), Wp d 210 30 [l0, l1, some (.int v), l3, l4] st M Q = Wp d 210 31 [l0, l1, some (.int v), l3, l4] (.int v :: st) M Q := fun d l0 l1 l3 l4 v st M Q => wA (show ins 210 30 = some (.iload_n 2, 1) by decide +kernel) rfl
set_option maxRecDepth 100000 in
theorem r_210_31 : ∀ (d : Nat) (ls : Lc) (st : List Value) (M : Mem) (Q : Outcome → Mem → Prop), Wp d 210 31 ls st M Q = Wp d 210 32 ls (.int (I 0) :: st) M Q := fun d ls st M Q => w_iconst (show ins 210 31 = some (.iconst 0, 1) by decide +kernel)
set_option maxRecDepth 100000 in
theorem r_210_32 : ∀ (d : Nat) (l1 l2 l3 l4 : Option Value) (v : Nat) (st : List Value) (M : Mem) (Q : Outcome → Mem → Prop), Wp d 210 32 [some (.ref v), l1, l2, l3, l4] st M Q = Wp d 210 33 [some (.ref v), l1, l2, l3, l4] (.ref v :: st) M Q := fun d l1 l2 l3 l4 v st M Q => wA (show ins 210 32 = some (.aload_n 0, 1) by decide +kernel) rfl
set_option maxRecDepth 100000 in
theorem r_210_33 : ∀ (d : Nat) (ls : Lc) (a : Nat) (st : List Value) (M : Mem) (Q : Outcome → Mem → Prop), Wp d 210 33 ls (.ref a :: st) M Q = (fk 53 (kO M a) = true ∧ Wp d 210 36 ls (va_rf (mR M 53 a) :: st) M Q) := fun d ls a st M Q => w_getR (show ins 210 33 = some (.getfield 7, 3) by decide +kernel) (show fRes (mC 210) 7 = some (53, 8, false) by decide +kernel) (by decide +kernel)
set_option maxRecDepth 100000 in
theorem r_210_36 : ∀ (d : Nat) (ls : Lc) (st : List Value) (M : Mem) (Q : Outcome → Mem → Prop), Wp d 210 36 ls st M Q = Wp d 210 39 ls (.int (I 13068) :: st) M Q := fun d ls st M Q => w_sipush (show ins 210 36 = some (.sipush 13068, 3) by decide +kernel) (by decide)
set_option maxRecDepth 100000 in
theorem r_210_39 : ∀ (d : Nat) (l0 l2 l3 l4 : Option Value) (v : Int32) (st : List Value) (M : Mem) (Q : Outcome → Mem → Prop), Wp d 210 39 [l0, some (.int v), l2, l3, l4] st M Q = Wp d 210 40 [l0, some (.int v), l2, l3, l4] (.int v :: st) M Q := fun d l0 l2 l3 l4 v st M Q => wA (show ins 210 39 = some (.iload_n 1, 1) by decide +kernel) rfl
set_option maxRecDepth 100000 in
theorem r_210_40 : ∀ (d : Nat) (ls : Lc) (a b : Int) (st : List Value) (M : Mem) (Q : Outcome → Mem → Prop), Wp d 210 40 ls (.int (I b) :: .int (I a) :: st) M Q = Wp d 210 41 ls (.int (I (a + b)) :: st) M Q := fun d ls a b st M Q => w_iadd (show ins 210 40 = some (.iadd, 1) by decide +kernel)
set_option maxRecDepth 100000 in
theorem r_210_41 : ∀ (d : Nat) (ls : Lc) (a : Nat) (j : Int32) (st : List Value) (M : Mem) (Q : Outcome → Mem → Prop), Wp d 210 41 ls (.int j :: .ref a :: st) M Q = ((((kX M a).1 = 0 ∨ (kX M a).1 = 8) ∧ inB j (kX M a).2 = true) ∧ Wp d 210 42 ls (.int (mA M a j.toNatClampNeg) :: st) M Q) := fun d ls a j st M Q => w_iaload (show ins 210 41 = some (.iaload, 1) by decide +kernel)
set_option maxRecDepth 100000 in
theorem r_210_42 : ∀ (d : Nat) (ls : Lc) (st : List Value) (M : Mem) (Q : Outcome → Mem → Prop), Wp d 210 42 ls st M Q = Wp d 210 43 ls (.int (I 1) :: st) M Q := fun d ls st M Q => w_iconst (show ins 210 42 = some (.iconst 1, 1) by decide +kernel)
set_option maxRecDepth 100000 in
theorem r_210_43 : ∀ (d : Nat) (ls : Lc) (a b : Int) (st : List Value) (M : Mem) (Q : Outcome → Mem → Prop), Wp d 210 43 ls (.int (I b) :: .int (I a) :: st) M Q = Wp d 210 44 ls (.int (I (a - b)) :: st) M Q := fun d ls a b st M Q => w_isub (show ins 210 43 = some (.isub, 1) by decide +kernel)
set_option maxRecDepth 100000 in
theorem r_210_44 : ∀ (d : Nat) (ls : Lc) (v0 v1 v2 : Value)  (st : List Value) (M : Mem) (Q : Outcome → Mem → Prop), (smallR st = true) → Wp d 210 44 ls (v2 :: v1 :: v0 :: st) M Q = Ca d 210 44 ls 159 [v0, v1, v2] st M Q := fun d ls v0 v1 v2 st M Q h0 => w_stat (as := [v0, v1, v2]) (show ins 210 44 = some (.invokestatic 43, 3) by decide +kernel) (show mRes (mC 210) 43 = some (0, 8, [(0, 159)]) by decide +kernel) (by decide +kernel) (by decide +kernel) rfl h0
set_option maxRecDepth 100000 in
theorem r_210_47 : ∀ (d : Nat) (ls : Lc) (a : Int32) (st : List Value) (M : Mem) (Q : Outcome → Mem → Prop), Wp d 210 47 ls (.int a :: st) M Q = Br (¬ a = I 0) d 210 54 50 ls st M Q := fun d ls a st M Q => w_if (show ins 210 47 = some (.ifCond .ne 7, 3) by decide +kernel) rfl rfl
set_option maxRecDepth 100000 in
theorem r_210_50 : ∀ (d : Nat) (ls : Lc) (st : List Value) (M : Mem) (Q : Outcome → Mem → Prop), Wp d 210 50 ls st M Q = Wp d 210 51 ls (.int (I 2) :: st) M Q := fun d ls st M Q => w_iconst (show ins 210 50 = some (.iconst 2, 1) by decide +kernel)
set_option maxRecDepth 100000 in
theorem r_210_51 : ∀ (d : Nat) (ls : Lc) (st : List Value) (M : Mem) (Q : Outcome → Mem → Prop), Wp d 210 51 ls st M Q = Wp d 210 68 ls st M Q := fun d ls st M Q => w_goto (show ins 210 51 = some (.goto 17, 3) by decide +kernel) rfl
set_option maxRecDepth 100000 in
theorem r_210_54 : ∀ (d : Nat) (l0 l1 l2 l4 : Option Value) (v : Int32) (st : List Value) (M : Mem) (Q : Outcome → Mem → Prop), Wp d 210 54 [l0, l1, l2, some (.int v), l4] st M Q = Wp d 210 55 [l0, l1, l2, some (.int v), l4] (.int v :: st) M Q := fun d l0 l1 l2 l4 v st M Q => wA (show ins 210 54 = some (.iload_n 3, 1) by decide +kernel) rfl
set_option maxRecDepth 100000 in
theorem r_210_55 : ∀ (d : Nat) (ls : Lc) (st : List Value) (M : Mem) (Q : Outcome → Mem → Prop), Wp d 210 55 ls st M Q = Wp d 210 56 ls (.int (I 0) :: st) M Q := fun d ls st M Q => w_iconst (show ins 210 55 = some (.iconst 0, 1) by decide +kernel)
set_option maxRecDepth 100000 in
theorem r_210_56 : ∀ (d : Nat) (ls : Lc) (st : List Value) (M : Mem) (Q : Outcome → Mem → Prop), Wp d 210 56 ls st M Q = Wp d 210 57 ls (.int (I 3) :: st) M Q := fun d ls st M Q => w_iconst (show ins 210 56 = some (.iconst 3, 1) by decide +kernel)
set_option maxRecDepth 100000 in
theorem r_210_57 : ∀ (d : Nat) (ls : Lc) (v0 v1 v2 : Value)  (st : List Value) (M : Mem) (Q : Outcome → Mem → Prop), (smallR st = true) → Wp d 210 57 ls (v2 :: v1 :: v0 :: st) M Q = Ca d 210 57 ls 159 [v0, v1, v2] st M Q := fun d ls v0 v1 v2 st M Q h0 => w_stat (as := [v0, v1, v2]) (show ins 210 57 = some (.invokestatic 43, 3) by decide +kernel) (show mRes (mC 210) 43 = some (0, 8, [(0, 159)]) by decide +kernel) (by decide +kernel) (by decide +kernel) rfl h0
set_option maxRecDepth 100000 in
theorem r_210_60 : ∀ (d : Nat) (ls : Lc) (a : Int32) (st : List Value) (M : Mem) (Q : Outcome → Mem → Prop), Wp d 210 60 ls (.int a :: st) M Q = Br (¬ a = I 0) d 210 67 63 ls st M Q := fun d ls a st M Q => w_if (show ins 210 60 = some (.ifCond .ne 7, 3) by decide +kernel) rfl rfl
set_option maxRecDepth 100000 in
theorem r_210_63 : ∀ (d : Nat) (ls : Lc) (st : List Value) (M : Mem) (Q : Outcome → Mem → Prop), Wp d 210 63 ls st M Q = Wp d 210 64 ls (.int (I 3) :: st) M Q := fun d ls st M Q => w_iconst (show ins 210 63 = some (.iconst 3, 1) by decide +kernel)
set_option maxRecDepth 100000 in
theorem r_210_64 : ∀ (d : Nat) (ls : Lc) (st : List Value) (M : Mem) (Q : Outcome → Mem → Prop), Wp d 210 64 ls st M Q = Wp d 210 68 ls st M Q := fun d ls st M Q => w_goto (show ins 210 64 = some (.goto 4, 3) by decide +kernel) rfl
set_option maxRecDepth 100000 in
theorem r_210_67 : ∀ (d : Nat) (ls : Lc) (st : List Value) (M : Mem) (Q : Outcome → Mem → Prop), Wp d 210 67 ls st M Q = Wp d 210 68 ls (.int (I 0) :: st) M Q := fun d ls st M Q => w_iconst (show ins 210 67 = some (.iconst 0, 1) by decide +kernel)
set_option maxRecDepth 100000 in
theorem r_210_68 : ∀ (d : Nat) (ls : Lc) (a : Nat) (v : Int32) (st : List Value) (M : Mem) (Q : Outcome → Mem → Prop), Wp d 210 68 ls (.int v :: .ref a :: st) M Q = (fk 54 (kO M a) = true ∧ Wp d 210 71 ls st (sF M 54 a v) Q) := fun d ls a v st M Q => w_putI (show ins 210 68 = some (.putfield 40, 3) by decide +kernel) (show fRes (mC 210) 40 = some (54, 8, false) by decide +kernel) (by decide +kernel) (by decide +kernel)
set_option maxRecDepth 100000 in
theorem r_210_71 : ∀ (d : Nat) (l1 l2 l3 l4 : Option Value) (v : Nat) (st : List Value) (M : Mem) (Q : Outcome → Mem → Prop), Wp d 210 71 [some (.ref v), l1, l2, l3, l4] st M Q = Wp d 210 72 [some (.ref v), l1, l2, l3, l4] (.ref v :: st) M Q := fun d l1 l2 l3 l4 v st M Q => wA (show ins 210 71 = some (.aload_n 0, 1) by decide +kernel) rfl
set_option maxRecDepth 100000 in
theorem r_210_72 : ∀ (d : Nat) (ls : Lc) (a : Nat) (st : List Value) (M : Mem) (Q : Outcome → Mem → Prop), Wp d 210 72 ls (.ref a :: st) M Q = (fk 54 (kO M a) = true ∧ Wp d 210 75 ls (.int (mF M 54 a) :: st) M Q) := fun d ls a st M Q => w_getI (show ins 210 72 = some (.getfield 40, 3) by decide +kernel) (show fRes (mC 210) 40 = some (54, 8, false) by decide +kernel) (by decide +kernel)
set_option maxRecDepth 100000 in
theorem r_210_75 : ∀ (d : Nat) (ls : Lc) (a : Int32) (st : List Value) (M : Mem) (Q : Outcome → Mem → Prop), Wp d 210 75 ls (.int a :: st) M Q = Br (a ≤ I 0) d 210 80 78 ls st M Q := fun d ls a st M Q => w_if (show ins 210 75 = some (.ifCond .le 5, 3) by decide +kernel) rfl rfl
set_option maxRecDepth 100000 in
theorem r_210_78 : ∀ (d : Nat) (ls : Lc) (st : List Value) (M : Mem) (Q : Outcome → Mem → Prop), Wp d 210 78 ls st M Q = Wp d 210 79 ls (.int (I 0) :: st) M Q := fun d ls st M Q => w_iconst (show ins 210 78 = some (.iconst 0, 1) by decide +kernel)
set_option maxRecDepth 100000 in
theorem r_210_79 : ∀ (d : Nat) (ls : Lc) (v : Int32) (M : Mem) (Q : Outcome → Mem → Prop), Wp d 210 79 ls [.int v] M Q = Q (.returned (some (.int v))) M := fun d ls v M Q => w_ireturn (show ins 210 79 = some (.ireturn, 1) by decide +kernel) (by decide +kernel)
set_option maxRecDepth 100000 in
theorem r_210_80 : ∀ (d : Nat) (l1 l2 l3 l4 : Option Value) (v : Nat) (st : List Value) (M : Mem) (Q : Outcome → Mem → Prop), Wp d 210 80 [some (.ref v), l1, l2, l3, l4] st M Q = Wp d 210 81 [some (.ref v), l1, l2, l3, l4] (.ref v :: st) M Q := fun d l1 l2 l3 l4 v st M Q => wA (show ins 210 80 = some (.aload_n 0, 1) by decide +kernel) rfl
set_option maxRecDepth 100000 in
theorem r_210_81 : ∀ (d : Nat) (ls : Lc) (a : Nat) (st : List Value) (M : Mem) (Q : Outcome → Mem → Prop), Wp d 210 81 ls (.ref a :: st) M Q = (fk 53 (kO M a) = true ∧ Wp d 210 84 ls (va_rf (mR M 53 a) :: st) M Q) := fun d ls a st M Q => w_getR (show ins 210 81 = some (.getfield 7, 3) by decide +kernel) (show fRes (mC 210) 7 = some (53, 8, false) by decide +kernel) (by decide +kernel)
set_option maxRecDepth 100000 in
theorem r_210_84 : ∀ (d : Nat) (ls : Lc) (st : List Value) (M : Mem) (Q : Outcome → Mem → Prop), Wp d 210 84 ls st M Q = Wp d 210 87 ls (.int (I 12300) :: st) M Q := fun d ls st M Q => w_sipush (show ins 210 84 = some (.sipush 12300, 3) by decide +kernel) (by decide)
set_option maxRecDepth 100000 in
theorem r_210_87 : ∀ (d : Nat) (ls : Lc) (st : List Value) (M : Mem) (Q : Outcome → Mem → Prop), Wp d 210 87 ls st M Q = Wp d 210 89 ls (.int (I 96) :: st) M Q := fun d ls st M Q => w_bipush (show ins 210 87 = some (.bipush 96, 2) by decide +kernel) (by decide)
set_option maxRecDepth 100000 in
theorem r_210_89 : ∀ (d : Nat) (l0 l2 l3 l4 : Option Value) (v : Int32) (st : List Value) (M : Mem) (Q : Outcome → Mem → Prop), Wp d 210 89 [l0, some (.int v), l2, l3, l4] st M Q = Wp d 210 90 [l0, some (.int v), l2, l3, l4] (.int v :: st) M Q := fun d l0 l2 l3 l4 v st M Q => wA (show ins 210 89 = some (.iload_n 1, 1) by decide +kernel) rfl
set_option maxRecDepth 100000 in
theorem r_210_90 : ∀ (d : Nat) (ls : Lc) (a b : Int) (st : List Value) (M : Mem) (Q : Outcome → Mem → Prop), Wp d 210 90 ls (.int (I b) :: .int (I a) :: st) M Q = Wp d 210 91 ls (.int (I (a * b)) :: st) M Q := fun d ls a b st M Q => w_imul (show ins 210 90 = some (.imul, 1) by decide +kernel)
set_option maxRecDepth 100000 in
theorem r_210_91 : ∀ (d : Nat) (ls : Lc) (a b : Int) (st : List Value) (M : Mem) (Q : Outcome → Mem → Prop), Wp d 210 91 ls (.int (I b) :: .int (I a) :: st) M Q = Wp d 210 92 ls (.int (I (a + b)) :: st) M Q := fun d ls a b st M Q => w_iadd (show ins 210 91 = some (.iadd, 1) by decide +kernel)
set_option maxRecDepth 100000 in
theorem r_210_92 : ∀ (d : Nat) (l0 l1 l3 l4 : Option Value) (v : Int32) (st : List Value) (M : Mem) (Q : Outcome → Mem → Prop), Wp d 210 92 [l0, l1, some (.int v), l3, l4] st M Q = Wp d 210 93 [l0, l1, some (.int v), l3, l4] (.int v :: st) M Q := fun d l0 l1 l3 l4 v st M Q => wA (show ins 210 92 = some (.iload_n 2, 1) by decide +kernel) rfl
set_option maxRecDepth 100000 in
theorem r_210_93 : ∀ (d : Nat) (ls : Lc) (a b : Int) (st : List Value) (M : Mem) (Q : Outcome → Mem → Prop), Wp d 210 93 ls (.int (I b) :: .int (I a) :: st) M Q = Wp d 210 94 ls (.int (I (a + b)) :: st) M Q := fun d ls a b st M Q => w_iadd (show ins 210 93 = some (.iadd, 1) by decide +kernel)
set_option maxRecDepth 100000 in
theorem r_210_94 : ∀ (d : Nat) (ls : Lc) (a : Nat) (j : Int32) (st : List Value) (M : Mem) (Q : Outcome → Mem → Prop), Wp d 210 94 ls (.int j :: .ref a :: st) M Q = ((((kX M a).1 = 0 ∨ (kX M a).1 = 8) ∧ inB j (kX M a).2 = true) ∧ Wp d 210 95 ls (.int (mA M a j.toNatClampNeg) :: st) M Q) := fun d ls a j st M Q => w_iaload (show ins 210 94 = some (.iaload, 1) by decide +kernel)
set_option maxRecDepth 100000 in
theorem r_210_95 : ∀ (d : Nat) (l0 l1 l2 l3 l4 : Option Value) (v : Int32) (st : List Value) (M : Mem) (Q : Outcome → Mem → Prop), (lo l3 = false) → Wp d 210 95 [l0, l1, l2, l3, l4] (.int v :: st) M Q = Wp d 210 97 [l0, l1, l2, l3, some (.int v)] st M Q := fun d l0 l1 l2 l3 l4 v st M Q hl => w_istore (show ins 210 95 = some (.istore 4, 2) by decide +kernel) (st1_S rfl rfl hl)
set_option maxRecDepth 100000 in
theorem r_210_97 : ∀ (d : Nat) (l0 l1 l2 l4 : Option Value) (v : Int32) (st : List Value) (M : Mem) (Q : Outcome → Mem → Prop), Wp d 210 97 [l0, l1, l2, some (.int v), l4] st M Q = Wp d 210 98 [l0, l1, l2, some (.int v), l4] (.int v :: st) M Q := fun d l0 l1 l2 l4 v st M Q => wA (show ins 210 97 = some (.iload_n 3, 1) by decide +kernel) rfl
set_option maxRecDepth 100000 in
theorem r_210_98 : ∀ (d : Nat) (ls : Lc) (a : Int32) (st : List Value) (M : Mem) (Q : Outcome → Mem → Prop), Wp d 210 98 ls (.int a :: st) M Q = Br (¬ a = I 0) d 210 106 101 ls st M Q := fun d ls a st M Q => w_if (show ins 210 98 = some (.ifCond .ne 8, 3) by decide +kernel) rfl rfl
set_option maxRecDepth 100000 in
theorem r_210_101 : ∀ (d : Nat) (l0 l1 l2 l3 : Option Value) (v : Int32) (st : List Value) (M : Mem) (Q : Outcome → Mem → Prop), Wp d 210 101 [l0, l1, l2, l3, some (.int v)] st M Q = Wp d 210 103 [l0, l1, l2, l3, some (.int v)] (.int v :: st) M Q := fun d l0 l1 l2 l3 v st M Q => wA (show ins 210 101 = some (.iload 4, 2) by decide +kernel) rfl
set_option maxRecDepth 100000 in
theorem r_210_103 : ∀ (d : Nat) (ls : Lc) (st : List Value) (M : Mem) (Q : Outcome → Mem → Prop), Wp d 210 103 ls st M Q = Wp d 210 158 ls st M Q := fun d ls st M Q => w_goto (show ins 210 103 = some (.goto 55, 3) by decide +kernel) rfl
set_option maxRecDepth 100000 in
theorem r_210_106 : ∀ (d : Nat) (l0 l1 l2 l4 : Option Value) (v : Int32) (st : List Value) (M : Mem) (Q : Outcome → Mem → Prop), Wp d 210 106 [l0, l1, l2, some (.int v), l4] st M Q = Wp d 210 107 [l0, l1, l2, some (.int v), l4] (.int v :: st) M Q := fun d l0 l1 l2 l4 v st M Q => wA (show ins 210 106 = some (.iload_n 3, 1) by decide +kernel) rfl
set_option maxRecDepth 100000 in
theorem r_210_107 : ∀ (d : Nat) (ls : Lc) (st : List Value) (M : Mem) (Q : Outcome → Mem → Prop), Wp d 210 107 ls st M Q = Wp d 210 108 ls (.int (I 1) :: st) M Q := fun d ls st M Q => w_iconst (show ins 210 107 = some (.iconst 1, 1) by decide +kernel)
set_option maxRecDepth 100000 in
theorem r_210_108 : ∀ (d : Nat) (ls : Lc) (a b : Int32) (st : List Value) (M : Mem) (Q : Outcome → Mem → Prop), Wp d 210 108 ls (.int b :: .int a :: st) M Q = Br (¬ a = b) d 210 125 111 ls st M Q := fun d ls a b st M Q => w_icmp (show ins 210 108 = some (.if_icmp .ne 17, 3) by decide +kernel) rfl rfl
set_option maxRecDepth 100000 in
theorem r_210_111 : ∀ (d : Nat) (l1 l2 l3 l4 : Option Value) (v : Nat) (st : List Value) (M : Mem) (Q : Outcome → Mem → Prop), Wp d 210 111 [some (.ref v), l1, l2, l3, l4] st M Q = Wp d 210 112 [some (.ref v), l1, l2, l3, l4] (.ref v :: st) M Q := fun d l1 l2 l3 l4 v st M Q => wA (show ins 210 111 = some (.aload_n 0, 1) by decide +kernel) rfl
set_option maxRecDepth 100000 in
theorem r_210_112 : ∀ (d : Nat) (ls : Lc) (a : Nat) (st : List Value) (M : Mem) (Q : Outcome → Mem → Prop), Wp d 210 112 ls (.ref a :: st) M Q = (fk 53 (kO M a) = true ∧ Wp d 210 115 ls (va_rf (mR M 53 a) :: st) M Q) := fun d ls a st M Q => w_getR (show ins 210 112 = some (.getfield 7, 3) by decide +kernel) (show fRes (mC 210) 7 = some (53, 8, false) by decide +kernel) (by decide +kernel)
set_option maxRecDepth 100000 in
theorem r_210_115 : ∀ (d : Nat) (ls : Lc) (st : List Value) (M : Mem) (Q : Outcome → Mem → Prop), Wp d 210 115 ls st M Q = Wp d 210 118 ls (.int (I 3852) :: st) M Q := fun d ls st M Q => w_sipush (show ins 210 115 = some (.sipush 3852, 3) by decide +kernel) (by decide)
set_option maxRecDepth 100000 in
theorem r_210_118 : ∀ (d : Nat) (l0 l1 l2 l3 : Option Value) (v : Int32) (st : List Value) (M : Mem) (Q : Outcome → Mem → Prop), Wp d 210 118 [l0, l1, l2, l3, some (.int v)] st M Q = Wp d 210 120 [l0, l1, l2, l3, some (.int v)] (.int v :: st) M Q := fun d l0 l1 l2 l3 v st M Q => wA (show ins 210 118 = some (.iload 4, 2) by decide +kernel) rfl
set_option maxRecDepth 100000 in
theorem r_210_120 : ∀ (d : Nat) (ls : Lc) (a b : Int) (st : List Value) (M : Mem) (Q : Outcome → Mem → Prop), Wp d 210 120 ls (.int (I b) :: .int (I a) :: st) M Q = Wp d 210 121 ls (.int (I (a + b)) :: st) M Q := fun d ls a b st M Q => w_iadd (show ins 210 120 = some (.iadd, 1) by decide +kernel)
set_option maxRecDepth 100000 in
theorem r_210_121 : ∀ (d : Nat) (ls : Lc) (a : Nat) (j : Int32) (st : List Value) (M : Mem) (Q : Outcome → Mem → Prop), Wp d 210 121 ls (.int j :: .ref a :: st) M Q = ((((kX M a).1 = 0 ∨ (kX M a).1 = 8) ∧ inB j (kX M a).2 = true) ∧ Wp d 210 122 ls (.int (mA M a j.toNatClampNeg) :: st) M Q) := fun d ls a j st M Q => w_iaload (show ins 210 121 = some (.iaload, 1) by decide +kernel)
set_option maxRecDepth 100000 in
theorem r_210_122 : ∀ (d : Nat) (ls : Lc) (st : List Value) (M : Mem) (Q : Outcome → Mem → Prop), Wp d 210 122 ls st M Q = Wp d 210 158 ls st M Q := fun d ls st M Q => w_goto (show ins 210 122 = some (.goto 36, 3) by decide +kernel) rfl
set_option maxRecDepth 100000 in
theorem r_210_125 : ∀ (d : Nat) (l0 l1 l2 l4 : Option Value) (v : Int32) (st : List Value) (M : Mem) (Q : Outcome → Mem → Prop), Wp d 210 125 [l0, l1, l2, some (.int v), l4] st M Q = Wp d 210 126 [l0, l1, l2, some (.int v), l4] (.int v :: st) M Q := fun d l0 l1 l2 l4 v st M Q => wA (show ins 210 125 = some (.iload_n 3, 1) by decide +kernel) rfl
set_option maxRecDepth 100000 in
theorem r_210_126 : ∀ (d : Nat) (ls : Lc) (st : List Value) (M : Mem) (Q : Outcome → Mem → Prop), Wp d 210 126 ls st M Q = Wp d 210 127 ls (.int (I 2) :: st) M Q := fun d ls st M Q => w_iconst (show ins 210 126 = some (.iconst 2, 1) by decide +kernel)
set_option maxRecDepth 100000 in
theorem r_210_127 : ∀ (d : Nat) (ls : Lc) (a b : Int32) (st : List Value) (M : Mem) (Q : Outcome → Mem → Prop), Wp d 210 127 ls (.int b :: .int a :: st) M Q = Br (¬ a = b) d 210 147 130 ls st M Q := fun d ls a b st M Q => w_icmp (show ins 210 127 = some (.if_icmp .ne 20, 3) by decide +kernel) rfl rfl
set_option maxRecDepth 100000 in
theorem r_210_130 : ∀ (d : Nat) (l0 l2 l3 l4 : Option Value) (v : Int32) (st : List Value) (M : Mem) (Q : Outcome → Mem → Prop), Wp d 210 130 [l0, some (.int v), l2, l3, l4] st M Q = Wp d 210 131 [l0, some (.int v), l2, l3, l4] (.int v :: st) M Q := fun d l0 l2 l3 l4 v st M Q => wA (show ins 210 130 = some (.iload_n 1, 1) by decide +kernel) rfl
set_option maxRecDepth 100000 in
theorem r_210_131 : ∀ (d : Nat) (ls : Lc) (a : Int32) (st : List Value) (M : Mem) (Q : Outcome → Mem → Prop), Wp d 210 131 ls (.int a :: st) M Q = Br (¬ a = I 0) d 210 143 134 ls st M Q := fun d ls a st M Q => w_if (show ins 210 131 = some (.ifCond .ne 12, 3) by decide +kernel) rfl rfl
set_option maxRecDepth 100000 in
theorem r_210_134 : ∀ (d : Nat) (l1 l2 l3 l4 : Option Value) (v : Nat) (st : List Value) (M : Mem) (Q : Outcome → Mem → Prop), Wp d 210 134 [some (.ref v), l1, l2, l3, l4] st M Q = Wp d 210 135 [some (.ref v), l1, l2, l3, l4] (.ref v :: st) M Q := fun d l1 l2 l3 l4 v st M Q => wA (show ins 210 134 = some (.aload_n 0, 1) by decide +kernel) rfl
set_option maxRecDepth 100000 in
theorem r_210_135 : ∀ (d : Nat) (l0 l1 l2 l3 : Option Value) (v : Int32) (st : List Value) (M : Mem) (Q : Outcome → Mem → Prop), Wp d 210 135 [l0, l1, l2, l3, some (.int v)] st M Q = Wp d 210 137 [l0, l1, l2, l3, some (.int v)] (.int v :: st) M Q := fun d l0 l1 l2 l3 v st M Q => wA (show ins 210 135 = some (.iload 4, 2) by decide +kernel) rfl
set_option maxRecDepth 100000 in
theorem r_210_137 : ∀ (d : Nat) (ls : Lc) (v0 : Value) (a : Nat) (st : List Value) (M : Mem) (Q : Outcome → Mem → Prop), (smallR st = true) → Wp d 210 137 ls (v0 :: .ref a :: st) M Q = (kO M a = 8 ∧ Ca d 210 137 ls 173 (.ref a :: [v0]) st M Q) := fun d ls v0 a st M Q h0 => w_virt1 (as := [v0]) (show ins 210 137 = some (.invokevirtual 97, 3) by decide +kernel) (show mRes (mC 210) 97 = some (3, 8, [(8, 173)]) by decide +kernel) (by decide +kernel) rfl (by decide +kernel) (by decide +kernel) h0
set_option maxRecDepth 100000 in
theorem r_210_140 : ∀ (d : Nat) (ls : Lc) (st : List Value) (M : Mem) (Q : Outcome → Mem → Prop), Wp d 210 140 ls st M Q = Wp d 210 158 ls st M Q := fun d ls st M Q => w_goto (show ins 210 140 = some (.goto 18, 3) by decide +kernel) rfl
set_option maxRecDepth 100000 in
theorem r_210_143 : ∀ (d : Nat) (ls : Lc) (st : List Value) (M : Mem) (Q : Outcome → Mem → Prop), Wp d 210 143 ls st M Q = Wp d 210 144 ls (.int (I 0) :: st) M Q := fun d ls st M Q => w_iconst (show ins 210 143 = some (.iconst 0, 1) by decide +kernel)
set_option maxRecDepth 100000 in
theorem r_210_144 : ∀ (d : Nat) (ls : Lc) (st : List Value) (M : Mem) (Q : Outcome → Mem → Prop), Wp d 210 144 ls st M Q = Wp d 210 158 ls st M Q := fun d ls st M Q => w_goto (show ins 210 144 = some (.goto 14, 3) by decide +kernel) rfl
set_option maxRecDepth 100000 in
theorem r_210_147 : ∀ (d : Nat) (l1 l2 l3 l4 : Option Value) (v : Nat) (st : List Value) (M : Mem) (Q : Outcome → Mem → Prop), Wp d 210 147 [some (.ref v), l1, l2, l3, l4] st M Q = Wp d 210 148 [some (.ref v), l1, l2, l3, l4] (.ref v :: st) M Q := fun d l1 l2 l3 l4 v st M Q => wA (show ins 210 147 = some (.aload_n 0, 1) by decide +kernel) rfl
set_option maxRecDepth 100000 in
theorem r_210_148 : ∀ (d : Nat) (ls : Lc) (a : Nat) (st : List Value) (M : Mem) (Q : Outcome → Mem → Prop), Wp d 210 148 ls (.ref a :: st) M Q = (fk 53 (kO M a) = true ∧ Wp d 210 151 ls (va_rf (mR M 53 a) :: st) M Q) := fun d ls a st M Q => w_getR (show ins 210 148 = some (.getfield 7, 3) by decide +kernel) (show fRes (mC 210) 7 = some (53, 8, false) by decide +kernel) (by decide +kernel)
set_option maxRecDepth 100000 in
theorem r_210_151 : ∀ (d : Nat) (ls : Lc) (st : List Value) (M : Mem) (Q : Outcome → Mem → Prop), Wp d 210 151 ls st M Q = Wp d 210 154 ls (.int (I 3948) :: st) M Q := fun d ls st M Q => w_sipush (show ins 210 151 = some (.sipush 3948, 3) by decide +kernel) (by decide)
set_option maxRecDepth 100000 in
theorem r_210_154 : ∀ (d : Nat) (l0 l1 l2 l3 : Option Value) (v : Int32) (st : List Value) (M : Mem) (Q : Outcome → Mem → Prop), Wp d 210 154 [l0, l1, l2, l3, some (.int v)] st M Q = Wp d 210 156 [l0, l1, l2, l3, some (.int v)] (.int v :: st) M Q := fun d l0 l1 l2 l3 v st M Q => wA (show ins 210 154 = some (.iload 4, 2) by decide +kernel) rfl
set_option maxRecDepth 100000 in
theorem r_210_156 : ∀ (d : Nat) (ls : Lc) (a b : Int) (st : List Value) (M : Mem) (Q : Outcome → Mem → Prop), Wp d 210 156 ls (.int (I b) :: .int (I a) :: st) M Q = Wp d 210 157 ls (.int (I (a + b)) :: st) M Q := fun d ls a b st M Q => w_iadd (show ins 210 156 = some (.iadd, 1) by decide +kernel)
set_option maxRecDepth 100000 in
theorem r_210_157 : ∀ (d : Nat) (ls : Lc) (a : Nat) (j : Int32) (st : List Value) (M : Mem) (Q : Outcome → Mem → Prop), Wp d 210 157 ls (.int j :: .ref a :: st) M Q = ((((kX M a).1 = 0 ∨ (kX M a).1 = 8) ∧ inB j (kX M a).2 = true) ∧ Wp d 210 158 ls (.int (mA M a j.toNatClampNeg) :: st) M Q) := fun d ls a j st M Q => w_iaload (show ins 210 157 = some (.iaload, 1) by decide +kernel)
set_option maxRecDepth 100000 in
theorem r_210_158 : ∀ (d : Nat) (ls : Lc) (v : Int32) (M : Mem) (Q : Outcome → Mem → Prop), Wp d 210 158 ls [.int v] M Q = Q (.returned (some (.int v))) M := fun d ls v M Q => w_ireturn (show ins 210 158 = some (.ireturn, 1) by decide +kernel) (by decide +kernel)
set_option maxRecDepth 100000 in
theorem W_210 : (type_of% r_210_0) ∧ (type_of% r_210_1) ∧ (type_of% r_210_2) ∧ (type_of% r_210_5) ∧ (type_of% r_210_8) ∧ (type_of% r_210_9) ∧ (type_of% r_210_12) ∧ (type_of% r_210_13) ∧ (type_of% r_210_14) ∧ (type_of% r_210_15) ∧ (type_of% r_210_18) ∧ (type_of% r_210_21) ∧ (type_of% r_210_22) ∧ (type_of% r_210_23) ∧ (type_of% r_210_24) ∧ (type_of% r_210_27) ∧ (type_of% r_210_30) ∧ (type_of% r_210_31) ∧ (type_of% r_210_32) ∧ (type_of% r_210_33) ∧ (type_of% r_210_36) ∧ (type_of% r_210_39) ∧ (type_of% r_210_40) ∧ (type_of% r_210_41) ∧ (type_of% r_210_42) ∧ (type_of% r_210_43) ∧ (type_of% r_210_44) ∧ (type_of% r_210_47) ∧ (type_of% r_210_50) ∧ (type_of% r_210_51) ∧ (type_of% r_210_54) ∧ (type_of% r_210_55) ∧ (type_of% r_210_56) ∧ (type_of% r_210_57) ∧ (type_of% r_210_60) ∧ (type_of% r_210_63) ∧ (type_of% r_210_64) ∧ (type_of% r_210_67) ∧ (type_of% r_210_68) ∧ (type_of% r_210_71) ∧ (type_of% r_210_72) ∧ (type_of% r_210_75) ∧ (type_of% r_210_78) ∧ (type_of% r_210_79) ∧ (type_of% r_210_80) ∧ (type_of% r_210_81) ∧ (type_of% r_210_84) ∧ (type_of% r_210_87) ∧ (type_of% r_210_89) ∧ (type_of% r_210_90) ∧ (type_of% r_210_91) ∧ (type_of% r_210_92) ∧ (type_of% r_210_93) ∧ (type_of% r_210_94) ∧ (type_of% r_210_95) ∧ (type_of% r_210_97) ∧ (type_of% r_210_98) ∧ (type_of% r_210_101) ∧ (type_of% r_210_103) ∧ (type_of% r_210_106) ∧ (type_of% r_210_107) ∧ (type_of% r_210_108) ∧ (type_of% r_210_111) ∧ (type_of% r_210_112) ∧ (type_of% r_210_115) ∧ (type_of% r_210_118) ∧ (type_of% r_210_120) ∧ (type_of% r_210_121) ∧ (type_of% r_210_122) ∧ (type_of% r_210_125) ∧ (type_of% r_210_126) ∧ (type_of% r_210_127) ∧ (type_of% r_210_130) ∧ (type_of% r_210_131) ∧ (type_of% r_210_134) ∧ (type_of% r_210_135) ∧ (type_of% r_210_137) ∧ (type_of% r_210_140) ∧ (type_of% r_210_143) ∧ (type_of% r_210_144) ∧ (type_of% r_210_147) ∧ (type_of% r_210_148) ∧ (type_of% r_210_151) ∧ (type_of% r_210_154) ∧ (type_of% r_210_156) ∧ (type_of% r_210_157) ∧ (type_of% r_210_158) := ⟨r_210_0, r_210_1, r_210_2, r_210_5, r_210_8, r_210_9, r_210_12, r_210_13, r_210_14, r_210_15, r_210_18, r_210_21, r_210_22, r_210_23, r_210_24, r_210_27, r_210_30, r_210_31, r_210_32, r_210_33, r_210_36, r_210_39, r_210_40, r_210_41, r_210_42, r_210_43, r_210_44, r_210_47, r_210_50, r_210_51, r_210_54, r_210_55, r_210_56, r_210_57, r_210_60, r_210_63, r_210_64, r_210_67, r_210_68, r_210_71, r_210_72, r_210_75, r_210_78, r_210_79, r_210_80, r_210_81, r_210_84, r_210_87, r_210_89, r_210_90, r_210_91, r_210_92, r_210_93, r_210_94, r_210_95, r_210_97, r_210_98, r_210_101, r_210_103, r_210_106, r_210_107, r_210_108, r_210_111, r_210_112, r_210_115, r_210_118, r_210_120, r_210_121, r_210_122, r_210_125, r_210_126, r_210_127, r_210_130, r_210_131, r_210_134, r_210_135, r_210_137, r_210_140, r_210_143, r_210_144, r_210_147, r_210_148, r_210_151, r_210_154, r_210_156, r_210_157, r_210_158⟩
set_option maxRecDepth 100000 in
theorem ca_210 {d y pc : Nat} {ls : Lc} {a : Nat} {z0 : Int32} {z1 : Int32} {z2 : Int32} {r : List Value} {M : Mem} {Q : Outcome → Mem → Prop} (hd : 0 < d) (hw : Wp (d - 1) 210 0 [some (.ref a), some (.int z0), some (.int z1), some (.int z2), none] [] M (Cq d y pc ls r Q)) : Ca d y pc ls 210 [.ref a, .int z0, .int z1, .int z2] r M Q := ca_of (mq_get (by decide)) (by rfl) hd hw
/-! 211 PackedTreeModel.item(II)I; loop heads [61] -/
set_option maxRecDepth 100000 in
theorem r_211_0 : ∀ (d : Nat) (l1 l2 l3 l4 l5 l6 : Option Value) (v : Nat) (st : List Value) (M : Mem) (Q : Outcome → Mem → Prop), Wp d 211 0 [some (.ref v), l1, l2, l3, l4, l5, l6] st M Q = Wp d 211 1 [some (.ref v), l1, l2, l3, l4, l5, l6] (.ref v :: st) M Q := fun d l1 l2 l3 l4 l5 l6 v st M Q => wA (show ins 211 0 = some (.aload_n 0, 1) by decide +kernel) rfl
set_option maxRecDepth 100000 in
theorem r_211_1 : ∀ (d : Nat) (l1 l2 l3 l4 l5 l6 : Option Value) (v : Nat) (st : List Value) (M : Mem) (Q : Outcome → Mem → Prop), Wp d 211 1 [some (.ref v), l1, l2, l3, l4, l5, l6] st M Q = Wp d 211 2 [some (.ref v), l1, l2, l3, l4, l5, l6] (.ref v :: st) M Q := fun d l1 l2 l3 l4 l5 l6 v st M Q => wA (show ins 211 1 = some (.aload_n 0, 1) by decide +kernel) rfl
set_option maxRecDepth 100000 in
theorem r_211_2 : ∀ (d : Nat) (ls : Lc) (a : Nat) (st : List Value) (M : Mem) (Q : Outcome → Mem → Prop), Wp d 211 2 ls (.ref a :: st) M Q = (fk 52 (kO M a) = true ∧ Wp d 211 5 ls (.int (mF M 52 a) :: st) M Q) := fun d ls a st M Q => w_getI (show ins 211 2 = some (.getfield 149, 3) by decide +kernel) (show fRes (mC 211) 149 = some (52, 8, false) by decide +kernel) (by decide +kernel)
set_option maxRecDepth 100000 in
theorem r_211_5 : ∀ (d : Nat) (ls : Lc) (a : Int32) (st : List Value) (M : Mem) (Q : Outcome → Mem → Prop), Wp d 211 5 ls (.int a :: st) M Q = Br (a = I 0) d 211 12 8 ls st M Q := fun d ls a st M Q => w_if (show ins 211 5 = some (.ifCond .eq 7, 3) by decide +kernel) rfl rfl
set_option maxRecDepth 100000 in
theorem r_211_8 : ∀ (d : Nat) (ls : Lc) (st : List Value) (M : Mem) (Q : Outcome → Mem → Prop), Wp d 211 8 ls st M Q = Wp d 211 9 ls (.int (I 1) :: st) M Q := fun d ls st M Q => w_iconst (show ins 211 8 = some (.iconst 1, 1) by decide +kernel)
set_option maxRecDepth 100000 in
theorem r_211_9 : ∀ (d : Nat) (ls : Lc) (st : List Value) (M : Mem) (Q : Outcome → Mem → Prop), Wp d 211 9 ls st M Q = Wp d 211 44 ls st M Q := fun d ls st M Q => w_goto (show ins 211 9 = some (.goto 35, 3) by decide +kernel) rfl
set_option maxRecDepth 100000 in
theorem r_211_12 : ∀ (d : Nat) (l0 l2 l3 l4 l5 l6 : Option Value) (v : Int32) (st : List Value) (M : Mem) (Q : Outcome → Mem → Prop), Wp d 211 12 [l0, some (.int v), l2, l3, l4, l5, l6] st M Q = Wp d 211 13 [l0, some (.int v), l2, l3, l4, l5, l6] (.int v :: st) M Q := fun d l0 l2 l3 l4 l5 l6 v st M Q => wA (show ins 211 12 = some (.iload_n 1, 1) by decide +kernel) rfl
set_option maxRecDepth 100000 in
theorem r_211_13 : ∀ (d : Nat) (ls : Lc) (st : List Value) (M : Mem) (Q : Outcome → Mem → Prop), Wp d 211 13 ls st M Q = Wp d 211 14 ls (.int (I 0) :: st) M Q := fun d ls st M Q => w_iconst (show ins 211 13 = some (.iconst 0, 1) by decide +kernel)
set_option maxRecDepth 100000 in
theorem r_211_14 : ∀ (d : Nat) (l1 l2 l3 l4 l5 l6 : Option Value) (v : Nat) (st : List Value) (M : Mem) (Q : Outcome → Mem → Prop), Wp d 211 14 [some (.ref v), l1, l2, l3, l4, l5, l6] st M Q = Wp d 211 15 [some (.ref v), l1, l2, l3, l4, l5, l6] (.ref v :: st) M Q := fun d l1 l2 l3 l4 l5 l6 v st M Q => wA (show ins 211 14 = some (.aload_n 0, 1) by decide +kernel) rfl
set_option maxRecDepth 100000 in
theorem r_211_15 : ∀ (d : Nat) (ls : Lc) (a : Nat) (st : List Value) (M : Mem) (Q : Outcome → Mem → Prop), (smallR st = true) → Wp d 211 15 ls (.ref a :: st) M Q = (kO M a = 8 ∧ Ca d 211 15 ls 212 (.ref a :: []) st M Q) := fun d ls a st M Q h0 => w_virt1 (as := []) (show ins 211 15 = some (.invokevirtual 195, 3) by decide +kernel) (show mRes (mC 211) 195 = some (3, 8, [(8, 212)]) by decide +kernel) (by decide +kernel) rfl (by decide +kernel) (by decide +kernel) h0
set_option maxRecDepth 100000 in
theorem r_211_18 : ∀ (d : Nat) (ls : Lc) (st : List Value) (M : Mem) (Q : Outcome → Mem → Prop), Wp d 211 18 ls st M Q = Wp d 211 19 ls (.int (I 1) :: st) M Q := fun d ls st M Q => w_iconst (show ins 211 18 = some (.iconst 1, 1) by decide +kernel)
set_option maxRecDepth 100000 in
theorem r_211_19 : ∀ (d : Nat) (ls : Lc) (a b : Int) (st : List Value) (M : Mem) (Q : Outcome → Mem → Prop), Wp d 211 19 ls (.int (I b) :: .int (I a) :: st) M Q = Wp d 211 20 ls (.int (I (a - b)) :: st) M Q := fun d ls a b st M Q => w_isub (show ins 211 19 = some (.isub, 1) by decide +kernel)
set_option maxRecDepth 100000 in
theorem r_211_20 : ∀ (d : Nat) (ls : Lc) (v0 v1 v2 : Value)  (st : List Value) (M : Mem) (Q : Outcome → Mem → Prop), (smallR st = true) → Wp d 211 20 ls (v2 :: v1 :: v0 :: st) M Q = Ca d 211 20 ls 159 [v0, v1, v2] st M Q := fun d ls v0 v1 v2 st M Q h0 => w_stat (as := [v0, v1, v2]) (show ins 211 20 = some (.invokestatic 43, 3) by decide +kernel) (show mRes (mC 211) 43 = some (0, 8, [(0, 159)]) by decide +kernel) (by decide +kernel) (by decide +kernel) rfl h0
set_option maxRecDepth 100000 in
theorem r_211_23 : ∀ (d : Nat) (ls : Lc) (a : Int32) (st : List Value) (M : Mem) (Q : Outcome → Mem → Prop), Wp d 211 23 ls (.int a :: st) M Q = Br (¬ a = I 0) d 211 30 26 ls st M Q := fun d ls a st M Q => w_if (show ins 211 23 = some (.ifCond .ne 7, 3) by decide +kernel) rfl rfl
set_option maxRecDepth 100000 in
theorem r_211_26 : ∀ (d : Nat) (ls : Lc) (st : List Value) (M : Mem) (Q : Outcome → Mem → Prop), Wp d 211 26 ls st M Q = Wp d 211 27 ls (.int (I 2) :: st) M Q := fun d ls st M Q => w_iconst (show ins 211 26 = some (.iconst 2, 1) by decide +kernel)
set_option maxRecDepth 100000 in
theorem r_211_27 : ∀ (d : Nat) (ls : Lc) (st : List Value) (M : Mem) (Q : Outcome → Mem → Prop), Wp d 211 27 ls st M Q = Wp d 211 44 ls st M Q := fun d ls st M Q => w_goto (show ins 211 27 = some (.goto 17, 3) by decide +kernel) rfl
set_option maxRecDepth 100000 in
theorem r_211_30 : ∀ (d : Nat) (l0 l1 l3 l4 l5 l6 : Option Value) (v : Int32) (st : List Value) (M : Mem) (Q : Outcome → Mem → Prop), Wp d 211 30 [l0, l1, some (.int v), l3, l4, l5, l6] st M Q = Wp d 211 31 [l0, l1, some (.int v), l3, l4, l5, l6] (.int v :: st) M Q := fun d l0 l1 l3 l4 l5 l6 v st M Q => wA (show ins 211 30 = some (.iload_n 2, 1) by decide +kernel) rfl
set_option maxRecDepth 100000 in
theorem r_211_31 : ∀ (d : Nat) (ls : Lc) (st : List Value) (M : Mem) (Q : Outcome → Mem → Prop), Wp d 211 31 ls st M Q = Wp d 211 32 ls (.int (I 0) :: st) M Q := fun d ls st M Q => w_iconst (show ins 211 31 = some (.iconst 0, 1) by decide +kernel)
set_option maxRecDepth 100000 in
theorem r_211_32 : ∀ (d : Nat) (ls : Lc) (st : List Value) (M : Mem) (Q : Outcome → Mem → Prop), Wp d 211 32 ls st M Q = Wp d 211 33 ls (.int (I 4) :: st) M Q := fun d ls st M Q => w_iconst (show ins 211 32 = some (.iconst 4, 1) by decide +kernel)
set_option maxRecDepth 100000 in
theorem r_211_33 : ∀ (d : Nat) (ls : Lc) (v0 v1 v2 : Value)  (st : List Value) (M : Mem) (Q : Outcome → Mem → Prop), (smallR st = true) → Wp d 211 33 ls (v2 :: v1 :: v0 :: st) M Q = Ca d 211 33 ls 159 [v0, v1, v2] st M Q := fun d ls v0 v1 v2 st M Q h0 => w_stat (as := [v0, v1, v2]) (show ins 211 33 = some (.invokestatic 43, 3) by decide +kernel) (show mRes (mC 211) 43 = some (0, 8, [(0, 159)]) by decide +kernel) (by decide +kernel) (by decide +kernel) rfl h0
set_option maxRecDepth 100000 in
theorem r_211_36 : ∀ (d : Nat) (ls : Lc) (a : Int32) (st : List Value) (M : Mem) (Q : Outcome → Mem → Prop), Wp d 211 36 ls (.int a :: st) M Q = Br (¬ a = I 0) d 211 43 39 ls st M Q := fun d ls a st M Q => w_if (show ins 211 36 = some (.ifCond .ne 7, 3) by decide +kernel) rfl rfl
set_option maxRecDepth 100000 in
theorem r_211_39 : ∀ (d : Nat) (ls : Lc) (st : List Value) (M : Mem) (Q : Outcome → Mem → Prop), Wp d 211 39 ls st M Q = Wp d 211 40 ls (.int (I 3) :: st) M Q := fun d ls st M Q => w_iconst (show ins 211 39 = some (.iconst 3, 1) by decide +kernel)
set_option maxRecDepth 100000 in
theorem r_211_40 : ∀ (d : Nat) (ls : Lc) (st : List Value) (M : Mem) (Q : Outcome → Mem → Prop), Wp d 211 40 ls st M Q = Wp d 211 44 ls st M Q := fun d ls st M Q => w_goto (show ins 211 40 = some (.goto 4, 3) by decide +kernel) rfl
set_option maxRecDepth 100000 in
theorem r_211_43 : ∀ (d : Nat) (ls : Lc) (st : List Value) (M : Mem) (Q : Outcome → Mem → Prop), Wp d 211 43 ls st M Q = Wp d 211 44 ls (.int (I 0) :: st) M Q := fun d ls st M Q => w_iconst (show ins 211 43 = some (.iconst 0, 1) by decide +kernel)
set_option maxRecDepth 100000 in
theorem r_211_44 : ∀ (d : Nat) (ls : Lc) (a : Nat) (v : Int32) (st : List Value) (M : Mem) (Q : Outcome → Mem → Prop), Wp d 211 44 ls (.int v :: .ref a :: st) M Q = (fk 54 (kO M a) = true ∧ Wp d 211 47 ls st (sF M 54 a v) Q) := fun d ls a v st M Q => w_putI (show ins 211 44 = some (.putfield 40, 3) by decide +kernel) (show fRes (mC 211) 40 = some (54, 8, false) by decide +kernel) (by decide +kernel) (by decide +kernel)
set_option maxRecDepth 100000 in
theorem r_211_47 : ∀ (d : Nat) (l1 l2 l3 l4 l5 l6 : Option Value) (v : Nat) (st : List Value) (M : Mem) (Q : Outcome → Mem → Prop), Wp d 211 47 [some (.ref v), l1, l2, l3, l4, l5, l6] st M Q = Wp d 211 48 [some (.ref v), l1, l2, l3, l4, l5, l6] (.ref v :: st) M Q := fun d l1 l2 l3 l4 l5 l6 v st M Q => wA (show ins 211 47 = some (.aload_n 0, 1) by decide +kernel) rfl
set_option maxRecDepth 100000 in
theorem r_211_48 : ∀ (d : Nat) (ls : Lc) (a : Nat) (st : List Value) (M : Mem) (Q : Outcome → Mem → Prop), Wp d 211 48 ls (.ref a :: st) M Q = (fk 54 (kO M a) = true ∧ Wp d 211 51 ls (.int (mF M 54 a) :: st) M Q) := fun d ls a st M Q => w_getI (show ins 211 48 = some (.getfield 40, 3) by decide +kernel) (show fRes (mC 211) 40 = some (54, 8, false) by decide +kernel) (by decide +kernel)
set_option maxRecDepth 100000 in
theorem r_211_51 : ∀ (d : Nat) (ls : Lc) (a : Int32) (st : List Value) (M : Mem) (Q : Outcome → Mem → Prop), Wp d 211 51 ls (.int a :: st) M Q = Br (a ≤ I 0) d 211 56 54 ls st M Q := fun d ls a st M Q => w_if (show ins 211 51 = some (.ifCond .le 5, 3) by decide +kernel) rfl rfl
set_option maxRecDepth 100000 in
theorem r_211_54 : ∀ (d : Nat) (ls : Lc) (st : List Value) (M : Mem) (Q : Outcome → Mem → Prop), Wp d 211 54 ls st M Q = Wp d 211 55 ls (.int (I 0) :: st) M Q := fun d ls st M Q => w_iconst (show ins 211 54 = some (.iconst 0, 1) by decide +kernel)
set_option maxRecDepth 100000 in
theorem r_211_55 : ∀ (d : Nat) (ls : Lc) (v : Int32) (M : Mem) (Q : Outcome → Mem → Prop), Wp d 211 55 ls [.int v] M Q = Q (.returned (some (.int v))) M := fun d ls v M Q => w_ireturn (show ins 211 55 = some (.ireturn, 1) by decide +kernel) (by decide +kernel)
set_option maxRecDepth 100000 in
theorem r_211_56 : ∀ (d : Nat) (ls : Lc) (st : List Value) (M : Mem) (Q : Outcome → Mem → Prop), Wp d 211 56 ls st M Q = Wp d 211 57 ls (.int (I 0) :: st) M Q := fun d ls st M Q => w_iconst (show ins 211 56 = some (.iconst 0, 1) by decide +kernel)
set_option maxRecDepth 100000 in
theorem r_211_57 : ∀ (d : Nat) (l0 l1 l2 l3 l4 l5 l6 : Option Value) (v : Int32) (st : List Value) (M : Mem) (Q : Outcome → Mem → Prop), (lo l2 = false) → Wp d 211 57 [l0, l1, l2, l3, l4, l5, l6] (.int v :: st) M Q = Wp d 211 58 [l0, l1, l2, some (.int v), l4, l5, l6] st M Q := fun d l0 l1 l2 l3 l4 l5 l6 v st M Q hl => w_istore_n (show ins 211 57 = some (.istore_n 3, 1) by decide +kernel) (st1_S rfl rfl hl)
set_option maxRecDepth 100000 in
theorem r_211_58 : ∀ (d : Nat) (l0 l2 l3 l4 l5 l6 : Option Value) (v : Int32) (st : List Value) (M : Mem) (Q : Outcome → Mem → Prop), Wp d 211 58 [l0, some (.int v), l2, l3, l4, l5, l6] st M Q = Wp d 211 59 [l0, some (.int v), l2, l3, l4, l5, l6] (.int v :: st) M Q := fun d l0 l2 l3 l4 l5 l6 v st M Q => wA (show ins 211 58 = some (.iload_n 1, 1) by decide +kernel) rfl
set_option maxRecDepth 100000 in
theorem r_211_59 : ∀ (d : Nat) (l0 l1 l2 l3 l4 l5 l6 : Option Value) (v : Int32) (st : List Value) (M : Mem) (Q : Outcome → Mem → Prop), (lo l3 = false) → Wp d 211 59 [l0, l1, l2, l3, l4, l5, l6] (.int v :: st) M Q = Wp d 211 61 [l0, l1, l2, l3, some (.int v), l5, l6] st M Q := fun d l0 l1 l2 l3 l4 l5 l6 v st M Q hl => w_istore (show ins 211 59 = some (.istore 4, 2) by decide +kernel) (st1_S rfl rfl hl)
set_option maxRecDepth 100000 in
theorem r_211_61 : ∀ (d : Nat) (l0 l1 l2 l3 l5 l6 : Option Value) (v : Int32) (st : List Value) (M : Mem) (Q : Outcome → Mem → Prop), Wp d 211 61 [l0, l1, l2, l3, some (.int v), l5, l6] st M Q = Wp d 211 63 [l0, l1, l2, l3, some (.int v), l5, l6] (.int v :: st) M Q := fun d l0 l1 l2 l3 l5 l6 v st M Q => wA (show ins 211 61 = some (.iload 4, 2) by decide +kernel) rfl
set_option maxRecDepth 100000 in
theorem r_211_63 : ∀ (d : Nat) (l1 l2 l3 l4 l5 l6 : Option Value) (v : Nat) (st : List Value) (M : Mem) (Q : Outcome → Mem → Prop), Wp d 211 63 [some (.ref v), l1, l2, l3, l4, l5, l6] st M Q = Wp d 211 64 [some (.ref v), l1, l2, l3, l4, l5, l6] (.ref v :: st) M Q := fun d l1 l2 l3 l4 l5 l6 v st M Q => wA (show ins 211 63 = some (.aload_n 0, 1) by decide +kernel) rfl
set_option maxRecDepth 100000 in
theorem r_211_64 : ∀ (d : Nat) (ls : Lc) (a : Nat) (st : List Value) (M : Mem) (Q : Outcome → Mem → Prop), Wp d 211 64 ls (.ref a :: st) M Q = (fk 53 (kO M a) = true ∧ Wp d 211 67 ls (va_rf (mR M 53 a) :: st) M Q) := fun d ls a st M Q => w_getR (show ins 211 64 = some (.getfield 7, 3) by decide +kernel) (show fRes (mC 211) 7 = some (53, 8, false) by decide +kernel) (by decide +kernel)
set_option maxRecDepth 100000 in
theorem r_211_67 : ∀ (d : Nat) (ls : Lc) (st : List Value) (M : Mem) (Q : Outcome → Mem → Prop), Wp d 211 67 ls st M Q = Wp d 211 70 ls (.int (I 3852) :: st) M Q := fun d ls st M Q => w_sipush (show ins 211 67 = some (.sipush 3852, 3) by decide +kernel) (by decide)
set_option maxRecDepth 100000 in
theorem r_211_70 : ∀ (d : Nat) (l1 l2 l3 l4 l5 l6 : Option Value) (v : Nat) (st : List Value) (M : Mem) (Q : Outcome → Mem → Prop), Wp d 211 70 [some (.ref v), l1, l2, l3, l4, l5, l6] st M Q = Wp d 211 71 [some (.ref v), l1, l2, l3, l4, l5, l6] (.ref v :: st) M Q := fun d l1 l2 l3 l4 l5 l6 v st M Q => wA (show ins 211 70 = some (.aload_n 0, 1) by decide +kernel) rfl
set_option maxRecDepth 100000 in
theorem r_211_71 : ∀ (d : Nat) (ls : Lc) (a : Nat) (st : List Value) (M : Mem) (Q : Outcome → Mem → Prop), Wp d 211 71 ls (.ref a :: st) M Q = (fk 53 (kO M a) = true ∧ Wp d 211 74 ls (va_rf (mR M 53 a) :: st) M Q) := fun d ls a st M Q => w_getR (show ins 211 71 = some (.getfield 7, 3) by decide +kernel) (show fRes (mC 211) 7 = some (53, 8, false) by decide +kernel) (by decide +kernel)
set_option maxRecDepth 100000 in
theorem r_211_74 : ∀ (d : Nat) (ls : Lc) (st : List Value) (M : Mem) (Q : Outcome → Mem → Prop), Wp d 211 74 ls st M Q = Wp d 211 77 ls (.int (I 12300) :: st) M Q := fun d ls st M Q => w_sipush (show ins 211 74 = some (.sipush 12300, 3) by decide +kernel) (by decide)
set_option maxRecDepth 100000 in
theorem r_211_77 : ∀ (d : Nat) (l0 l1 l2 l4 l5 l6 : Option Value) (v : Int32) (st : List Value) (M : Mem) (Q : Outcome → Mem → Prop), Wp d 211 77 [l0, l1, l2, some (.int v), l4, l5, l6] st M Q = Wp d 211 78 [l0, l1, l2, some (.int v), l4, l5, l6] (.int v :: st) M Q := fun d l0 l1 l2 l4 l5 l6 v st M Q => wA (show ins 211 77 = some (.iload_n 3, 1) by decide +kernel) rfl
set_option maxRecDepth 100000 in
theorem r_211_78 : ∀ (d : Nat) (ls : Lc) (a b : Int) (st : List Value) (M : Mem) (Q : Outcome → Mem → Prop), Wp d 211 78 ls (.int (I b) :: .int (I a) :: st) M Q = Wp d 211 79 ls (.int (I (a + b)) :: st) M Q := fun d ls a b st M Q => w_iadd (show ins 211 78 = some (.iadd, 1) by decide +kernel)
set_option maxRecDepth 100000 in
theorem r_211_79 : ∀ (d : Nat) (ls : Lc) (a : Nat) (j : Int32) (st : List Value) (M : Mem) (Q : Outcome → Mem → Prop), Wp d 211 79 ls (.int j :: .ref a :: st) M Q = ((((kX M a).1 = 0 ∨ (kX M a).1 = 8) ∧ inB j (kX M a).2 = true) ∧ Wp d 211 80 ls (.int (mA M a j.toNatClampNeg) :: st) M Q) := fun d ls a j st M Q => w_iaload (show ins 211 79 = some (.iaload, 1) by decide +kernel)
set_option maxRecDepth 100000 in
theorem r_211_80 : ∀ (d : Nat) (ls : Lc) (a b : Int) (st : List Value) (M : Mem) (Q : Outcome → Mem → Prop), Wp d 211 80 ls (.int (I b) :: .int (I a) :: st) M Q = Wp d 211 81 ls (.int (I (a + b)) :: st) M Q := fun d ls a b st M Q => w_iadd (show ins 211 80 = some (.iadd, 1) by decide +kernel)
set_option maxRecDepth 100000 in
theorem r_211_81 : ∀ (d : Nat) (ls : Lc) (a : Nat) (j : Int32) (st : List Value) (M : Mem) (Q : Outcome → Mem → Prop), Wp d 211 81 ls (.int j :: .ref a :: st) M Q = ((((kX M a).1 = 0 ∨ (kX M a).1 = 8) ∧ inB j (kX M a).2 = true) ∧ Wp d 211 82 ls (.int (mA M a j.toNatClampNeg) :: st) M Q) := fun d ls a j st M Q => w_iaload (show ins 211 81 = some (.iaload, 1) by decide +kernel)
set_option maxRecDepth 100000 in
theorem r_211_82 : ∀ (d : Nat) (ls : Lc) (a b : Int32) (st : List Value) (M : Mem) (Q : Outcome → Mem → Prop), Wp d 211 82 ls (.int b :: .int a :: st) M Q = Br (a < b) d 211 115 85 ls st M Q := fun d ls a b st M Q => w_icmp (show ins 211 82 = some (.if_icmp .lt 33, 3) by decide +kernel) rfl rfl
set_option maxRecDepth 100000 in
theorem r_211_85 : ∀ (d : Nat) (l0 l1 l2 l3 l5 l6 : Option Value) (v : Int32) (st : List Value) (M : Mem) (Q : Outcome → Mem → Prop), Wp d 211 85 [l0, l1, l2, l3, some (.int v), l5, l6] st M Q = Wp d 211 87 [l0, l1, l2, l3, some (.int v), l5, l6] (.int v :: st) M Q := fun d l0 l1 l2 l3 l5 l6 v st M Q => wA (show ins 211 85 = some (.iload 4, 2) by decide +kernel) rfl
set_option maxRecDepth 100000 in
theorem r_211_87 : ∀ (d : Nat) (l1 l2 l3 l4 l5 l6 : Option Value) (v : Nat) (st : List Value) (M : Mem) (Q : Outcome → Mem → Prop), Wp d 211 87 [some (.ref v), l1, l2, l3, l4, l5, l6] st M Q = Wp d 211 88 [some (.ref v), l1, l2, l3, l4, l5, l6] (.ref v :: st) M Q := fun d l1 l2 l3 l4 l5 l6 v st M Q => wA (show ins 211 87 = some (.aload_n 0, 1) by decide +kernel) rfl
set_option maxRecDepth 100000 in
theorem r_211_88 : ∀ (d : Nat) (ls : Lc) (a : Nat) (st : List Value) (M : Mem) (Q : Outcome → Mem → Prop), Wp d 211 88 ls (.ref a :: st) M Q = (fk 53 (kO M a) = true ∧ Wp d 211 91 ls (va_rf (mR M 53 a) :: st) M Q) := fun d ls a st M Q => w_getR (show ins 211 88 = some (.getfield 7, 3) by decide +kernel) (show fRes (mC 211) 7 = some (53, 8, false) by decide +kernel) (by decide +kernel)
set_option maxRecDepth 100000 in
theorem r_211_91 : ∀ (d : Nat) (ls : Lc) (st : List Value) (M : Mem) (Q : Outcome → Mem → Prop), Wp d 211 91 ls st M Q = Wp d 211 94 ls (.int (I 3852) :: st) M Q := fun d ls st M Q => w_sipush (show ins 211 91 = some (.sipush 3852, 3) by decide +kernel) (by decide)
set_option maxRecDepth 100000 in
theorem r_211_94 : ∀ (d : Nat) (l1 l2 l3 l4 l5 l6 : Option Value) (v : Nat) (st : List Value) (M : Mem) (Q : Outcome → Mem → Prop), Wp d 211 94 [some (.ref v), l1, l2, l3, l4, l5, l6] st M Q = Wp d 211 95 [some (.ref v), l1, l2, l3, l4, l5, l6] (.ref v :: st) M Q := fun d l1 l2 l3 l4 l5 l6 v st M Q => wA (show ins 211 94 = some (.aload_n 0, 1) by decide +kernel) rfl
set_option maxRecDepth 100000 in
theorem r_211_95 : ∀ (d : Nat) (ls : Lc) (a : Nat) (st : List Value) (M : Mem) (Q : Outcome → Mem → Prop), Wp d 211 95 ls (.ref a :: st) M Q = (fk 53 (kO M a) = true ∧ Wp d 211 98 ls (va_rf (mR M 53 a) :: st) M Q) := fun d ls a st M Q => w_getR (show ins 211 95 = some (.getfield 7, 3) by decide +kernel) (show fRes (mC 211) 7 = some (53, 8, false) by decide +kernel) (by decide +kernel)
set_option maxRecDepth 100000 in
theorem r_211_98 : ∀ (d : Nat) (ls : Lc) (st : List Value) (M : Mem) (Q : Outcome → Mem → Prop), Wp d 211 98 ls st M Q = Wp d 211 101 ls (.int (I 12300) :: st) M Q := fun d ls st M Q => w_sipush (show ins 211 98 = some (.sipush 12300, 3) by decide +kernel) (by decide)
set_option maxRecDepth 100000 in
theorem r_211_101 : ∀ (d : Nat) (l0 l1 l2 l4 l5 l6 : Option Value) (v : Int32) (st : List Value) (M : Mem) (Q : Outcome → Mem → Prop), Wp d 211 101 [l0, l1, l2, some (.int v), l4, l5, l6] st M Q = Wp d 211 102 [l0, l1, l2, some (.int v), l4, l5, l6] (.int v :: st) M Q := fun d l0 l1 l2 l4 l5 l6 v st M Q => wA (show ins 211 101 = some (.iload_n 3, 1) by decide +kernel) rfl
set_option maxRecDepth 100000 in
theorem r_211_102 : ∀ (d : Nat) (ls : Lc) (a b : Int) (st : List Value) (M : Mem) (Q : Outcome → Mem → Prop), Wp d 211 102 ls (.int (I b) :: .int (I a) :: st) M Q = Wp d 211 103 ls (.int (I (a + b)) :: st) M Q := fun d ls a b st M Q => w_iadd (show ins 211 102 = some (.iadd, 1) by decide +kernel)
set_option maxRecDepth 100000 in
theorem r_211_103 : ∀ (d : Nat) (ls : Lc) (a : Nat) (j : Int32) (st : List Value) (M : Mem) (Q : Outcome → Mem → Prop), Wp d 211 103 ls (.int j :: .ref a :: st) M Q = ((((kX M a).1 = 0 ∨ (kX M a).1 = 8) ∧ inB j (kX M a).2 = true) ∧ Wp d 211 104 ls (.int (mA M a j.toNatClampNeg) :: st) M Q) := fun d ls a j st M Q => w_iaload (show ins 211 103 = some (.iaload, 1) by decide +kernel)
set_option maxRecDepth 100000 in
theorem r_211_104 : ∀ (d : Nat) (ls : Lc) (a b : Int) (st : List Value) (M : Mem) (Q : Outcome → Mem → Prop), Wp d 211 104 ls (.int (I b) :: .int (I a) :: st) M Q = Wp d 211 105 ls (.int (I (a + b)) :: st) M Q := fun d ls a b st M Q => w_iadd (show ins 211 104 = some (.iadd, 1) by decide +kernel)
set_option maxRecDepth 100000 in
theorem r_211_105 : ∀ (d : Nat) (ls : Lc) (a : Nat) (j : Int32) (st : List Value) (M : Mem) (Q : Outcome → Mem → Prop), Wp d 211 105 ls (.int j :: .ref a :: st) M Q = ((((kX M a).1 = 0 ∨ (kX M a).1 = 8) ∧ inB j (kX M a).2 = true) ∧ Wp d 211 106 ls (.int (mA M a j.toNatClampNeg) :: st) M Q) := fun d ls a j st M Q => w_iaload (show ins 211 105 = some (.iaload, 1) by decide +kernel)
set_option maxRecDepth 100000 in
theorem r_211_106 : ∀ (d : Nat) (ls : Lc) (a b : Int) (st : List Value) (M : Mem) (Q : Outcome → Mem → Prop), Wp d 211 106 ls (.int (I b) :: .int (I a) :: st) M Q = Wp d 211 107 ls (.int (I (a - b)) :: st) M Q := fun d ls a b st M Q => w_isub (show ins 211 106 = some (.isub, 1) by decide +kernel)
set_option maxRecDepth 100000 in
theorem r_211_107 : ∀ (d : Nat) (l0 l1 l2 l3 l4 l5 l6 : Option Value) (v : Int32) (st : List Value) (M : Mem) (Q : Outcome → Mem → Prop), (lo l3 = false) → Wp d 211 107 [l0, l1, l2, l3, l4, l5, l6] (.int v :: st) M Q = Wp d 211 109 [l0, l1, l2, l3, some (.int v), l5, l6] st M Q := fun d l0 l1 l2 l3 l4 l5 l6 v st M Q hl => w_istore (show ins 211 107 = some (.istore 4, 2) by decide +kernel) (st1_S rfl rfl hl)
set_option maxRecDepth 100000 in
theorem r_211_109 : ∀ (d : Nat) (l0 l1 l2 l4 l5 l6 : Option Value) (z : Int) (st : List Value) (M : Mem) (Q : Outcome → Mem → Prop), (lo l2 = false) → Wp d 211 109 [l0, l1, l2, some (.int (I z)), l4, l5, l6] st M Q = Wp d 211 112 [l0, l1, l2, some (.int (I (z + 1))), l4, l5, l6] st M Q := fun d l0 l1 l2 l4 l5 l6 z st M Q hl => w_iinc (show ins 211 109 = some (.iinc 3 1, 3) by decide +kernel) rfl (st1_S rfl rfl hl)
set_option maxRecDepth 100000 in
theorem r_211_112 : ∀ (d : Nat) (ls : Lc) (st : List Value) (M : Mem) (Q : Outcome → Mem → Prop), Wp d 211 112 ls st M Q = Wp d 211 61 ls st M Q := fun d ls st M Q => w_goto (show ins 211 112 = some (.goto (-51), 3) by decide +kernel) rfl
set_option maxRecDepth 100000 in
theorem r_211_115 : ∀ (d : Nat) (l1 l2 l3 l4 l5 l6 : Option Value) (v : Nat) (st : List Value) (M : Mem) (Q : Outcome → Mem → Prop), Wp d 211 115 [some (.ref v), l1, l2, l3, l4, l5, l6] st M Q = Wp d 211 116 [some (.ref v), l1, l2, l3, l4, l5, l6] (.ref v :: st) M Q := fun d l1 l2 l3 l4 l5 l6 v st M Q => wA (show ins 211 115 = some (.aload_n 0, 1) by decide +kernel) rfl
set_option maxRecDepth 100000 in
theorem r_211_116 : ∀ (d : Nat) (ls : Lc) (a : Nat) (st : List Value) (M : Mem) (Q : Outcome → Mem → Prop), Wp d 211 116 ls (.ref a :: st) M Q = (fk 53 (kO M a) = true ∧ Wp d 211 119 ls (va_rf (mR M 53 a) :: st) M Q) := fun d ls a st M Q => w_getR (show ins 211 116 = some (.getfield 7, 3) by decide +kernel) (show fRes (mC 211) 7 = some (53, 8, false) by decide +kernel) (by decide +kernel)
set_option maxRecDepth 100000 in
theorem r_211_119 : ∀ (d : Nat) (ls : Lc) (st : List Value) (M : Mem) (Q : Outcome → Mem → Prop), Wp d 211 119 ls st M Q = Wp d 211 122 ls (.int (I 12300) :: st) M Q := fun d ls st M Q => w_sipush (show ins 211 119 = some (.sipush 12300, 3) by decide +kernel) (by decide)
set_option maxRecDepth 100000 in
theorem r_211_122 : ∀ (d : Nat) (l0 l1 l2 l4 l5 l6 : Option Value) (v : Int32) (st : List Value) (M : Mem) (Q : Outcome → Mem → Prop), Wp d 211 122 [l0, l1, l2, some (.int v), l4, l5, l6] st M Q = Wp d 211 123 [l0, l1, l2, some (.int v), l4, l5, l6] (.int v :: st) M Q := fun d l0 l1 l2 l4 l5 l6 v st M Q => wA (show ins 211 122 = some (.iload_n 3, 1) by decide +kernel) rfl
set_option maxRecDepth 100000 in
theorem r_211_123 : ∀ (d : Nat) (ls : Lc) (a b : Int) (st : List Value) (M : Mem) (Q : Outcome → Mem → Prop), Wp d 211 123 ls (.int (I b) :: .int (I a) :: st) M Q = Wp d 211 124 ls (.int (I (a + b)) :: st) M Q := fun d ls a b st M Q => w_iadd (show ins 211 123 = some (.iadd, 1) by decide +kernel)
set_option maxRecDepth 100000 in
theorem r_211_124 : ∀ (d : Nat) (ls : Lc) (a : Nat) (j : Int32) (st : List Value) (M : Mem) (Q : Outcome → Mem → Prop), Wp d 211 124 ls (.int j :: .ref a :: st) M Q = ((((kX M a).1 = 0 ∨ (kX M a).1 = 8) ∧ inB j (kX M a).2 = true) ∧ Wp d 211 125 ls (.int (mA M a j.toNatClampNeg) :: st) M Q) := fun d ls a j st M Q => w_iaload (show ins 211 124 = some (.iaload, 1) by decide +kernel)
set_option maxRecDepth 100000 in
theorem r_211_125 : ∀ (d : Nat) (l0 l1 l2 l3 l4 l5 l6 : Option Value) (v : Int32) (st : List Value) (M : Mem) (Q : Outcome → Mem → Prop), (lo l4 = false) → Wp d 211 125 [l0, l1, l2, l3, l4, l5, l6] (.int v :: st) M Q = Wp d 211 127 [l0, l1, l2, l3, l4, some (.int v), l6] st M Q := fun d l0 l1 l2 l3 l4 l5 l6 v st M Q hl => w_istore (show ins 211 125 = some (.istore 5, 2) by decide +kernel) (st1_S rfl rfl hl)
set_option maxRecDepth 100000 in
theorem r_211_127 : ∀ (d : Nat) (ls : Lc) (st : List Value) (M : Mem) (Q : Outcome → Mem → Prop), Wp d 211 127 ls st M Q = Wp d 211 129 ls (.int (I 16) :: st) M Q := fun d ls st M Q => w_bipush (show ins 211 127 = some (.bipush 16, 2) by decide +kernel) (by decide)
set_option maxRecDepth 100000 in
theorem r_211_129 : ∀ (d : Nat) (l0 l1 l2 l3 l4 l6 : Option Value) (v : Int32) (st : List Value) (M : Mem) (Q : Outcome → Mem → Prop), Wp d 211 129 [l0, l1, l2, l3, l4, some (.int v), l6] st M Q = Wp d 211 131 [l0, l1, l2, l3, l4, some (.int v), l6] (.int v :: st) M Q := fun d l0 l1 l2 l3 l4 l6 v st M Q => wA (show ins 211 129 = some (.iload 5, 2) by decide +kernel) rfl
set_option maxRecDepth 100000 in
theorem r_211_131 : ∀ (d : Nat) (ls : Lc) (a b : Int) (st : List Value) (M : Mem) (Q : Outcome → Mem → Prop), Wp d 211 131 ls (.int (I b) :: .int (I a) :: st) M Q = Wp d 211 132 ls (.int (I (a * b)) :: st) M Q := fun d ls a b st M Q => w_imul (show ins 211 131 = some (.imul, 1) by decide +kernel)
set_option maxRecDepth 100000 in
theorem r_211_132 : ∀ (d : Nat) (l0 l1 l2 l3 l5 l6 : Option Value) (v : Int32) (st : List Value) (M : Mem) (Q : Outcome → Mem → Prop), Wp d 211 132 [l0, l1, l2, l3, some (.int v), l5, l6] st M Q = Wp d 211 134 [l0, l1, l2, l3, some (.int v), l5, l6] (.int v :: st) M Q := fun d l0 l1 l2 l3 l5 l6 v st M Q => wA (show ins 211 132 = some (.iload 4, 2) by decide +kernel) rfl
set_option maxRecDepth 100000 in
theorem r_211_134 : ∀ (d : Nat) (ls : Lc) (a b : Int) (st : List Value) (M : Mem) (Q : Outcome → Mem → Prop), Wp d 211 134 ls (.int (I b) :: .int (I a) :: st) M Q = Wp d 211 135 ls (.int (I (a + b)) :: st) M Q := fun d ls a b st M Q => w_iadd (show ins 211 134 = some (.iadd, 1) by decide +kernel)
set_option maxRecDepth 100000 in
theorem r_211_135 : ∀ (d : Nat) (l0 l1 l2 l3 l4 l5 l6 : Option Value) (v : Int32) (st : List Value) (M : Mem) (Q : Outcome → Mem → Prop), (lo l5 = false) → Wp d 211 135 [l0, l1, l2, l3, l4, l5, l6] (.int v :: st) M Q = Wp d 211 137 [l0, l1, l2, l3, l4, l5, some (.int v)] st M Q := fun d l0 l1 l2 l3 l4 l5 l6 v st M Q hl => w_istore (show ins 211 135 = some (.istore 6, 2) by decide +kernel) (st1_S rfl rfl hl)
set_option maxRecDepth 100000 in
theorem r_211_137 : ∀ (d : Nat) (l0 l1 l3 l4 l5 l6 : Option Value) (v : Int32) (st : List Value) (M : Mem) (Q : Outcome → Mem → Prop), Wp d 211 137 [l0, l1, some (.int v), l3, l4, l5, l6] st M Q = Wp d 211 138 [l0, l1, some (.int v), l3, l4, l5, l6] (.int v :: st) M Q := fun d l0 l1 l3 l4 l5 l6 v st M Q => wA (show ins 211 137 = some (.iload_n 2, 1) by decide +kernel) rfl
set_option maxRecDepth 100000 in
theorem r_211_138 : ∀ (d : Nat) (ls : Lc) (a : Int32) (st : List Value) (M : Mem) (Q : Outcome → Mem → Prop), Wp d 211 138 ls (.int a :: st) M Q = Br (¬ a = I 0) d 211 155 141 ls st M Q := fun d ls a st M Q => w_if (show ins 211 138 = some (.ifCond .ne 17, 3) by decide +kernel) rfl rfl
set_option maxRecDepth 100000 in
theorem r_211_141 : ∀ (d : Nat) (l1 l2 l3 l4 l5 l6 : Option Value) (v : Nat) (st : List Value) (M : Mem) (Q : Outcome → Mem → Prop), Wp d 211 141 [some (.ref v), l1, l2, l3, l4, l5, l6] st M Q = Wp d 211 142 [some (.ref v), l1, l2, l3, l4, l5, l6] (.ref v :: st) M Q := fun d l1 l2 l3 l4 l5 l6 v st M Q => wA (show ins 211 141 = some (.aload_n 0, 1) by decide +kernel) rfl
set_option maxRecDepth 100000 in
theorem r_211_142 : ∀ (d : Nat) (ls : Lc) (a : Nat) (st : List Value) (M : Mem) (Q : Outcome → Mem → Prop), Wp d 211 142 ls (.ref a :: st) M Q = (fk 53 (kO M a) = true ∧ Wp d 211 145 ls (va_rf (mR M 53 a) :: st) M Q) := fun d ls a st M Q => w_getR (show ins 211 142 = some (.getfield 7, 3) by decide +kernel) (show fRes (mC 211) 7 = some (53, 8, false) by decide +kernel) (by decide +kernel)
set_option maxRecDepth 100000 in
theorem r_211_145 : ∀ (d : Nat) (ls : Lc) (st : List Value) (M : Mem) (Q : Outcome → Mem → Prop), Wp d 211 145 ls st M Q = Wp d 211 148 ls (.int (I 4620) :: st) M Q := fun d ls st M Q => w_sipush (show ins 211 145 = some (.sipush 4620, 3) by decide +kernel) (by decide)
set_option maxRecDepth 100000 in
theorem r_211_148 : ∀ (d : Nat) (l0 l1 l2 l3 l4 l5 : Option Value) (v : Int32) (st : List Value) (M : Mem) (Q : Outcome → Mem → Prop), Wp d 211 148 [l0, l1, l2, l3, l4, l5, some (.int v)] st M Q = Wp d 211 150 [l0, l1, l2, l3, l4, l5, some (.int v)] (.int v :: st) M Q := fun d l0 l1 l2 l3 l4 l5 v st M Q => wA (show ins 211 148 = some (.iload 6, 2) by decide +kernel) rfl
set_option maxRecDepth 100000 in
theorem r_211_150 : ∀ (d : Nat) (ls : Lc) (a b : Int) (st : List Value) (M : Mem) (Q : Outcome → Mem → Prop), Wp d 211 150 ls (.int (I b) :: .int (I a) :: st) M Q = Wp d 211 151 ls (.int (I (a + b)) :: st) M Q := fun d ls a b st M Q => w_iadd (show ins 211 150 = some (.iadd, 1) by decide +kernel)
set_option maxRecDepth 100000 in
theorem r_211_151 : ∀ (d : Nat) (ls : Lc) (a : Nat) (j : Int32) (st : List Value) (M : Mem) (Q : Outcome → Mem → Prop), Wp d 211 151 ls (.int j :: .ref a :: st) M Q = ((((kX M a).1 = 0 ∨ (kX M a).1 = 8) ∧ inB j (kX M a).2 = true) ∧ Wp d 211 152 ls (.int (mA M a j.toNatClampNeg) :: st) M Q) := fun d ls a j st M Q => w_iaload (show ins 211 151 = some (.iaload, 1) by decide +kernel)
set_option maxRecDepth 100000 in
theorem r_211_152 : ∀ (d : Nat) (ls : Lc) (st : List Value) (M : Mem) (Q : Outcome → Mem → Prop), Wp d 211 152 ls st M Q = Wp d 211 214 ls st M Q := fun d ls st M Q => w_goto (show ins 211 152 = some (.goto 62, 3) by decide +kernel) rfl
set_option maxRecDepth 100000 in
theorem r_211_155 : ∀ (d : Nat) (l0 l1 l3 l4 l5 l6 : Option Value) (v : Int32) (st : List Value) (M : Mem) (Q : Outcome → Mem → Prop), Wp d 211 155 [l0, l1, some (.int v), l3, l4, l5, l6] st M Q = Wp d 211 156 [l0, l1, some (.int v), l3, l4, l5, l6] (.int v :: st) M Q := fun d l0 l1 l3 l4 l5 l6 v st M Q => wA (show ins 211 155 = some (.iload_n 2, 1) by decide +kernel) rfl
set_option maxRecDepth 100000 in
theorem r_211_156 : ∀ (d : Nat) (ls : Lc) (st : List Value) (M : Mem) (Q : Outcome → Mem → Prop), Wp d 211 156 ls st M Q = Wp d 211 157 ls (.int (I 1) :: st) M Q := fun d ls st M Q => w_iconst (show ins 211 156 = some (.iconst 1, 1) by decide +kernel)
set_option maxRecDepth 100000 in
theorem r_211_157 : ∀ (d : Nat) (ls : Lc) (a b : Int32) (st : List Value) (M : Mem) (Q : Outcome → Mem → Prop), Wp d 211 157 ls (.int b :: .int a :: st) M Q = Br (¬ a = b) d 211 174 160 ls st M Q := fun d ls a b st M Q => w_icmp (show ins 211 157 = some (.if_icmp .ne 17, 3) by decide +kernel) rfl rfl
set_option maxRecDepth 100000 in
theorem r_211_160 : ∀ (d : Nat) (l1 l2 l3 l4 l5 l6 : Option Value) (v : Nat) (st : List Value) (M : Mem) (Q : Outcome → Mem → Prop), Wp d 211 160 [some (.ref v), l1, l2, l3, l4, l5, l6] st M Q = Wp d 211 161 [some (.ref v), l1, l2, l3, l4, l5, l6] (.ref v :: st) M Q := fun d l1 l2 l3 l4 l5 l6 v st M Q => wA (show ins 211 160 = some (.aload_n 0, 1) by decide +kernel) rfl
set_option maxRecDepth 100000 in
theorem r_211_161 : ∀ (d : Nat) (ls : Lc) (a : Nat) (st : List Value) (M : Mem) (Q : Outcome → Mem → Prop), Wp d 211 161 ls (.ref a :: st) M Q = (fk 53 (kO M a) = true ∧ Wp d 211 164 ls (va_rf (mR M 53 a) :: st) M Q) := fun d ls a st M Q => w_getR (show ins 211 161 = some (.getfield 7, 3) by decide +kernel) (show fRes (mC 211) 7 = some (53, 8, false) by decide +kernel) (by decide +kernel)
set_option maxRecDepth 100000 in
theorem r_211_164 : ∀ (d : Nat) (ls : Lc) (st : List Value) (M : Mem) (Q : Outcome → Mem → Prop), Wp d 211 164 ls st M Q = Wp d 211 167 ls (.int (I 6156) :: st) M Q := fun d ls st M Q => w_sipush (show ins 211 164 = some (.sipush 6156, 3) by decide +kernel) (by decide)
set_option maxRecDepth 100000 in
theorem r_211_167 : ∀ (d : Nat) (l0 l1 l2 l3 l4 l5 : Option Value) (v : Int32) (st : List Value) (M : Mem) (Q : Outcome → Mem → Prop), Wp d 211 167 [l0, l1, l2, l3, l4, l5, some (.int v)] st M Q = Wp d 211 169 [l0, l1, l2, l3, l4, l5, some (.int v)] (.int v :: st) M Q := fun d l0 l1 l2 l3 l4 l5 v st M Q => wA (show ins 211 167 = some (.iload 6, 2) by decide +kernel) rfl
set_option maxRecDepth 100000 in
theorem r_211_169 : ∀ (d : Nat) (ls : Lc) (a b : Int) (st : List Value) (M : Mem) (Q : Outcome → Mem → Prop), Wp d 211 169 ls (.int (I b) :: .int (I a) :: st) M Q = Wp d 211 170 ls (.int (I (a + b)) :: st) M Q := fun d ls a b st M Q => w_iadd (show ins 211 169 = some (.iadd, 1) by decide +kernel)
set_option maxRecDepth 100000 in
theorem r_211_170 : ∀ (d : Nat) (ls : Lc) (a : Nat) (j : Int32) (st : List Value) (M : Mem) (Q : Outcome → Mem → Prop), Wp d 211 170 ls (.int j :: .ref a :: st) M Q = ((((kX M a).1 = 0 ∨ (kX M a).1 = 8) ∧ inB j (kX M a).2 = true) ∧ Wp d 211 171 ls (.int (mA M a j.toNatClampNeg) :: st) M Q) := fun d ls a j st M Q => w_iaload (show ins 211 170 = some (.iaload, 1) by decide +kernel)
set_option maxRecDepth 100000 in
theorem r_211_171 : ∀ (d : Nat) (ls : Lc) (st : List Value) (M : Mem) (Q : Outcome → Mem → Prop), Wp d 211 171 ls st M Q = Wp d 211 214 ls st M Q := fun d ls st M Q => w_goto (show ins 211 171 = some (.goto 43, 3) by decide +kernel) rfl
set_option maxRecDepth 100000 in
theorem r_211_174 : ∀ (d : Nat) (l0 l1 l3 l4 l5 l6 : Option Value) (v : Int32) (st : List Value) (M : Mem) (Q : Outcome → Mem → Prop), Wp d 211 174 [l0, l1, some (.int v), l3, l4, l5, l6] st M Q = Wp d 211 175 [l0, l1, some (.int v), l3, l4, l5, l6] (.int v :: st) M Q := fun d l0 l1 l3 l4 l5 l6 v st M Q => wA (show ins 211 174 = some (.iload_n 2, 1) by decide +kernel) rfl
set_option maxRecDepth 100000 in
theorem r_211_175 : ∀ (d : Nat) (ls : Lc) (st : List Value) (M : Mem) (Q : Outcome → Mem → Prop), Wp d 211 175 ls st M Q = Wp d 211 176 ls (.int (I 2) :: st) M Q := fun d ls st M Q => w_iconst (show ins 211 175 = some (.iconst 2, 1) by decide +kernel)
set_option maxRecDepth 100000 in
theorem r_211_176 : ∀ (d : Nat) (ls : Lc) (a b : Int32) (st : List Value) (M : Mem) (Q : Outcome → Mem → Prop), Wp d 211 176 ls (.int b :: .int a :: st) M Q = Br (¬ a = b) d 211 193 179 ls st M Q := fun d ls a b st M Q => w_icmp (show ins 211 176 = some (.if_icmp .ne 17, 3) by decide +kernel) rfl rfl
set_option maxRecDepth 100000 in
theorem r_211_179 : ∀ (d : Nat) (l1 l2 l3 l4 l5 l6 : Option Value) (v : Nat) (st : List Value) (M : Mem) (Q : Outcome → Mem → Prop), Wp d 211 179 [some (.ref v), l1, l2, l3, l4, l5, l6] st M Q = Wp d 211 180 [some (.ref v), l1, l2, l3, l4, l5, l6] (.ref v :: st) M Q := fun d l1 l2 l3 l4 l5 l6 v st M Q => wA (show ins 211 179 = some (.aload_n 0, 1) by decide +kernel) rfl
set_option maxRecDepth 100000 in
theorem r_211_180 : ∀ (d : Nat) (ls : Lc) (a : Nat) (st : List Value) (M : Mem) (Q : Outcome → Mem → Prop), Wp d 211 180 ls (.ref a :: st) M Q = (fk 53 (kO M a) = true ∧ Wp d 211 183 ls (va_rf (mR M 53 a) :: st) M Q) := fun d ls a st M Q => w_getR (show ins 211 180 = some (.getfield 7, 3) by decide +kernel) (show fRes (mC 211) 7 = some (53, 8, false) by decide +kernel) (by decide +kernel)
set_option maxRecDepth 100000 in
theorem r_211_183 : ∀ (d : Nat) (ls : Lc) (st : List Value) (M : Mem) (Q : Outcome → Mem → Prop), Wp d 211 183 ls st M Q = Wp d 211 186 ls (.int (I 7692) :: st) M Q := fun d ls st M Q => w_sipush (show ins 211 183 = some (.sipush 7692, 3) by decide +kernel) (by decide)
set_option maxRecDepth 100000 in
theorem r_211_186 : ∀ (d : Nat) (l0 l1 l2 l3 l4 l5 : Option Value) (v : Int32) (st : List Value) (M : Mem) (Q : Outcome → Mem → Prop), Wp d 211 186 [l0, l1, l2, l3, l4, l5, some (.int v)] st M Q = Wp d 211 188 [l0, l1, l2, l3, l4, l5, some (.int v)] (.int v :: st) M Q := fun d l0 l1 l2 l3 l4 l5 v st M Q => wA (show ins 211 186 = some (.iload 6, 2) by decide +kernel) rfl
set_option maxRecDepth 100000 in
theorem r_211_188 : ∀ (d : Nat) (ls : Lc) (a b : Int) (st : List Value) (M : Mem) (Q : Outcome → Mem → Prop), Wp d 211 188 ls (.int (I b) :: .int (I a) :: st) M Q = Wp d 211 189 ls (.int (I (a + b)) :: st) M Q := fun d ls a b st M Q => w_iadd (show ins 211 188 = some (.iadd, 1) by decide +kernel)
set_option maxRecDepth 100000 in
theorem r_211_189 : ∀ (d : Nat) (ls : Lc) (a : Nat) (j : Int32) (st : List Value) (M : Mem) (Q : Outcome → Mem → Prop), Wp d 211 189 ls (.int j :: .ref a :: st) M Q = ((((kX M a).1 = 0 ∨ (kX M a).1 = 8) ∧ inB j (kX M a).2 = true) ∧ Wp d 211 190 ls (.int (mA M a j.toNatClampNeg) :: st) M Q) := fun d ls a j st M Q => w_iaload (show ins 211 189 = some (.iaload, 1) by decide +kernel)
set_option maxRecDepth 100000 in
theorem r_211_190 : ∀ (d : Nat) (ls : Lc) (st : List Value) (M : Mem) (Q : Outcome → Mem → Prop), Wp d 211 190 ls st M Q = Wp d 211 214 ls st M Q := fun d ls st M Q => w_goto (show ins 211 190 = some (.goto 24, 3) by decide +kernel) rfl
set_option maxRecDepth 100000 in
theorem r_211_193 : ∀ (d : Nat) (l0 l1 l3 l4 l5 l6 : Option Value) (v : Int32) (st : List Value) (M : Mem) (Q : Outcome → Mem → Prop), Wp d 211 193 [l0, l1, some (.int v), l3, l4, l5, l6] st M Q = Wp d 211 194 [l0, l1, some (.int v), l3, l4, l5, l6] (.int v :: st) M Q := fun d l0 l1 l3 l4 l5 l6 v st M Q => wA (show ins 211 193 = some (.iload_n 2, 1) by decide +kernel) rfl
set_option maxRecDepth 100000 in
theorem r_211_194 : ∀ (d : Nat) (ls : Lc) (st : List Value) (M : Mem) (Q : Outcome → Mem → Prop), Wp d 211 194 ls st M Q = Wp d 211 195 ls (.int (I 3) :: st) M Q := fun d ls st M Q => w_iconst (show ins 211 194 = some (.iconst 3, 1) by decide +kernel)
set_option maxRecDepth 100000 in
theorem r_211_195 : ∀ (d : Nat) (ls : Lc) (a b : Int32) (st : List Value) (M : Mem) (Q : Outcome → Mem → Prop), Wp d 211 195 ls (.int b :: .int a :: st) M Q = Br (¬ a = b) d 211 212 198 ls st M Q := fun d ls a b st M Q => w_icmp (show ins 211 195 = some (.if_icmp .ne 17, 3) by decide +kernel) rfl rfl
set_option maxRecDepth 100000 in
theorem r_211_198 : ∀ (d : Nat) (l1 l2 l3 l4 l5 l6 : Option Value) (v : Nat) (st : List Value) (M : Mem) (Q : Outcome → Mem → Prop), Wp d 211 198 [some (.ref v), l1, l2, l3, l4, l5, l6] st M Q = Wp d 211 199 [some (.ref v), l1, l2, l3, l4, l5, l6] (.ref v :: st) M Q := fun d l1 l2 l3 l4 l5 l6 v st M Q => wA (show ins 211 198 = some (.aload_n 0, 1) by decide +kernel) rfl
set_option maxRecDepth 100000 in
theorem r_211_199 : ∀ (d : Nat) (ls : Lc) (a : Nat) (st : List Value) (M : Mem) (Q : Outcome → Mem → Prop), Wp d 211 199 ls (.ref a :: st) M Q = (fk 53 (kO M a) = true ∧ Wp d 211 202 ls (va_rf (mR M 53 a) :: st) M Q) := fun d ls a st M Q => w_getR (show ins 211 199 = some (.getfield 7, 3) by decide +kernel) (show fRes (mC 211) 7 = some (53, 8, false) by decide +kernel) (by decide +kernel)
set_option maxRecDepth 100000 in
theorem r_211_202 : ∀ (d : Nat) (ls : Lc) (st : List Value) (M : Mem) (Q : Outcome → Mem → Prop), Wp d 211 202 ls st M Q = Wp d 211 205 ls (.int (I 9228) :: st) M Q := fun d ls st M Q => w_sipush (show ins 211 202 = some (.sipush 9228, 3) by decide +kernel) (by decide)
set_option maxRecDepth 100000 in
theorem r_211_205 : ∀ (d : Nat) (l0 l1 l2 l3 l4 l5 : Option Value) (v : Int32) (st : List Value) (M : Mem) (Q : Outcome → Mem → Prop), Wp d 211 205 [l0, l1, l2, l3, l4, l5, some (.int v)] st M Q = Wp d 211 207 [l0, l1, l2, l3, l4, l5, some (.int v)] (.int v :: st) M Q := fun d l0 l1 l2 l3 l4 l5 v st M Q => wA (show ins 211 205 = some (.iload 6, 2) by decide +kernel) rfl
set_option maxRecDepth 100000 in
theorem r_211_207 : ∀ (d : Nat) (ls : Lc) (a b : Int) (st : List Value) (M : Mem) (Q : Outcome → Mem → Prop), Wp d 211 207 ls (.int (I b) :: .int (I a) :: st) M Q = Wp d 211 208 ls (.int (I (a + b)) :: st) M Q := fun d ls a b st M Q => w_iadd (show ins 211 207 = some (.iadd, 1) by decide +kernel)
set_option maxRecDepth 100000 in
theorem r_211_208 : ∀ (d : Nat) (ls : Lc) (a : Nat) (j : Int32) (st : List Value) (M : Mem) (Q : Outcome → Mem → Prop), Wp d 211 208 ls (.int j :: .ref a :: st) M Q = ((((kX M a).1 = 0 ∨ (kX M a).1 = 8) ∧ inB j (kX M a).2 = true) ∧ Wp d 211 209 ls (.int (mA M a j.toNatClampNeg) :: st) M Q) := fun d ls a j st M Q => w_iaload (show ins 211 208 = some (.iaload, 1) by decide +kernel)
set_option maxRecDepth 100000 in
theorem r_211_209 : ∀ (d : Nat) (ls : Lc) (st : List Value) (M : Mem) (Q : Outcome → Mem → Prop), Wp d 211 209 ls st M Q = Wp d 211 214 ls st M Q := fun d ls st M Q => w_goto (show ins 211 209 = some (.goto 5, 3) by decide +kernel) rfl
set_option maxRecDepth 100000 in
theorem r_211_212 : ∀ (d : Nat) (l0 l1 l2 l3 l4 l6 : Option Value) (v : Int32) (st : List Value) (M : Mem) (Q : Outcome → Mem → Prop), Wp d 211 212 [l0, l1, l2, l3, l4, some (.int v), l6] st M Q = Wp d 211 214 [l0, l1, l2, l3, l4, some (.int v), l6] (.int v :: st) M Q := fun d l0 l1 l2 l3 l4 l6 v st M Q => wA (show ins 211 212 = some (.iload 5, 2) by decide +kernel) rfl
set_option maxRecDepth 100000 in
theorem r_211_214 : ∀ (d : Nat) (ls : Lc) (v : Int32) (M : Mem) (Q : Outcome → Mem → Prop), Wp d 211 214 ls [.int v] M Q = Q (.returned (some (.int v))) M := fun d ls v M Q => w_ireturn (show ins 211 214 = some (.ireturn, 1) by decide +kernel) (by decide +kernel)
set_option maxRecDepth 100000 in
theorem w_211_61 : (type_of% r_211_61) := r_211_61
set_option maxRecDepth 100000 in
theorem W_211 : (type_of% r_211_0) ∧ (type_of% r_211_1) ∧ (type_of% r_211_2) ∧ (type_of% r_211_5) ∧ (type_of% r_211_8) ∧ (type_of% r_211_9) ∧ (type_of% r_211_12) ∧ (type_of% r_211_13) ∧ (type_of% r_211_14) ∧ (type_of% r_211_15) ∧ (type_of% r_211_18) ∧ (type_of% r_211_19) ∧ (type_of% r_211_20) ∧ (type_of% r_211_23) ∧ (type_of% r_211_26) ∧ (type_of% r_211_27) ∧ (type_of% r_211_30) ∧ (type_of% r_211_31) ∧ (type_of% r_211_32) ∧ (type_of% r_211_33) ∧ (type_of% r_211_36) ∧ (type_of% r_211_39) ∧ (type_of% r_211_40) ∧ (type_of% r_211_43) ∧ (type_of% r_211_44) ∧ (type_of% r_211_47) ∧ (type_of% r_211_48) ∧ (type_of% r_211_51) ∧ (type_of% r_211_54) ∧ (type_of% r_211_55) ∧ (type_of% r_211_56) ∧ (type_of% r_211_57) ∧ (type_of% r_211_58) ∧ (type_of% r_211_59) ∧ (type_of% r_211_63) ∧ (type_of% r_211_64) ∧ (type_of% r_211_67) ∧ (type_of% r_211_70) ∧ (type_of% r_211_71) ∧ (type_of% r_211_74) ∧ (type_of% r_211_77) ∧ (type_of% r_211_78) ∧ (type_of% r_211_79) ∧ (type_of% r_211_80) ∧ (type_of% r_211_81) ∧ (type_of% r_211_82) ∧ (type_of% r_211_85) ∧ (type_of% r_211_87) ∧ (type_of% r_211_88) ∧ (type_of% r_211_91) ∧ (type_of% r_211_94) ∧ (type_of% r_211_95) ∧ (type_of% r_211_98) ∧ (type_of% r_211_101) ∧ (type_of% r_211_102) ∧ (type_of% r_211_103) ∧ (type_of% r_211_104) ∧ (type_of% r_211_105) ∧ (type_of% r_211_106) ∧ (type_of% r_211_107) ∧ (type_of% r_211_109) ∧ (type_of% r_211_112) ∧ (type_of% r_211_115) ∧ (type_of% r_211_116) ∧ (type_of% r_211_119) ∧ (type_of% r_211_122) ∧ (type_of% r_211_123) ∧ (type_of% r_211_124) ∧ (type_of% r_211_125) ∧ (type_of% r_211_127) ∧ (type_of% r_211_129) ∧ (type_of% r_211_131) ∧ (type_of% r_211_132) ∧ (type_of% r_211_134) ∧ (type_of% r_211_135) ∧ (type_of% r_211_137) ∧ (type_of% r_211_138) ∧ (type_of% r_211_141) ∧ (type_of% r_211_142) ∧ (type_of% r_211_145) ∧ (type_of% r_211_148) ∧ (type_of% r_211_150) ∧ (type_of% r_211_151) ∧ (type_of% r_211_152) ∧ (type_of% r_211_155) ∧ (type_of% r_211_156) ∧ (type_of% r_211_157) ∧ (type_of% r_211_160) ∧ (type_of% r_211_161) ∧ (type_of% r_211_164) ∧ (type_of% r_211_167) ∧ (type_of% r_211_169) ∧ (type_of% r_211_170) ∧ (type_of% r_211_171) ∧ (type_of% r_211_174) ∧ (type_of% r_211_175) ∧ (type_of% r_211_176) ∧ (type_of% r_211_179) ∧ (type_of% r_211_180) ∧ (type_of% r_211_183) ∧ (type_of% r_211_186) ∧ (type_of% r_211_188) ∧ (type_of% r_211_189) ∧ (type_of% r_211_190) ∧ (type_of% r_211_193) ∧ (type_of% r_211_194) ∧ (type_of% r_211_195) ∧ (type_of% r_211_198) ∧ (type_of% r_211_199) ∧ (type_of% r_211_202) ∧ (type_of% r_211_205) ∧ (type_of% r_211_207) ∧ (type_of% r_211_208) ∧ (type_of% r_211_209) ∧ (type_of% r_211_212) ∧ (type_of% r_211_214) := ⟨r_211_0, r_211_1, r_211_2, r_211_5, r_211_8, r_211_9, r_211_12, r_211_13, r_211_14, r_211_15, r_211_18, r_211_19, r_211_20, r_211_23, r_211_26, r_211_27, r_211_30, r_211_31, r_211_32, r_211_33, r_211_36, r_211_39, r_211_40, r_211_43, r_211_44, r_211_47, r_211_48, r_211_51, r_211_54, r_211_55, r_211_56, r_211_57, r_211_58, r_211_59, r_211_63, r_211_64, r_211_67, r_211_70, r_211_71, r_211_74, r_211_77, r_211_78, r_211_79, r_211_80, r_211_81, r_211_82, r_211_85, r_211_87, r_211_88, r_211_91, r_211_94, r_211_95, r_211_98, r_211_101, r_211_102, r_211_103, r_211_104, r_211_105, r_211_106, r_211_107, r_211_109, r_211_112, r_211_115, r_211_116, r_211_119, r_211_122, r_211_123, r_211_124, r_211_125, r_211_127, r_211_129, r_211_131, r_211_132, r_211_134, r_211_135, r_211_137, r_211_138, r_211_141, r_211_142, r_211_145, r_211_148, r_211_150, r_211_151, r_211_152, r_211_155, r_211_156, r_211_157, r_211_160, r_211_161, r_211_164, r_211_167, r_211_169, r_211_170, r_211_171, r_211_174, r_211_175, r_211_176, r_211_179, r_211_180, r_211_183, r_211_186, r_211_188, r_211_189, r_211_190, r_211_193, r_211_194, r_211_195, r_211_198, r_211_199, r_211_202, r_211_205, r_211_207, r_211_208, r_211_209, r_211_212, r_211_214⟩
set_option maxRecDepth 100000 in
theorem ca_211 {d y pc : Nat} {ls : Lc} {a : Nat} {z0 : Int32} {z1 : Int32} {r : List Value} {M : Mem} {Q : Outcome → Mem → Prop} (hd : 0 < d) (hw : Wp (d - 1) 211 0 [some (.ref a), some (.int z0), some (.int z1), none, none, none, none] [] M (Cq d y pc ls r Q)) : Ca d y pc ls 211 [.ref a, .int z0, .int z1] r M Q := ca_of (mq_get (by decide)) (by rfl) hd hw
/-! 212 PackedTreeModel.items()I; loop heads [4] -/
set_option maxRecDepth 100000 in
theorem r_212_0 : ∀ (d : Nat) (ls : Lc) (st : List Value) (M : Mem) (Q : Outcome → Mem → Prop), Wp d 212 0 ls st M Q = Wp d 212 1 ls (.int (I 0) :: st) M Q := fun d ls st M Q => w_iconst (show ins 212 0 = some (.iconst 0, 1) by decide +kernel)
set_option maxRecDepth 100000 in
theorem r_212_1 : ∀ (d : Nat) (l0 l1 l2 : Option Value) (v : Int32) (st : List Value) (M : Mem) (Q : Outcome → Mem → Prop), (lo l0 = false) → Wp d 212 1 [l0, l1, l2] (.int v :: st) M Q = Wp d 212 2 [l0, some (.int v), l2] st M Q := fun d l0 l1 l2 v st M Q hl => w_istore_n (show ins 212 1 = some (.istore_n 1, 1) by decide +kernel) (st1_S rfl rfl hl)
set_option maxRecDepth 100000 in
theorem r_212_2 : ∀ (d : Nat) (ls : Lc) (st : List Value) (M : Mem) (Q : Outcome → Mem → Prop), Wp d 212 2 ls st M Q = Wp d 212 3 ls (.int (I 0) :: st) M Q := fun d ls st M Q => w_iconst (show ins 212 2 = some (.iconst 0, 1) by decide +kernel)
set_option maxRecDepth 100000 in
theorem r_212_3 : ∀ (d : Nat) (l0 l1 l2 : Option Value) (v : Int32) (st : List Value) (M : Mem) (Q : Outcome → Mem → Prop), (lo l1 = false) → Wp d 212 3 [l0, l1, l2] (.int v :: st) M Q = Wp d 212 4 [l0, l1, some (.int v)] st M Q := fun d l0 l1 l2 v st M Q hl => w_istore_n (show ins 212 3 = some (.istore_n 2, 1) by decide +kernel) (st1_S rfl rfl hl)
set_option maxRecDepth 100000 in
theorem r_212_4 : ∀ (d : Nat) (l0 l1 : Option Value) (v : Int32) (st : List Value) (M : Mem) (Q : Outcome → Mem → Prop), Wp d 212 4 [l0, l1, some (.int v)] st M Q = Wp d 212 5 [l0, l1, some (.int v)] (.int v :: st) M Q := fun d l0 l1 v st M Q => wA (show ins 212 4 = some (.iload_n 2, 1) by decide +kernel) rfl
set_option maxRecDepth 100000 in
theorem r_212_5 : ∀ (d : Nat) (l1 l2 : Option Value) (v : Nat) (st : List Value) (M : Mem) (Q : Outcome → Mem → Prop), Wp d 212 5 [some (.ref v), l1, l2] st M Q = Wp d 212 6 [some (.ref v), l1, l2] (.ref v :: st) M Q := fun d l1 l2 v st M Q => wA (show ins 212 5 = some (.aload_n 0, 1) by decide +kernel) rfl
set_option maxRecDepth 100000 in
theorem r_212_6 : ∀ (d : Nat) (ls : Lc) (a : Nat) (st : List Value) (M : Mem) (Q : Outcome → Mem → Prop), Wp d 212 6 ls (.ref a :: st) M Q = (fk 53 (kO M a) = true ∧ Wp d 212 9 ls (va_rf (mR M 53 a) :: st) M Q) := fun d ls a st M Q => w_getR (show ins 212 6 = some (.getfield 7, 3) by decide +kernel) (show fRes (mC 212) 7 = some (53, 8, false) by decide +kernel) (by decide +kernel)
set_option maxRecDepth 100000 in
theorem r_212_9 : ∀ (d : Nat) (ls : Lc) (st : List Value) (M : Mem) (Q : Outcome → Mem → Prop), Wp d 212 9 ls st M Q = Wp d 212 12 ls (.int (I 13068) :: st) M Q := fun d ls st M Q => w_sipush (show ins 212 9 = some (.sipush 13068, 3) by decide +kernel) (by decide)
set_option maxRecDepth 100000 in
theorem r_212_12 : ∀ (d : Nat) (ls : Lc) (a : Nat) (j : Int32) (st : List Value) (M : Mem) (Q : Outcome → Mem → Prop), Wp d 212 12 ls (.int j :: .ref a :: st) M Q = ((((kX M a).1 = 0 ∨ (kX M a).1 = 8) ∧ inB j (kX M a).2 = true) ∧ Wp d 212 13 ls (.int (mA M a j.toNatClampNeg) :: st) M Q) := fun d ls a j st M Q => w_iaload (show ins 212 12 = some (.iaload, 1) by decide +kernel)
set_option maxRecDepth 100000 in
theorem r_212_13 : ∀ (d : Nat) (ls : Lc) (a b : Int32) (st : List Value) (M : Mem) (Q : Outcome → Mem → Prop), Wp d 212 13 ls (.int b :: .int a :: st) M Q = Br (b ≤ a) d 212 44 16 ls st M Q := fun d ls a b st M Q => w_icmp (show ins 212 13 = some (.if_icmp .ge 31, 3) by decide +kernel) rfl rfl
set_option maxRecDepth 100000 in
theorem r_212_16 : ∀ (d : Nat) (l0 l2 : Option Value) (v : Int32) (st : List Value) (M : Mem) (Q : Outcome → Mem → Prop), Wp d 212 16 [l0, some (.int v), l2] st M Q = Wp d 212 17 [l0, some (.int v), l2] (.int v :: st) M Q := fun d l0 l2 v st M Q => wA (show ins 212 16 = some (.iload_n 1, 1) by decide +kernel) rfl
set_option maxRecDepth 100000 in
theorem r_212_17 : ∀ (d : Nat) (l1 l2 : Option Value) (v : Nat) (st : List Value) (M : Mem) (Q : Outcome → Mem → Prop), Wp d 212 17 [some (.ref v), l1, l2] st M Q = Wp d 212 18 [some (.ref v), l1, l2] (.ref v :: st) M Q := fun d l1 l2 v st M Q => wA (show ins 212 17 = some (.aload_n 0, 1) by decide +kernel) rfl
set_option maxRecDepth 100000 in
theorem r_212_18 : ∀ (d : Nat) (ls : Lc) (a : Nat) (st : List Value) (M : Mem) (Q : Outcome → Mem → Prop), Wp d 212 18 ls (.ref a :: st) M Q = (fk 53 (kO M a) = true ∧ Wp d 212 21 ls (va_rf (mR M 53 a) :: st) M Q) := fun d ls a st M Q => w_getR (show ins 212 18 = some (.getfield 7, 3) by decide +kernel) (show fRes (mC 212) 7 = some (53, 8, false) by decide +kernel) (by decide +kernel)
set_option maxRecDepth 100000 in
theorem r_212_21 : ∀ (d : Nat) (ls : Lc) (st : List Value) (M : Mem) (Q : Outcome → Mem → Prop), Wp d 212 21 ls st M Q = Wp d 212 24 ls (.int (I 3852) :: st) M Q := fun d ls st M Q => w_sipush (show ins 212 21 = some (.sipush 3852, 3) by decide +kernel) (by decide)
set_option maxRecDepth 100000 in
theorem r_212_24 : ∀ (d : Nat) (l1 l2 : Option Value) (v : Nat) (st : List Value) (M : Mem) (Q : Outcome → Mem → Prop), Wp d 212 24 [some (.ref v), l1, l2] st M Q = Wp d 212 25 [some (.ref v), l1, l2] (.ref v :: st) M Q := fun d l1 l2 v st M Q => wA (show ins 212 24 = some (.aload_n 0, 1) by decide +kernel) rfl
set_option maxRecDepth 100000 in
theorem r_212_25 : ∀ (d : Nat) (ls : Lc) (a : Nat) (st : List Value) (M : Mem) (Q : Outcome → Mem → Prop), Wp d 212 25 ls (.ref a :: st) M Q = (fk 53 (kO M a) = true ∧ Wp d 212 28 ls (va_rf (mR M 53 a) :: st) M Q) := fun d ls a st M Q => w_getR (show ins 212 25 = some (.getfield 7, 3) by decide +kernel) (show fRes (mC 212) 7 = some (53, 8, false) by decide +kernel) (by decide +kernel)
set_option maxRecDepth 100000 in
theorem r_212_28 : ∀ (d : Nat) (ls : Lc) (st : List Value) (M : Mem) (Q : Outcome → Mem → Prop), Wp d 212 28 ls st M Q = Wp d 212 31 ls (.int (I 12300) :: st) M Q := fun d ls st M Q => w_sipush (show ins 212 28 = some (.sipush 12300, 3) by decide +kernel) (by decide)
set_option maxRecDepth 100000 in
theorem r_212_31 : ∀ (d : Nat) (l0 l1 : Option Value) (v : Int32) (st : List Value) (M : Mem) (Q : Outcome → Mem → Prop), Wp d 212 31 [l0, l1, some (.int v)] st M Q = Wp d 212 32 [l0, l1, some (.int v)] (.int v :: st) M Q := fun d l0 l1 v st M Q => wA (show ins 212 31 = some (.iload_n 2, 1) by decide +kernel) rfl
set_option maxRecDepth 100000 in
theorem r_212_32 : ∀ (d : Nat) (ls : Lc) (a b : Int) (st : List Value) (M : Mem) (Q : Outcome → Mem → Prop), Wp d 212 32 ls (.int (I b) :: .int (I a) :: st) M Q = Wp d 212 33 ls (.int (I (a + b)) :: st) M Q := fun d ls a b st M Q => w_iadd (show ins 212 32 = some (.iadd, 1) by decide +kernel)
set_option maxRecDepth 100000 in
theorem r_212_33 : ∀ (d : Nat) (ls : Lc) (a : Nat) (j : Int32) (st : List Value) (M : Mem) (Q : Outcome → Mem → Prop), Wp d 212 33 ls (.int j :: .ref a :: st) M Q = ((((kX M a).1 = 0 ∨ (kX M a).1 = 8) ∧ inB j (kX M a).2 = true) ∧ Wp d 212 34 ls (.int (mA M a j.toNatClampNeg) :: st) M Q) := fun d ls a j st M Q => w_iaload (show ins 212 33 = some (.iaload, 1) by decide +kernel)
set_option maxRecDepth 100000 in
theorem r_212_34 : ∀ (d : Nat) (ls : Lc) (a b : Int) (st : List Value) (M : Mem) (Q : Outcome → Mem → Prop), Wp d 212 34 ls (.int (I b) :: .int (I a) :: st) M Q = Wp d 212 35 ls (.int (I (a + b)) :: st) M Q := fun d ls a b st M Q => w_iadd (show ins 212 34 = some (.iadd, 1) by decide +kernel)
set_option maxRecDepth 100000 in
theorem r_212_35 : ∀ (d : Nat) (ls : Lc) (a : Nat) (j : Int32) (st : List Value) (M : Mem) (Q : Outcome → Mem → Prop), Wp d 212 35 ls (.int j :: .ref a :: st) M Q = ((((kX M a).1 = 0 ∨ (kX M a).1 = 8) ∧ inB j (kX M a).2 = true) ∧ Wp d 212 36 ls (.int (mA M a j.toNatClampNeg) :: st) M Q) := fun d ls a j st M Q => w_iaload (show ins 212 35 = some (.iaload, 1) by decide +kernel)
set_option maxRecDepth 100000 in
theorem r_212_36 : ∀ (d : Nat) (ls : Lc) (a b : Int) (st : List Value) (M : Mem) (Q : Outcome → Mem → Prop), Wp d 212 36 ls (.int (I b) :: .int (I a) :: st) M Q = Wp d 212 37 ls (.int (I (a + b)) :: st) M Q := fun d ls a b st M Q => w_iadd (show ins 212 36 = some (.iadd, 1) by decide +kernel)
set_option maxRecDepth 100000 in
theorem r_212_37 : ∀ (d : Nat) (l0 l1 l2 : Option Value) (v : Int32) (st : List Value) (M : Mem) (Q : Outcome → Mem → Prop), (lo l0 = false) → Wp d 212 37 [l0, l1, l2] (.int v :: st) M Q = Wp d 212 38 [l0, some (.int v), l2] st M Q := fun d l0 l1 l2 v st M Q hl => w_istore_n (show ins 212 37 = some (.istore_n 1, 1) by decide +kernel) (st1_S rfl rfl hl)
set_option maxRecDepth 100000 in
theorem r_212_38 : ∀ (d : Nat) (l0 l1 : Option Value) (z : Int) (st : List Value) (M : Mem) (Q : Outcome → Mem → Prop), (lo l1 = false) → Wp d 212 38 [l0, l1, some (.int (I z))] st M Q = Wp d 212 41 [l0, l1, some (.int (I (z + 1)))] st M Q := fun d l0 l1 z st M Q hl => w_iinc (show ins 212 38 = some (.iinc 2 1, 3) by decide +kernel) rfl (st1_S rfl rfl hl)
set_option maxRecDepth 100000 in
theorem r_212_41 : ∀ (d : Nat) (ls : Lc) (st : List Value) (M : Mem) (Q : Outcome → Mem → Prop), Wp d 212 41 ls st M Q = Wp d 212 4 ls st M Q := fun d ls st M Q => w_goto (show ins 212 41 = some (.goto (-37), 3) by decide +kernel) rfl
set_option maxRecDepth 100000 in
theorem r_212_44 : ∀ (d : Nat) (l0 l2 : Option Value) (v : Int32) (st : List Value) (M : Mem) (Q : Outcome → Mem → Prop), Wp d 212 44 [l0, some (.int v), l2] st M Q = Wp d 212 45 [l0, some (.int v), l2] (.int v :: st) M Q := fun d l0 l2 v st M Q => wA (show ins 212 44 = some (.iload_n 1, 1) by decide +kernel) rfl
set_option maxRecDepth 100000 in
theorem r_212_45 : ∀ (d : Nat) (ls : Lc) (v : Int32) (M : Mem) (Q : Outcome → Mem → Prop), Wp d 212 45 ls [.int v] M Q = Q (.returned (some (.int v))) M := fun d ls v M Q => w_ireturn (show ins 212 45 = some (.ireturn, 1) by decide +kernel) (by decide +kernel)
set_option maxRecDepth 100000 in
theorem w_212_4 : (type_of% r_212_4) := r_212_4
set_option maxRecDepth 100000 in
theorem W_212 : (type_of% r_212_0) ∧ (type_of% r_212_1) ∧ (type_of% r_212_2) ∧ (type_of% r_212_3) ∧ (type_of% r_212_5) ∧ (type_of% r_212_6) ∧ (type_of% r_212_9) ∧ (type_of% r_212_12) ∧ (type_of% r_212_13) ∧ (type_of% r_212_16) ∧ (type_of% r_212_17) ∧ (type_of% r_212_18) ∧ (type_of% r_212_21) ∧ (type_of% r_212_24) ∧ (type_of% r_212_25) ∧ (type_of% r_212_28) ∧ (type_of% r_212_31) ∧ (type_of% r_212_32) ∧ (type_of% r_212_33) ∧ (type_of% r_212_34) ∧ (type_of% r_212_35) ∧ (type_of% r_212_36) ∧ (type_of% r_212_37) ∧ (type_of% r_212_38) ∧ (type_of% r_212_41) ∧ (type_of% r_212_44) ∧ (type_of% r_212_45) := ⟨r_212_0, r_212_1, r_212_2, r_212_3, r_212_5, r_212_6, r_212_9, r_212_12, r_212_13, r_212_16, r_212_17, r_212_18, r_212_21, r_212_24, r_212_25, r_212_28, r_212_31, r_212_32, r_212_33, r_212_34, r_212_35, r_212_36, r_212_37, r_212_38, r_212_41, r_212_44, r_212_45⟩
set_option maxRecDepth 100000 in
theorem ca_212 {d y pc : Nat} {ls : Lc} {a : Nat} {r : List Value} {M : Mem} {Q : Outcome → Mem → Prop} (hd : 0 < d) (hw : Wp (d - 1) 212 0 [some (.ref a), none, none] [] M (Cq d y pc ls r Q)) : Ca d y pc ls 212 [.ref a] r M Q := ca_of (mq_get (by decide)) (by rfl) hd hw
/-! 213 PackedTreeModel.commit()I; loop heads [97, 124] -/
set_option maxRecDepth 100000 in
theorem r_213_0 : ∀ (d : Nat) (l1 l2 : Option Value) (v : Nat) (st : List Value) (M : Mem) (Q : Outcome → Mem → Prop), Wp d 213 0 [some (.ref v), l1, l2] st M Q = Wp d 213 1 [some (.ref v), l1, l2] (.ref v :: st) M Q := fun d l1 l2 v st M Q => wA (show ins 213 0 = some (.aload_n 0, 1) by decide +kernel) rfl
set_option maxRecDepth 100000 in
theorem r_213_1 : ∀ (d : Nat) (ls : Lc) (a : Nat) (st : List Value) (M : Mem) (Q : Outcome → Mem → Prop), Wp d 213 1 ls (.ref a :: st) M Q = (fk 52 (kO M a) = true ∧ Wp d 213 4 ls (.int (mF M 52 a) :: st) M Q) := fun d ls a st M Q => w_getI (show ins 213 1 = some (.getfield 149, 3) by decide +kernel) (show fRes (mC 213) 149 = some (52, 8, false) by decide +kernel) (by decide +kernel)
set_option maxRecDepth 100000 in
theorem r_213_4 : ∀ (d : Nat) (ls : Lc) (a : Int32) (st : List Value) (M : Mem) (Q : Outcome → Mem → Prop), Wp d 213 4 ls (.int a :: st) M Q = Br (a = I 0) d 213 11 7 ls st M Q := fun d ls a st M Q => w_if (show ins 213 4 = some (.ifCond .eq 7, 3) by decide +kernel) rfl rfl
set_option maxRecDepth 100000 in
theorem r_213_7 : ∀ (d : Nat) (ls : Lc) (st : List Value) (M : Mem) (Q : Outcome → Mem → Prop), Wp d 213 7 ls st M Q = Wp d 213 8 ls (.int (I 0) :: st) M Q := fun d ls st M Q => w_iconst (show ins 213 7 = some (.iconst 0, 1) by decide +kernel)
set_option maxRecDepth 100000 in
theorem r_213_8 : ∀ (d : Nat) (ls : Lc) (st : List Value) (M : Mem) (Q : Outcome → Mem → Prop), Wp d 213 8 ls st M Q = Wp d 213 15 ls st M Q := fun d ls st M Q => w_goto (show ins 213 8 = some (.goto 7, 3) by decide +kernel) rfl
set_option maxRecDepth 100000 in
theorem r_213_11 : ∀ (d : Nat) (l1 l2 : Option Value) (v : Nat) (st : List Value) (M : Mem) (Q : Outcome → Mem → Prop), Wp d 213 11 [some (.ref v), l1, l2] st M Q = Wp d 213 12 [some (.ref v), l1, l2] (.ref v :: st) M Q := fun d l1 l2 v st M Q => wA (show ins 213 11 = some (.aload_n 0, 1) by decide +kernel) rfl
set_option maxRecDepth 100000 in
theorem r_213_12 : ∀ (d : Nat) (ls : Lc) (a : Nat) (st : List Value) (M : Mem) (Q : Outcome → Mem → Prop), (smallR st = true) → Wp d 213 12 ls (.ref a :: st) M Q = (kO M a = 8 ∧ Ca d 213 12 ls 214 (.ref a :: []) st M Q) := fun d ls a st M Q h0 => w_virt1 (as := []) (show ins 213 12 = some (.invokevirtual 230, 3) by decide +kernel) (show mRes (mC 213) 230 = some (3, 8, [(8, 214)]) by decide +kernel) (by decide +kernel) rfl (by decide +kernel) (by decide +kernel) h0
set_option maxRecDepth 100000 in
theorem r_213_15 : ∀ (d : Nat) (l0 l1 l2 : Option Value) (v : Int32) (st : List Value) (M : Mem) (Q : Outcome → Mem → Prop), (lo l0 = false) → Wp d 213 15 [l0, l1, l2] (.int v :: st) M Q = Wp d 213 16 [l0, some (.int v), l2] st M Q := fun d l0 l1 l2 v st M Q hl => w_istore_n (show ins 213 15 = some (.istore_n 1, 1) by decide +kernel) (st1_S rfl rfl hl)
set_option maxRecDepth 100000 in
theorem r_213_16 : ∀ (d : Nat) (l1 l2 : Option Value) (v : Nat) (st : List Value) (M : Mem) (Q : Outcome → Mem → Prop), Wp d 213 16 [some (.ref v), l1, l2] st M Q = Wp d 213 17 [some (.ref v), l1, l2] (.ref v :: st) M Q := fun d l1 l2 v st M Q => wA (show ins 213 16 = some (.aload_n 0, 1) by decide +kernel) rfl
set_option maxRecDepth 100000 in
theorem r_213_17 : ∀ (d : Nat) (l1 l2 : Option Value) (v : Nat) (st : List Value) (M : Mem) (Q : Outcome → Mem → Prop), Wp d 213 17 [some (.ref v), l1, l2] st M Q = Wp d 213 18 [some (.ref v), l1, l2] (.ref v :: st) M Q := fun d l1 l2 v st M Q => wA (show ins 213 17 = some (.aload_n 0, 1) by decide +kernel) rfl
set_option maxRecDepth 100000 in
theorem r_213_18 : ∀ (d : Nat) (ls : Lc) (a : Nat) (st : List Value) (M : Mem) (Q : Outcome → Mem → Prop), Wp d 213 18 ls (.ref a :: st) M Q = (fk 52 (kO M a) = true ∧ Wp d 213 21 ls (.int (mF M 52 a) :: st) M Q) := fun d ls a st M Q => w_getI (show ins 213 18 = some (.getfield 149, 3) by decide +kernel) (show fRes (mC 213) 149 = some (52, 8, false) by decide +kernel) (by decide +kernel)
set_option maxRecDepth 100000 in
theorem r_213_21 : ∀ (d : Nat) (ls : Lc) (a : Int32) (st : List Value) (M : Mem) (Q : Outcome → Mem → Prop), Wp d 213 21 ls (.int a :: st) M Q = Br (a = I 0) d 213 28 24 ls st M Q := fun d ls a st M Q => w_if (show ins 213 21 = some (.ifCond .eq 7, 3) by decide +kernel) rfl rfl
set_option maxRecDepth 100000 in
theorem r_213_24 : ∀ (d : Nat) (ls : Lc) (st : List Value) (M : Mem) (Q : Outcome → Mem → Prop), Wp d 213 24 ls st M Q = Wp d 213 25 ls (.int (I 1) :: st) M Q := fun d ls st M Q => w_iconst (show ins 213 24 = some (.iconst 1, 1) by decide +kernel)
set_option maxRecDepth 100000 in
theorem r_213_25 : ∀ (d : Nat) (ls : Lc) (st : List Value) (M : Mem) (Q : Outcome → Mem → Prop), Wp d 213 25 ls st M Q = Wp d 213 47 ls st M Q := fun d ls st M Q => w_goto (show ins 213 25 = some (.goto 22, 3) by decide +kernel) rfl
set_option maxRecDepth 100000 in
theorem r_213_28 : ∀ (d : Nat) (l0 l2 : Option Value) (v : Int32) (st : List Value) (M : Mem) (Q : Outcome → Mem → Prop), Wp d 213 28 [l0, some (.int v), l2] st M Q = Wp d 213 29 [l0, some (.int v), l2] (.int v :: st) M Q := fun d l0 l2 v st M Q => wA (show ins 213 28 = some (.iload_n 1, 1) by decide +kernel) rfl
set_option maxRecDepth 100000 in
theorem r_213_29 : ∀ (d : Nat) (ls : Lc) (a : Int32) (st : List Value) (M : Mem) (Q : Outcome → Mem → Prop), Wp d 213 29 ls (.int a :: st) M Q = Br (a ≤ I 0) d 213 46 32 ls st M Q := fun d ls a st M Q => w_if (show ins 213 29 = some (.ifCond .le 17, 3) by decide +kernel) rfl rfl
set_option maxRecDepth 100000 in
theorem r_213_32 : ∀ (d : Nat) (l0 l2 : Option Value) (v : Int32) (st : List Value) (M : Mem) (Q : Outcome → Mem → Prop), Wp d 213 32 [l0, some (.int v), l2] st M Q = Wp d 213 33 [l0, some (.int v), l2] (.int v :: st) M Q := fun d l0 l2 v st M Q => wA (show ins 213 32 = some (.iload_n 1, 1) by decide +kernel) rfl
set_option maxRecDepth 100000 in
theorem r_213_33 : ∀ (d : Nat) (ls : Lc) (st : List Value) (M : Mem) (Q : Outcome → Mem → Prop), Wp d 213 33 ls st M Q = Wp d 213 34 ls (.int (I 2) :: st) M Q := fun d ls st M Q => w_iconst (show ins 213 33 = some (.iconst 2, 1) by decide +kernel)
set_option maxRecDepth 100000 in
theorem r_213_34 : ∀ (d : Nat) (ls : Lc) (a b : Int) (st : List Value) (M : Mem) (Q : Outcome → Mem → Prop), Wp d 213 34 ls (.int (I b) :: .int (I a) :: st) M Q = Wp d 213 35 ls (.int (I (a + b)) :: st) M Q := fun d ls a b st M Q => w_iadd (show ins 213 34 = some (.iadd, 1) by decide +kernel)
set_option maxRecDepth 100000 in
theorem r_213_35 : ∀ (d : Nat) (l1 l2 : Option Value) (v : Nat) (st : List Value) (M : Mem) (Q : Outcome → Mem → Prop), Wp d 213 35 [some (.ref v), l1, l2] st M Q = Wp d 213 36 [some (.ref v), l1, l2] (.ref v :: st) M Q := fun d l1 l2 v st M Q => wA (show ins 213 35 = some (.aload_n 0, 1) by decide +kernel) rfl
set_option maxRecDepth 100000 in
theorem r_213_36 : ∀ (d : Nat) (ls : Lc) (a : Nat) (st : List Value) (M : Mem) (Q : Outcome → Mem → Prop), Wp d 213 36 ls (.ref a :: st) M Q = (fk 49 (kO M a) = true ∧ Wp d 213 39 ls (.int (mF M 49 a) :: st) M Q) := fun d ls a st M Q => w_getI (show ins 213 36 = some (.getfield 33, 3) by decide +kernel) (show fRes (mC 213) 33 = some (49, 8, false) by decide +kernel) (by decide +kernel)
set_option maxRecDepth 100000 in
theorem r_213_39 : ∀ (d : Nat) (ls : Lc) (a b : Int32) (st : List Value) (M : Mem) (Q : Outcome → Mem → Prop), Wp d 213 39 ls (.int b :: .int a :: st) M Q = Br (a ≤ b) d 213 46 42 ls st M Q := fun d ls a b st M Q => w_icmp (show ins 213 39 = some (.if_icmp .le 7, 3) by decide +kernel) rfl rfl
set_option maxRecDepth 100000 in
theorem r_213_42 : ∀ (d : Nat) (ls : Lc) (st : List Value) (M : Mem) (Q : Outcome → Mem → Prop), Wp d 213 42 ls st M Q = Wp d 213 43 ls (.int (I 2) :: st) M Q := fun d ls st M Q => w_iconst (show ins 213 42 = some (.iconst 2, 1) by decide +kernel)
set_option maxRecDepth 100000 in
theorem r_213_43 : ∀ (d : Nat) (ls : Lc) (st : List Value) (M : Mem) (Q : Outcome → Mem → Prop), Wp d 213 43 ls st M Q = Wp d 213 47 ls st M Q := fun d ls st M Q => w_goto (show ins 213 43 = some (.goto 4, 3) by decide +kernel) rfl
set_option maxRecDepth 100000 in
theorem r_213_46 : ∀ (d : Nat) (ls : Lc) (st : List Value) (M : Mem) (Q : Outcome → Mem → Prop), Wp d 213 46 ls st M Q = Wp d 213 47 ls (.int (I 0) :: st) M Q := fun d ls st M Q => w_iconst (show ins 213 46 = some (.iconst 0, 1) by decide +kernel)
set_option maxRecDepth 100000 in
theorem r_213_47 : ∀ (d : Nat) (ls : Lc) (a : Nat) (v : Int32) (st : List Value) (M : Mem) (Q : Outcome → Mem → Prop), Wp d 213 47 ls (.int v :: .ref a :: st) M Q = (fk 54 (kO M a) = true ∧ Wp d 213 50 ls st (sF M 54 a v) Q) := fun d ls a v st M Q => w_putI (show ins 213 47 = some (.putfield 40, 3) by decide +kernel) (show fRes (mC 213) 40 = some (54, 8, false) by decide +kernel) (by decide +kernel) (by decide +kernel)
set_option maxRecDepth 100000 in
theorem r_213_50 : ∀ (d : Nat) (l1 l2 : Option Value) (v : Nat) (st : List Value) (M : Mem) (Q : Outcome → Mem → Prop), Wp d 213 50 [some (.ref v), l1, l2] st M Q = Wp d 213 51 [some (.ref v), l1, l2] (.ref v :: st) M Q := fun d l1 l2 v st M Q => wA (show ins 213 50 = some (.aload_n 0, 1) by decide +kernel) rfl
set_option maxRecDepth 100000 in
theorem r_213_51 : ∀ (d : Nat) (ls : Lc) (a : Nat) (st : List Value) (M : Mem) (Q : Outcome → Mem → Prop), Wp d 213 51 ls (.ref a :: st) M Q = (fk 54 (kO M a) = true ∧ Wp d 213 54 ls (.int (mF M 54 a) :: st) M Q) := fun d ls a st M Q => w_getI (show ins 213 51 = some (.getfield 40, 3) by decide +kernel) (show fRes (mC 213) 40 = some (54, 8, false) by decide +kernel) (by decide +kernel)
set_option maxRecDepth 100000 in
theorem r_213_54 : ∀ (d : Nat) (ls : Lc) (a : Int32) (st : List Value) (M : Mem) (Q : Outcome → Mem → Prop), Wp d 213 54 ls (.int a :: st) M Q = Br (I 0 < a) d 213 61 57 ls st M Q := fun d ls a st M Q => w_if (show ins 213 54 = some (.ifCond .gt 7, 3) by decide +kernel) rfl rfl
set_option maxRecDepth 100000 in
theorem r_213_57 : ∀ (d : Nat) (l0 l2 : Option Value) (v : Int32) (st : List Value) (M : Mem) (Q : Outcome → Mem → Prop), Wp d 213 57 [l0, some (.int v), l2] st M Q = Wp d 213 58 [l0, some (.int v), l2] (.int v :: st) M Q := fun d l0 l2 v st M Q => wA (show ins 213 57 = some (.iload_n 1, 1) by decide +kernel) rfl
set_option maxRecDepth 100000 in
theorem r_213_58 : ∀ (d : Nat) (ls : Lc) (a : Int32) (st : List Value) (M : Mem) (Q : Outcome → Mem → Prop), Wp d 213 58 ls (.int a :: st) M Q = Br (¬ a = I 0) d 213 63 61 ls st M Q := fun d ls a st M Q => w_if (show ins 213 58 = some (.ifCond .ne 5, 3) by decide +kernel) rfl rfl
set_option maxRecDepth 100000 in
theorem r_213_61 : ∀ (d : Nat) (ls : Lc) (st : List Value) (M : Mem) (Q : Outcome → Mem → Prop), Wp d 213 61 ls st M Q = Wp d 213 62 ls (.int (I 0) :: st) M Q := fun d ls st M Q => w_iconst (show ins 213 61 = some (.iconst 0, 1) by decide +kernel)
set_option maxRecDepth 100000 in
theorem r_213_62 : ∀ (d : Nat) (ls : Lc) (v : Int32) (M : Mem) (Q : Outcome → Mem → Prop), Wp d 213 62 ls [.int v] M Q = Q (.returned (some (.int v))) M := fun d ls v M Q => w_ireturn (show ins 213 62 = some (.ireturn, 1) by decide +kernel) (by decide +kernel)
set_option maxRecDepth 100000 in
theorem r_213_63 : ∀ (d : Nat) (l1 l2 : Option Value) (v : Nat) (st : List Value) (M : Mem) (Q : Outcome → Mem → Prop), Wp d 213 63 [some (.ref v), l1, l2] st M Q = Wp d 213 64 [some (.ref v), l1, l2] (.ref v :: st) M Q := fun d l1 l2 v st M Q => wA (show ins 213 63 = some (.aload_n 0, 1) by decide +kernel) rfl
set_option maxRecDepth 100000 in
theorem r_213_64 : ∀ (d : Nat) (ls : Lc) (st : List Value) (M : Mem) (Q : Outcome → Mem → Prop), Wp d 213 64 ls st M Q = Wp d 213 65 ls (.int (I 0) :: st) M Q := fun d ls st M Q => w_iconst (show ins 213 64 = some (.iconst 0, 1) by decide +kernel)
set_option maxRecDepth 100000 in
theorem r_213_65 : ∀ (d : Nat) (ls : Lc) (a : Nat) (v : Int32) (st : List Value) (M : Mem) (Q : Outcome → Mem → Prop), Wp d 213 65 ls (.int v :: .ref a :: st) M Q = (fk 56 (kO M a) = true ∧ Wp d 213 68 ls st (sF M 56 a v) Q) := fun d ls a v st M Q => w_putI (show ins 213 65 = some (.putfield 217, 3) by decide +kernel) (show fRes (mC 213) 217 = some (56, 8, false) by decide +kernel) (by decide +kernel) (by decide +kernel)
set_option maxRecDepth 100000 in
theorem r_213_68 : ∀ (d : Nat) (l1 l2 : Option Value) (v : Nat) (st : List Value) (M : Mem) (Q : Outcome → Mem → Prop), Wp d 213 68 [some (.ref v), l1, l2] st M Q = Wp d 213 69 [some (.ref v), l1, l2] (.ref v :: st) M Q := fun d l1 l2 v st M Q => wA (show ins 213 68 = some (.aload_n 0, 1) by decide +kernel) rfl
set_option maxRecDepth 100000 in
theorem r_213_69 : ∀ (d : Nat) (ls : Lc) (a : Nat) (st : List Value) (M : Mem) (Q : Outcome → Mem → Prop), Wp d 213 69 ls (.ref a :: st) M Q = (fk 50 (kO M a) = true ∧ Wp d 213 72 ls (.int (mF M 50 a) :: st) M Q) := fun d ls a st M Q => w_getI (show ins 213 69 = some (.getfield 223, 3) by decide +kernel) (show fRes (mC 213) 223 = some (50, 8, false) by decide +kernel) (by decide +kernel)
set_option maxRecDepth 100000 in
theorem r_213_72 : ∀ (d : Nat) (l0 l2 : Option Value) (v : Int32) (st : List Value) (M : Mem) (Q : Outcome → Mem → Prop), Wp d 213 72 [l0, some (.int v), l2] st M Q = Wp d 213 73 [l0, some (.int v), l2] (.int v :: st) M Q := fun d l0 l2 v st M Q => wA (show ins 213 72 = some (.iload_n 1, 1) by decide +kernel) rfl
set_option maxRecDepth 100000 in
theorem r_213_73 : ∀ (d : Nat) (ls : Lc) (a b : Int) (st : List Value) (M : Mem) (Q : Outcome → Mem → Prop), Wp d 213 73 ls (.int (I b) :: .int (I a) :: st) M Q = Wp d 213 74 ls (.int (I (a + b)) :: st) M Q := fun d ls a b st M Q => w_iadd (show ins 213 73 = some (.iadd, 1) by decide +kernel)
set_option maxRecDepth 100000 in
theorem r_213_74 : ∀ (d : Nat) (ls : Lc) (st : List Value) (M : Mem) (Q : Outcome → Mem → Prop), Wp d 213 74 ls st M Q = Wp d 213 75 ls (.int (I 2) :: st) M Q := fun d ls st M Q => w_iconst (show ins 213 74 = some (.iconst 2, 1) by decide +kernel)
set_option maxRecDepth 100000 in
theorem r_213_75 : ∀ (d : Nat) (ls : Lc) (a b : Int) (st : List Value) (M : Mem) (Q : Outcome → Mem → Prop), Wp d 213 75 ls (.int (I b) :: .int (I a) :: st) M Q = Wp d 213 76 ls (.int (I (a + b)) :: st) M Q := fun d ls a b st M Q => w_iadd (show ins 213 75 = some (.iadd, 1) by decide +kernel)
set_option maxRecDepth 100000 in
theorem r_213_76 : ∀ (d : Nat) (l1 l2 : Option Value) (v : Nat) (st : List Value) (M : Mem) (Q : Outcome → Mem → Prop), Wp d 213 76 [some (.ref v), l1, l2] st M Q = Wp d 213 77 [some (.ref v), l1, l2] (.ref v :: st) M Q := fun d l1 l2 v st M Q => wA (show ins 213 76 = some (.aload_n 0, 1) by decide +kernel) rfl
set_option maxRecDepth 100000 in
theorem r_213_77 : ∀ (d : Nat) (ls : Lc) (a : Nat) (st : List Value) (M : Mem) (Q : Outcome → Mem → Prop), Wp d 213 77 ls (.ref a :: st) M Q = (fk 49 (kO M a) = true ∧ Wp d 213 80 ls (.int (mF M 49 a) :: st) M Q) := fun d ls a st M Q => w_getI (show ins 213 77 = some (.getfield 33, 3) by decide +kernel) (show fRes (mC 213) 33 = some (49, 8, false) by decide +kernel) (by decide +kernel)
set_option maxRecDepth 100000 in
theorem r_213_80 : ∀ (d : Nat) (ls : Lc) (a b : Int32) (st : List Value) (M : Mem) (Q : Outcome → Mem → Prop), Wp d 213 80 ls (.int b :: .int a :: st) M Q = Br (a ≤ b) d 213 95 83 ls st M Q := fun d ls a b st M Q => w_icmp (show ins 213 80 = some (.if_icmp .le 15, 3) by decide +kernel) rfl rfl
set_option maxRecDepth 100000 in
theorem r_213_83 : ∀ (d : Nat) (l1 l2 : Option Value) (v : Nat) (st : List Value) (M : Mem) (Q : Outcome → Mem → Prop), Wp d 213 83 [some (.ref v), l1, l2] st M Q = Wp d 213 84 [some (.ref v), l1, l2] (.ref v :: st) M Q := fun d l1 l2 v st M Q => wA (show ins 213 83 = some (.aload_n 0, 1) by decide +kernel) rfl
set_option maxRecDepth 100000 in
theorem r_213_84 : ∀ (d : Nat) (ls : Lc) (a : Nat) (st : List Value) (M : Mem) (Q : Outcome → Mem → Prop), (smallR st = true) → Wp d 213 84 ls (.ref a :: st) M Q = (kO M a = 8 ∧ Ca d 213 84 ls 221 (.ref a :: []) st M Q) := fun d ls a st M Q h0 => w_virt1 (as := []) (show ins 213 84 = some (.invokevirtual 233, 3) by decide +kernel) (show mRes (mC 213) 233 = some (3, 8, [(8, 221)]) by decide +kernel) (by decide +kernel) rfl (by decide +kernel) (by decide +kernel) h0
set_option maxRecDepth 100000 in
theorem r_213_87 : ∀ (d : Nat) (ls : Lc) (a : Int32) (st : List Value) (M : Mem) (Q : Outcome → Mem → Prop), Wp d 213 87 ls (.int a :: st) M Q = Br (¬ a = I 0) d 213 95 90 ls st M Q := fun d ls a st M Q => w_if (show ins 213 87 = some (.ifCond .ne 8, 3) by decide +kernel) rfl rfl
set_option maxRecDepth 100000 in
theorem r_213_90 : ∀ (d : Nat) (l1 l2 : Option Value) (v : Nat) (st : List Value) (M : Mem) (Q : Outcome → Mem → Prop), Wp d 213 90 [some (.ref v), l1, l2] st M Q = Wp d 213 91 [some (.ref v), l1, l2] (.ref v :: st) M Q := fun d l1 l2 v st M Q => wA (show ins 213 90 = some (.aload_n 0, 1) by decide +kernel) rfl
set_option maxRecDepth 100000 in
theorem r_213_91 : ∀ (d : Nat) (ls : Lc) (a : Nat) (st : List Value) (M : Mem) (Q : Outcome → Mem → Prop), Wp d 213 91 ls (.ref a :: st) M Q = (fk 56 (kO M a) = true ∧ Wp d 213 94 ls (.int (mF M 56 a) :: st) M Q) := fun d ls a st M Q => w_getI (show ins 213 91 = some (.getfield 217, 3) by decide +kernel) (show fRes (mC 213) 217 = some (56, 8, false) by decide +kernel) (by decide +kernel)
set_option maxRecDepth 100000 in
theorem r_213_94 : ∀ (d : Nat) (ls : Lc) (v : Int32) (M : Mem) (Q : Outcome → Mem → Prop), Wp d 213 94 ls [.int v] M Q = Q (.returned (some (.int v))) M := fun d ls v M Q => w_ireturn (show ins 213 94 = some (.ireturn, 1) by decide +kernel) (by decide +kernel)
set_option maxRecDepth 100000 in
theorem r_213_95 : ∀ (d : Nat) (ls : Lc) (st : List Value) (M : Mem) (Q : Outcome → Mem → Prop), Wp d 213 95 ls st M Q = Wp d 213 96 ls (.int (I 0) :: st) M Q := fun d ls st M Q => w_iconst (show ins 213 95 = some (.iconst 0, 1) by decide +kernel)
set_option maxRecDepth 100000 in
theorem r_213_96 : ∀ (d : Nat) (l0 l1 l2 : Option Value) (v : Int32) (st : List Value) (M : Mem) (Q : Outcome → Mem → Prop), (lo l1 = false) → Wp d 213 96 [l0, l1, l2] (.int v :: st) M Q = Wp d 213 97 [l0, l1, some (.int v)] st M Q := fun d l0 l1 l2 v st M Q hl => w_istore_n (show ins 213 96 = some (.istore_n 2, 1) by decide +kernel) (st1_S rfl rfl hl)
set_option maxRecDepth 100000 in
theorem r_213_97 : ∀ (d : Nat) (l0 l1 : Option Value) (v : Int32) (st : List Value) (M : Mem) (Q : Outcome → Mem → Prop), Wp d 213 97 [l0, l1, some (.int v)] st M Q = Wp d 213 98 [l0, l1, some (.int v)] (.int v :: st) M Q := fun d l0 l1 v st M Q => wA (show ins 213 97 = some (.iload_n 2, 1) by decide +kernel) rfl
set_option maxRecDepth 100000 in
theorem r_213_98 : ∀ (d : Nat) (l0 l2 : Option Value) (v : Int32) (st : List Value) (M : Mem) (Q : Outcome → Mem → Prop), Wp d 213 98 [l0, some (.int v), l2] st M Q = Wp d 213 99 [l0, some (.int v), l2] (.int v :: st) M Q := fun d l0 l2 v st M Q => wA (show ins 213 98 = some (.iload_n 1, 1) by decide +kernel) rfl
set_option maxRecDepth 100000 in
theorem r_213_99 : ∀ (d : Nat) (ls : Lc) (st : List Value) (M : Mem) (Q : Outcome → Mem → Prop), Wp d 213 99 ls st M Q = Wp d 213 100 ls (.int (I 2) :: st) M Q := fun d ls st M Q => w_iconst (show ins 213 99 = some (.iconst 2, 1) by decide +kernel)
set_option maxRecDepth 100000 in
theorem r_213_100 : ∀ (d : Nat) (ls : Lc) (a b : Int) (st : List Value) (M : Mem) (Q : Outcome → Mem → Prop), Wp d 213 100 ls (.int (I b) :: .int (I a) :: st) M Q = Wp d 213 101 ls (.int (I (a + b)) :: st) M Q := fun d ls a b st M Q => w_iadd (show ins 213 100 = some (.iadd, 1) by decide +kernel)
set_option maxRecDepth 100000 in
theorem r_213_101 : ∀ (d : Nat) (ls : Lc) (a b : Int32) (st : List Value) (M : Mem) (Q : Outcome → Mem → Prop), Wp d 213 101 ls (.int b :: .int a :: st) M Q = Br (b ≤ a) d 213 122 104 ls st M Q := fun d ls a b st M Q => w_icmp (show ins 213 101 = some (.if_icmp .ge 21, 3) by decide +kernel) rfl rfl
set_option maxRecDepth 100000 in
theorem r_213_104 : ∀ (d : Nat) (l1 l2 : Option Value) (v : Nat) (st : List Value) (M : Mem) (Q : Outcome → Mem → Prop), Wp d 213 104 [some (.ref v), l1, l2] st M Q = Wp d 213 105 [some (.ref v), l1, l2] (.ref v :: st) M Q := fun d l1 l2 v st M Q => wA (show ins 213 104 = some (.aload_n 0, 1) by decide +kernel) rfl
set_option maxRecDepth 100000 in
theorem r_213_105 : ∀ (d : Nat) (ls : Lc) (a : Nat) (st : List Value) (M : Mem) (Q : Outcome → Mem → Prop), (smallR st = true) → Wp d 213 105 ls (.ref a :: st) M Q = (kO M a = 8 ∧ Ca d 213 105 ls 222 (.ref a :: []) st M Q) := fun d ls a st M Q h0 => w_virt1 (as := []) (show ins 213 105 = some (.invokevirtual 226, 3) by decide +kernel) (show mRes (mC 213) 226 = some (3, 8, [(8, 222)]) by decide +kernel) (by decide +kernel) rfl (by decide +kernel) (by decide +kernel) h0
set_option maxRecDepth 100000 in
theorem r_213_108 : ∀ (d : Nat) (ls : Lc) (a : Int32) (st : List Value) (M : Mem) (Q : Outcome → Mem → Prop), Wp d 213 108 ls (.int a :: st) M Q = Br (¬ a = I 0) d 213 116 111 ls st M Q := fun d ls a st M Q => w_if (show ins 213 108 = some (.ifCond .ne 8, 3) by decide +kernel) rfl rfl
set_option maxRecDepth 100000 in
theorem r_213_111 : ∀ (d : Nat) (l1 l2 : Option Value) (v : Nat) (st : List Value) (M : Mem) (Q : Outcome → Mem → Prop), Wp d 213 111 [some (.ref v), l1, l2] st M Q = Wp d 213 112 [some (.ref v), l1, l2] (.ref v :: st) M Q := fun d l1 l2 v st M Q => wA (show ins 213 111 = some (.aload_n 0, 1) by decide +kernel) rfl
set_option maxRecDepth 100000 in
theorem r_213_112 : ∀ (d : Nat) (ls : Lc) (a : Nat) (st : List Value) (M : Mem) (Q : Outcome → Mem → Prop), Wp d 213 112 ls (.ref a :: st) M Q = (fk 56 (kO M a) = true ∧ Wp d 213 115 ls (.int (mF M 56 a) :: st) M Q) := fun d ls a st M Q => w_getI (show ins 213 112 = some (.getfield 217, 3) by decide +kernel) (show fRes (mC 213) 217 = some (56, 8, false) by decide +kernel) (by decide +kernel)
set_option maxRecDepth 100000 in
theorem r_213_115 : ∀ (d : Nat) (ls : Lc) (v : Int32) (M : Mem) (Q : Outcome → Mem → Prop), Wp d 213 115 ls [.int v] M Q = Q (.returned (some (.int v))) M := fun d ls v M Q => w_ireturn (show ins 213 115 = some (.ireturn, 1) by decide +kernel) (by decide +kernel)
set_option maxRecDepth 100000 in
theorem r_213_116 : ∀ (d : Nat) (l0 l1 : Option Value) (z : Int) (st : List Value) (M : Mem) (Q : Outcome → Mem → Prop), (lo l1 = false) → Wp d 213 116 [l0, l1, some (.int (I z))] st M Q = Wp d 213 119 [l0, l1, some (.int (I (z + 1)))] st M Q := fun d l0 l1 z st M Q hl => w_iinc (show ins 213 116 = some (.iinc 2 1, 3) by decide +kernel) rfl (st1_S rfl rfl hl)
set_option maxRecDepth 100000 in
theorem r_213_119 : ∀ (d : Nat) (ls : Lc) (st : List Value) (M : Mem) (Q : Outcome → Mem → Prop), Wp d 213 119 ls st M Q = Wp d 213 97 ls st M Q := fun d ls st M Q => w_goto (show ins 213 119 = some (.goto (-22), 3) by decide +kernel) rfl
set_option maxRecDepth 100000 in
theorem r_213_122 : ∀ (d : Nat) (ls : Lc) (st : List Value) (M : Mem) (Q : Outcome → Mem → Prop), Wp d 213 122 ls st M Q = Wp d 213 123 ls (.int (I 0) :: st) M Q := fun d ls st M Q => w_iconst (show ins 213 122 = some (.iconst 0, 1) by decide +kernel)
set_option maxRecDepth 100000 in
theorem r_213_123 : ∀ (d : Nat) (l0 l1 l2 : Option Value) (v : Int32) (st : List Value) (M : Mem) (Q : Outcome → Mem → Prop), (lo l1 = false) → Wp d 213 123 [l0, l1, l2] (.int v :: st) M Q = Wp d 213 124 [l0, l1, some (.int v)] st M Q := fun d l0 l1 l2 v st M Q hl => w_istore_n (show ins 213 123 = some (.istore_n 2, 1) by decide +kernel) (st1_S rfl rfl hl)
set_option maxRecDepth 100000 in
theorem r_213_124 : ∀ (d : Nat) (l0 l1 : Option Value) (v : Int32) (st : List Value) (M : Mem) (Q : Outcome → Mem → Prop), Wp d 213 124 [l0, l1, some (.int v)] st M Q = Wp d 213 125 [l0, l1, some (.int v)] (.int v :: st) M Q := fun d l0 l1 v st M Q => wA (show ins 213 124 = some (.iload_n 2, 1) by decide +kernel) rfl
set_option maxRecDepth 100000 in
theorem r_213_125 : ∀ (d : Nat) (l1 l2 : Option Value) (v : Nat) (st : List Value) (M : Mem) (Q : Outcome → Mem → Prop), Wp d 213 125 [some (.ref v), l1, l2] st M Q = Wp d 213 126 [some (.ref v), l1, l2] (.ref v :: st) M Q := fun d l1 l2 v st M Q => wA (show ins 213 125 = some (.aload_n 0, 1) by decide +kernel) rfl
set_option maxRecDepth 100000 in
theorem r_213_126 : ∀ (d : Nat) (ls : Lc) (a : Nat) (st : List Value) (M : Mem) (Q : Outcome → Mem → Prop), Wp d 213 126 ls (.ref a :: st) M Q = (fk 43 (kO M a) = true ∧ Wp d 213 129 ls (.int (mF M 43 a) :: st) M Q) := fun d ls a st M Q => w_getI (show ins 213 126 = some (.getfield 30, 3) by decide +kernel) (show fRes (mC 213) 30 = some (43, 8, false) by decide +kernel) (by decide +kernel)
set_option maxRecDepth 100000 in
theorem r_213_129 : ∀ (d : Nat) (ls : Lc) (a b : Int32) (st : List Value) (M : Mem) (Q : Outcome → Mem → Prop), Wp d 213 129 ls (.int b :: .int a :: st) M Q = Br (b ≤ a) d 213 166 132 ls st M Q := fun d ls a b st M Q => w_icmp (show ins 213 129 = some (.if_icmp .ge 37, 3) by decide +kernel) rfl rfl
set_option maxRecDepth 100000 in
theorem r_213_132 : ∀ (d : Nat) (l1 l2 : Option Value) (v : Nat) (st : List Value) (M : Mem) (Q : Outcome → Mem → Prop), Wp d 213 132 [some (.ref v), l1, l2] st M Q = Wp d 213 133 [some (.ref v), l1, l2] (.ref v :: st) M Q := fun d l1 l2 v st M Q => wA (show ins 213 132 = some (.aload_n 0, 1) by decide +kernel) rfl
set_option maxRecDepth 100000 in
theorem r_213_133 : ∀ (d : Nat) (ls : Lc) (a : Nat) (st : List Value) (M : Mem) (Q : Outcome → Mem → Prop), Wp d 213 133 ls (.ref a :: st) M Q = (fk 48 (kO M a) = true ∧ Wp d 213 136 ls (va_rf (mR M 48 a) :: st) M Q) := fun d ls a st M Q => w_getR (show ins 213 133 = some (.getfield 22, 3) by decide +kernel) (show fRes (mC 213) 22 = some (48, 8, false) by decide +kernel) (by decide +kernel)
set_option maxRecDepth 100000 in
theorem r_213_136 : ∀ (d : Nat) (l0 l1 : Option Value) (v : Int32) (st : List Value) (M : Mem) (Q : Outcome → Mem → Prop), Wp d 213 136 [l0, l1, some (.int v)] st M Q = Wp d 213 137 [l0, l1, some (.int v)] (.int v :: st) M Q := fun d l0 l1 v st M Q => wA (show ins 213 136 = some (.iload_n 2, 1) by decide +kernel) rfl
set_option maxRecDepth 100000 in
theorem r_213_137 : ∀ (d : Nat) (l1 l2 : Option Value) (v : Nat) (st : List Value) (M : Mem) (Q : Outcome → Mem → Prop), Wp d 213 137 [some (.ref v), l1, l2] st M Q = Wp d 213 138 [some (.ref v), l1, l2] (.ref v :: st) M Q := fun d l1 l2 v st M Q => wA (show ins 213 137 = some (.aload_n 0, 1) by decide +kernel) rfl
set_option maxRecDepth 100000 in
theorem r_213_138 : ∀ (d : Nat) (ls : Lc) (a : Nat) (st : List Value) (M : Mem) (Q : Outcome → Mem → Prop), Wp d 213 138 ls (.ref a :: st) M Q = (fk 48 (kO M a) = true ∧ Wp d 213 141 ls (va_rf (mR M 48 a) :: st) M Q) := fun d ls a st M Q => w_getR (show ins 213 138 = some (.getfield 22, 3) by decide +kernel) (show fRes (mC 213) 22 = some (48, 8, false) by decide +kernel) (by decide +kernel)
set_option maxRecDepth 100000 in
theorem r_213_141 : ∀ (d : Nat) (l0 l1 : Option Value) (v : Int32) (st : List Value) (M : Mem) (Q : Outcome → Mem → Prop), Wp d 213 141 [l0, l1, some (.int v)] st M Q = Wp d 213 142 [l0, l1, some (.int v)] (.int v :: st) M Q := fun d l0 l1 v st M Q => wA (show ins 213 141 = some (.iload_n 2, 1) by decide +kernel) rfl
set_option maxRecDepth 100000 in
theorem r_213_142 : ∀ (d : Nat) (ls : Lc) (a : Nat) (j : Int32) (st : List Value) (M : Mem) (Q : Outcome → Mem → Prop), Wp d 213 142 ls (.int j :: .ref a :: st) M Q = ((((kX M a).1 = 1 ∨ (kX M a).1 = 2) ∧ inB j (kX M a).2 = true) ∧ Wp d 213 143 ls (.int (mA M a j.toNatClampNeg) :: st) M Q) := fun d ls a j st M Q => w_baload (show ins 213 142 = some (.baload, 1) by decide +kernel)
set_option maxRecDepth 100000 in
theorem r_213_143 : ∀ (d : Nat) (ls : Lc) (a : Int32) (st : List Value) (M : Mem) (Q : Outcome → Mem → Prop), Wp d 213 143 ls (.int a :: st) M Q = Br (¬ a = I 0) d 213 154 146 ls st M Q := fun d ls a st M Q => w_if (show ins 213 143 = some (.ifCond .ne 11, 3) by decide +kernel) rfl rfl
set_option maxRecDepth 100000 in
theorem r_213_146 : ∀ (d : Nat) (l1 l2 : Option Value) (v : Nat) (st : List Value) (M : Mem) (Q : Outcome → Mem → Prop), Wp d 213 146 [some (.ref v), l1, l2] st M Q = Wp d 213 147 [some (.ref v), l1, l2] (.ref v :: st) M Q := fun d l1 l2 v st M Q => wA (show ins 213 146 = some (.aload_n 0, 1) by decide +kernel) rfl
set_option maxRecDepth 100000 in
theorem r_213_147 : ∀ (d : Nat) (l0 l1 : Option Value) (v : Int32) (st : List Value) (M : Mem) (Q : Outcome → Mem → Prop), Wp d 213 147 [l0, l1, some (.int v)] st M Q = Wp d 213 148 [l0, l1, some (.int v)] (.int v :: st) M Q := fun d l0 l1 v st M Q => wA (show ins 213 147 = some (.iload_n 2, 1) by decide +kernel) rfl
set_option maxRecDepth 100000 in
theorem r_213_148 : ∀ (d : Nat) (ls : Lc) (v0 : Value) (a : Nat) (st : List Value) (M : Mem) (Q : Outcome → Mem → Prop), (smallR st = true) → Wp d 213 148 ls (v0 :: .ref a :: st) M Q = (kO M a = 8 ∧ Ca d 213 148 ls 215 (.ref a :: [v0]) st M Q) := fun d ls v0 a st M Q h0 => w_virt1 (as := [v0]) (show ins 213 148 = some (.invokevirtual 214, 3) by decide +kernel) (show mRes (mC 213) 214 = some (3, 8, [(8, 215)]) by decide +kernel) (by decide +kernel) rfl (by decide +kernel) (by decide +kernel) h0
set_option maxRecDepth 100000 in
theorem r_213_151 : ∀ (d : Nat) (ls : Lc) (a : Int32) (st : List Value) (M : Mem) (Q : Outcome → Mem → Prop), Wp d 213 151 ls (.int a :: st) M Q = Br (a = I 0) d 213 158 154 ls st M Q := fun d ls a st M Q => w_if (show ins 213 151 = some (.ifCond .eq 7, 3) by decide +kernel) rfl rfl
set_option maxRecDepth 100000 in
theorem r_213_154 : ∀ (d : Nat) (ls : Lc) (st : List Value) (M : Mem) (Q : Outcome → Mem → Prop), Wp d 213 154 ls st M Q = Wp d 213 155 ls (.int (I 1) :: st) M Q := fun d ls st M Q => w_iconst (show ins 213 154 = some (.iconst 1, 1) by decide +kernel)
set_option maxRecDepth 100000 in
theorem r_213_155 : ∀ (d : Nat) (ls : Lc) (st : List Value) (M : Mem) (Q : Outcome → Mem → Prop), Wp d 213 155 ls st M Q = Wp d 213 159 ls st M Q := fun d ls st M Q => w_goto (show ins 213 155 = some (.goto 4, 3) by decide +kernel) rfl
set_option maxRecDepth 100000 in
theorem r_213_158 : ∀ (d : Nat) (ls : Lc) (st : List Value) (M : Mem) (Q : Outcome → Mem → Prop), Wp d 213 158 ls st M Q = Wp d 213 159 ls (.int (I 0) :: st) M Q := fun d ls st M Q => w_iconst (show ins 213 158 = some (.iconst 0, 1) by decide +kernel)
set_option maxRecDepth 100000 in
theorem r_213_159 : ∀ (d : Nat) (ls : Lc) (a : Nat) (j v : Int32) (st : List Value) (M : Mem) (Q : Outcome → Mem → Prop), Wp d 213 159 ls (.int v :: .int j :: .ref a :: st) M Q = ((((kX M a).1 = 1 ∨ (kX M a).1 = 2) ∧ inB j (kX M a).2 = true) ∧ Wp d 213 160 ls st (sA M a j.toNatClampNeg (nrw (kX M a).1 v)) Q) := fun d ls a j v st M Q => w_bastore (show ins 213 159 = some (.bastore, 1) by decide +kernel)
set_option maxRecDepth 100000 in
theorem r_213_160 : ∀ (d : Nat) (l0 l1 : Option Value) (z : Int) (st : List Value) (M : Mem) (Q : Outcome → Mem → Prop), (lo l1 = false) → Wp d 213 160 [l0, l1, some (.int (I z))] st M Q = Wp d 213 163 [l0, l1, some (.int (I (z + 1)))] st M Q := fun d l0 l1 z st M Q hl => w_iinc (show ins 213 160 = some (.iinc 2 1, 3) by decide +kernel) rfl (st1_S rfl rfl hl)
set_option maxRecDepth 100000 in
theorem r_213_163 : ∀ (d : Nat) (ls : Lc) (st : List Value) (M : Mem) (Q : Outcome → Mem → Prop), Wp d 213 163 ls st M Q = Wp d 213 124 ls st M Q := fun d ls st M Q => w_goto (show ins 213 163 = some (.goto (-39), 3) by decide +kernel) rfl
set_option maxRecDepth 100000 in
theorem r_213_166 : ∀ (d : Nat) (l1 l2 : Option Value) (v : Nat) (st : List Value) (M : Mem) (Q : Outcome → Mem → Prop), Wp d 213 166 [some (.ref v), l1, l2] st M Q = Wp d 213 167 [some (.ref v), l1, l2] (.ref v :: st) M Q := fun d l1 l2 v st M Q => wA (show ins 213 166 = some (.aload_n 0, 1) by decide +kernel) rfl
set_option maxRecDepth 100000 in
theorem r_213_167 : ∀ (d : Nat) (ls : Lc) (v : Nat) (st : List Value) (M : Mem) (Q : Outcome → Mem → Prop), Wp d 213 167 ls (.ref v :: st) M Q = Wp d 213 168 ls (.ref v :: .ref v :: st) M Q := fun d ls v st M Q => wA (show ins 213 167 = some (.dup, 1) by decide +kernel) rfl
set_option maxRecDepth 100000 in
theorem r_213_167_1 : ∀ (d : Nat) (ls : Lc) (v : Int32) (st : List Value) (M : Mem) (Q : Outcome → Mem → Prop), Wp d 213 167 ls (.int v :: st) M Q = Wp d 213 168 ls (.int v :: .int v :: st) M Q := fun d ls v st M Q => wA (show ins 213 167 = some (.dup, 1) by decide +kernel) rfl
set_option maxRecDepth 100000 in
theorem r_213_168 : ∀ (d : Nat) (ls : Lc) (a : Nat) (st : List Value) (M : Mem) (Q : Outcome → Mem → Prop), Wp d 213 168 ls (.ref a :: st) M Q = (fk 50 (kO M a) = true ∧ Wp d 213 171 ls (.int (mF M 50 a) :: st) M Q) := fun d ls a st M Q => w_getI (show ins 213 168 = some (.getfield 223, 3) by decide +kernel) (show fRes (mC 213) 223 = some (50, 8, false) by decide +kernel) (by decide +kernel)
set_option maxRecDepth 100000 in
theorem r_213_171 : ∀ (d : Nat) (l0 l2 : Option Value) (v : Int32) (st : List Value) (M : Mem) (Q : Outcome → Mem → Prop), Wp d 213 171 [l0, some (.int v), l2] st M Q = Wp d 213 172 [l0, some (.int v), l2] (.int v :: st) M Q := fun d l0 l2 v st M Q => wA (show ins 213 171 = some (.iload_n 1, 1) by decide +kernel) rfl
set_option maxRecDepth 100000 in
theorem r_213_172 : ∀ (d : Nat) (ls : Lc) (st : List Value) (M : Mem) (Q : Outcome → Mem → Prop), Wp d 213 172 ls st M Q = Wp d 213 173 ls (.int (I 2) :: st) M Q := fun d ls st M Q => w_iconst (show ins 213 172 = some (.iconst 2, 1) by decide +kernel)
set_option maxRecDepth 100000 in
theorem r_213_173 : ∀ (d : Nat) (ls : Lc) (a b : Int) (st : List Value) (M : Mem) (Q : Outcome → Mem → Prop), Wp d 213 173 ls (.int (I b) :: .int (I a) :: st) M Q = Wp d 213 174 ls (.int (I (a + b)) :: st) M Q := fun d ls a b st M Q => w_iadd (show ins 213 173 = some (.iadd, 1) by decide +kernel)
set_option maxRecDepth 100000 in
theorem r_213_174 : ∀ (d : Nat) (ls : Lc) (a b : Int) (st : List Value) (M : Mem) (Q : Outcome → Mem → Prop), Wp d 213 174 ls (.int (I b) :: .int (I a) :: st) M Q = Wp d 213 175 ls (.int (I (a + b)) :: st) M Q := fun d ls a b st M Q => w_iadd (show ins 213 174 = some (.iadd, 1) by decide +kernel)
set_option maxRecDepth 100000 in
theorem r_213_175 : ∀ (d : Nat) (ls : Lc) (a : Nat) (v : Int32) (st : List Value) (M : Mem) (Q : Outcome → Mem → Prop), Wp d 213 175 ls (.int v :: .ref a :: st) M Q = (fk 50 (kO M a) = true ∧ Wp d 213 178 ls st (sF M 50 a v) Q) := fun d ls a v st M Q => w_putI (show ins 213 175 = some (.putfield 223, 3) by decide +kernel) (show fRes (mC 213) 223 = some (50, 8, false) by decide +kernel) (by decide +kernel) (by decide +kernel)
set_option maxRecDepth 100000 in
theorem r_213_178 : ∀ (d : Nat) (l1 l2 : Option Value) (v : Nat) (st : List Value) (M : Mem) (Q : Outcome → Mem → Prop), Wp d 213 178 [some (.ref v), l1, l2] st M Q = Wp d 213 179 [some (.ref v), l1, l2] (.ref v :: st) M Q := fun d l1 l2 v st M Q => wA (show ins 213 178 = some (.aload_n 0, 1) by decide +kernel) rfl
set_option maxRecDepth 100000 in
theorem r_213_179 : ∀ (d : Nat) (ls : Lc) (v : Nat) (st : List Value) (M : Mem) (Q : Outcome → Mem → Prop), Wp d 213 179 ls (.ref v :: st) M Q = Wp d 213 180 ls (.ref v :: .ref v :: st) M Q := fun d ls v st M Q => wA (show ins 213 179 = some (.dup, 1) by decide +kernel) rfl
set_option maxRecDepth 100000 in
theorem r_213_179_1 : ∀ (d : Nat) (ls : Lc) (v : Int32) (st : List Value) (M : Mem) (Q : Outcome → Mem → Prop), Wp d 213 179 ls (.int v :: st) M Q = Wp d 213 180 ls (.int v :: .int v :: st) M Q := fun d ls v st M Q => wA (show ins 213 179 = some (.dup, 1) by decide +kernel) rfl
set_option maxRecDepth 100000 in
theorem r_213_180 : ∀ (d : Nat) (ls : Lc) (a : Nat) (st : List Value) (M : Mem) (Q : Outcome → Mem → Prop), Wp d 213 180 ls (.ref a :: st) M Q = (fk 44 (kO M a) = true ∧ Wp d 213 183 ls (.int (mF M 44 a) :: st) M Q) := fun d ls a st M Q => w_getI (show ins 213 180 = some (.getfield 236, 3) by decide +kernel) (show fRes (mC 213) 236 = some (44, 8, false) by decide +kernel) (by decide +kernel)
set_option maxRecDepth 100000 in
theorem r_213_183 : ∀ (d : Nat) (ls : Lc) (st : List Value) (M : Mem) (Q : Outcome → Mem → Prop), Wp d 213 183 ls st M Q = Wp d 213 184 ls (.int (I 1) :: st) M Q := fun d ls st M Q => w_iconst (show ins 213 183 = some (.iconst 1, 1) by decide +kernel)
set_option maxRecDepth 100000 in
theorem r_213_184 : ∀ (d : Nat) (ls : Lc) (a b : Int) (st : List Value) (M : Mem) (Q : Outcome → Mem → Prop), Wp d 213 184 ls (.int (I b) :: .int (I a) :: st) M Q = Wp d 213 185 ls (.int (I (a + b)) :: st) M Q := fun d ls a b st M Q => w_iadd (show ins 213 184 = some (.iadd, 1) by decide +kernel)
set_option maxRecDepth 100000 in
theorem r_213_185 : ∀ (d : Nat) (ls : Lc) (a : Nat) (v : Int32) (st : List Value) (M : Mem) (Q : Outcome → Mem → Prop), Wp d 213 185 ls (.int v :: .ref a :: st) M Q = (fk 44 (kO M a) = true ∧ Wp d 213 188 ls st (sF M 44 a v) Q) := fun d ls a v st M Q => w_putI (show ins 213 185 = some (.putfield 236, 3) by decide +kernel) (show fRes (mC 213) 236 = some (44, 8, false) by decide +kernel) (by decide +kernel) (by decide +kernel)
set_option maxRecDepth 100000 in
theorem r_213_188 : ∀ (d : Nat) (l1 l2 : Option Value) (v : Nat) (st : List Value) (M : Mem) (Q : Outcome → Mem → Prop), Wp d 213 188 [some (.ref v), l1, l2] st M Q = Wp d 213 189 [some (.ref v), l1, l2] (.ref v :: st) M Q := fun d l1 l2 v st M Q => wA (show ins 213 188 = some (.aload_n 0, 1) by decide +kernel) rfl
set_option maxRecDepth 100000 in
theorem r_213_189 : ∀ (d : Nat) (ls : Lc) (a : Nat) (st : List Value) (M : Mem) (Q : Outcome → Mem → Prop), Wp d 213 189 ls (.ref a :: st) M Q = (fk 53 (kO M a) = true ∧ Wp d 213 192 ls (va_rf (mR M 53 a) :: st) M Q) := fun d ls a st M Q => w_getR (show ins 213 189 = some (.getfield 7, 3) by decide +kernel) (show fRes (mC 213) 7 = some (53, 8, false) by decide +kernel) (by decide +kernel)
set_option maxRecDepth 100000 in
theorem r_213_192 : ∀ (d : Nat) (l1 l2 : Option Value) (v : Nat) (st : List Value) (M : Mem) (Q : Outcome → Mem → Prop), Wp d 213 192 [some (.ref v), l1, l2] st M Q = Wp d 213 193 [some (.ref v), l1, l2] (.ref v :: st) M Q := fun d l1 l2 v st M Q => wA (show ins 213 192 = some (.aload_n 0, 1) by decide +kernel) rfl
set_option maxRecDepth 100000 in
theorem r_213_193 : ∀ (d : Nat) (ls : Lc) (a : Nat) (st : List Value) (M : Mem) (Q : Outcome → Mem → Prop), Wp d 213 193 ls (.ref a :: st) M Q = (fk 45 (kO M a) = true ∧ Wp d 213 196 ls (va_rf (mR M 45 a) :: st) M Q) := fun d ls a st M Q => w_getR (show ins 213 193 = some (.getfield 16, 3) by decide +kernel) (show fRes (mC 213) 16 = some (45, 8, false) by decide +kernel) (by decide +kernel)
set_option maxRecDepth 100000 in
theorem r_213_196 : ∀ (d : Nat) (ls : Lc) (v0 v1 : Value)  (st : List Value) (M : Mem) (Q : Outcome → Mem → Prop), (smallR st = true) → Wp d 213 196 ls (v1 :: v0 :: st) M Q = Ca d 213 196 ls 154 [v0, v1] st M Q := fun d ls v0 v1 st M Q h0 => w_stat (as := [v0, v1]) (show ins 213 196 = some (.invokestatic 36, 3) by decide +kernel) (show mRes (mC 213) 36 = some (0, 8, [(0, 154)]) by decide +kernel) (by decide +kernel) (by decide +kernel) rfl h0
set_option maxRecDepth 100000 in
theorem r_213_199 : ∀ (d : Nat) (l1 l2 : Option Value) (v : Nat) (st : List Value) (M : Mem) (Q : Outcome → Mem → Prop), Wp d 213 199 [some (.ref v), l1, l2] st M Q = Wp d 213 200 [some (.ref v), l1, l2] (.ref v :: st) M Q := fun d l1 l2 v st M Q => wA (show ins 213 199 = some (.aload_n 0, 1) by decide +kernel) rfl
set_option maxRecDepth 100000 in
theorem r_213_200 : ∀ (d : Nat) (ls : Lc) (a : Nat) (st : List Value) (M : Mem) (Q : Outcome → Mem → Prop), Wp d 213 200 ls (.ref a :: st) M Q = (fk 56 (kO M a) = true ∧ Wp d 213 203 ls (.int (mF M 56 a) :: st) M Q) := fun d ls a st M Q => w_getI (show ins 213 200 = some (.getfield 217, 3) by decide +kernel) (show fRes (mC 213) 217 = some (56, 8, false) by decide +kernel) (by decide +kernel)
set_option maxRecDepth 100000 in
theorem r_213_203 : ∀ (d : Nat) (ls : Lc) (v : Int32) (M : Mem) (Q : Outcome → Mem → Prop), Wp d 213 203 ls [.int v] M Q = Q (.returned (some (.int v))) M := fun d ls v M Q => w_ireturn (show ins 213 203 = some (.ireturn, 1) by decide +kernel) (by decide +kernel)
set_option maxRecDepth 100000 in
theorem w_213_97 : (type_of% r_213_97) := r_213_97
set_option maxRecDepth 100000 in
theorem w_213_124 : (type_of% r_213_124) := r_213_124
set_option maxRecDepth 100000 in
theorem W_213 : (type_of% r_213_0) ∧ (type_of% r_213_1) ∧ (type_of% r_213_4) ∧ (type_of% r_213_7) ∧ (type_of% r_213_8) ∧ (type_of% r_213_11) ∧ (type_of% r_213_12) ∧ (type_of% r_213_15) ∧ (type_of% r_213_16) ∧ (type_of% r_213_17) ∧ (type_of% r_213_18) ∧ (type_of% r_213_21) ∧ (type_of% r_213_24) ∧ (type_of% r_213_25) ∧ (type_of% r_213_28) ∧ (type_of% r_213_29) ∧ (type_of% r_213_32) ∧ (type_of% r_213_33) ∧ (type_of% r_213_34) ∧ (type_of% r_213_35) ∧ (type_of% r_213_36) ∧ (type_of% r_213_39) ∧ (type_of% r_213_42) ∧ (type_of% r_213_43) ∧ (type_of% r_213_46) ∧ (type_of% r_213_47) ∧ (type_of% r_213_50) ∧ (type_of% r_213_51) ∧ (type_of% r_213_54) ∧ (type_of% r_213_57) ∧ (type_of% r_213_58) ∧ (type_of% r_213_61) ∧ (type_of% r_213_62) ∧ (type_of% r_213_63) ∧ (type_of% r_213_64) ∧ (type_of% r_213_65) ∧ (type_of% r_213_68) ∧ (type_of% r_213_69) ∧ (type_of% r_213_72) ∧ (type_of% r_213_73) ∧ (type_of% r_213_74) ∧ (type_of% r_213_75) ∧ (type_of% r_213_76) ∧ (type_of% r_213_77) ∧ (type_of% r_213_80) ∧ (type_of% r_213_83) ∧ (type_of% r_213_84) ∧ (type_of% r_213_87) ∧ (type_of% r_213_90) ∧ (type_of% r_213_91) ∧ (type_of% r_213_94) ∧ (type_of% r_213_95) ∧ (type_of% r_213_96) ∧ (type_of% r_213_98) ∧ (type_of% r_213_99) ∧ (type_of% r_213_100) ∧ (type_of% r_213_101) ∧ (type_of% r_213_104) ∧ (type_of% r_213_105) ∧ (type_of% r_213_108) ∧ (type_of% r_213_111) ∧ (type_of% r_213_112) ∧ (type_of% r_213_115) ∧ (type_of% r_213_116) ∧ (type_of% r_213_119) ∧ (type_of% r_213_122) ∧ (type_of% r_213_123) ∧ (type_of% r_213_125) ∧ (type_of% r_213_126) ∧ (type_of% r_213_129) ∧ (type_of% r_213_132) ∧ (type_of% r_213_133) ∧ (type_of% r_213_136) ∧ (type_of% r_213_137) ∧ (type_of% r_213_138) ∧ (type_of% r_213_141) ∧ (type_of% r_213_142) ∧ (type_of% r_213_143) ∧ (type_of% r_213_146) ∧ (type_of% r_213_147) ∧ (type_of% r_213_148) ∧ (type_of% r_213_151) ∧ (type_of% r_213_154) ∧ (type_of% r_213_155) ∧ (type_of% r_213_158) ∧ (type_of% r_213_159) ∧ (type_of% r_213_160) ∧ (type_of% r_213_163) ∧ (type_of% r_213_166) ∧ (type_of% r_213_167) ∧ (type_of% r_213_167_1) ∧ (type_of% r_213_168) ∧ (type_of% r_213_171) ∧ (type_of% r_213_172) ∧ (type_of% r_213_173) ∧ (type_of% r_213_174) ∧ (type_of% r_213_175) ∧ (type_of% r_213_178) ∧ (type_of% r_213_179) ∧ (type_of% r_213_179_1) ∧ (type_of% r_213_180) ∧ (type_of% r_213_183) ∧ (type_of% r_213_184) ∧ (type_of% r_213_185) ∧ (type_of% r_213_188) ∧ (type_of% r_213_189) ∧ (type_of% r_213_192) ∧ (type_of% r_213_193) ∧ (type_of% r_213_196) ∧ (type_of% r_213_199) ∧ (type_of% r_213_200) ∧ (type_of% r_213_203) := ⟨r_213_0, r_213_1, r_213_4, r_213_7, r_213_8, r_213_11, r_213_12, r_213_15, r_213_16, r_213_17, r_213_18, r_213_21, r_213_24, r_213_25, r_213_28, r_213_29, r_213_32, r_213_33, r_213_34, r_213_35, r_213_36, r_213_39, r_213_42, r_213_43, r_213_46, r_213_47, r_213_50, r_213_51, r_213_54, r_213_57, r_213_58, r_213_61, r_213_62, r_213_63, r_213_64, r_213_65, r_213_68, r_213_69, r_213_72, r_213_73, r_213_74, r_213_75, r_213_76, r_213_77, r_213_80, r_213_83, r_213_84, r_213_87, r_213_90, r_213_91, r_213_94, r_213_95, r_213_96, r_213_98, r_213_99, r_213_100, r_213_101, r_213_104, r_213_105, r_213_108, r_213_111, r_213_112, r_213_115, r_213_116, r_213_119, r_213_122, r_213_123, r_213_125, r_213_126, r_213_129, r_213_132, r_213_133, r_213_136, r_213_137, r_213_138, r_213_141, r_213_142, r_213_143, r_213_146, r_213_147, r_213_148, r_213_151, r_213_154, r_213_155, r_213_158, r_213_159, r_213_160, r_213_163, r_213_166, r_213_167, r_213_167_1, r_213_168, r_213_171, r_213_172, r_213_173, r_213_174, r_213_175, r_213_178, r_213_179, r_213_179_1, r_213_180, r_213_183, r_213_184, r_213_185, r_213_188, r_213_189, r_213_192, r_213_193, r_213_196, r_213_199, r_213_200, r_213_203⟩
set_option maxRecDepth 100000 in
theorem ca_213 {d y pc : Nat} {ls : Lc} {a : Nat} {r : List Value} {M : Mem} {Q : Outcome → Mem → Prop} (hd : 0 < d) (hw : Wp (d - 1) 213 0 [some (.ref a), none, none] [] M (Cq d y pc ls r Q)) : Ca d y pc ls 213 [.ref a] r M Q := ca_of (mq_get (by decide)) (by rfl) hd hw
/-! 214 PackedTreeModel.changed()I; loop heads [4] -/
set_option maxRecDepth 100000 in
theorem r_214_0 : ∀ (d : Nat) (ls : Lc) (st : List Value) (M : Mem) (Q : Outcome → Mem → Prop), Wp d 214 0 ls st M Q = Wp d 214 1 ls (.int (I 0) :: st) M Q := fun d ls st M Q => w_iconst (show ins 214 0 = some (.iconst 0, 1) by decide +kernel)
set_option maxRecDepth 100000 in
theorem r_214_1 : ∀ (d : Nat) (l0 l1 l2 : Option Value) (v : Int32) (st : List Value) (M : Mem) (Q : Outcome → Mem → Prop), (lo l0 = false) → Wp d 214 1 [l0, l1, l2] (.int v :: st) M Q = Wp d 214 2 [l0, some (.int v), l2] st M Q := fun d l0 l1 l2 v st M Q hl => w_istore_n (show ins 214 1 = some (.istore_n 1, 1) by decide +kernel) (st1_S rfl rfl hl)
set_option maxRecDepth 100000 in
theorem r_214_2 : ∀ (d : Nat) (ls : Lc) (st : List Value) (M : Mem) (Q : Outcome → Mem → Prop), Wp d 214 2 ls st M Q = Wp d 214 3 ls (.int (I 0) :: st) M Q := fun d ls st M Q => w_iconst (show ins 214 2 = some (.iconst 0, 1) by decide +kernel)
set_option maxRecDepth 100000 in
theorem r_214_3 : ∀ (d : Nat) (l0 l1 l2 : Option Value) (v : Int32) (st : List Value) (M : Mem) (Q : Outcome → Mem → Prop), (lo l1 = false) → Wp d 214 3 [l0, l1, l2] (.int v :: st) M Q = Wp d 214 4 [l0, l1, some (.int v)] st M Q := fun d l0 l1 l2 v st M Q hl => w_istore_n (show ins 214 3 = some (.istore_n 2, 1) by decide +kernel) (st1_S rfl rfl hl)
set_option maxRecDepth 100000 in
theorem r_214_4 : ∀ (d : Nat) (l0 l1 : Option Value) (v : Int32) (st : List Value) (M : Mem) (Q : Outcome → Mem → Prop), Wp d 214 4 [l0, l1, some (.int v)] st M Q = Wp d 214 5 [l0, l1, some (.int v)] (.int v :: st) M Q := fun d l0 l1 v st M Q => wA (show ins 214 4 = some (.iload_n 2, 1) by decide +kernel) rfl
set_option maxRecDepth 100000 in
theorem r_214_5 : ∀ (d : Nat) (l1 l2 : Option Value) (v : Nat) (st : List Value) (M : Mem) (Q : Outcome → Mem → Prop), Wp d 214 5 [some (.ref v), l1, l2] st M Q = Wp d 214 6 [some (.ref v), l1, l2] (.ref v :: st) M Q := fun d l1 l2 v st M Q => wA (show ins 214 5 = some (.aload_n 0, 1) by decide +kernel) rfl
set_option maxRecDepth 100000 in
theorem r_214_6 : ∀ (d : Nat) (ls : Lc) (a : Nat) (st : List Value) (M : Mem) (Q : Outcome → Mem → Prop), Wp d 214 6 ls (.ref a :: st) M Q = (fk 43 (kO M a) = true ∧ Wp d 214 9 ls (.int (mF M 43 a) :: st) M Q) := fun d ls a st M Q => w_getI (show ins 214 6 = some (.getfield 30, 3) by decide +kernel) (show fRes (mC 214) 30 = some (43, 8, false) by decide +kernel) (by decide +kernel)
set_option maxRecDepth 100000 in
theorem r_214_9 : ∀ (d : Nat) (ls : Lc) (a b : Int32) (st : List Value) (M : Mem) (Q : Outcome → Mem → Prop), Wp d 214 9 ls (.int b :: .int a :: st) M Q = Br (b ≤ a) d 214 34 12 ls st M Q := fun d ls a b st M Q => w_icmp (show ins 214 9 = some (.if_icmp .ge 25, 3) by decide +kernel) rfl rfl
set_option maxRecDepth 100000 in
theorem r_214_12 : ∀ (d : Nat) (l0 l2 : Option Value) (v : Int32) (st : List Value) (M : Mem) (Q : Outcome → Mem → Prop), Wp d 214 12 [l0, some (.int v), l2] st M Q = Wp d 214 13 [l0, some (.int v), l2] (.int v :: st) M Q := fun d l0 l2 v st M Q => wA (show ins 214 12 = some (.iload_n 1, 1) by decide +kernel) rfl
set_option maxRecDepth 100000 in
theorem r_214_13 : ∀ (d : Nat) (l1 l2 : Option Value) (v : Nat) (st : List Value) (M : Mem) (Q : Outcome → Mem → Prop), Wp d 214 13 [some (.ref v), l1, l2] st M Q = Wp d 214 14 [some (.ref v), l1, l2] (.ref v :: st) M Q := fun d l1 l2 v st M Q => wA (show ins 214 13 = some (.aload_n 0, 1) by decide +kernel) rfl
set_option maxRecDepth 100000 in
theorem r_214_14 : ∀ (d : Nat) (l0 l1 : Option Value) (v : Int32) (st : List Value) (M : Mem) (Q : Outcome → Mem → Prop), Wp d 214 14 [l0, l1, some (.int v)] st M Q = Wp d 214 15 [l0, l1, some (.int v)] (.int v :: st) M Q := fun d l0 l1 v st M Q => wA (show ins 214 14 = some (.iload_n 2, 1) by decide +kernel) rfl
set_option maxRecDepth 100000 in
theorem r_214_15 : ∀ (d : Nat) (ls : Lc) (v0 : Value) (a : Nat) (st : List Value) (M : Mem) (Q : Outcome → Mem → Prop), (smallR st = true) → Wp d 214 15 ls (v0 :: .ref a :: st) M Q = (kO M a = 8 ∧ Ca d 214 15 ls 215 (.ref a :: [v0]) st M Q) := fun d ls v0 a st M Q h0 => w_virt1 (as := [v0]) (show ins 214 15 = some (.invokevirtual 214, 3) by decide +kernel) (show mRes (mC 214) 214 = some (3, 8, [(8, 215)]) by decide +kernel) (by decide +kernel) rfl (by decide +kernel) (by decide +kernel) h0
set_option maxRecDepth 100000 in
theorem r_214_18 : ∀ (d : Nat) (ls : Lc) (a : Int32) (st : List Value) (M : Mem) (Q : Outcome → Mem → Prop), Wp d 214 18 ls (.int a :: st) M Q = Br (a = I 0) d 214 25 21 ls st M Q := fun d ls a st M Q => w_if (show ins 214 18 = some (.ifCond .eq 7, 3) by decide +kernel) rfl rfl
set_option maxRecDepth 100000 in
theorem r_214_21 : ∀ (d : Nat) (ls : Lc) (st : List Value) (M : Mem) (Q : Outcome → Mem → Prop), Wp d 214 21 ls st M Q = Wp d 214 22 ls (.int (I 1) :: st) M Q := fun d ls st M Q => w_iconst (show ins 214 21 = some (.iconst 1, 1) by decide +kernel)
set_option maxRecDepth 100000 in
theorem r_214_22 : ∀ (d : Nat) (ls : Lc) (st : List Value) (M : Mem) (Q : Outcome → Mem → Prop), Wp d 214 22 ls st M Q = Wp d 214 26 ls st M Q := fun d ls st M Q => w_goto (show ins 214 22 = some (.goto 4, 3) by decide +kernel) rfl
set_option maxRecDepth 100000 in
theorem r_214_25 : ∀ (d : Nat) (ls : Lc) (st : List Value) (M : Mem) (Q : Outcome → Mem → Prop), Wp d 214 25 ls st M Q = Wp d 214 26 ls (.int (I 0) :: st) M Q := fun d ls st M Q => w_iconst (show ins 214 25 = some (.iconst 0, 1) by decide +kernel)
set_option maxRecDepth 100000 in
theorem r_214_26 : ∀ (d : Nat) (ls : Lc) (a b : Int) (st : List Value) (M : Mem) (Q : Outcome → Mem → Prop), Wp d 214 26 ls (.int (I b) :: .int (I a) :: st) M Q = Wp d 214 27 ls (.int (I (a + b)) :: st) M Q := fun d ls a b st M Q => w_iadd (show ins 214 26 = some (.iadd, 1) by decide +kernel)
set_option maxRecDepth 100000 in
theorem r_214_27 : ∀ (d : Nat) (l0 l1 l2 : Option Value) (v : Int32) (st : List Value) (M : Mem) (Q : Outcome → Mem → Prop), (lo l0 = false) → Wp d 214 27 [l0, l1, l2] (.int v :: st) M Q = Wp d 214 28 [l0, some (.int v), l2] st M Q := fun d l0 l1 l2 v st M Q hl => w_istore_n (show ins 214 27 = some (.istore_n 1, 1) by decide +kernel) (st1_S rfl rfl hl)
set_option maxRecDepth 100000 in
theorem r_214_28 : ∀ (d : Nat) (l0 l1 : Option Value) (z : Int) (st : List Value) (M : Mem) (Q : Outcome → Mem → Prop), (lo l1 = false) → Wp d 214 28 [l0, l1, some (.int (I z))] st M Q = Wp d 214 31 [l0, l1, some (.int (I (z + 1)))] st M Q := fun d l0 l1 z st M Q hl => w_iinc (show ins 214 28 = some (.iinc 2 1, 3) by decide +kernel) rfl (st1_S rfl rfl hl)
set_option maxRecDepth 100000 in
theorem r_214_31 : ∀ (d : Nat) (ls : Lc) (st : List Value) (M : Mem) (Q : Outcome → Mem → Prop), Wp d 214 31 ls st M Q = Wp d 214 4 ls st M Q := fun d ls st M Q => w_goto (show ins 214 31 = some (.goto (-27), 3) by decide +kernel) rfl
set_option maxRecDepth 100000 in
theorem r_214_34 : ∀ (d : Nat) (l0 l2 : Option Value) (v : Int32) (st : List Value) (M : Mem) (Q : Outcome → Mem → Prop), Wp d 214 34 [l0, some (.int v), l2] st M Q = Wp d 214 35 [l0, some (.int v), l2] (.int v :: st) M Q := fun d l0 l2 v st M Q => wA (show ins 214 34 = some (.iload_n 1, 1) by decide +kernel) rfl
set_option maxRecDepth 100000 in
theorem r_214_35 : ∀ (d : Nat) (ls : Lc) (v : Int32) (M : Mem) (Q : Outcome → Mem → Prop), Wp d 214 35 ls [.int v] M Q = Q (.returned (some (.int v))) M := fun d ls v M Q => w_ireturn (show ins 214 35 = some (.ireturn, 1) by decide +kernel) (by decide +kernel)
set_option maxRecDepth 100000 in
theorem w_214_4 : (type_of% r_214_4) := r_214_4
set_option maxRecDepth 100000 in
theorem W_214 : (type_of% r_214_0) ∧ (type_of% r_214_1) ∧ (type_of% r_214_2) ∧ (type_of% r_214_3) ∧ (type_of% r_214_5) ∧ (type_of% r_214_6) ∧ (type_of% r_214_9) ∧ (type_of% r_214_12) ∧ (type_of% r_214_13) ∧ (type_of% r_214_14) ∧ (type_of% r_214_15) ∧ (type_of% r_214_18) ∧ (type_of% r_214_21) ∧ (type_of% r_214_22) ∧ (type_of% r_214_25) ∧ (type_of% r_214_26) ∧ (type_of% r_214_27) ∧ (type_of% r_214_28) ∧ (type_of% r_214_31) ∧ (type_of% r_214_34) ∧ (type_of% r_214_35) := ⟨r_214_0, r_214_1, r_214_2, r_214_3, r_214_5, r_214_6, r_214_9, r_214_12, r_214_13, r_214_14, r_214_15, r_214_18, r_214_21, r_214_22, r_214_25, r_214_26, r_214_27, r_214_28, r_214_31, r_214_34, r_214_35⟩
set_option maxRecDepth 100000 in
theorem ca_214 {d y pc : Nat} {ls : Lc} {a : Nat} {r : List Value} {M : Mem} {Q : Outcome → Mem → Prop} (hd : 0 < d) (hw : Wp (d - 1) 214 0 [some (.ref a), none, none] [] M (Cq d y pc ls r Q)) : Ca d y pc ls 214 [.ref a] r M Q := ca_of (mq_get (by decide)) (by rfl) hd hw
/-! 215 PackedTreeModel.isChanged(I)Z; loop heads [] -/
set_option maxRecDepth 100000 in
theorem r_215_0 : ∀ (d : Nat) (l1 : Option Value) (v : Nat) (st : List Value) (M : Mem) (Q : Outcome → Mem → Prop), Wp d 215 0 [some (.ref v), l1] st M Q = Wp d 215 1 [some (.ref v), l1] (.ref v :: st) M Q := fun d l1 v st M Q => wA (show ins 215 0 = some (.aload_n 0, 1) by decide +kernel) rfl
set_option maxRecDepth 100000 in
theorem r_215_1 : ∀ (d : Nat) (ls : Lc) (a : Nat) (st : List Value) (M : Mem) (Q : Outcome → Mem → Prop), Wp d 215 1 ls (.ref a :: st) M Q = (fk 53 (kO M a) = true ∧ Wp d 215 4 ls (va_rf (mR M 53 a) :: st) M Q) := fun d ls a st M Q => w_getR (show ins 215 1 = some (.getfield 7, 3) by decide +kernel) (show fRes (mC 215) 7 = some (53, 8, false) by decide +kernel) (by decide +kernel)
set_option maxRecDepth 100000 in
theorem r_215_4 : ∀ (d : Nat) (ls : Lc) (st : List Value) (M : Mem) (Q : Outcome → Mem → Prop), Wp d 215 4 ls st M Q = Wp d 215 5 ls (.int (I 0) :: st) M Q := fun d ls st M Q => w_iconst (show ins 215 4 = some (.iconst 0, 1) by decide +kernel)
set_option maxRecDepth 100000 in
theorem r_215_5 : ∀ (d : Nat) (l0 : Option Value) (v : Int32) (st : List Value) (M : Mem) (Q : Outcome → Mem → Prop), Wp d 215 5 [l0, some (.int v)] st M Q = Wp d 215 6 [l0, some (.int v)] (.int v :: st) M Q := fun d l0 v st M Q => wA (show ins 215 5 = some (.iload_n 1, 1) by decide +kernel) rfl
set_option maxRecDepth 100000 in
theorem r_215_6 : ∀ (d : Nat) (ls : Lc) (a b : Int) (st : List Value) (M : Mem) (Q : Outcome → Mem → Prop), Wp d 215 6 ls (.int (I b) :: .int (I a) :: st) M Q = Wp d 215 7 ls (.int (I (a + b)) :: st) M Q := fun d ls a b st M Q => w_iadd (show ins 215 6 = some (.iadd, 1) by decide +kernel)
set_option maxRecDepth 100000 in
theorem r_215_7 : ∀ (d : Nat) (ls : Lc) (a : Nat) (j : Int32) (st : List Value) (M : Mem) (Q : Outcome → Mem → Prop), Wp d 215 7 ls (.int j :: .ref a :: st) M Q = ((((kX M a).1 = 0 ∨ (kX M a).1 = 8) ∧ inB j (kX M a).2 = true) ∧ Wp d 215 8 ls (.int (mA M a j.toNatClampNeg) :: st) M Q) := fun d ls a j st M Q => w_iaload (show ins 215 7 = some (.iaload, 1) by decide +kernel)
set_option maxRecDepth 100000 in
theorem r_215_8 : ∀ (d : Nat) (ls : Lc) (a : Int32) (st : List Value) (M : Mem) (Q : Outcome → Mem → Prop), Wp d 215 8 ls (.int a :: st) M Q = Br (¬ a = I 0) d 215 13 11 ls st M Q := fun d ls a st M Q => w_if (show ins 215 8 = some (.ifCond .ne 5, 3) by decide +kernel) rfl rfl
set_option maxRecDepth 100000 in
theorem r_215_11 : ∀ (d : Nat) (ls : Lc) (st : List Value) (M : Mem) (Q : Outcome → Mem → Prop), Wp d 215 11 ls st M Q = Wp d 215 12 ls (.int (I 0) :: st) M Q := fun d ls st M Q => w_iconst (show ins 215 11 = some (.iconst 0, 1) by decide +kernel)
set_option maxRecDepth 100000 in
theorem r_215_12 : ∀ (d : Nat) (ls : Lc) (z : Int) (M : Mem) (Q : Outcome → Mem → Prop), (z = 0 ∨ z = 1) → Wp d 215 12 ls [.int (I z)] M Q = Q (.returned (some (.int (I z)))) M := fun d ls z M Q h0 => w_zretI (show ins 215 12 = some (.ireturn, 1) by decide +kernel) (by decide +kernel) h0
set_option maxRecDepth 100000 in
theorem r_215_12_1 : ∀ (d : Nat) (ls : Lc) (b : Bool) (M : Mem) (Q : Outcome → Mem → Prop), Wp d 215 12 ls [.int (I (bI b))] M Q = Q (.returned (some (.int (I (bI b))))) M := fun d ls b M Q => w_zretB (show ins 215 12 = some (.ireturn, 1) by decide +kernel) (by decide +kernel)
set_option maxRecDepth 100000 in
theorem r_215_13 : ∀ (d : Nat) (l0 : Option Value) (v : Int32) (st : List Value) (M : Mem) (Q : Outcome → Mem → Prop), Wp d 215 13 [l0, some (.int v)] st M Q = Wp d 215 14 [l0, some (.int v)] (.int v :: st) M Q := fun d l0 v st M Q => wA (show ins 215 13 = some (.iload_n 1, 1) by decide +kernel) rfl
set_option maxRecDepth 100000 in
theorem r_215_14 : ∀ (d : Nat) (ls : Lc) (a : Int32) (st : List Value) (M : Mem) (Q : Outcome → Mem → Prop), Wp d 215 14 ls (.int a :: st) M Q = Br (¬ a = I 0) d 215 44 17 ls st M Q := fun d ls a st M Q => w_if (show ins 215 14 = some (.ifCond .ne 30, 3) by decide +kernel) rfl rfl
set_option maxRecDepth 100000 in
theorem r_215_17 : ∀ (d : Nat) (l1 : Option Value) (v : Nat) (st : List Value) (M : Mem) (Q : Outcome → Mem → Prop), Wp d 215 17 [some (.ref v), l1] st M Q = Wp d 215 18 [some (.ref v), l1] (.ref v :: st) M Q := fun d l1 v st M Q => wA (show ins 215 17 = some (.aload_n 0, 1) by decide +kernel) rfl
set_option maxRecDepth 100000 in
theorem r_215_18 : ∀ (d : Nat) (ls : Lc) (st : List Value) (M : Mem) (Q : Outcome → Mem → Prop), Wp d 215 18 ls st M Q = Wp d 215 19 ls (.int (I 0) :: st) M Q := fun d ls st M Q => w_iconst (show ins 215 18 = some (.iconst 0, 1) by decide +kernel)
set_option maxRecDepth 100000 in
theorem r_215_19 : ∀ (d : Nat) (ls : Lc) (st : List Value) (M : Mem) (Q : Outcome → Mem → Prop), Wp d 215 19 ls st M Q = Wp d 215 21 ls (.int (I 96) :: st) M Q := fun d ls st M Q => w_bipush (show ins 215 19 = some (.bipush 96, 2) by decide +kernel) (by decide)
set_option maxRecDepth 100000 in
theorem r_215_21 : ∀ (d : Nat) (ls : Lc) (v0 v1 : Value) (a : Nat) (st : List Value) (M : Mem) (Q : Outcome → Mem → Prop), (smallR st = true) → Wp d 215 21 ls (v1 :: v0 :: .ref a :: st) M Q = (kO M a = 8 ∧ Ca d 215 21 ls 216 (.ref a :: [v0, v1]) st M Q) := fun d ls v0 v1 a st M Q h0 => w_virt1 (as := [v0, v1]) (show ins 215 21 = some (.invokevirtual 198, 3) by decide +kernel) (show mRes (mC 215) 198 = some (3, 8, [(8, 216)]) by decide +kernel) (by decide +kernel) rfl (by decide +kernel) (by decide +kernel) h0
set_option maxRecDepth 100000 in
theorem r_215_24 : ∀ (d : Nat) (ls : Lc) (a : Int32) (st : List Value) (M : Mem) (Q : Outcome → Mem → Prop), Wp d 215 24 ls (.int a :: st) M Q = Br (a = I 0) d 215 38 27 ls st M Q := fun d ls a st M Q => w_if (show ins 215 24 = some (.ifCond .eq 14, 3) by decide +kernel) rfl rfl
set_option maxRecDepth 100000 in
theorem r_215_27 : ∀ (d : Nat) (l1 : Option Value) (v : Nat) (st : List Value) (M : Mem) (Q : Outcome → Mem → Prop), Wp d 215 27 [some (.ref v), l1] st M Q = Wp d 215 28 [some (.ref v), l1] (.ref v :: st) M Q := fun d l1 v st M Q => wA (show ins 215 27 = some (.aload_n 0, 1) by decide +kernel) rfl
set_option maxRecDepth 100000 in
theorem r_215_28 : ∀ (d : Nat) (ls : Lc) (st : List Value) (M : Mem) (Q : Outcome → Mem → Prop), Wp d 215 28 ls st M Q = Wp d 215 31 ls (.int (I 13076) :: st) M Q := fun d ls st M Q => w_sipush (show ins 215 28 = some (.sipush 13076, 3) by decide +kernel) (by decide)
set_option maxRecDepth 100000 in
theorem r_215_31 : ∀ (d : Nat) (ls : Lc) (st : List Value) (M : Mem) (Q : Outcome → Mem → Prop), Wp d 215 31 ls st M Q = Wp d 215 32 ls (.int (I 1) :: st) M Q := fun d ls st M Q => w_iconst (show ins 215 31 = some (.iconst 1, 1) by decide +kernel)
set_option maxRecDepth 100000 in
theorem r_215_32 : ∀ (d : Nat) (ls : Lc) (v0 v1 : Value) (a : Nat) (st : List Value) (M : Mem) (Q : Outcome → Mem → Prop), (smallR st = true) → Wp d 215 32 ls (v1 :: v0 :: .ref a :: st) M Q = (kO M a = 8 ∧ Ca d 215 32 ls 216 (.ref a :: [v0, v1]) st M Q) := fun d ls v0 v1 a st M Q h0 => w_virt1 (as := [v0, v1]) (show ins 215 32 = some (.invokevirtual 198, 3) by decide +kernel) (show mRes (mC 215) 198 = some (3, 8, [(8, 216)]) by decide +kernel) (by decide +kernel) rfl (by decide +kernel) (by decide +kernel) h0
set_option maxRecDepth 100000 in
theorem r_215_35 : ∀ (d : Nat) (ls : Lc) (a : Int32) (st : List Value) (M : Mem) (Q : Outcome → Mem → Prop), Wp d 215 35 ls (.int a :: st) M Q = Br (¬ a = I 0) d 215 42 38 ls st M Q := fun d ls a st M Q => w_if (show ins 215 35 = some (.ifCond .ne 7, 3) by decide +kernel) rfl rfl
set_option maxRecDepth 100000 in
theorem r_215_38 : ∀ (d : Nat) (ls : Lc) (st : List Value) (M : Mem) (Q : Outcome → Mem → Prop), Wp d 215 38 ls st M Q = Wp d 215 39 ls (.int (I 1) :: st) M Q := fun d ls st M Q => w_iconst (show ins 215 38 = some (.iconst 1, 1) by decide +kernel)
set_option maxRecDepth 100000 in
theorem r_215_39 : ∀ (d : Nat) (ls : Lc) (st : List Value) (M : Mem) (Q : Outcome → Mem → Prop), Wp d 215 39 ls st M Q = Wp d 215 43 ls st M Q := fun d ls st M Q => w_goto (show ins 215 39 = some (.goto 4, 3) by decide +kernel) rfl
set_option maxRecDepth 100000 in
theorem r_215_42 : ∀ (d : Nat) (ls : Lc) (st : List Value) (M : Mem) (Q : Outcome → Mem → Prop), Wp d 215 42 ls st M Q = Wp d 215 43 ls (.int (I 0) :: st) M Q := fun d ls st M Q => w_iconst (show ins 215 42 = some (.iconst 0, 1) by decide +kernel)
set_option maxRecDepth 100000 in
theorem r_215_43 : ∀ (d : Nat) (ls : Lc) (z : Int) (M : Mem) (Q : Outcome → Mem → Prop), (z = 0 ∨ z = 1) → Wp d 215 43 ls [.int (I z)] M Q = Q (.returned (some (.int (I z)))) M := fun d ls z M Q h0 => w_zretI (show ins 215 43 = some (.ireturn, 1) by decide +kernel) (by decide +kernel) h0
set_option maxRecDepth 100000 in
theorem r_215_43_1 : ∀ (d : Nat) (ls : Lc) (b : Bool) (M : Mem) (Q : Outcome → Mem → Prop), Wp d 215 43 ls [.int (I (bI b))] M Q = Q (.returned (some (.int (I (bI b))))) M := fun d ls b M Q => w_zretB (show ins 215 43 = some (.ireturn, 1) by decide +kernel) (by decide +kernel)
set_option maxRecDepth 100000 in
theorem r_215_44 : ∀ (d : Nat) (l1 : Option Value) (v : Nat) (st : List Value) (M : Mem) (Q : Outcome → Mem → Prop), Wp d 215 44 [some (.ref v), l1] st M Q = Wp d 215 45 [some (.ref v), l1] (.ref v :: st) M Q := fun d l1 v st M Q => wA (show ins 215 44 = some (.aload_n 0, 1) by decide +kernel) rfl
set_option maxRecDepth 100000 in
theorem r_215_45 : ∀ (d : Nat) (ls : Lc) (a : Nat) (st : List Value) (M : Mem) (Q : Outcome → Mem → Prop), Wp d 215 45 ls (.ref a :: st) M Q = (fk 45 (kO M a) = true ∧ Wp d 215 48 ls (va_rf (mR M 45 a) :: st) M Q) := fun d ls a st M Q => w_getR (show ins 215 45 = some (.getfield 16, 3) by decide +kernel) (show fRes (mC 215) 16 = some (45, 8, false) by decide +kernel) (by decide +kernel)
set_option maxRecDepth 100000 in
theorem r_215_48 : ∀ (d : Nat) (ls : Lc) (st : List Value) (M : Mem) (Q : Outcome → Mem → Prop), Wp d 215 48 ls st M Q = Wp d 215 49 ls (.int (I 0) :: st) M Q := fun d ls st M Q => w_iconst (show ins 215 48 = some (.iconst 0, 1) by decide +kernel)
set_option maxRecDepth 100000 in
theorem r_215_49 : ∀ (d : Nat) (l0 : Option Value) (v : Int32) (st : List Value) (M : Mem) (Q : Outcome → Mem → Prop), Wp d 215 49 [l0, some (.int v)] st M Q = Wp d 215 50 [l0, some (.int v)] (.int v :: st) M Q := fun d l0 v st M Q => wA (show ins 215 49 = some (.iload_n 1, 1) by decide +kernel) rfl
set_option maxRecDepth 100000 in
theorem r_215_50 : ∀ (d : Nat) (ls : Lc) (a b : Int) (st : List Value) (M : Mem) (Q : Outcome → Mem → Prop), Wp d 215 50 ls (.int (I b) :: .int (I a) :: st) M Q = Wp d 215 51 ls (.int (I (a + b)) :: st) M Q := fun d ls a b st M Q => w_iadd (show ins 215 50 = some (.iadd, 1) by decide +kernel)
set_option maxRecDepth 100000 in
theorem r_215_51 : ∀ (d : Nat) (ls : Lc) (a : Nat) (j : Int32) (st : List Value) (M : Mem) (Q : Outcome → Mem → Prop), Wp d 215 51 ls (.int j :: .ref a :: st) M Q = ((((kX M a).1 = 0 ∨ (kX M a).1 = 8) ∧ inB j (kX M a).2 = true) ∧ Wp d 215 52 ls (.int (mA M a j.toNatClampNeg) :: st) M Q) := fun d ls a j st M Q => w_iaload (show ins 215 51 = some (.iaload, 1) by decide +kernel)
set_option maxRecDepth 100000 in
theorem r_215_52 : ∀ (d : Nat) (ls : Lc) (a : Int32) (st : List Value) (M : Mem) (Q : Outcome → Mem → Prop), Wp d 215 52 ls (.int a :: st) M Q = Br (a = I 0) d 215 68 55 ls st M Q := fun d ls a st M Q => w_if (show ins 215 52 = some (.ifCond .eq 16, 3) by decide +kernel) rfl rfl
set_option maxRecDepth 100000 in
theorem r_215_55 : ∀ (d : Nat) (l1 : Option Value) (v : Nat) (st : List Value) (M : Mem) (Q : Outcome → Mem → Prop), Wp d 215 55 [some (.ref v), l1] st M Q = Wp d 215 56 [some (.ref v), l1] (.ref v :: st) M Q := fun d l1 v st M Q => wA (show ins 215 55 = some (.aload_n 0, 1) by decide +kernel) rfl
set_option maxRecDepth 100000 in
theorem r_215_56 : ∀ (d : Nat) (ls : Lc) (st : List Value) (M : Mem) (Q : Outcome → Mem → Prop), Wp d 215 56 ls st M Q = Wp d 215 59 ls (.int (I 3756) :: st) M Q := fun d ls st M Q => w_sipush (show ins 215 56 = some (.sipush 3756, 3) by decide +kernel) (by decide)
set_option maxRecDepth 100000 in
theorem r_215_59 : ∀ (d : Nat) (l0 : Option Value) (v : Int32) (st : List Value) (M : Mem) (Q : Outcome → Mem → Prop), Wp d 215 59 [l0, some (.int v)] st M Q = Wp d 215 60 [l0, some (.int v)] (.int v :: st) M Q := fun d l0 v st M Q => wA (show ins 215 59 = some (.iload_n 1, 1) by decide +kernel) rfl
set_option maxRecDepth 100000 in
theorem r_215_60 : ∀ (d : Nat) (ls : Lc) (a b : Int) (st : List Value) (M : Mem) (Q : Outcome → Mem → Prop), Wp d 215 60 ls (.int (I b) :: .int (I a) :: st) M Q = Wp d 215 61 ls (.int (I (a + b)) :: st) M Q := fun d ls a b st M Q => w_iadd (show ins 215 60 = some (.iadd, 1) by decide +kernel)
set_option maxRecDepth 100000 in
theorem r_215_61 : ∀ (d : Nat) (ls : Lc) (st : List Value) (M : Mem) (Q : Outcome → Mem → Prop), Wp d 215 61 ls st M Q = Wp d 215 62 ls (.int (I 1) :: st) M Q := fun d ls st M Q => w_iconst (show ins 215 61 = some (.iconst 1, 1) by decide +kernel)
set_option maxRecDepth 100000 in
theorem r_215_62 : ∀ (d : Nat) (ls : Lc) (v0 v1 : Value) (a : Nat) (st : List Value) (M : Mem) (Q : Outcome → Mem → Prop), (smallR st = true) → Wp d 215 62 ls (v1 :: v0 :: .ref a :: st) M Q = (kO M a = 8 ∧ Ca d 215 62 ls 216 (.ref a :: [v0, v1]) st M Q) := fun d ls v0 v1 a st M Q h0 => w_virt1 (as := [v0, v1]) (show ins 215 62 = some (.invokevirtual 198, 3) by decide +kernel) (show mRes (mC 215) 198 = some (3, 8, [(8, 216)]) by decide +kernel) (by decide +kernel) rfl (by decide +kernel) (by decide +kernel) h0
set_option maxRecDepth 100000 in
theorem r_215_65 : ∀ (d : Nat) (ls : Lc) (a : Int32) (st : List Value) (M : Mem) (Q : Outcome → Mem → Prop), Wp d 215 65 ls (.int a :: st) M Q = Br (¬ a = I 0) d 215 70 68 ls st M Q := fun d ls a st M Q => w_if (show ins 215 65 = some (.ifCond .ne 5, 3) by decide +kernel) rfl rfl
set_option maxRecDepth 100000 in
theorem r_215_68 : ∀ (d : Nat) (ls : Lc) (st : List Value) (M : Mem) (Q : Outcome → Mem → Prop), Wp d 215 68 ls st M Q = Wp d 215 69 ls (.int (I 1) :: st) M Q := fun d ls st M Q => w_iconst (show ins 215 68 = some (.iconst 1, 1) by decide +kernel)
set_option maxRecDepth 100000 in
theorem r_215_69 : ∀ (d : Nat) (ls : Lc) (z : Int) (M : Mem) (Q : Outcome → Mem → Prop), (z = 0 ∨ z = 1) → Wp d 215 69 ls [.int (I z)] M Q = Q (.returned (some (.int (I z)))) M := fun d ls z M Q h0 => w_zretI (show ins 215 69 = some (.ireturn, 1) by decide +kernel) (by decide +kernel) h0
set_option maxRecDepth 100000 in
theorem r_215_69_1 : ∀ (d : Nat) (ls : Lc) (b : Bool) (M : Mem) (Q : Outcome → Mem → Prop), Wp d 215 69 ls [.int (I (bI b))] M Q = Q (.returned (some (.int (I (bI b))))) M := fun d ls b M Q => w_zretB (show ins 215 69 = some (.ireturn, 1) by decide +kernel) (by decide +kernel)
set_option maxRecDepth 100000 in
theorem r_215_70 : ∀ (d : Nat) (l1 : Option Value) (v : Nat) (st : List Value) (M : Mem) (Q : Outcome → Mem → Prop), Wp d 215 70 [some (.ref v), l1] st M Q = Wp d 215 71 [some (.ref v), l1] (.ref v :: st) M Q := fun d l1 v st M Q => wA (show ins 215 70 = some (.aload_n 0, 1) by decide +kernel) rfl
set_option maxRecDepth 100000 in
theorem r_215_71 : ∀ (d : Nat) (ls : Lc) (a : Nat) (st : List Value) (M : Mem) (Q : Outcome → Mem → Prop), Wp d 215 71 ls (.ref a :: st) M Q = (fk 53 (kO M a) = true ∧ Wp d 215 74 ls (va_rf (mR M 53 a) :: st) M Q) := fun d ls a st M Q => w_getR (show ins 215 71 = some (.getfield 7, 3) by decide +kernel) (show fRes (mC 215) 7 = some (53, 8, false) by decide +kernel) (by decide +kernel)
set_option maxRecDepth 100000 in
theorem r_215_74 : ∀ (d : Nat) (ls : Lc) (st : List Value) (M : Mem) (Q : Outcome → Mem → Prop), Wp d 215 74 ls st M Q = Wp d 215 77 ls (.int (I 3756) :: st) M Q := fun d ls st M Q => w_sipush (show ins 215 74 = some (.sipush 3756, 3) by decide +kernel) (by decide)
set_option maxRecDepth 100000 in
theorem r_215_77 : ∀ (d : Nat) (l0 : Option Value) (v : Int32) (st : List Value) (M : Mem) (Q : Outcome → Mem → Prop), Wp d 215 77 [l0, some (.int v)] st M Q = Wp d 215 78 [l0, some (.int v)] (.int v :: st) M Q := fun d l0 v st M Q => wA (show ins 215 77 = some (.iload_n 1, 1) by decide +kernel) rfl
set_option maxRecDepth 100000 in
theorem r_215_78 : ∀ (d : Nat) (ls : Lc) (a b : Int) (st : List Value) (M : Mem) (Q : Outcome → Mem → Prop), Wp d 215 78 ls (.int (I b) :: .int (I a) :: st) M Q = Wp d 215 79 ls (.int (I (a + b)) :: st) M Q := fun d ls a b st M Q => w_iadd (show ins 215 78 = some (.iadd, 1) by decide +kernel)
set_option maxRecDepth 100000 in
theorem r_215_79 : ∀ (d : Nat) (ls : Lc) (a : Nat) (j : Int32) (st : List Value) (M : Mem) (Q : Outcome → Mem → Prop), Wp d 215 79 ls (.int j :: .ref a :: st) M Q = ((((kX M a).1 = 0 ∨ (kX M a).1 = 8) ∧ inB j (kX M a).2 = true) ∧ Wp d 215 80 ls (.int (mA M a j.toNatClampNeg) :: st) M Q) := fun d ls a j st M Q => w_iaload (show ins 215 79 = some (.iaload, 1) by decide +kernel)
set_option maxRecDepth 100000 in
theorem r_215_80 : ∀ (d : Nat) (ls : Lc) (a : Int32) (st : List Value) (M : Mem) (Q : Outcome → Mem → Prop), Wp d 215 80 ls (.int a :: st) M Q = Br (¬ a = I 0) d 215 108 83 ls st M Q := fun d ls a st M Q => w_if (show ins 215 80 = some (.ifCond .ne 28, 3) by decide +kernel) rfl rfl
set_option maxRecDepth 100000 in
theorem r_215_83 : ∀ (d : Nat) (l1 : Option Value) (v : Nat) (st : List Value) (M : Mem) (Q : Outcome → Mem → Prop), Wp d 215 83 [some (.ref v), l1] st M Q = Wp d 215 84 [some (.ref v), l1] (.ref v :: st) M Q := fun d l1 v st M Q => wA (show ins 215 83 = some (.aload_n 0, 1) by decide +kernel) rfl
set_option maxRecDepth 100000 in
theorem r_215_84 : ∀ (d : Nat) (ls : Lc) (st : List Value) (M : Mem) (Q : Outcome → Mem → Prop), Wp d 215 84 ls st M Q = Wp d 215 87 ls (.int (I 13078) :: st) M Q := fun d ls st M Q => w_sipush (show ins 215 84 = some (.sipush 13078, 3) by decide +kernel) (by decide)
set_option maxRecDepth 100000 in
theorem r_215_87 : ∀ (d : Nat) (ls : Lc) (st : List Value) (M : Mem) (Q : Outcome → Mem → Prop), Wp d 215 87 ls st M Q = Wp d 215 90 ls (.int (I 128) :: st) M Q := fun d ls st M Q => w_sipush (show ins 215 87 = some (.sipush 128, 3) by decide +kernel) (by decide)
set_option maxRecDepth 100000 in
theorem r_215_90 : ∀ (d : Nat) (l0 : Option Value) (v : Int32) (st : List Value) (M : Mem) (Q : Outcome → Mem → Prop), Wp d 215 90 [l0, some (.int v)] st M Q = Wp d 215 91 [l0, some (.int v)] (.int v :: st) M Q := fun d l0 v st M Q => wA (show ins 215 90 = some (.iload_n 1, 1) by decide +kernel) rfl
set_option maxRecDepth 100000 in
theorem r_215_91 : ∀ (d : Nat) (ls : Lc) (a b : Int) (st : List Value) (M : Mem) (Q : Outcome → Mem → Prop), Wp d 215 91 ls (.int (I b) :: .int (I a) :: st) M Q = Wp d 215 92 ls (.int (I (a * b)) :: st) M Q := fun d ls a b st M Q => w_imul (show ins 215 91 = some (.imul, 1) by decide +kernel)
set_option maxRecDepth 100000 in
theorem r_215_92 : ∀ (d : Nat) (ls : Lc) (a b : Int) (st : List Value) (M : Mem) (Q : Outcome → Mem → Prop), Wp d 215 92 ls (.int (I b) :: .int (I a) :: st) M Q = Wp d 215 93 ls (.int (I (a + b)) :: st) M Q := fun d ls a b st M Q => w_iadd (show ins 215 92 = some (.iadd, 1) by decide +kernel)
set_option maxRecDepth 100000 in
theorem r_215_93 : ∀ (d : Nat) (ls : Lc) (st : List Value) (M : Mem) (Q : Outcome → Mem → Prop), Wp d 215 93 ls st M Q = Wp d 215 96 ls (.int (I 128) :: st) M Q := fun d ls st M Q => w_sipush (show ins 215 93 = some (.sipush 128, 3) by decide +kernel) (by decide)
set_option maxRecDepth 100000 in
theorem r_215_96 : ∀ (d : Nat) (ls : Lc) (v0 v1 : Value) (a : Nat) (st : List Value) (M : Mem) (Q : Outcome → Mem → Prop), (smallR st = true) → Wp d 215 96 ls (v1 :: v0 :: .ref a :: st) M Q = (kO M a = 8 ∧ Ca d 215 96 ls 216 (.ref a :: [v0, v1]) st M Q) := fun d ls v0 v1 a st M Q h0 => w_virt1 (as := [v0, v1]) (show ins 215 96 = some (.invokevirtual 198, 3) by decide +kernel) (show mRes (mC 215) 198 = some (3, 8, [(8, 216)]) by decide +kernel) (by decide +kernel) rfl (by decide +kernel) (by decide +kernel) h0
set_option maxRecDepth 100000 in
theorem r_215_99 : ∀ (d : Nat) (ls : Lc) (a : Int32) (st : List Value) (M : Mem) (Q : Outcome → Mem → Prop), Wp d 215 99 ls (.int a :: st) M Q = Br (¬ a = I 0) d 215 106 102 ls st M Q := fun d ls a st M Q => w_if (show ins 215 99 = some (.ifCond .ne 7, 3) by decide +kernel) rfl rfl
set_option maxRecDepth 100000 in
theorem r_215_102 : ∀ (d : Nat) (ls : Lc) (st : List Value) (M : Mem) (Q : Outcome → Mem → Prop), Wp d 215 102 ls st M Q = Wp d 215 103 ls (.int (I 1) :: st) M Q := fun d ls st M Q => w_iconst (show ins 215 102 = some (.iconst 1, 1) by decide +kernel)
set_option maxRecDepth 100000 in
theorem r_215_103 : ∀ (d : Nat) (ls : Lc) (st : List Value) (M : Mem) (Q : Outcome → Mem → Prop), Wp d 215 103 ls st M Q = Wp d 215 107 ls st M Q := fun d ls st M Q => w_goto (show ins 215 103 = some (.goto 4, 3) by decide +kernel) rfl
set_option maxRecDepth 100000 in
theorem r_215_106 : ∀ (d : Nat) (ls : Lc) (st : List Value) (M : Mem) (Q : Outcome → Mem → Prop), Wp d 215 106 ls st M Q = Wp d 215 107 ls (.int (I 0) :: st) M Q := fun d ls st M Q => w_iconst (show ins 215 106 = some (.iconst 0, 1) by decide +kernel)
set_option maxRecDepth 100000 in
theorem r_215_107 : ∀ (d : Nat) (ls : Lc) (z : Int) (M : Mem) (Q : Outcome → Mem → Prop), (z = 0 ∨ z = 1) → Wp d 215 107 ls [.int (I z)] M Q = Q (.returned (some (.int (I z)))) M := fun d ls z M Q h0 => w_zretI (show ins 215 107 = some (.ireturn, 1) by decide +kernel) (by decide +kernel) h0
set_option maxRecDepth 100000 in
theorem r_215_107_1 : ∀ (d : Nat) (ls : Lc) (b : Bool) (M : Mem) (Q : Outcome → Mem → Prop), Wp d 215 107 ls [.int (I (bI b))] M Q = Q (.returned (some (.int (I (bI b))))) M := fun d ls b M Q => w_zretB (show ins 215 107 = some (.ireturn, 1) by decide +kernel) (by decide +kernel)
set_option maxRecDepth 100000 in
theorem r_215_108 : ∀ (d : Nat) (l1 : Option Value) (v : Nat) (st : List Value) (M : Mem) (Q : Outcome → Mem → Prop), Wp d 215 108 [some (.ref v), l1] st M Q = Wp d 215 109 [some (.ref v), l1] (.ref v :: st) M Q := fun d l1 v st M Q => wA (show ins 215 108 = some (.aload_n 0, 1) by decide +kernel) rfl
set_option maxRecDepth 100000 in
theorem r_215_109 : ∀ (d : Nat) (ls : Lc) (st : List Value) (M : Mem) (Q : Outcome → Mem → Prop), Wp d 215 109 ls st M Q = Wp d 215 112 ls (.int (I 3852) :: st) M Q := fun d ls st M Q => w_sipush (show ins 215 109 = some (.sipush 3852, 3) by decide +kernel) (by decide)
set_option maxRecDepth 100000 in
theorem r_215_112 : ∀ (d : Nat) (l0 : Option Value) (v : Int32) (st : List Value) (M : Mem) (Q : Outcome → Mem → Prop), Wp d 215 112 [l0, some (.int v)] st M Q = Wp d 215 113 [l0, some (.int v)] (.int v :: st) M Q := fun d l0 v st M Q => wA (show ins 215 112 = some (.iload_n 1, 1) by decide +kernel) rfl
set_option maxRecDepth 100000 in
theorem r_215_113 : ∀ (d : Nat) (ls : Lc) (a b : Int) (st : List Value) (M : Mem) (Q : Outcome → Mem → Prop), Wp d 215 113 ls (.int (I b) :: .int (I a) :: st) M Q = Wp d 215 114 ls (.int (I (a + b)) :: st) M Q := fun d ls a b st M Q => w_iadd (show ins 215 113 = some (.iadd, 1) by decide +kernel)
set_option maxRecDepth 100000 in
theorem r_215_114 : ∀ (d : Nat) (ls : Lc) (st : List Value) (M : Mem) (Q : Outcome → Mem → Prop), Wp d 215 114 ls st M Q = Wp d 215 115 ls (.int (I 1) :: st) M Q := fun d ls st M Q => w_iconst (show ins 215 114 = some (.iconst 1, 1) by decide +kernel)
set_option maxRecDepth 100000 in
theorem r_215_115 : ∀ (d : Nat) (ls : Lc) (v0 v1 : Value) (a : Nat) (st : List Value) (M : Mem) (Q : Outcome → Mem → Prop), (smallR st = true) → Wp d 215 115 ls (v1 :: v0 :: .ref a :: st) M Q = (kO M a = 8 ∧ Ca d 215 115 ls 216 (.ref a :: [v0, v1]) st M Q) := fun d ls v0 v1 a st M Q h0 => w_virt1 (as := [v0, v1]) (show ins 215 115 = some (.invokevirtual 198, 3) by decide +kernel) (show mRes (mC 215) 198 = some (3, 8, [(8, 216)]) by decide +kernel) (by decide +kernel) rfl (by decide +kernel) (by decide +kernel) h0
set_option maxRecDepth 100000 in
theorem r_215_118 : ∀ (d : Nat) (ls : Lc) (a : Int32) (st : List Value) (M : Mem) (Q : Outcome → Mem → Prop), Wp d 215 118 ls (.int a :: st) M Q = Br (a = I 0) d 215 154 121 ls st M Q := fun d ls a st M Q => w_if (show ins 215 118 = some (.ifCond .eq 36, 3) by decide +kernel) rfl rfl
set_option maxRecDepth 100000 in
theorem r_215_121 : ∀ (d : Nat) (l1 : Option Value) (v : Nat) (st : List Value) (M : Mem) (Q : Outcome → Mem → Prop), Wp d 215 121 [some (.ref v), l1] st M Q = Wp d 215 122 [some (.ref v), l1] (.ref v :: st) M Q := fun d l1 v st M Q => wA (show ins 215 121 = some (.aload_n 0, 1) by decide +kernel) rfl
set_option maxRecDepth 100000 in
theorem r_215_122 : ∀ (d : Nat) (ls : Lc) (a : Nat) (st : List Value) (M : Mem) (Q : Outcome → Mem → Prop), Wp d 215 122 ls (.ref a :: st) M Q = (fk 53 (kO M a) = true ∧ Wp d 215 125 ls (va_rf (mR M 53 a) :: st) M Q) := fun d ls a st M Q => w_getR (show ins 215 122 = some (.getfield 7, 3) by decide +kernel) (show fRes (mC 215) 7 = some (53, 8, false) by decide +kernel) (by decide +kernel)
set_option maxRecDepth 100000 in
theorem r_215_125 : ∀ (d : Nat) (ls : Lc) (st : List Value) (M : Mem) (Q : Outcome → Mem → Prop), Wp d 215 125 ls st M Q = Wp d 215 128 ls (.int (I 3756) :: st) M Q := fun d ls st M Q => w_sipush (show ins 215 125 = some (.sipush 3756, 3) by decide +kernel) (by decide)
set_option maxRecDepth 100000 in
theorem r_215_128 : ∀ (d : Nat) (l0 : Option Value) (v : Int32) (st : List Value) (M : Mem) (Q : Outcome → Mem → Prop), Wp d 215 128 [l0, some (.int v)] st M Q = Wp d 215 129 [l0, some (.int v)] (.int v :: st) M Q := fun d l0 v st M Q => wA (show ins 215 128 = some (.iload_n 1, 1) by decide +kernel) rfl
set_option maxRecDepth 100000 in
theorem r_215_129 : ∀ (d : Nat) (ls : Lc) (a b : Int) (st : List Value) (M : Mem) (Q : Outcome → Mem → Prop), Wp d 215 129 ls (.int (I b) :: .int (I a) :: st) M Q = Wp d 215 130 ls (.int (I (a + b)) :: st) M Q := fun d ls a b st M Q => w_iadd (show ins 215 129 = some (.iadd, 1) by decide +kernel)
set_option maxRecDepth 100000 in
theorem r_215_130 : ∀ (d : Nat) (ls : Lc) (a : Nat) (j : Int32) (st : List Value) (M : Mem) (Q : Outcome → Mem → Prop), Wp d 215 130 ls (.int j :: .ref a :: st) M Q = ((((kX M a).1 = 0 ∨ (kX M a).1 = 8) ∧ inB j (kX M a).2 = true) ∧ Wp d 215 131 ls (.int (mA M a j.toNatClampNeg) :: st) M Q) := fun d ls a j st M Q => w_iaload (show ins 215 130 = some (.iaload, 1) by decide +kernel)
set_option maxRecDepth 100000 in
theorem r_215_131 : ∀ (d : Nat) (ls : Lc) (st : List Value) (M : Mem) (Q : Outcome → Mem → Prop), Wp d 215 131 ls st M Q = Wp d 215 132 ls (.int (I 1) :: st) M Q := fun d ls st M Q => w_iconst (show ins 215 131 = some (.iconst 1, 1) by decide +kernel)
set_option maxRecDepth 100000 in
theorem r_215_132 : ∀ (d : Nat) (ls : Lc) (a b : Int32) (st : List Value) (M : Mem) (Q : Outcome → Mem → Prop), Wp d 215 132 ls (.int b :: .int a :: st) M Q = Br (¬ a = b) d 215 146 135 ls st M Q := fun d ls a b st M Q => w_icmp (show ins 215 132 = some (.if_icmp .ne 14, 3) by decide +kernel) rfl rfl
set_option maxRecDepth 100000 in
theorem r_215_135 : ∀ (d : Nat) (l1 : Option Value) (v : Nat) (st : List Value) (M : Mem) (Q : Outcome → Mem → Prop), Wp d 215 135 [some (.ref v), l1] st M Q = Wp d 215 136 [some (.ref v), l1] (.ref v :: st) M Q := fun d l1 v st M Q => wA (show ins 215 135 = some (.aload_n 0, 1) by decide +kernel) rfl
set_option maxRecDepth 100000 in
theorem r_215_136 : ∀ (d : Nat) (l0 : Option Value) (v : Int32) (st : List Value) (M : Mem) (Q : Outcome → Mem → Prop), Wp d 215 136 [l0, some (.int v)] st M Q = Wp d 215 137 [l0, some (.int v)] (.int v :: st) M Q := fun d l0 v st M Q => wA (show ins 215 136 = some (.iload_n 1, 1) by decide +kernel) rfl
set_option maxRecDepth 100000 in
theorem r_215_137 : ∀ (d : Nat) (ls : Lc) (v0 : Value) (a : Nat) (st : List Value) (M : Mem) (Q : Outcome → Mem → Prop), (smallR st = true) → Wp d 215 137 ls (v0 :: .ref a :: st) M Q = (kO M a = 8 ∧ Ca d 215 137 ls 217 (.ref a :: [v0]) st M Q) := fun d ls v0 a st M Q h0 => w_virt1 (as := [v0]) (show ins 215 137 = some (.invokevirtual 208, 3) by decide +kernel) (show mRes (mC 215) 208 = some (3, 8, [(8, 217)]) by decide +kernel) (by decide +kernel) rfl (by decide +kernel) (by decide +kernel) h0
set_option maxRecDepth 100000 in
theorem r_215_140 : ∀ (d : Nat) (ls : Lc) (a : Int32) (st : List Value) (M : Mem) (Q : Outcome → Mem → Prop), Wp d 215 140 ls (.int a :: st) M Q = Br (a = I 0) d 215 154 143 ls st M Q := fun d ls a st M Q => w_if (show ins 215 140 = some (.ifCond .eq 14, 3) by decide +kernel) rfl rfl
set_option maxRecDepth 100000 in
theorem r_215_143 : ∀ (d : Nat) (ls : Lc) (st : List Value) (M : Mem) (Q : Outcome → Mem → Prop), Wp d 215 143 ls st M Q = Wp d 215 158 ls st M Q := fun d ls st M Q => w_goto (show ins 215 143 = some (.goto 15, 3) by decide +kernel) rfl
set_option maxRecDepth 100000 in
theorem r_215_146 : ∀ (d : Nat) (l1 : Option Value) (v : Nat) (st : List Value) (M : Mem) (Q : Outcome → Mem → Prop), Wp d 215 146 [some (.ref v), l1] st M Q = Wp d 215 147 [some (.ref v), l1] (.ref v :: st) M Q := fun d l1 v st M Q => wA (show ins 215 146 = some (.aload_n 0, 1) by decide +kernel) rfl
set_option maxRecDepth 100000 in
theorem r_215_147 : ∀ (d : Nat) (l0 : Option Value) (v : Int32) (st : List Value) (M : Mem) (Q : Outcome → Mem → Prop), Wp d 215 147 [l0, some (.int v)] st M Q = Wp d 215 148 [l0, some (.int v)] (.int v :: st) M Q := fun d l0 v st M Q => wA (show ins 215 147 = some (.iload_n 1, 1) by decide +kernel) rfl
set_option maxRecDepth 100000 in
theorem r_215_148 : ∀ (d : Nat) (ls : Lc) (v0 : Value) (a : Nat) (st : List Value) (M : Mem) (Q : Outcome → Mem → Prop), (smallR st = true) → Wp d 215 148 ls (v0 :: .ref a :: st) M Q = (kO M a = 8 ∧ Ca d 215 148 ls 219 (.ref a :: [v0]) st M Q) := fun d ls v0 a st M Q h0 => w_virt1 (as := [v0]) (show ins 215 148 = some (.invokevirtual 211, 3) by decide +kernel) (show mRes (mC 215) 211 = some (3, 8, [(8, 219)]) by decide +kernel) (by decide +kernel) rfl (by decide +kernel) (by decide +kernel) h0
set_option maxRecDepth 100000 in
theorem r_215_151 : ∀ (d : Nat) (ls : Lc) (a : Int32) (st : List Value) (M : Mem) (Q : Outcome → Mem → Prop), Wp d 215 151 ls (.int a :: st) M Q = Br (¬ a = I 0) d 215 158 154 ls st M Q := fun d ls a st M Q => w_if (show ins 215 151 = some (.ifCond .ne 7, 3) by decide +kernel) rfl rfl
set_option maxRecDepth 100000 in
theorem r_215_154 : ∀ (d : Nat) (ls : Lc) (st : List Value) (M : Mem) (Q : Outcome → Mem → Prop), Wp d 215 154 ls st M Q = Wp d 215 155 ls (.int (I 1) :: st) M Q := fun d ls st M Q => w_iconst (show ins 215 154 = some (.iconst 1, 1) by decide +kernel)
set_option maxRecDepth 100000 in
theorem r_215_155 : ∀ (d : Nat) (ls : Lc) (st : List Value) (M : Mem) (Q : Outcome → Mem → Prop), Wp d 215 155 ls st M Q = Wp d 215 159 ls st M Q := fun d ls st M Q => w_goto (show ins 215 155 = some (.goto 4, 3) by decide +kernel) rfl
set_option maxRecDepth 100000 in
theorem r_215_158 : ∀ (d : Nat) (ls : Lc) (st : List Value) (M : Mem) (Q : Outcome → Mem → Prop), Wp d 215 158 ls st M Q = Wp d 215 159 ls (.int (I 0) :: st) M Q := fun d ls st M Q => w_iconst (show ins 215 158 = some (.iconst 0, 1) by decide +kernel)
set_option maxRecDepth 100000 in
theorem r_215_159 : ∀ (d : Nat) (ls : Lc) (z : Int) (M : Mem) (Q : Outcome → Mem → Prop), (z = 0 ∨ z = 1) → Wp d 215 159 ls [.int (I z)] M Q = Q (.returned (some (.int (I z)))) M := fun d ls z M Q h0 => w_zretI (show ins 215 159 = some (.ireturn, 1) by decide +kernel) (by decide +kernel) h0
set_option maxRecDepth 100000 in
theorem r_215_159_1 : ∀ (d : Nat) (ls : Lc) (b : Bool) (M : Mem) (Q : Outcome → Mem → Prop), Wp d 215 159 ls [.int (I (bI b))] M Q = Q (.returned (some (.int (I (bI b))))) M := fun d ls b M Q => w_zretB (show ins 215 159 = some (.ireturn, 1) by decide +kernel) (by decide +kernel)
set_option maxRecDepth 100000 in
theorem W_215 : (type_of% r_215_0) ∧ (type_of% r_215_1) ∧ (type_of% r_215_4) ∧ (type_of% r_215_5) ∧ (type_of% r_215_6) ∧ (type_of% r_215_7) ∧ (type_of% r_215_8) ∧ (type_of% r_215_11) ∧ (type_of% r_215_12) ∧ (type_of% r_215_12_1) ∧ (type_of% r_215_13) ∧ (type_of% r_215_14) ∧ (type_of% r_215_17) ∧ (type_of% r_215_18) ∧ (type_of% r_215_19) ∧ (type_of% r_215_21) ∧ (type_of% r_215_24) ∧ (type_of% r_215_27) ∧ (type_of% r_215_28) ∧ (type_of% r_215_31) ∧ (type_of% r_215_32) ∧ (type_of% r_215_35) ∧ (type_of% r_215_38) ∧ (type_of% r_215_39) ∧ (type_of% r_215_42) ∧ (type_of% r_215_43) ∧ (type_of% r_215_43_1) ∧ (type_of% r_215_44) ∧ (type_of% r_215_45) ∧ (type_of% r_215_48) ∧ (type_of% r_215_49) ∧ (type_of% r_215_50) ∧ (type_of% r_215_51) ∧ (type_of% r_215_52) ∧ (type_of% r_215_55) ∧ (type_of% r_215_56) ∧ (type_of% r_215_59) ∧ (type_of% r_215_60) ∧ (type_of% r_215_61) ∧ (type_of% r_215_62) ∧ (type_of% r_215_65) ∧ (type_of% r_215_68) ∧ (type_of% r_215_69) ∧ (type_of% r_215_69_1) ∧ (type_of% r_215_70) ∧ (type_of% r_215_71) ∧ (type_of% r_215_74) ∧ (type_of% r_215_77) ∧ (type_of% r_215_78) ∧ (type_of% r_215_79) ∧ (type_of% r_215_80) ∧ (type_of% r_215_83) ∧ (type_of% r_215_84) ∧ (type_of% r_215_87) ∧ (type_of% r_215_90) ∧ (type_of% r_215_91) ∧ (type_of% r_215_92) ∧ (type_of% r_215_93) ∧ (type_of% r_215_96) ∧ (type_of% r_215_99) ∧ (type_of% r_215_102) ∧ (type_of% r_215_103) ∧ (type_of% r_215_106) ∧ (type_of% r_215_107) ∧ (type_of% r_215_107_1) ∧ (type_of% r_215_108) ∧ (type_of% r_215_109) ∧ (type_of% r_215_112) ∧ (type_of% r_215_113) ∧ (type_of% r_215_114) ∧ (type_of% r_215_115) ∧ (type_of% r_215_118) ∧ (type_of% r_215_121) ∧ (type_of% r_215_122) ∧ (type_of% r_215_125) ∧ (type_of% r_215_128) ∧ (type_of% r_215_129) ∧ (type_of% r_215_130) ∧ (type_of% r_215_131) ∧ (type_of% r_215_132) ∧ (type_of% r_215_135) ∧ (type_of% r_215_136) ∧ (type_of% r_215_137) ∧ (type_of% r_215_140) ∧ (type_of% r_215_143) ∧ (type_of% r_215_146) ∧ (type_of% r_215_147) ∧ (type_of% r_215_148) ∧ (type_of% r_215_151) ∧ (type_of% r_215_154) ∧ (type_of% r_215_155) ∧ (type_of% r_215_158) ∧ (type_of% r_215_159) ∧ (type_of% r_215_159_1) := ⟨r_215_0, r_215_1, r_215_4, r_215_5, r_215_6, r_215_7, r_215_8, r_215_11, r_215_12, r_215_12_1, r_215_13, r_215_14, r_215_17, r_215_18, r_215_19, r_215_21, r_215_24, r_215_27, r_215_28, r_215_31, r_215_32, r_215_35, r_215_38, r_215_39, r_215_42, r_215_43, r_215_43_1, r_215_44, r_215_45, r_215_48, r_215_49, r_215_50, r_215_51, r_215_52, r_215_55, r_215_56, r_215_59, r_215_60, r_215_61, r_215_62, r_215_65, r_215_68, r_215_69, r_215_69_1, r_215_70, r_215_71, r_215_74, r_215_77, r_215_78, r_215_79, r_215_80, r_215_83, r_215_84, r_215_87, r_215_90, r_215_91, r_215_92, r_215_93, r_215_96, r_215_99, r_215_102, r_215_103, r_215_106, r_215_107, r_215_107_1, r_215_108, r_215_109, r_215_112, r_215_113, r_215_114, r_215_115, r_215_118, r_215_121, r_215_122, r_215_125, r_215_128, r_215_129, r_215_130, r_215_131, r_215_132, r_215_135, r_215_136, r_215_137, r_215_140, r_215_143, r_215_146, r_215_147, r_215_148, r_215_151, r_215_154, r_215_155, r_215_158, r_215_159, r_215_159_1⟩
set_option maxRecDepth 100000 in
theorem ca_215 {d y pc : Nat} {ls : Lc} {a : Nat} {z0 : Int32} {r : List Value} {M : Mem} {Q : Outcome → Mem → Prop} (hd : 0 < d) (hw : Wp (d - 1) 215 0 [some (.ref a), some (.int z0)] [] M (Cq d y pc ls r Q)) : Ca d y pc ls 215 [.ref a, .int z0] r M Q := ca_of (mq_get (by decide)) (by rfl) hd hw
/-! 216 PackedTreeModel.isAlike(II)Z; loop heads [5] -/
set_option maxRecDepth 100000 in
theorem r_216_0 : ∀ (d : Nat) (ls : Lc) (st : List Value) (M : Mem) (Q : Outcome → Mem → Prop), Wp d 216 0 ls st M Q = Wp d 216 1 ls (.int (I 1) :: st) M Q := fun d ls st M Q => w_iconst (show ins 216 0 = some (.iconst 1, 1) by decide +kernel)
set_option maxRecDepth 100000 in
theorem r_216_1 : ∀ (d : Nat) (l0 l1 l2 l3 l4 : Option Value) (v : Int32) (st : List Value) (M : Mem) (Q : Outcome → Mem → Prop), (lo l2 = false) → Wp d 216 1 [l0, l1, l2, l3, l4] (.int v :: st) M Q = Wp d 216 2 [l0, l1, l2, some (.int v), l4] st M Q := fun d l0 l1 l2 l3 l4 v st M Q hl => w_istore_n (show ins 216 1 = some (.istore_n 3, 1) by decide +kernel) (st1_S rfl rfl hl)
set_option maxRecDepth 100000 in
theorem r_216_2 : ∀ (d : Nat) (l0 l2 l3 l4 : Option Value) (v : Int32) (st : List Value) (M : Mem) (Q : Outcome → Mem → Prop), Wp d 216 2 [l0, some (.int v), l2, l3, l4] st M Q = Wp d 216 3 [l0, some (.int v), l2, l3, l4] (.int v :: st) M Q := fun d l0 l2 l3 l4 v st M Q => wA (show ins 216 2 = some (.iload_n 1, 1) by decide +kernel) rfl
set_option maxRecDepth 100000 in
theorem r_216_3 : ∀ (d : Nat) (l0 l1 l2 l3 l4 : Option Value) (v : Int32) (st : List Value) (M : Mem) (Q : Outcome → Mem → Prop), (lo l3 = false) → Wp d 216 3 [l0, l1, l2, l3, l4] (.int v :: st) M Q = Wp d 216 5 [l0, l1, l2, l3, some (.int v)] st M Q := fun d l0 l1 l2 l3 l4 v st M Q hl => w_istore (show ins 216 3 = some (.istore 4, 2) by decide +kernel) (st1_S rfl rfl hl)
set_option maxRecDepth 100000 in
theorem r_216_5 : ∀ (d : Nat) (l0 l1 l2 l3 : Option Value) (v : Int32) (st : List Value) (M : Mem) (Q : Outcome → Mem → Prop), Wp d 216 5 [l0, l1, l2, l3, some (.int v)] st M Q = Wp d 216 7 [l0, l1, l2, l3, some (.int v)] (.int v :: st) M Q := fun d l0 l1 l2 l3 v st M Q => wA (show ins 216 5 = some (.iload 4, 2) by decide +kernel) rfl
set_option maxRecDepth 100000 in
theorem r_216_7 : ∀ (d : Nat) (l0 l2 l3 l4 : Option Value) (v : Int32) (st : List Value) (M : Mem) (Q : Outcome → Mem → Prop), Wp d 216 7 [l0, some (.int v), l2, l3, l4] st M Q = Wp d 216 8 [l0, some (.int v), l2, l3, l4] (.int v :: st) M Q := fun d l0 l2 l3 l4 v st M Q => wA (show ins 216 7 = some (.iload_n 1, 1) by decide +kernel) rfl
set_option maxRecDepth 100000 in
theorem r_216_8 : ∀ (d : Nat) (l0 l1 l3 l4 : Option Value) (v : Int32) (st : List Value) (M : Mem) (Q : Outcome → Mem → Prop), Wp d 216 8 [l0, l1, some (.int v), l3, l4] st M Q = Wp d 216 9 [l0, l1, some (.int v), l3, l4] (.int v :: st) M Q := fun d l0 l1 l3 l4 v st M Q => wA (show ins 216 8 = some (.iload_n 2, 1) by decide +kernel) rfl
set_option maxRecDepth 100000 in
theorem r_216_9 : ∀ (d : Nat) (ls : Lc) (a b : Int) (st : List Value) (M : Mem) (Q : Outcome → Mem → Prop), Wp d 216 9 ls (.int (I b) :: .int (I a) :: st) M Q = Wp d 216 10 ls (.int (I (a + b)) :: st) M Q := fun d ls a b st M Q => w_iadd (show ins 216 9 = some (.iadd, 1) by decide +kernel)
set_option maxRecDepth 100000 in
theorem r_216_10 : ∀ (d : Nat) (ls : Lc) (a b : Int32) (st : List Value) (M : Mem) (Q : Outcome → Mem → Prop), Wp d 216 10 ls (.int b :: .int a :: st) M Q = Br (b ≤ a) d 216 46 13 ls st M Q := fun d ls a b st M Q => w_icmp (show ins 216 10 = some (.if_icmp .ge 36, 3) by decide +kernel) rfl rfl
set_option maxRecDepth 100000 in
theorem r_216_13 : ∀ (d : Nat) (l0 l1 l2 l4 : Option Value) (v : Int32) (st : List Value) (M : Mem) (Q : Outcome → Mem → Prop), Wp d 216 13 [l0, l1, l2, some (.int v), l4] st M Q = Wp d 216 14 [l0, l1, l2, some (.int v), l4] (.int v :: st) M Q := fun d l0 l1 l2 l4 v st M Q => wA (show ins 216 13 = some (.iload_n 3, 1) by decide +kernel) rfl
set_option maxRecDepth 100000 in
theorem r_216_14 : ∀ (d : Nat) (ls : Lc) (a : Int32) (st : List Value) (M : Mem) (Q : Outcome → Mem → Prop), Wp d 216 14 ls (.int a :: st) M Q = Br (a = I 0) d 216 38 17 ls st M Q := fun d ls a st M Q => w_if (show ins 216 14 = some (.ifCond .eq 24, 3) by decide +kernel) rfl rfl
set_option maxRecDepth 100000 in
theorem r_216_17 : ∀ (d : Nat) (l1 l2 l3 l4 : Option Value) (v : Nat) (st : List Value) (M : Mem) (Q : Outcome → Mem → Prop), Wp d 216 17 [some (.ref v), l1, l2, l3, l4] st M Q = Wp d 216 18 [some (.ref v), l1, l2, l3, l4] (.ref v :: st) M Q := fun d l1 l2 l3 l4 v st M Q => wA (show ins 216 17 = some (.aload_n 0, 1) by decide +kernel) rfl
set_option maxRecDepth 100000 in
theorem r_216_18 : ∀ (d : Nat) (ls : Lc) (a : Nat) (st : List Value) (M : Mem) (Q : Outcome → Mem → Prop), Wp d 216 18 ls (.ref a :: st) M Q = (fk 53 (kO M a) = true ∧ Wp d 216 21 ls (va_rf (mR M 53 a) :: st) M Q) := fun d ls a st M Q => w_getR (show ins 216 18 = some (.getfield 7, 3) by decide +kernel) (show fRes (mC 216) 7 = some (53, 8, false) by decide +kernel) (by decide +kernel)
set_option maxRecDepth 100000 in
theorem r_216_21 : ∀ (d : Nat) (l0 l1 l2 l3 : Option Value) (v : Int32) (st : List Value) (M : Mem) (Q : Outcome → Mem → Prop), Wp d 216 21 [l0, l1, l2, l3, some (.int v)] st M Q = Wp d 216 23 [l0, l1, l2, l3, some (.int v)] (.int v :: st) M Q := fun d l0 l1 l2 l3 v st M Q => wA (show ins 216 21 = some (.iload 4, 2) by decide +kernel) rfl
set_option maxRecDepth 100000 in
theorem r_216_23 : ∀ (d : Nat) (ls : Lc) (a : Nat) (j : Int32) (st : List Value) (M : Mem) (Q : Outcome → Mem → Prop), Wp d 216 23 ls (.int j :: .ref a :: st) M Q = ((((kX M a).1 = 0 ∨ (kX M a).1 = 8) ∧ inB j (kX M a).2 = true) ∧ Wp d 216 24 ls (.int (mA M a j.toNatClampNeg) :: st) M Q) := fun d ls a j st M Q => w_iaload (show ins 216 23 = some (.iaload, 1) by decide +kernel)
set_option maxRecDepth 100000 in
theorem r_216_24 : ∀ (d : Nat) (l1 l2 l3 l4 : Option Value) (v : Nat) (st : List Value) (M : Mem) (Q : Outcome → Mem → Prop), Wp d 216 24 [some (.ref v), l1, l2, l3, l4] st M Q = Wp d 216 25 [some (.ref v), l1, l2, l3, l4] (.ref v :: st) M Q := fun d l1 l2 l3 l4 v st M Q => wA (show ins 216 24 = some (.aload_n 0, 1) by decide +kernel) rfl
set_option maxRecDepth 100000 in
theorem r_216_25 : ∀ (d : Nat) (ls : Lc) (a : Nat) (st : List Value) (M : Mem) (Q : Outcome → Mem → Prop), Wp d 216 25 ls (.ref a :: st) M Q = (fk 45 (kO M a) = true ∧ Wp d 216 28 ls (va_rf (mR M 45 a) :: st) M Q) := fun d ls a st M Q => w_getR (show ins 216 25 = some (.getfield 16, 3) by decide +kernel) (show fRes (mC 216) 16 = some (45, 8, false) by decide +kernel) (by decide +kernel)
set_option maxRecDepth 100000 in
theorem r_216_28 : ∀ (d : Nat) (l0 l1 l2 l3 : Option Value) (v : Int32) (st : List Value) (M : Mem) (Q : Outcome → Mem → Prop), Wp d 216 28 [l0, l1, l2, l3, some (.int v)] st M Q = Wp d 216 30 [l0, l1, l2, l3, some (.int v)] (.int v :: st) M Q := fun d l0 l1 l2 l3 v st M Q => wA (show ins 216 28 = some (.iload 4, 2) by decide +kernel) rfl
set_option maxRecDepth 100000 in
theorem r_216_30 : ∀ (d : Nat) (ls : Lc) (a : Nat) (j : Int32) (st : List Value) (M : Mem) (Q : Outcome → Mem → Prop), Wp d 216 30 ls (.int j :: .ref a :: st) M Q = ((((kX M a).1 = 0 ∨ (kX M a).1 = 8) ∧ inB j (kX M a).2 = true) ∧ Wp d 216 31 ls (.int (mA M a j.toNatClampNeg) :: st) M Q) := fun d ls a j st M Q => w_iaload (show ins 216 30 = some (.iaload, 1) by decide +kernel)
set_option maxRecDepth 100000 in
theorem r_216_31 : ∀ (d : Nat) (ls : Lc) (a b : Int32) (st : List Value) (M : Mem) (Q : Outcome → Mem → Prop), Wp d 216 31 ls (.int b :: .int a :: st) M Q = Br (¬ a = b) d 216 38 34 ls st M Q := fun d ls a b st M Q => w_icmp (show ins 216 31 = some (.if_icmp .ne 7, 3) by decide +kernel) rfl rfl
set_option maxRecDepth 100000 in
theorem r_216_34 : ∀ (d : Nat) (ls : Lc) (st : List Value) (M : Mem) (Q : Outcome → Mem → Prop), Wp d 216 34 ls st M Q = Wp d 216 35 ls (.int (I 1) :: st) M Q := fun d ls st M Q => w_iconst (show ins 216 34 = some (.iconst 1, 1) by decide +kernel)
set_option maxRecDepth 100000 in
theorem r_216_35 : ∀ (d : Nat) (ls : Lc) (st : List Value) (M : Mem) (Q : Outcome → Mem → Prop), Wp d 216 35 ls st M Q = Wp d 216 39 ls st M Q := fun d ls st M Q => w_goto (show ins 216 35 = some (.goto 4, 3) by decide +kernel) rfl
set_option maxRecDepth 100000 in
theorem r_216_38 : ∀ (d : Nat) (ls : Lc) (st : List Value) (M : Mem) (Q : Outcome → Mem → Prop), Wp d 216 38 ls st M Q = Wp d 216 39 ls (.int (I 0) :: st) M Q := fun d ls st M Q => w_iconst (show ins 216 38 = some (.iconst 0, 1) by decide +kernel)
set_option maxRecDepth 100000 in
theorem r_216_39 : ∀ (d : Nat) (l0 l1 l2 l3 l4 : Option Value) (v : Int32) (st : List Value) (M : Mem) (Q : Outcome → Mem → Prop), (lo l2 = false) → Wp d 216 39 [l0, l1, l2, l3, l4] (.int v :: st) M Q = Wp d 216 40 [l0, l1, l2, some (.int v), l4] st M Q := fun d l0 l1 l2 l3 l4 v st M Q hl => w_istore_n (show ins 216 39 = some (.istore_n 3, 1) by decide +kernel) (st1_S rfl rfl hl)
set_option maxRecDepth 100000 in
theorem r_216_40 : ∀ (d : Nat) (l0 l1 l2 l3 : Option Value) (z : Int) (st : List Value) (M : Mem) (Q : Outcome → Mem → Prop), (lo l3 = false) → Wp d 216 40 [l0, l1, l2, l3, some (.int (I z))] st M Q = Wp d 216 43 [l0, l1, l2, l3, some (.int (I (z + 1)))] st M Q := fun d l0 l1 l2 l3 z st M Q hl => w_iinc (show ins 216 40 = some (.iinc 4 1, 3) by decide +kernel) rfl (st1_S rfl rfl hl)
set_option maxRecDepth 100000 in
theorem r_216_43 : ∀ (d : Nat) (ls : Lc) (st : List Value) (M : Mem) (Q : Outcome → Mem → Prop), Wp d 216 43 ls st M Q = Wp d 216 5 ls st M Q := fun d ls st M Q => w_goto (show ins 216 43 = some (.goto (-38), 3) by decide +kernel) rfl
set_option maxRecDepth 100000 in
theorem r_216_46 : ∀ (d : Nat) (l0 l1 l2 l4 : Option Value) (v : Int32) (st : List Value) (M : Mem) (Q : Outcome → Mem → Prop), Wp d 216 46 [l0, l1, l2, some (.int v), l4] st M Q = Wp d 216 47 [l0, l1, l2, some (.int v), l4] (.int v :: st) M Q := fun d l0 l1 l2 l4 v st M Q => wA (show ins 216 46 = some (.iload_n 3, 1) by decide +kernel) rfl
set_option maxRecDepth 100000 in
theorem r_216_47 : ∀ (d : Nat) (ls : Lc) (z : Int) (M : Mem) (Q : Outcome → Mem → Prop), (z = 0 ∨ z = 1) → Wp d 216 47 ls [.int (I z)] M Q = Q (.returned (some (.int (I z)))) M := fun d ls z M Q h0 => w_zretI (show ins 216 47 = some (.ireturn, 1) by decide +kernel) (by decide +kernel) h0
set_option maxRecDepth 100000 in
theorem r_216_47_1 : ∀ (d : Nat) (ls : Lc) (b : Bool) (M : Mem) (Q : Outcome → Mem → Prop), Wp d 216 47 ls [.int (I (bI b))] M Q = Q (.returned (some (.int (I (bI b))))) M := fun d ls b M Q => w_zretB (show ins 216 47 = some (.ireturn, 1) by decide +kernel) (by decide +kernel)
set_option maxRecDepth 100000 in
theorem w_216_5 : (type_of% r_216_5) := r_216_5
set_option maxRecDepth 100000 in
theorem W_216 : (type_of% r_216_0) ∧ (type_of% r_216_1) ∧ (type_of% r_216_2) ∧ (type_of% r_216_3) ∧ (type_of% r_216_7) ∧ (type_of% r_216_8) ∧ (type_of% r_216_9) ∧ (type_of% r_216_10) ∧ (type_of% r_216_13) ∧ (type_of% r_216_14) ∧ (type_of% r_216_17) ∧ (type_of% r_216_18) ∧ (type_of% r_216_21) ∧ (type_of% r_216_23) ∧ (type_of% r_216_24) ∧ (type_of% r_216_25) ∧ (type_of% r_216_28) ∧ (type_of% r_216_30) ∧ (type_of% r_216_31) ∧ (type_of% r_216_34) ∧ (type_of% r_216_35) ∧ (type_of% r_216_38) ∧ (type_of% r_216_39) ∧ (type_of% r_216_40) ∧ (type_of% r_216_43) ∧ (type_of% r_216_46) ∧ (type_of% r_216_47) ∧ (type_of% r_216_47_1) := ⟨r_216_0, r_216_1, r_216_2, r_216_3, r_216_7, r_216_8, r_216_9, r_216_10, r_216_13, r_216_14, r_216_17, r_216_18, r_216_21, r_216_23, r_216_24, r_216_25, r_216_28, r_216_30, r_216_31, r_216_34, r_216_35, r_216_38, r_216_39, r_216_40, r_216_43, r_216_46, r_216_47, r_216_47_1⟩
set_option maxRecDepth 100000 in
theorem ca_216 {d y pc : Nat} {ls : Lc} {a : Nat} {z0 : Int32} {z1 : Int32} {r : List Value} {M : Mem} {Q : Outcome → Mem → Prop} (hd : 0 < d) (hw : Wp (d - 1) 216 0 [some (.ref a), some (.int z0), some (.int z1), none, none] [] M (Cq d y pc ls r Q)) : Ca d y pc ls 216 [.ref a, .int z0, .int z1] r M Q := ca_of (mq_get (by decide)) (by rfl) hd hw
/-! 217 PackedTreeModel.isLeafAlike(I)Z; loop heads [78] -/
set_option maxRecDepth 100000 in
theorem r_217_0 : ∀ (d : Nat) (ls : Lc) (st : List Value) (M : Mem) (Q : Outcome → Mem → Prop), Wp d 217 0 ls st M Q = Wp d 217 2 ls (.int (I 16) :: st) M Q := fun d ls st M Q => w_bipush (show ins 217 0 = some (.bipush 16, 2) by decide +kernel) (by decide)
set_option maxRecDepth 100000 in
theorem r_217_2 : ∀ (d : Nat) (l0 l2 l3 l4 l5 : Option Value) (v : Int32) (st : List Value) (M : Mem) (Q : Outcome → Mem → Prop), Wp d 217 2 [l0, some (.int v), l2, l3, l4, l5] st M Q = Wp d 217 3 [l0, some (.int v), l2, l3, l4, l5] (.int v :: st) M Q := fun d l0 l2 l3 l4 l5 v st M Q => wA (show ins 217 2 = some (.iload_n 1, 1) by decide +kernel) rfl
set_option maxRecDepth 100000 in
theorem r_217_3 : ∀ (d : Nat) (ls : Lc) (a b : Int) (st : List Value) (M : Mem) (Q : Outcome → Mem → Prop), Wp d 217 3 ls (.int (I b) :: .int (I a) :: st) M Q = Wp d 217 4 ls (.int (I (a * b)) :: st) M Q := fun d ls a b st M Q => w_imul (show ins 217 3 = some (.imul, 1) by decide +kernel)
set_option maxRecDepth 100000 in
theorem r_217_4 : ∀ (d : Nat) (l0 l1 l2 l3 l4 l5 : Option Value) (v : Int32) (st : List Value) (M : Mem) (Q : Outcome → Mem → Prop), (lo l1 = false) → Wp d 217 4 [l0, l1, l2, l3, l4, l5] (.int v :: st) M Q = Wp d 217 5 [l0, l1, some (.int v), l3, l4, l5] st M Q := fun d l0 l1 l2 l3 l4 l5 v st M Q hl => w_istore_n (show ins 217 4 = some (.istore_n 2, 1) by decide +kernel) (st1_S rfl rfl hl)
set_option maxRecDepth 100000 in
theorem r_217_5 : ∀ (d : Nat) (l1 l2 l3 l4 l5 : Option Value) (v : Nat) (st : List Value) (M : Mem) (Q : Outcome → Mem → Prop), Wp d 217 5 [some (.ref v), l1, l2, l3, l4, l5] st M Q = Wp d 217 6 [some (.ref v), l1, l2, l3, l4, l5] (.ref v :: st) M Q := fun d l1 l2 l3 l4 l5 v st M Q => wA (show ins 217 5 = some (.aload_n 0, 1) by decide +kernel) rfl
set_option maxRecDepth 100000 in
theorem r_217_6 : ∀ (d : Nat) (ls : Lc) (a : Nat) (st : List Value) (M : Mem) (Q : Outcome → Mem → Prop), Wp d 217 6 ls (.ref a :: st) M Q = (fk 53 (kO M a) = true ∧ Wp d 217 9 ls (va_rf (mR M 53 a) :: st) M Q) := fun d ls a st M Q => w_getR (show ins 217 6 = some (.getfield 7, 3) by decide +kernel) (show fRes (mC 217) 7 = some (53, 8, false) by decide +kernel) (by decide +kernel)
set_option maxRecDepth 100000 in
theorem r_217_9 : ∀ (d : Nat) (ls : Lc) (st : List Value) (M : Mem) (Q : Outcome → Mem → Prop), Wp d 217 9 ls st M Q = Wp d 217 12 ls (.int (I 3852) :: st) M Q := fun d ls st M Q => w_sipush (show ins 217 9 = some (.sipush 3852, 3) by decide +kernel) (by decide)
set_option maxRecDepth 100000 in
theorem r_217_12 : ∀ (d : Nat) (l0 l2 l3 l4 l5 : Option Value) (v : Int32) (st : List Value) (M : Mem) (Q : Outcome → Mem → Prop), Wp d 217 12 [l0, some (.int v), l2, l3, l4, l5] st M Q = Wp d 217 13 [l0, some (.int v), l2, l3, l4, l5] (.int v :: st) M Q := fun d l0 l2 l3 l4 l5 v st M Q => wA (show ins 217 12 = some (.iload_n 1, 1) by decide +kernel) rfl
set_option maxRecDepth 100000 in
theorem r_217_13 : ∀ (d : Nat) (ls : Lc) (a b : Int) (st : List Value) (M : Mem) (Q : Outcome → Mem → Prop), Wp d 217 13 ls (.int (I b) :: .int (I a) :: st) M Q = Wp d 217 14 ls (.int (I (a + b)) :: st) M Q := fun d ls a b st M Q => w_iadd (show ins 217 13 = some (.iadd, 1) by decide +kernel)
set_option maxRecDepth 100000 in
theorem r_217_14 : ∀ (d : Nat) (ls : Lc) (a : Nat) (j : Int32) (st : List Value) (M : Mem) (Q : Outcome → Mem → Prop), Wp d 217 14 ls (.int j :: .ref a :: st) M Q = ((((kX M a).1 = 0 ∨ (kX M a).1 = 8) ∧ inB j (kX M a).2 = true) ∧ Wp d 217 15 ls (.int (mA M a j.toNatClampNeg) :: st) M Q) := fun d ls a j st M Q => w_iaload (show ins 217 14 = some (.iaload, 1) by decide +kernel)
set_option maxRecDepth 100000 in
theorem r_217_15 : ∀ (d : Nat) (l0 l1 l2 l3 l4 l5 : Option Value) (v : Int32) (st : List Value) (M : Mem) (Q : Outcome → Mem → Prop), (lo l2 = false) → Wp d 217 15 [l0, l1, l2, l3, l4, l5] (.int v :: st) M Q = Wp d 217 16 [l0, l1, l2, some (.int v), l4, l5] st M Q := fun d l0 l1 l2 l3 l4 l5 v st M Q hl => w_istore_n (show ins 217 15 = some (.istore_n 3, 1) by decide +kernel) (st1_S rfl rfl hl)
set_option maxRecDepth 100000 in
theorem r_217_16 : ∀ (d : Nat) (l1 l2 l3 l4 l5 : Option Value) (v : Nat) (st : List Value) (M : Mem) (Q : Outcome → Mem → Prop), Wp d 217 16 [some (.ref v), l1, l2, l3, l4, l5] st M Q = Wp d 217 17 [some (.ref v), l1, l2, l3, l4, l5] (.ref v :: st) M Q := fun d l1 l2 l3 l4 l5 v st M Q => wA (show ins 217 16 = some (.aload_n 0, 1) by decide +kernel) rfl
set_option maxRecDepth 100000 in
theorem r_217_17 : ∀ (d : Nat) (ls : Lc) (st : List Value) (M : Mem) (Q : Outcome → Mem → Prop), Wp d 217 17 ls st M Q = Wp d 217 20 ls (.int (I 4620) :: st) M Q := fun d ls st M Q => w_sipush (show ins 217 17 = some (.sipush 4620, 3) by decide +kernel) (by decide)
set_option maxRecDepth 100000 in
theorem r_217_20 : ∀ (d : Nat) (l0 l1 l3 l4 l5 : Option Value) (v : Int32) (st : List Value) (M : Mem) (Q : Outcome → Mem → Prop), Wp d 217 20 [l0, l1, some (.int v), l3, l4, l5] st M Q = Wp d 217 21 [l0, l1, some (.int v), l3, l4, l5] (.int v :: st) M Q := fun d l0 l1 l3 l4 l5 v st M Q => wA (show ins 217 20 = some (.iload_n 2, 1) by decide +kernel) rfl
set_option maxRecDepth 100000 in
theorem r_217_21 : ∀ (d : Nat) (ls : Lc) (a b : Int) (st : List Value) (M : Mem) (Q : Outcome → Mem → Prop), Wp d 217 21 ls (.int (I b) :: .int (I a) :: st) M Q = Wp d 217 22 ls (.int (I (a + b)) :: st) M Q := fun d ls a b st M Q => w_iadd (show ins 217 21 = some (.iadd, 1) by decide +kernel)
set_option maxRecDepth 100000 in
theorem r_217_22 : ∀ (d : Nat) (l0 l1 l2 l4 l5 : Option Value) (v : Int32) (st : List Value) (M : Mem) (Q : Outcome → Mem → Prop), Wp d 217 22 [l0, l1, l2, some (.int v), l4, l5] st M Q = Wp d 217 23 [l0, l1, l2, some (.int v), l4, l5] (.int v :: st) M Q := fun d l0 l1 l2 l4 l5 v st M Q => wA (show ins 217 22 = some (.iload_n 3, 1) by decide +kernel) rfl
set_option maxRecDepth 100000 in
theorem r_217_23 : ∀ (d : Nat) (ls : Lc) (v0 v1 : Value) (a : Nat) (st : List Value) (M : Mem) (Q : Outcome → Mem → Prop), (smallR st = true) → Wp d 217 23 ls (v1 :: v0 :: .ref a :: st) M Q = (kO M a = 8 ∧ Ca d 217 23 ls 216 (.ref a :: [v0, v1]) st M Q) := fun d ls v0 v1 a st M Q h0 => w_virt1 (as := [v0, v1]) (show ins 217 23 = some (.invokevirtual 198, 3) by decide +kernel) (show mRes (mC 217) 198 = some (3, 8, [(8, 216)]) by decide +kernel) (by decide +kernel) rfl (by decide +kernel) (by decide +kernel) h0
set_option maxRecDepth 100000 in
theorem r_217_26 : ∀ (d : Nat) (ls : Lc) (a : Int32) (st : List Value) (M : Mem) (Q : Outcome → Mem → Prop), Wp d 217 26 ls (.int a :: st) M Q = Br (a = I 0) d 217 72 29 ls st M Q := fun d ls a st M Q => w_if (show ins 217 26 = some (.ifCond .eq 46, 3) by decide +kernel) rfl rfl
set_option maxRecDepth 100000 in
theorem r_217_29 : ∀ (d : Nat) (l1 l2 l3 l4 l5 : Option Value) (v : Nat) (st : List Value) (M : Mem) (Q : Outcome → Mem → Prop), Wp d 217 29 [some (.ref v), l1, l2, l3, l4, l5] st M Q = Wp d 217 30 [some (.ref v), l1, l2, l3, l4, l5] (.ref v :: st) M Q := fun d l1 l2 l3 l4 l5 v st M Q => wA (show ins 217 29 = some (.aload_n 0, 1) by decide +kernel) rfl
set_option maxRecDepth 100000 in
theorem r_217_30 : ∀ (d : Nat) (ls : Lc) (st : List Value) (M : Mem) (Q : Outcome → Mem → Prop), Wp d 217 30 ls st M Q = Wp d 217 33 ls (.int (I 6156) :: st) M Q := fun d ls st M Q => w_sipush (show ins 217 30 = some (.sipush 6156, 3) by decide +kernel) (by decide)
set_option maxRecDepth 100000 in
theorem r_217_33 : ∀ (d : Nat) (l0 l1 l3 l4 l5 : Option Value) (v : Int32) (st : List Value) (M : Mem) (Q : Outcome → Mem → Prop), Wp d 217 33 [l0, l1, some (.int v), l3, l4, l5] st M Q = Wp d 217 34 [l0, l1, some (.int v), l3, l4, l5] (.int v :: st) M Q := fun d l0 l1 l3 l4 l5 v st M Q => wA (show ins 217 33 = some (.iload_n 2, 1) by decide +kernel) rfl
set_option maxRecDepth 100000 in
theorem r_217_34 : ∀ (d : Nat) (ls : Lc) (a b : Int) (st : List Value) (M : Mem) (Q : Outcome → Mem → Prop), Wp d 217 34 ls (.int (I b) :: .int (I a) :: st) M Q = Wp d 217 35 ls (.int (I (a + b)) :: st) M Q := fun d ls a b st M Q => w_iadd (show ins 217 34 = some (.iadd, 1) by decide +kernel)
set_option maxRecDepth 100000 in
theorem r_217_35 : ∀ (d : Nat) (l0 l1 l2 l4 l5 : Option Value) (v : Int32) (st : List Value) (M : Mem) (Q : Outcome → Mem → Prop), Wp d 217 35 [l0, l1, l2, some (.int v), l4, l5] st M Q = Wp d 217 36 [l0, l1, l2, some (.int v), l4, l5] (.int v :: st) M Q := fun d l0 l1 l2 l4 l5 v st M Q => wA (show ins 217 35 = some (.iload_n 3, 1) by decide +kernel) rfl
set_option maxRecDepth 100000 in
theorem r_217_36 : ∀ (d : Nat) (ls : Lc) (v0 v1 : Value) (a : Nat) (st : List Value) (M : Mem) (Q : Outcome → Mem → Prop), (smallR st = true) → Wp d 217 36 ls (v1 :: v0 :: .ref a :: st) M Q = (kO M a = 8 ∧ Ca d 217 36 ls 216 (.ref a :: [v0, v1]) st M Q) := fun d ls v0 v1 a st M Q h0 => w_virt1 (as := [v0, v1]) (show ins 217 36 = some (.invokevirtual 198, 3) by decide +kernel) (show mRes (mC 217) 198 = some (3, 8, [(8, 216)]) by decide +kernel) (by decide +kernel) rfl (by decide +kernel) (by decide +kernel) h0
set_option maxRecDepth 100000 in
theorem r_217_39 : ∀ (d : Nat) (ls : Lc) (a : Int32) (st : List Value) (M : Mem) (Q : Outcome → Mem → Prop), Wp d 217 39 ls (.int a :: st) M Q = Br (a = I 0) d 217 72 42 ls st M Q := fun d ls a st M Q => w_if (show ins 217 39 = some (.ifCond .eq 33, 3) by decide +kernel) rfl rfl
set_option maxRecDepth 100000 in
theorem r_217_42 : ∀ (d : Nat) (l1 l2 l3 l4 l5 : Option Value) (v : Nat) (st : List Value) (M : Mem) (Q : Outcome → Mem → Prop), Wp d 217 42 [some (.ref v), l1, l2, l3, l4, l5] st M Q = Wp d 217 43 [some (.ref v), l1, l2, l3, l4, l5] (.ref v :: st) M Q := fun d l1 l2 l3 l4 l5 v st M Q => wA (show ins 217 42 = some (.aload_n 0, 1) by decide +kernel) rfl
set_option maxRecDepth 100000 in
theorem r_217_43 : ∀ (d : Nat) (ls : Lc) (st : List Value) (M : Mem) (Q : Outcome → Mem → Prop), Wp d 217 43 ls st M Q = Wp d 217 46 ls (.int (I 7692) :: st) M Q := fun d ls st M Q => w_sipush (show ins 217 43 = some (.sipush 7692, 3) by decide +kernel) (by decide)
set_option maxRecDepth 100000 in
theorem r_217_46 : ∀ (d : Nat) (l0 l1 l3 l4 l5 : Option Value) (v : Int32) (st : List Value) (M : Mem) (Q : Outcome → Mem → Prop), Wp d 217 46 [l0, l1, some (.int v), l3, l4, l5] st M Q = Wp d 217 47 [l0, l1, some (.int v), l3, l4, l5] (.int v :: st) M Q := fun d l0 l1 l3 l4 l5 v st M Q => wA (show ins 217 46 = some (.iload_n 2, 1) by decide +kernel) rfl
set_option maxRecDepth 100000 in
theorem r_217_47 : ∀ (d : Nat) (ls : Lc) (a b : Int) (st : List Value) (M : Mem) (Q : Outcome → Mem → Prop), Wp d 217 47 ls (.int (I b) :: .int (I a) :: st) M Q = Wp d 217 48 ls (.int (I (a + b)) :: st) M Q := fun d ls a b st M Q => w_iadd (show ins 217 47 = some (.iadd, 1) by decide +kernel)
set_option maxRecDepth 100000 in
theorem r_217_48 : ∀ (d : Nat) (l0 l1 l2 l4 l5 : Option Value) (v : Int32) (st : List Value) (M : Mem) (Q : Outcome → Mem → Prop), Wp d 217 48 [l0, l1, l2, some (.int v), l4, l5] st M Q = Wp d 217 49 [l0, l1, l2, some (.int v), l4, l5] (.int v :: st) M Q := fun d l0 l1 l2 l4 l5 v st M Q => wA (show ins 217 48 = some (.iload_n 3, 1) by decide +kernel) rfl
set_option maxRecDepth 100000 in
theorem r_217_49 : ∀ (d : Nat) (ls : Lc) (v0 v1 : Value) (a : Nat) (st : List Value) (M : Mem) (Q : Outcome → Mem → Prop), (smallR st = true) → Wp d 217 49 ls (v1 :: v0 :: .ref a :: st) M Q = (kO M a = 8 ∧ Ca d 217 49 ls 216 (.ref a :: [v0, v1]) st M Q) := fun d ls v0 v1 a st M Q h0 => w_virt1 (as := [v0, v1]) (show ins 217 49 = some (.invokevirtual 198, 3) by decide +kernel) (show mRes (mC 217) 198 = some (3, 8, [(8, 216)]) by decide +kernel) (by decide +kernel) rfl (by decide +kernel) (by decide +kernel) h0
set_option maxRecDepth 100000 in
theorem r_217_52 : ∀ (d : Nat) (ls : Lc) (a : Int32) (st : List Value) (M : Mem) (Q : Outcome → Mem → Prop), Wp d 217 52 ls (.int a :: st) M Q = Br (a = I 0) d 217 72 55 ls st M Q := fun d ls a st M Q => w_if (show ins 217 52 = some (.ifCond .eq 20, 3) by decide +kernel) rfl rfl
set_option maxRecDepth 100000 in
theorem r_217_55 : ∀ (d : Nat) (l1 l2 l3 l4 l5 : Option Value) (v : Nat) (st : List Value) (M : Mem) (Q : Outcome → Mem → Prop), Wp d 217 55 [some (.ref v), l1, l2, l3, l4, l5] st M Q = Wp d 217 56 [some (.ref v), l1, l2, l3, l4, l5] (.ref v :: st) M Q := fun d l1 l2 l3 l4 l5 v st M Q => wA (show ins 217 55 = some (.aload_n 0, 1) by decide +kernel) rfl
set_option maxRecDepth 100000 in
theorem r_217_56 : ∀ (d : Nat) (ls : Lc) (st : List Value) (M : Mem) (Q : Outcome → Mem → Prop), Wp d 217 56 ls st M Q = Wp d 217 59 ls (.int (I 9228) :: st) M Q := fun d ls st M Q => w_sipush (show ins 217 56 = some (.sipush 9228, 3) by decide +kernel) (by decide)
set_option maxRecDepth 100000 in
theorem r_217_59 : ∀ (d : Nat) (l0 l1 l3 l4 l5 : Option Value) (v : Int32) (st : List Value) (M : Mem) (Q : Outcome → Mem → Prop), Wp d 217 59 [l0, l1, some (.int v), l3, l4, l5] st M Q = Wp d 217 60 [l0, l1, some (.int v), l3, l4, l5] (.int v :: st) M Q := fun d l0 l1 l3 l4 l5 v st M Q => wA (show ins 217 59 = some (.iload_n 2, 1) by decide +kernel) rfl
set_option maxRecDepth 100000 in
theorem r_217_60 : ∀ (d : Nat) (ls : Lc) (a b : Int) (st : List Value) (M : Mem) (Q : Outcome → Mem → Prop), Wp d 217 60 ls (.int (I b) :: .int (I a) :: st) M Q = Wp d 217 61 ls (.int (I (a + b)) :: st) M Q := fun d ls a b st M Q => w_iadd (show ins 217 60 = some (.iadd, 1) by decide +kernel)
set_option maxRecDepth 100000 in
theorem r_217_61 : ∀ (d : Nat) (l0 l1 l2 l4 l5 : Option Value) (v : Int32) (st : List Value) (M : Mem) (Q : Outcome → Mem → Prop), Wp d 217 61 [l0, l1, l2, some (.int v), l4, l5] st M Q = Wp d 217 62 [l0, l1, l2, some (.int v), l4, l5] (.int v :: st) M Q := fun d l0 l1 l2 l4 l5 v st M Q => wA (show ins 217 61 = some (.iload_n 3, 1) by decide +kernel) rfl
set_option maxRecDepth 100000 in
theorem r_217_62 : ∀ (d : Nat) (ls : Lc) (v0 v1 : Value) (a : Nat) (st : List Value) (M : Mem) (Q : Outcome → Mem → Prop), (smallR st = true) → Wp d 217 62 ls (v1 :: v0 :: .ref a :: st) M Q = (kO M a = 8 ∧ Ca d 217 62 ls 216 (.ref a :: [v0, v1]) st M Q) := fun d ls v0 v1 a st M Q h0 => w_virt1 (as := [v0, v1]) (show ins 217 62 = some (.invokevirtual 198, 3) by decide +kernel) (show mRes (mC 217) 198 = some (3, 8, [(8, 216)]) by decide +kernel) (by decide +kernel) rfl (by decide +kernel) (by decide +kernel) h0
set_option maxRecDepth 100000 in
theorem r_217_65 : ∀ (d : Nat) (ls : Lc) (a : Int32) (st : List Value) (M : Mem) (Q : Outcome → Mem → Prop), Wp d 217 65 ls (.int a :: st) M Q = Br (a = I 0) d 217 72 68 ls st M Q := fun d ls a st M Q => w_if (show ins 217 65 = some (.ifCond .eq 7, 3) by decide +kernel) rfl rfl
set_option maxRecDepth 100000 in
theorem r_217_68 : ∀ (d : Nat) (ls : Lc) (st : List Value) (M : Mem) (Q : Outcome → Mem → Prop), Wp d 217 68 ls st M Q = Wp d 217 69 ls (.int (I 1) :: st) M Q := fun d ls st M Q => w_iconst (show ins 217 68 = some (.iconst 1, 1) by decide +kernel)
set_option maxRecDepth 100000 in
theorem r_217_69 : ∀ (d : Nat) (ls : Lc) (st : List Value) (M : Mem) (Q : Outcome → Mem → Prop), Wp d 217 69 ls st M Q = Wp d 217 73 ls st M Q := fun d ls st M Q => w_goto (show ins 217 69 = some (.goto 4, 3) by decide +kernel) rfl
set_option maxRecDepth 100000 in
theorem r_217_72 : ∀ (d : Nat) (ls : Lc) (st : List Value) (M : Mem) (Q : Outcome → Mem → Prop), Wp d 217 72 ls st M Q = Wp d 217 73 ls (.int (I 0) :: st) M Q := fun d ls st M Q => w_iconst (show ins 217 72 = some (.iconst 0, 1) by decide +kernel)
set_option maxRecDepth 100000 in
theorem r_217_73 : ∀ (d : Nat) (l0 l1 l2 l3 l4 l5 : Option Value) (v : Int32) (st : List Value) (M : Mem) (Q : Outcome → Mem → Prop), (lo l3 = false) → Wp d 217 73 [l0, l1, l2, l3, l4, l5] (.int v :: st) M Q = Wp d 217 75 [l0, l1, l2, l3, some (.int v), l5] st M Q := fun d l0 l1 l2 l3 l4 l5 v st M Q hl => w_istore (show ins 217 73 = some (.istore 4, 2) by decide +kernel) (st1_S rfl rfl hl)
set_option maxRecDepth 100000 in
theorem r_217_75 : ∀ (d : Nat) (ls : Lc) (st : List Value) (M : Mem) (Q : Outcome → Mem → Prop), Wp d 217 75 ls st M Q = Wp d 217 76 ls (.int (I 0) :: st) M Q := fun d ls st M Q => w_iconst (show ins 217 75 = some (.iconst 0, 1) by decide +kernel)
set_option maxRecDepth 100000 in
theorem r_217_76 : ∀ (d : Nat) (l0 l1 l2 l3 l4 l5 : Option Value) (v : Int32) (st : List Value) (M : Mem) (Q : Outcome → Mem → Prop), (lo l4 = false) → Wp d 217 76 [l0, l1, l2, l3, l4, l5] (.int v :: st) M Q = Wp d 217 78 [l0, l1, l2, l3, l4, some (.int v)] st M Q := fun d l0 l1 l2 l3 l4 l5 v st M Q hl => w_istore (show ins 217 76 = some (.istore 5, 2) by decide +kernel) (st1_S rfl rfl hl)
set_option maxRecDepth 100000 in
theorem r_217_78 : ∀ (d : Nat) (l0 l1 l2 l3 l4 : Option Value) (v : Int32) (st : List Value) (M : Mem) (Q : Outcome → Mem → Prop), Wp d 217 78 [l0, l1, l2, l3, l4, some (.int v)] st M Q = Wp d 217 80 [l0, l1, l2, l3, l4, some (.int v)] (.int v :: st) M Q := fun d l0 l1 l2 l3 l4 v st M Q => wA (show ins 217 78 = some (.iload 5, 2) by decide +kernel) rfl
set_option maxRecDepth 100000 in
theorem r_217_80 : ∀ (d : Nat) (l0 l1 l2 l4 l5 : Option Value) (v : Int32) (st : List Value) (M : Mem) (Q : Outcome → Mem → Prop), Wp d 217 80 [l0, l1, l2, some (.int v), l4, l5] st M Q = Wp d 217 81 [l0, l1, l2, some (.int v), l4, l5] (.int v :: st) M Q := fun d l0 l1 l2 l4 l5 v st M Q => wA (show ins 217 80 = some (.iload_n 3, 1) by decide +kernel) rfl
set_option maxRecDepth 100000 in
theorem r_217_81 : ∀ (d : Nat) (ls : Lc) (a b : Int32) (st : List Value) (M : Mem) (Q : Outcome → Mem → Prop), Wp d 217 81 ls (.int b :: .int a :: st) M Q = Br (b ≤ a) d 217 168 84 ls st M Q := fun d ls a b st M Q => w_icmp (show ins 217 81 = some (.if_icmp .ge 87, 3) by decide +kernel) rfl rfl
set_option maxRecDepth 100000 in
theorem r_217_84 : ∀ (d : Nat) (l0 l1 l2 l3 l5 : Option Value) (v : Int32) (st : List Value) (M : Mem) (Q : Outcome → Mem → Prop), Wp d 217 84 [l0, l1, l2, l3, some (.int v), l5] st M Q = Wp d 217 86 [l0, l1, l2, l3, some (.int v), l5] (.int v :: st) M Q := fun d l0 l1 l2 l3 l5 v st M Q => wA (show ins 217 84 = some (.iload 4, 2) by decide +kernel) rfl
set_option maxRecDepth 100000 in
theorem r_217_86 : ∀ (d : Nat) (ls : Lc) (a : Int32) (st : List Value) (M : Mem) (Q : Outcome → Mem → Prop), Wp d 217 86 ls (.int a :: st) M Q = Br (a = I 0) d 217 168 89 ls st M Q := fun d ls a st M Q => w_if (show ins 217 86 = some (.ifCond .eq 82, 3) by decide +kernel) rfl rfl
set_option maxRecDepth 100000 in
theorem r_217_89 : ∀ (d : Nat) (l1 l2 l3 l4 l5 : Option Value) (v : Nat) (st : List Value) (M : Mem) (Q : Outcome → Mem → Prop), Wp d 217 89 [some (.ref v), l1, l2, l3, l4, l5] st M Q = Wp d 217 90 [some (.ref v), l1, l2, l3, l4, l5] (.ref v :: st) M Q := fun d l1 l2 l3 l4 l5 v st M Q => wA (show ins 217 89 = some (.aload_n 0, 1) by decide +kernel) rfl
set_option maxRecDepth 100000 in
theorem r_217_90 : ∀ (d : Nat) (ls : Lc) (a : Nat) (st : List Value) (M : Mem) (Q : Outcome → Mem → Prop), Wp d 217 90 ls (.ref a :: st) M Q = (fk 53 (kO M a) = true ∧ Wp d 217 93 ls (va_rf (mR M 53 a) :: st) M Q) := fun d ls a st M Q => w_getR (show ins 217 90 = some (.getfield 7, 3) by decide +kernel) (show fRes (mC 217) 7 = some (53, 8, false) by decide +kernel) (by decide +kernel)
set_option maxRecDepth 100000 in
theorem r_217_93 : ∀ (d : Nat) (ls : Lc) (st : List Value) (M : Mem) (Q : Outcome → Mem → Prop), Wp d 217 93 ls st M Q = Wp d 217 96 ls (.int (I 6156) :: st) M Q := fun d ls st M Q => w_sipush (show ins 217 93 = some (.sipush 6156, 3) by decide +kernel) (by decide)
set_option maxRecDepth 100000 in
theorem r_217_96 : ∀ (d : Nat) (l0 l1 l3 l4 l5 : Option Value) (v : Int32) (st : List Value) (M : Mem) (Q : Outcome → Mem → Prop), Wp d 217 96 [l0, l1, some (.int v), l3, l4, l5] st M Q = Wp d 217 97 [l0, l1, some (.int v), l3, l4, l5] (.int v :: st) M Q := fun d l0 l1 l3 l4 l5 v st M Q => wA (show ins 217 96 = some (.iload_n 2, 1) by decide +kernel) rfl
set_option maxRecDepth 100000 in
theorem r_217_97 : ∀ (d : Nat) (ls : Lc) (a b : Int) (st : List Value) (M : Mem) (Q : Outcome → Mem → Prop), Wp d 217 97 ls (.int (I b) :: .int (I a) :: st) M Q = Wp d 217 98 ls (.int (I (a + b)) :: st) M Q := fun d ls a b st M Q => w_iadd (show ins 217 97 = some (.iadd, 1) by decide +kernel)
set_option maxRecDepth 100000 in
theorem r_217_98 : ∀ (d : Nat) (l0 l1 l2 l3 l4 : Option Value) (v : Int32) (st : List Value) (M : Mem) (Q : Outcome → Mem → Prop), Wp d 217 98 [l0, l1, l2, l3, l4, some (.int v)] st M Q = Wp d 217 100 [l0, l1, l2, l3, l4, some (.int v)] (.int v :: st) M Q := fun d l0 l1 l2 l3 l4 v st M Q => wA (show ins 217 98 = some (.iload 5, 2) by decide +kernel) rfl
set_option maxRecDepth 100000 in
theorem r_217_100 : ∀ (d : Nat) (ls : Lc) (a b : Int) (st : List Value) (M : Mem) (Q : Outcome → Mem → Prop), Wp d 217 100 ls (.int (I b) :: .int (I a) :: st) M Q = Wp d 217 101 ls (.int (I (a + b)) :: st) M Q := fun d ls a b st M Q => w_iadd (show ins 217 100 = some (.iadd, 1) by decide +kernel)
set_option maxRecDepth 100000 in
theorem r_217_101 : ∀ (d : Nat) (ls : Lc) (a : Nat) (j : Int32) (st : List Value) (M : Mem) (Q : Outcome → Mem → Prop), Wp d 217 101 ls (.int j :: .ref a :: st) M Q = ((((kX M a).1 = 0 ∨ (kX M a).1 = 8) ∧ inB j (kX M a).2 = true) ∧ Wp d 217 102 ls (.int (mA M a j.toNatClampNeg) :: st) M Q) := fun d ls a j st M Q => w_iaload (show ins 217 101 = some (.iaload, 1) by decide +kernel)
set_option maxRecDepth 100000 in
theorem r_217_102 : ∀ (d : Nat) (ls : Lc) (st : List Value) (M : Mem) (Q : Outcome → Mem → Prop), Wp d 217 102 ls st M Q = Wp d 217 103 ls (.int (I 1) :: st) M Q := fun d ls st M Q => w_iconst (show ins 217 102 = some (.iconst 1, 1) by decide +kernel)
set_option maxRecDepth 100000 in
theorem r_217_103 : ∀ (d : Nat) (ls : Lc) (a b : Int32) (st : List Value) (M : Mem) (Q : Outcome → Mem → Prop), Wp d 217 103 ls (.int b :: .int a :: st) M Q = Br (¬ a = b) d 217 122 106 ls st M Q := fun d ls a b st M Q => w_icmp (show ins 217 103 = some (.if_icmp .ne 19, 3) by decide +kernel) rfl rfl
set_option maxRecDepth 100000 in
theorem r_217_106 : ∀ (d : Nat) (l1 l2 l3 l4 l5 : Option Value) (v : Nat) (st : List Value) (M : Mem) (Q : Outcome → Mem → Prop), Wp d 217 106 [some (.ref v), l1, l2, l3, l4, l5] st M Q = Wp d 217 107 [some (.ref v), l1, l2, l3, l4, l5] (.ref v :: st) M Q := fun d l1 l2 l3 l4 l5 v st M Q => wA (show ins 217 106 = some (.aload_n 0, 1) by decide +kernel) rfl
set_option maxRecDepth 100000 in
theorem r_217_107 : ∀ (d : Nat) (ls : Lc) (st : List Value) (M : Mem) (Q : Outcome → Mem → Prop), Wp d 217 107 ls st M Q = Wp d 217 110 ls (.int (I 10764) :: st) M Q := fun d ls st M Q => w_sipush (show ins 217 107 = some (.sipush 10764, 3) by decide +kernel) (by decide)
set_option maxRecDepth 100000 in
theorem r_217_110 : ∀ (d : Nat) (l0 l1 l3 l4 l5 : Option Value) (v : Int32) (st : List Value) (M : Mem) (Q : Outcome → Mem → Prop), Wp d 217 110 [l0, l1, some (.int v), l3, l4, l5] st M Q = Wp d 217 111 [l0, l1, some (.int v), l3, l4, l5] (.int v :: st) M Q := fun d l0 l1 l3 l4 l5 v st M Q => wA (show ins 217 110 = some (.iload_n 2, 1) by decide +kernel) rfl
set_option maxRecDepth 100000 in
theorem r_217_111 : ∀ (d : Nat) (ls : Lc) (a b : Int) (st : List Value) (M : Mem) (Q : Outcome → Mem → Prop), Wp d 217 111 ls (.int (I b) :: .int (I a) :: st) M Q = Wp d 217 112 ls (.int (I (a + b)) :: st) M Q := fun d ls a b st M Q => w_iadd (show ins 217 111 = some (.iadd, 1) by decide +kernel)
set_option maxRecDepth 100000 in
theorem r_217_112 : ∀ (d : Nat) (l0 l1 l2 l3 l4 : Option Value) (v : Int32) (st : List Value) (M : Mem) (Q : Outcome → Mem → Prop), Wp d 217 112 [l0, l1, l2, l3, l4, some (.int v)] st M Q = Wp d 217 114 [l0, l1, l2, l3, l4, some (.int v)] (.int v :: st) M Q := fun d l0 l1 l2 l3 l4 v st M Q => wA (show ins 217 112 = some (.iload 5, 2) by decide +kernel) rfl
set_option maxRecDepth 100000 in
theorem r_217_114 : ∀ (d : Nat) (ls : Lc) (a b : Int) (st : List Value) (M : Mem) (Q : Outcome → Mem → Prop), Wp d 217 114 ls (.int (I b) :: .int (I a) :: st) M Q = Wp d 217 115 ls (.int (I (a + b)) :: st) M Q := fun d ls a b st M Q => w_iadd (show ins 217 114 = some (.iadd, 1) by decide +kernel)
set_option maxRecDepth 100000 in
theorem r_217_115 : ∀ (d : Nat) (ls : Lc) (st : List Value) (M : Mem) (Q : Outcome → Mem → Prop), Wp d 217 115 ls st M Q = Wp d 217 116 ls (.int (I 1) :: st) M Q := fun d ls st M Q => w_iconst (show ins 217 115 = some (.iconst 1, 1) by decide +kernel)
set_option maxRecDepth 100000 in
theorem r_217_116 : ∀ (d : Nat) (ls : Lc) (v0 v1 : Value) (a : Nat) (st : List Value) (M : Mem) (Q : Outcome → Mem → Prop), (smallR st = true) → Wp d 217 116 ls (v1 :: v0 :: .ref a :: st) M Q = (kO M a = 8 ∧ Ca d 217 116 ls 216 (.ref a :: [v0, v1]) st M Q) := fun d ls v0 v1 a st M Q h0 => w_virt1 (as := [v0, v1]) (show ins 217 116 = some (.invokevirtual 198, 3) by decide +kernel) (show mRes (mC 217) 198 = some (3, 8, [(8, 216)]) by decide +kernel) (by decide +kernel) rfl (by decide +kernel) (by decide +kernel) h0
set_option maxRecDepth 100000 in
theorem r_217_119 : ∀ (d : Nat) (ls : Lc) (a : Int32) (st : List Value) (M : Mem) (Q : Outcome → Mem → Prop), Wp d 217 119 ls (.int a :: st) M Q = Br (a = I 0) d 217 159 122 ls st M Q := fun d ls a st M Q => w_if (show ins 217 119 = some (.ifCond .eq 40, 3) by decide +kernel) rfl rfl
set_option maxRecDepth 100000 in
theorem r_217_122 : ∀ (d : Nat) (l1 l2 l3 l4 l5 : Option Value) (v : Nat) (st : List Value) (M : Mem) (Q : Outcome → Mem → Prop), Wp d 217 122 [some (.ref v), l1, l2, l3, l4, l5] st M Q = Wp d 217 123 [some (.ref v), l1, l2, l3, l4, l5] (.ref v :: st) M Q := fun d l1 l2 l3 l4 l5 v st M Q => wA (show ins 217 122 = some (.aload_n 0, 1) by decide +kernel) rfl
set_option maxRecDepth 100000 in
theorem r_217_123 : ∀ (d : Nat) (l1 l2 l3 l4 l5 : Option Value) (v : Nat) (st : List Value) (M : Mem) (Q : Outcome → Mem → Prop), Wp d 217 123 [some (.ref v), l1, l2, l3, l4, l5] st M Q = Wp d 217 124 [some (.ref v), l1, l2, l3, l4, l5] (.ref v :: st) M Q := fun d l1 l2 l3 l4 l5 v st M Q => wA (show ins 217 123 = some (.aload_n 0, 1) by decide +kernel) rfl
set_option maxRecDepth 100000 in
theorem r_217_124 : ∀ (d : Nat) (ls : Lc) (a : Nat) (st : List Value) (M : Mem) (Q : Outcome → Mem → Prop), Wp d 217 124 ls (.ref a :: st) M Q = (fk 53 (kO M a) = true ∧ Wp d 217 127 ls (va_rf (mR M 53 a) :: st) M Q) := fun d ls a st M Q => w_getR (show ins 217 124 = some (.getfield 7, 3) by decide +kernel) (show fRes (mC 217) 7 = some (53, 8, false) by decide +kernel) (by decide +kernel)
set_option maxRecDepth 100000 in
theorem r_217_127 : ∀ (d : Nat) (ls : Lc) (st : List Value) (M : Mem) (Q : Outcome → Mem → Prop), Wp d 217 127 ls st M Q = Wp d 217 130 ls (.int (I 4620) :: st) M Q := fun d ls st M Q => w_sipush (show ins 217 127 = some (.sipush 4620, 3) by decide +kernel) (by decide)
set_option maxRecDepth 100000 in
theorem r_217_130 : ∀ (d : Nat) (l0 l1 l3 l4 l5 : Option Value) (v : Int32) (st : List Value) (M : Mem) (Q : Outcome → Mem → Prop), Wp d 217 130 [l0, l1, some (.int v), l3, l4, l5] st M Q = Wp d 217 131 [l0, l1, some (.int v), l3, l4, l5] (.int v :: st) M Q := fun d l0 l1 l3 l4 l5 v st M Q => wA (show ins 217 130 = some (.iload_n 2, 1) by decide +kernel) rfl
set_option maxRecDepth 100000 in
theorem r_217_131 : ∀ (d : Nat) (ls : Lc) (a b : Int) (st : List Value) (M : Mem) (Q : Outcome → Mem → Prop), Wp d 217 131 ls (.int (I b) :: .int (I a) :: st) M Q = Wp d 217 132 ls (.int (I (a + b)) :: st) M Q := fun d ls a b st M Q => w_iadd (show ins 217 131 = some (.iadd, 1) by decide +kernel)
set_option maxRecDepth 100000 in
theorem r_217_132 : ∀ (d : Nat) (l0 l1 l2 l3 l4 : Option Value) (v : Int32) (st : List Value) (M : Mem) (Q : Outcome → Mem → Prop), Wp d 217 132 [l0, l1, l2, l3, l4, some (.int v)] st M Q = Wp d 217 134 [l0, l1, l2, l3, l4, some (.int v)] (.int v :: st) M Q := fun d l0 l1 l2 l3 l4 v st M Q => wA (show ins 217 132 = some (.iload 5, 2) by decide +kernel) rfl
set_option maxRecDepth 100000 in
theorem r_217_134 : ∀ (d : Nat) (ls : Lc) (a b : Int) (st : List Value) (M : Mem) (Q : Outcome → Mem → Prop), Wp d 217 134 ls (.int (I b) :: .int (I a) :: st) M Q = Wp d 217 135 ls (.int (I (a + b)) :: st) M Q := fun d ls a b st M Q => w_iadd (show ins 217 134 = some (.iadd, 1) by decide +kernel)
set_option maxRecDepth 100000 in
theorem r_217_135 : ∀ (d : Nat) (ls : Lc) (a : Nat) (j : Int32) (st : List Value) (M : Mem) (Q : Outcome → Mem → Prop), Wp d 217 135 ls (.int j :: .ref a :: st) M Q = ((((kX M a).1 = 0 ∨ (kX M a).1 = 8) ∧ inB j (kX M a).2 = true) ∧ Wp d 217 136 ls (.int (mA M a j.toNatClampNeg) :: st) M Q) := fun d ls a j st M Q => w_iaload (show ins 217 135 = some (.iaload, 1) by decide +kernel)
set_option maxRecDepth 100000 in
theorem r_217_136 : ∀ (d : Nat) (l1 l2 l3 l4 l5 : Option Value) (v : Nat) (st : List Value) (M : Mem) (Q : Outcome → Mem → Prop), Wp d 217 136 [some (.ref v), l1, l2, l3, l4, l5] st M Q = Wp d 217 137 [some (.ref v), l1, l2, l3, l4, l5] (.ref v :: st) M Q := fun d l1 l2 l3 l4 l5 v st M Q => wA (show ins 217 136 = some (.aload_n 0, 1) by decide +kernel) rfl
set_option maxRecDepth 100000 in
theorem r_217_137 : ∀ (d : Nat) (ls : Lc) (a : Nat) (st : List Value) (M : Mem) (Q : Outcome → Mem → Prop), Wp d 217 137 ls (.ref a :: st) M Q = (fk 53 (kO M a) = true ∧ Wp d 217 140 ls (va_rf (mR M 53 a) :: st) M Q) := fun d ls a st M Q => w_getR (show ins 217 137 = some (.getfield 7, 3) by decide +kernel) (show fRes (mC 217) 7 = some (53, 8, false) by decide +kernel) (by decide +kernel)
set_option maxRecDepth 100000 in
theorem r_217_140 : ∀ (d : Nat) (ls : Lc) (st : List Value) (M : Mem) (Q : Outcome → Mem → Prop), Wp d 217 140 ls st M Q = Wp d 217 143 ls (.int (I 6156) :: st) M Q := fun d ls st M Q => w_sipush (show ins 217 140 = some (.sipush 6156, 3) by decide +kernel) (by decide)
set_option maxRecDepth 100000 in
theorem r_217_143 : ∀ (d : Nat) (l0 l1 l3 l4 l5 : Option Value) (v : Int32) (st : List Value) (M : Mem) (Q : Outcome → Mem → Prop), Wp d 217 143 [l0, l1, some (.int v), l3, l4, l5] st M Q = Wp d 217 144 [l0, l1, some (.int v), l3, l4, l5] (.int v :: st) M Q := fun d l0 l1 l3 l4 l5 v st M Q => wA (show ins 217 143 = some (.iload_n 2, 1) by decide +kernel) rfl
set_option maxRecDepth 100000 in
theorem r_217_144 : ∀ (d : Nat) (ls : Lc) (a b : Int) (st : List Value) (M : Mem) (Q : Outcome → Mem → Prop), Wp d 217 144 ls (.int (I b) :: .int (I a) :: st) M Q = Wp d 217 145 ls (.int (I (a + b)) :: st) M Q := fun d ls a b st M Q => w_iadd (show ins 217 144 = some (.iadd, 1) by decide +kernel)
set_option maxRecDepth 100000 in
theorem r_217_145 : ∀ (d : Nat) (l0 l1 l2 l3 l4 : Option Value) (v : Int32) (st : List Value) (M : Mem) (Q : Outcome → Mem → Prop), Wp d 217 145 [l0, l1, l2, l3, l4, some (.int v)] st M Q = Wp d 217 147 [l0, l1, l2, l3, l4, some (.int v)] (.int v :: st) M Q := fun d l0 l1 l2 l3 l4 v st M Q => wA (show ins 217 145 = some (.iload 5, 2) by decide +kernel) rfl
set_option maxRecDepth 100000 in
theorem r_217_147 : ∀ (d : Nat) (ls : Lc) (a b : Int) (st : List Value) (M : Mem) (Q : Outcome → Mem → Prop), Wp d 217 147 ls (.int (I b) :: .int (I a) :: st) M Q = Wp d 217 148 ls (.int (I (a + b)) :: st) M Q := fun d ls a b st M Q => w_iadd (show ins 217 147 = some (.iadd, 1) by decide +kernel)
set_option maxRecDepth 100000 in
theorem r_217_148 : ∀ (d : Nat) (ls : Lc) (a : Nat) (j : Int32) (st : List Value) (M : Mem) (Q : Outcome → Mem → Prop), Wp d 217 148 ls (.int j :: .ref a :: st) M Q = ((((kX M a).1 = 0 ∨ (kX M a).1 = 8) ∧ inB j (kX M a).2 = true) ∧ Wp d 217 149 ls (.int (mA M a j.toNatClampNeg) :: st) M Q) := fun d ls a j st M Q => w_iaload (show ins 217 148 = some (.iaload, 1) by decide +kernel)
set_option maxRecDepth 100000 in
theorem r_217_149 : ∀ (d : Nat) (ls : Lc) (v0 v1 : Value) (a : Nat) (st : List Value) (M : Mem) (Q : Outcome → Mem → Prop), (smallR st = true) → Wp d 217 149 ls (v1 :: v0 :: .ref a :: st) M Q = (kO M a = 8 ∧ Ca d 217 149 ls 218 (.ref a :: [v0, v1]) st M Q) := fun d ls v0 v1 a st M Q h0 => w_virt1 (as := [v0, v1]) (show ins 217 149 = some (.invokevirtual 201, 3) by decide +kernel) (show mRes (mC 217) 201 = some (3, 8, [(8, 218)]) by decide +kernel) (by decide +kernel) rfl (by decide +kernel) (by decide +kernel) h0
set_option maxRecDepth 100000 in
theorem r_217_152 : ∀ (d : Nat) (ls : Lc) (a : Int32) (st : List Value) (M : Mem) (Q : Outcome → Mem → Prop), Wp d 217 152 ls (.int a :: st) M Q = Br (a = I 0) d 217 159 155 ls st M Q := fun d ls a st M Q => w_if (show ins 217 152 = some (.ifCond .eq 7, 3) by decide +kernel) rfl rfl
set_option maxRecDepth 100000 in
theorem r_217_155 : ∀ (d : Nat) (ls : Lc) (st : List Value) (M : Mem) (Q : Outcome → Mem → Prop), Wp d 217 155 ls st M Q = Wp d 217 156 ls (.int (I 1) :: st) M Q := fun d ls st M Q => w_iconst (show ins 217 155 = some (.iconst 1, 1) by decide +kernel)
set_option maxRecDepth 100000 in
theorem r_217_156 : ∀ (d : Nat) (ls : Lc) (st : List Value) (M : Mem) (Q : Outcome → Mem → Prop), Wp d 217 156 ls st M Q = Wp d 217 160 ls st M Q := fun d ls st M Q => w_goto (show ins 217 156 = some (.goto 4, 3) by decide +kernel) rfl
set_option maxRecDepth 100000 in
theorem r_217_159 : ∀ (d : Nat) (ls : Lc) (st : List Value) (M : Mem) (Q : Outcome → Mem → Prop), Wp d 217 159 ls st M Q = Wp d 217 160 ls (.int (I 0) :: st) M Q := fun d ls st M Q => w_iconst (show ins 217 159 = some (.iconst 0, 1) by decide +kernel)
set_option maxRecDepth 100000 in
theorem r_217_160 : ∀ (d : Nat) (l0 l1 l2 l3 l4 l5 : Option Value) (v : Int32) (st : List Value) (M : Mem) (Q : Outcome → Mem → Prop), (lo l3 = false) → Wp d 217 160 [l0, l1, l2, l3, l4, l5] (.int v :: st) M Q = Wp d 217 162 [l0, l1, l2, l3, some (.int v), l5] st M Q := fun d l0 l1 l2 l3 l4 l5 v st M Q hl => w_istore (show ins 217 160 = some (.istore 4, 2) by decide +kernel) (st1_S rfl rfl hl)
set_option maxRecDepth 100000 in
theorem r_217_162 : ∀ (d : Nat) (l0 l1 l2 l3 l4 : Option Value) (z : Int) (st : List Value) (M : Mem) (Q : Outcome → Mem → Prop), (lo l4 = false) → Wp d 217 162 [l0, l1, l2, l3, l4, some (.int (I z))] st M Q = Wp d 217 165 [l0, l1, l2, l3, l4, some (.int (I (z + 1)))] st M Q := fun d l0 l1 l2 l3 l4 z st M Q hl => w_iinc (show ins 217 162 = some (.iinc 5 1, 3) by decide +kernel) rfl (st1_S rfl rfl hl)
set_option maxRecDepth 100000 in
theorem r_217_165 : ∀ (d : Nat) (ls : Lc) (st : List Value) (M : Mem) (Q : Outcome → Mem → Prop), Wp d 217 165 ls st M Q = Wp d 217 78 ls st M Q := fun d ls st M Q => w_goto (show ins 217 165 = some (.goto (-87), 3) by decide +kernel) rfl
set_option maxRecDepth 100000 in
theorem r_217_168 : ∀ (d : Nat) (l0 l1 l2 l3 l5 : Option Value) (v : Int32) (st : List Value) (M : Mem) (Q : Outcome → Mem → Prop), Wp d 217 168 [l0, l1, l2, l3, some (.int v), l5] st M Q = Wp d 217 170 [l0, l1, l2, l3, some (.int v), l5] (.int v :: st) M Q := fun d l0 l1 l2 l3 l5 v st M Q => wA (show ins 217 168 = some (.iload 4, 2) by decide +kernel) rfl
set_option maxRecDepth 100000 in
theorem r_217_170 : ∀ (d : Nat) (ls : Lc) (z : Int) (M : Mem) (Q : Outcome → Mem → Prop), (z = 0 ∨ z = 1) → Wp d 217 170 ls [.int (I z)] M Q = Q (.returned (some (.int (I z)))) M := fun d ls z M Q h0 => w_zretI (show ins 217 170 = some (.ireturn, 1) by decide +kernel) (by decide +kernel) h0
set_option maxRecDepth 100000 in
theorem r_217_170_1 : ∀ (d : Nat) (ls : Lc) (b : Bool) (M : Mem) (Q : Outcome → Mem → Prop), Wp d 217 170 ls [.int (I (bI b))] M Q = Q (.returned (some (.int (I (bI b))))) M := fun d ls b M Q => w_zretB (show ins 217 170 = some (.ireturn, 1) by decide +kernel) (by decide +kernel)
set_option maxRecDepth 100000 in
theorem w_217_78 : (type_of% r_217_78) := r_217_78
set_option maxRecDepth 100000 in
theorem W_217 : (type_of% r_217_0) ∧ (type_of% r_217_2) ∧ (type_of% r_217_3) ∧ (type_of% r_217_4) ∧ (type_of% r_217_5) ∧ (type_of% r_217_6) ∧ (type_of% r_217_9) ∧ (type_of% r_217_12) ∧ (type_of% r_217_13) ∧ (type_of% r_217_14) ∧ (type_of% r_217_15) ∧ (type_of% r_217_16) ∧ (type_of% r_217_17) ∧ (type_of% r_217_20) ∧ (type_of% r_217_21) ∧ (type_of% r_217_22) ∧ (type_of% r_217_23) ∧ (type_of% r_217_26) ∧ (type_of% r_217_29) ∧ (type_of% r_217_30) ∧ (type_of% r_217_33) ∧ (type_of% r_217_34) ∧ (type_of% r_217_35) ∧ (type_of% r_217_36) ∧ (type_of% r_217_39) ∧ (type_of% r_217_42) ∧ (type_of% r_217_43) ∧ (type_of% r_217_46) ∧ (type_of% r_217_47) ∧ (type_of% r_217_48) ∧ (type_of% r_217_49) ∧ (type_of% r_217_52) ∧ (type_of% r_217_55) ∧ (type_of% r_217_56) ∧ (type_of% r_217_59) ∧ (type_of% r_217_60) ∧ (type_of% r_217_61) ∧ (type_of% r_217_62) ∧ (type_of% r_217_65) ∧ (type_of% r_217_68) ∧ (type_of% r_217_69) ∧ (type_of% r_217_72) ∧ (type_of% r_217_73) ∧ (type_of% r_217_75) ∧ (type_of% r_217_76) ∧ (type_of% r_217_80) ∧ (type_of% r_217_81) ∧ (type_of% r_217_84) ∧ (type_of% r_217_86) ∧ (type_of% r_217_89) ∧ (type_of% r_217_90) ∧ (type_of% r_217_93) ∧ (type_of% r_217_96) ∧ (type_of% r_217_97) ∧ (type_of% r_217_98) ∧ (type_of% r_217_100) ∧ (type_of% r_217_101) ∧ (type_of% r_217_102) ∧ (type_of% r_217_103) ∧ (type_of% r_217_106) ∧ (type_of% r_217_107) ∧ (type_of% r_217_110) ∧ (type_of% r_217_111) ∧ (type_of% r_217_112) ∧ (type_of% r_217_114) ∧ (type_of% r_217_115) ∧ (type_of% r_217_116) ∧ (type_of% r_217_119) ∧ (type_of% r_217_122) ∧ (type_of% r_217_123) ∧ (type_of% r_217_124) ∧ (type_of% r_217_127) ∧ (type_of% r_217_130) ∧ (type_of% r_217_131) ∧ (type_of% r_217_132) ∧ (type_of% r_217_134) ∧ (type_of% r_217_135) ∧ (type_of% r_217_136) ∧ (type_of% r_217_137) ∧ (type_of% r_217_140) ∧ (type_of% r_217_143) ∧ (type_of% r_217_144) ∧ (type_of% r_217_145) ∧ (type_of% r_217_147) ∧ (type_of% r_217_148) ∧ (type_of% r_217_149) ∧ (type_of% r_217_152) ∧ (type_of% r_217_155) ∧ (type_of% r_217_156) ∧ (type_of% r_217_159) ∧ (type_of% r_217_160) ∧ (type_of% r_217_162) ∧ (type_of% r_217_165) ∧ (type_of% r_217_168) ∧ (type_of% r_217_170) ∧ (type_of% r_217_170_1) := ⟨r_217_0, r_217_2, r_217_3, r_217_4, r_217_5, r_217_6, r_217_9, r_217_12, r_217_13, r_217_14, r_217_15, r_217_16, r_217_17, r_217_20, r_217_21, r_217_22, r_217_23, r_217_26, r_217_29, r_217_30, r_217_33, r_217_34, r_217_35, r_217_36, r_217_39, r_217_42, r_217_43, r_217_46, r_217_47, r_217_48, r_217_49, r_217_52, r_217_55, r_217_56, r_217_59, r_217_60, r_217_61, r_217_62, r_217_65, r_217_68, r_217_69, r_217_72, r_217_73, r_217_75, r_217_76, r_217_80, r_217_81, r_217_84, r_217_86, r_217_89, r_217_90, r_217_93, r_217_96, r_217_97, r_217_98, r_217_100, r_217_101, r_217_102, r_217_103, r_217_106, r_217_107, r_217_110, r_217_111, r_217_112, r_217_114, r_217_115, r_217_116, r_217_119, r_217_122, r_217_123, r_217_124, r_217_127, r_217_130, r_217_131, r_217_132, r_217_134, r_217_135, r_217_136, r_217_137, r_217_140, r_217_143, r_217_144, r_217_145, r_217_147, r_217_148, r_217_149, r_217_152, r_217_155, r_217_156, r_217_159, r_217_160, r_217_162, r_217_165, r_217_168, r_217_170, r_217_170_1⟩
set_option maxRecDepth 100000 in
theorem ca_217 {d y pc : Nat} {ls : Lc} {a : Nat} {z0 : Int32} {r : List Value} {M : Mem} {Q : Outcome → Mem → Prop} (hd : 0 < d) (hw : Wp (d - 1) 217 0 [some (.ref a), some (.int z0), none, none, none, none] [] M (Cq d y pc ls r Q)) : Ca d y pc ls 217 [.ref a, .int z0] r M Q := ca_of (mq_get (by decide)) (by rfl) hd hw
/-! 218 PackedTreeModel.isBodyAlike(II)Z; loop heads [] -/
set_option maxRecDepth 100000 in
theorem r_218_0 : ∀ (d : Nat) (l0 l1 : Option Value) (v : Int32) (st : List Value) (M : Mem) (Q : Outcome → Mem → Prop), Wp d 218 0 [l0, l1, some (.int v)] st M Q = Wp d 218 1 [l0, l1, some (.int v)] (.int v :: st) M Q := fun d l0 l1 v st M Q => wA (show ins 218 0 = some (.iload_n 2, 1) by decide +kernel) rfl
set_option maxRecDepth 100000 in
theorem r_218_1 : ∀ (d : Nat) (ls : Lc) (a : Int32) (st : List Value) (M : Mem) (Q : Outcome → Mem → Prop), Wp d 218 1 ls (.int a :: st) M Q = Br (¬ a = I 0) d 218 48 4 ls st M Q := fun d ls a st M Q => w_if (show ins 218 1 = some (.ifCond .ne 47, 3) by decide +kernel) rfl rfl
set_option maxRecDepth 100000 in
theorem r_218_4 : ∀ (d : Nat) (l1 l2 : Option Value) (v : Nat) (st : List Value) (M : Mem) (Q : Outcome → Mem → Prop), Wp d 218 4 [some (.ref v), l1, l2] st M Q = Wp d 218 5 [some (.ref v), l1, l2] (.ref v :: st) M Q := fun d l1 l2 v st M Q => wA (show ins 218 4 = some (.aload_n 0, 1) by decide +kernel) rfl
set_option maxRecDepth 100000 in
theorem r_218_5 : ∀ (d : Nat) (ls : Lc) (st : List Value) (M : Mem) (Q : Outcome → Mem → Prop), Wp d 218 5 ls st M Q = Wp d 218 7 ls (.int (I 96) :: st) M Q := fun d ls st M Q => w_bipush (show ins 218 5 = some (.bipush 96, 2) by decide +kernel) (by decide)
set_option maxRecDepth 100000 in
theorem r_218_7 : ∀ (d : Nat) (l0 l2 : Option Value) (v : Int32) (st : List Value) (M : Mem) (Q : Outcome → Mem → Prop), Wp d 218 7 [l0, some (.int v), l2] st M Q = Wp d 218 8 [l0, some (.int v), l2] (.int v :: st) M Q := fun d l0 l2 v st M Q => wA (show ins 218 7 = some (.iload_n 1, 1) by decide +kernel) rfl
set_option maxRecDepth 100000 in
theorem r_218_8 : ∀ (d : Nat) (ls : Lc) (a b : Int) (st : List Value) (M : Mem) (Q : Outcome → Mem → Prop), Wp d 218 8 ls (.int (I b) :: .int (I a) :: st) M Q = Wp d 218 9 ls (.int (I (a + b)) :: st) M Q := fun d ls a b st M Q => w_iadd (show ins 218 8 = some (.iadd, 1) by decide +kernel)
set_option maxRecDepth 100000 in
theorem r_218_9 : ∀ (d : Nat) (ls : Lc) (st : List Value) (M : Mem) (Q : Outcome → Mem → Prop), Wp d 218 9 ls st M Q = Wp d 218 10 ls (.int (I 1) :: st) M Q := fun d ls st M Q => w_iconst (show ins 218 9 = some (.iconst 1, 1) by decide +kernel)
set_option maxRecDepth 100000 in
theorem r_218_10 : ∀ (d : Nat) (ls : Lc) (v0 v1 : Value) (a : Nat) (st : List Value) (M : Mem) (Q : Outcome → Mem → Prop), (smallR st = true) → Wp d 218 10 ls (v1 :: v0 :: .ref a :: st) M Q = (kO M a = 8 ∧ Ca d 218 10 ls 216 (.ref a :: [v0, v1]) st M Q) := fun d ls v0 v1 a st M Q h0 => w_virt1 (as := [v0, v1]) (show ins 218 10 = some (.invokevirtual 198, 3) by decide +kernel) (show mRes (mC 218) 198 = some (3, 8, [(8, 216)]) by decide +kernel) (by decide +kernel) rfl (by decide +kernel) (by decide +kernel) h0
set_option maxRecDepth 100000 in
theorem r_218_13 : ∀ (d : Nat) (ls : Lc) (a : Int32) (st : List Value) (M : Mem) (Q : Outcome → Mem → Prop), Wp d 218 13 ls (.int a :: st) M Q = Br (a = I 0) d 218 46 16 ls st M Q := fun d ls a st M Q => w_if (show ins 218 13 = some (.ifCond .eq 33, 3) by decide +kernel) rfl rfl
set_option maxRecDepth 100000 in
theorem r_218_16 : ∀ (d : Nat) (l1 l2 : Option Value) (v : Nat) (st : List Value) (M : Mem) (Q : Outcome → Mem → Prop), Wp d 218 16 [some (.ref v), l1, l2] st M Q = Wp d 218 17 [some (.ref v), l1, l2] (.ref v :: st) M Q := fun d l1 l2 v st M Q => wA (show ins 218 16 = some (.aload_n 0, 1) by decide +kernel) rfl
set_option maxRecDepth 100000 in
theorem r_218_17 : ∀ (d : Nat) (ls : Lc) (st : List Value) (M : Mem) (Q : Outcome → Mem → Prop), Wp d 218 17 ls st M Q = Wp d 218 20 ls (.int (I 157) :: st) M Q := fun d ls st M Q => w_sipush (show ins 218 17 = some (.sipush 157, 3) by decide +kernel) (by decide)
set_option maxRecDepth 100000 in
theorem r_218_20 : ∀ (d : Nat) (l0 l2 : Option Value) (v : Int32) (st : List Value) (M : Mem) (Q : Outcome → Mem → Prop), Wp d 218 20 [l0, some (.int v), l2] st M Q = Wp d 218 21 [l0, some (.int v), l2] (.int v :: st) M Q := fun d l0 l2 v st M Q => wA (show ins 218 20 = some (.iload_n 1, 1) by decide +kernel) rfl
set_option maxRecDepth 100000 in
theorem r_218_21 : ∀ (d : Nat) (ls : Lc) (a b : Int) (st : List Value) (M : Mem) (Q : Outcome → Mem → Prop), Wp d 218 21 ls (.int (I b) :: .int (I a) :: st) M Q = Wp d 218 22 ls (.int (I (a + b)) :: st) M Q := fun d ls a b st M Q => w_iadd (show ins 218 21 = some (.iadd, 1) by decide +kernel)
set_option maxRecDepth 100000 in
theorem r_218_22 : ∀ (d : Nat) (ls : Lc) (st : List Value) (M : Mem) (Q : Outcome → Mem → Prop), Wp d 218 22 ls st M Q = Wp d 218 23 ls (.int (I 1) :: st) M Q := fun d ls st M Q => w_iconst (show ins 218 22 = some (.iconst 1, 1) by decide +kernel)
set_option maxRecDepth 100000 in
theorem r_218_23 : ∀ (d : Nat) (ls : Lc) (v0 v1 : Value) (a : Nat) (st : List Value) (M : Mem) (Q : Outcome → Mem → Prop), (smallR st = true) → Wp d 218 23 ls (v1 :: v0 :: .ref a :: st) M Q = (kO M a = 8 ∧ Ca d 218 23 ls 216 (.ref a :: [v0, v1]) st M Q) := fun d ls v0 v1 a st M Q h0 => w_virt1 (as := [v0, v1]) (show ins 218 23 = some (.invokevirtual 198, 3) by decide +kernel) (show mRes (mC 218) 198 = some (3, 8, [(8, 216)]) by decide +kernel) (by decide +kernel) rfl (by decide +kernel) (by decide +kernel) h0
set_option maxRecDepth 100000 in
theorem r_218_26 : ∀ (d : Nat) (ls : Lc) (a : Int32) (st : List Value) (M : Mem) (Q : Outcome → Mem → Prop), Wp d 218 26 ls (.int a :: st) M Q = Br (a = I 0) d 218 46 29 ls st M Q := fun d ls a st M Q => w_if (show ins 218 26 = some (.ifCond .eq 20, 3) by decide +kernel) rfl rfl
set_option maxRecDepth 100000 in
theorem r_218_29 : ∀ (d : Nat) (l1 l2 : Option Value) (v : Nat) (st : List Value) (M : Mem) (Q : Outcome → Mem → Prop), Wp d 218 29 [some (.ref v), l1, l2] st M Q = Wp d 218 30 [some (.ref v), l1, l2] (.ref v :: st) M Q := fun d l1 l2 v st M Q => wA (show ins 218 29 = some (.aload_n 0, 1) by decide +kernel) rfl
set_option maxRecDepth 100000 in
theorem r_218_30 : ∀ (d : Nat) (ls : Lc) (st : List Value) (M : Mem) (Q : Outcome → Mem → Prop), Wp d 218 30 ls st M Q = Wp d 218 33 ls (.int (I 218) :: st) M Q := fun d ls st M Q => w_sipush (show ins 218 30 = some (.sipush 218, 3) by decide +kernel) (by decide)
set_option maxRecDepth 100000 in
theorem r_218_33 : ∀ (d : Nat) (l0 l2 : Option Value) (v : Int32) (st : List Value) (M : Mem) (Q : Outcome → Mem → Prop), Wp d 218 33 [l0, some (.int v), l2] st M Q = Wp d 218 34 [l0, some (.int v), l2] (.int v :: st) M Q := fun d l0 l2 v st M Q => wA (show ins 218 33 = some (.iload_n 1, 1) by decide +kernel) rfl
set_option maxRecDepth 100000 in
theorem r_218_34 : ∀ (d : Nat) (ls : Lc) (a b : Int) (st : List Value) (M : Mem) (Q : Outcome → Mem → Prop), Wp d 218 34 ls (.int (I b) :: .int (I a) :: st) M Q = Wp d 218 35 ls (.int (I (a + b)) :: st) M Q := fun d ls a b st M Q => w_iadd (show ins 218 34 = some (.iadd, 1) by decide +kernel)
set_option maxRecDepth 100000 in
theorem r_218_35 : ∀ (d : Nat) (ls : Lc) (st : List Value) (M : Mem) (Q : Outcome → Mem → Prop), Wp d 218 35 ls st M Q = Wp d 218 36 ls (.int (I 1) :: st) M Q := fun d ls st M Q => w_iconst (show ins 218 35 = some (.iconst 1, 1) by decide +kernel)
set_option maxRecDepth 100000 in
theorem r_218_36 : ∀ (d : Nat) (ls : Lc) (v0 v1 : Value) (a : Nat) (st : List Value) (M : Mem) (Q : Outcome → Mem → Prop), (smallR st = true) → Wp d 218 36 ls (v1 :: v0 :: .ref a :: st) M Q = (kO M a = 8 ∧ Ca d 218 36 ls 216 (.ref a :: [v0, v1]) st M Q) := fun d ls v0 v1 a st M Q h0 => w_virt1 (as := [v0, v1]) (show ins 218 36 = some (.invokevirtual 198, 3) by decide +kernel) (show mRes (mC 218) 198 = some (3, 8, [(8, 216)]) by decide +kernel) (by decide +kernel) rfl (by decide +kernel) (by decide +kernel) h0
set_option maxRecDepth 100000 in
theorem r_218_39 : ∀ (d : Nat) (ls : Lc) (a : Int32) (st : List Value) (M : Mem) (Q : Outcome → Mem → Prop), Wp d 218 39 ls (.int a :: st) M Q = Br (a = I 0) d 218 46 42 ls st M Q := fun d ls a st M Q => w_if (show ins 218 39 = some (.ifCond .eq 7, 3) by decide +kernel) rfl rfl
set_option maxRecDepth 100000 in
theorem r_218_42 : ∀ (d : Nat) (ls : Lc) (st : List Value) (M : Mem) (Q : Outcome → Mem → Prop), Wp d 218 42 ls st M Q = Wp d 218 43 ls (.int (I 1) :: st) M Q := fun d ls st M Q => w_iconst (show ins 218 42 = some (.iconst 1, 1) by decide +kernel)
set_option maxRecDepth 100000 in
theorem r_218_43 : ∀ (d : Nat) (ls : Lc) (st : List Value) (M : Mem) (Q : Outcome → Mem → Prop), Wp d 218 43 ls st M Q = Wp d 218 47 ls st M Q := fun d ls st M Q => w_goto (show ins 218 43 = some (.goto 4, 3) by decide +kernel) rfl
set_option maxRecDepth 100000 in
theorem r_218_46 : ∀ (d : Nat) (ls : Lc) (st : List Value) (M : Mem) (Q : Outcome → Mem → Prop), Wp d 218 46 ls st M Q = Wp d 218 47 ls (.int (I 0) :: st) M Q := fun d ls st M Q => w_iconst (show ins 218 46 = some (.iconst 0, 1) by decide +kernel)
set_option maxRecDepth 100000 in
theorem r_218_47 : ∀ (d : Nat) (ls : Lc) (z : Int) (M : Mem) (Q : Outcome → Mem → Prop), (z = 0 ∨ z = 1) → Wp d 218 47 ls [.int (I z)] M Q = Q (.returned (some (.int (I z)))) M := fun d ls z M Q h0 => w_zretI (show ins 218 47 = some (.ireturn, 1) by decide +kernel) (by decide +kernel) h0
set_option maxRecDepth 100000 in
theorem r_218_47_1 : ∀ (d : Nat) (ls : Lc) (b : Bool) (M : Mem) (Q : Outcome → Mem → Prop), Wp d 218 47 ls [.int (I (bI b))] M Q = Q (.returned (some (.int (I (bI b))))) M := fun d ls b M Q => w_zretB (show ins 218 47 = some (.ireturn, 1) by decide +kernel) (by decide +kernel)
set_option maxRecDepth 100000 in
theorem r_218_48 : ∀ (d : Nat) (l0 l1 : Option Value) (v : Int32) (st : List Value) (M : Mem) (Q : Outcome → Mem → Prop), Wp d 218 48 [l0, l1, some (.int v)] st M Q = Wp d 218 49 [l0, l1, some (.int v)] (.int v :: st) M Q := fun d l0 l1 v st M Q => wA (show ins 218 48 = some (.iload_n 2, 1) by decide +kernel) rfl
set_option maxRecDepth 100000 in
theorem r_218_49 : ∀ (d : Nat) (ls : Lc) (st : List Value) (M : Mem) (Q : Outcome → Mem → Prop), Wp d 218 49 ls st M Q = Wp d 218 50 ls (.int (I 2) :: st) M Q := fun d ls st M Q => w_iconst (show ins 218 49 = some (.iconst 2, 1) by decide +kernel)
set_option maxRecDepth 100000 in
theorem r_218_50 : ∀ (d : Nat) (ls : Lc) (a b : Int32) (st : List Value) (M : Mem) (Q : Outcome → Mem → Prop), Wp d 218 50 ls (.int b :: .int a :: st) M Q = Br (¬ a = b) d 218 99 53 ls st M Q := fun d ls a b st M Q => w_icmp (show ins 218 50 = some (.if_icmp .ne 49, 3) by decide +kernel) rfl rfl
set_option maxRecDepth 100000 in
theorem r_218_53 : ∀ (d : Nat) (l1 l2 : Option Value) (v : Nat) (st : List Value) (M : Mem) (Q : Outcome → Mem → Prop), Wp d 218 53 [some (.ref v), l1, l2] st M Q = Wp d 218 54 [some (.ref v), l1, l2] (.ref v :: st) M Q := fun d l1 l2 v st M Q => wA (show ins 218 53 = some (.aload_n 0, 1) by decide +kernel) rfl
set_option maxRecDepth 100000 in
theorem r_218_54 : ∀ (d : Nat) (ls : Lc) (st : List Value) (M : Mem) (Q : Outcome → Mem → Prop), Wp d 218 54 ls st M Q = Wp d 218 57 ls (.int (I 279) :: st) M Q := fun d ls st M Q => w_sipush (show ins 218 54 = some (.sipush 279, 3) by decide +kernel) (by decide)
set_option maxRecDepth 100000 in
theorem r_218_57 : ∀ (d : Nat) (l0 l2 : Option Value) (v : Int32) (st : List Value) (M : Mem) (Q : Outcome → Mem → Prop), Wp d 218 57 [l0, some (.int v), l2] st M Q = Wp d 218 58 [l0, some (.int v), l2] (.int v :: st) M Q := fun d l0 l2 v st M Q => wA (show ins 218 57 = some (.iload_n 1, 1) by decide +kernel) rfl
set_option maxRecDepth 100000 in
theorem r_218_58 : ∀ (d : Nat) (ls : Lc) (a b : Int) (st : List Value) (M : Mem) (Q : Outcome → Mem → Prop), Wp d 218 58 ls (.int (I b) :: .int (I a) :: st) M Q = Wp d 218 59 ls (.int (I (a + b)) :: st) M Q := fun d ls a b st M Q => w_iadd (show ins 218 58 = some (.iadd, 1) by decide +kernel)
set_option maxRecDepth 100000 in
theorem r_218_59 : ∀ (d : Nat) (ls : Lc) (st : List Value) (M : Mem) (Q : Outcome → Mem → Prop), Wp d 218 59 ls st M Q = Wp d 218 60 ls (.int (I 1) :: st) M Q := fun d ls st M Q => w_iconst (show ins 218 59 = some (.iconst 1, 1) by decide +kernel)
set_option maxRecDepth 100000 in
theorem r_218_60 : ∀ (d : Nat) (ls : Lc) (v0 v1 : Value) (a : Nat) (st : List Value) (M : Mem) (Q : Outcome → Mem → Prop), (smallR st = true) → Wp d 218 60 ls (v1 :: v0 :: .ref a :: st) M Q = (kO M a = 8 ∧ Ca d 218 60 ls 216 (.ref a :: [v0, v1]) st M Q) := fun d ls v0 v1 a st M Q h0 => w_virt1 (as := [v0, v1]) (show ins 218 60 = some (.invokevirtual 198, 3) by decide +kernel) (show mRes (mC 218) 198 = some (3, 8, [(8, 216)]) by decide +kernel) (by decide +kernel) rfl (by decide +kernel) (by decide +kernel) h0
set_option maxRecDepth 100000 in
theorem r_218_63 : ∀ (d : Nat) (ls : Lc) (a : Int32) (st : List Value) (M : Mem) (Q : Outcome → Mem → Prop), Wp d 218 63 ls (.int a :: st) M Q = Br (a = I 0) d 218 95 66 ls st M Q := fun d ls a st M Q => w_if (show ins 218 63 = some (.ifCond .eq 32, 3) by decide +kernel) rfl rfl
set_option maxRecDepth 100000 in
theorem r_218_66 : ∀ (d : Nat) (l1 l2 : Option Value) (v : Nat) (st : List Value) (M : Mem) (Q : Outcome → Mem → Prop), Wp d 218 66 [some (.ref v), l1, l2] st M Q = Wp d 218 67 [some (.ref v), l1, l2] (.ref v :: st) M Q := fun d l1 l2 v st M Q => wA (show ins 218 66 = some (.aload_n 0, 1) by decide +kernel) rfl
set_option maxRecDepth 100000 in
theorem r_218_67 : ∀ (d : Nat) (ls : Lc) (st : List Value) (M : Mem) (Q : Outcome → Mem → Prop), Wp d 218 67 ls st M Q = Wp d 218 70 ls (.int (I 340) :: st) M Q := fun d ls st M Q => w_sipush (show ins 218 67 = some (.sipush 340, 3) by decide +kernel) (by decide)
set_option maxRecDepth 100000 in
theorem r_218_70 : ∀ (d : Nat) (ls : Lc) (st : List Value) (M : Mem) (Q : Outcome → Mem → Prop), Wp d 218 70 ls st M Q = Wp d 218 72 ls (.int (I 16) :: st) M Q := fun d ls st M Q => w_bipush (show ins 218 70 = some (.bipush 16, 2) by decide +kernel) (by decide)
set_option maxRecDepth 100000 in
theorem r_218_72 : ∀ (d : Nat) (l0 l2 : Option Value) (v : Int32) (st : List Value) (M : Mem) (Q : Outcome → Mem → Prop), Wp d 218 72 [l0, some (.int v), l2] st M Q = Wp d 218 73 [l0, some (.int v), l2] (.int v :: st) M Q := fun d l0 l2 v st M Q => wA (show ins 218 72 = some (.iload_n 1, 1) by decide +kernel) rfl
set_option maxRecDepth 100000 in
theorem r_218_73 : ∀ (d : Nat) (ls : Lc) (a b : Int) (st : List Value) (M : Mem) (Q : Outcome → Mem → Prop), Wp d 218 73 ls (.int (I b) :: .int (I a) :: st) M Q = Wp d 218 74 ls (.int (I (a * b)) :: st) M Q := fun d ls a b st M Q => w_imul (show ins 218 73 = some (.imul, 1) by decide +kernel)
set_option maxRecDepth 100000 in
theorem r_218_74 : ∀ (d : Nat) (ls : Lc) (a b : Int) (st : List Value) (M : Mem) (Q : Outcome → Mem → Prop), Wp d 218 74 ls (.int (I b) :: .int (I a) :: st) M Q = Wp d 218 75 ls (.int (I (a + b)) :: st) M Q := fun d ls a b st M Q => w_iadd (show ins 218 74 = some (.iadd, 1) by decide +kernel)
set_option maxRecDepth 100000 in
theorem r_218_75 : ∀ (d : Nat) (l1 l2 : Option Value) (v : Nat) (st : List Value) (M : Mem) (Q : Outcome → Mem → Prop), Wp d 218 75 [some (.ref v), l1, l2] st M Q = Wp d 218 76 [some (.ref v), l1, l2] (.ref v :: st) M Q := fun d l1 l2 v st M Q => wA (show ins 218 75 = some (.aload_n 0, 1) by decide +kernel) rfl
set_option maxRecDepth 100000 in
theorem r_218_76 : ∀ (d : Nat) (ls : Lc) (a : Nat) (st : List Value) (M : Mem) (Q : Outcome → Mem → Prop), Wp d 218 76 ls (.ref a :: st) M Q = (fk 53 (kO M a) = true ∧ Wp d 218 79 ls (va_rf (mR M 53 a) :: st) M Q) := fun d ls a st M Q => w_getR (show ins 218 76 = some (.getfield 7, 3) by decide +kernel) (show fRes (mC 218) 7 = some (53, 8, false) by decide +kernel) (by decide +kernel)
set_option maxRecDepth 100000 in
theorem r_218_79 : ∀ (d : Nat) (ls : Lc) (st : List Value) (M : Mem) (Q : Outcome → Mem → Prop), Wp d 218 79 ls st M Q = Wp d 218 82 ls (.int (I 279) :: st) M Q := fun d ls st M Q => w_sipush (show ins 218 79 = some (.sipush 279, 3) by decide +kernel) (by decide)
set_option maxRecDepth 100000 in
theorem r_218_82 : ∀ (d : Nat) (l0 l2 : Option Value) (v : Int32) (st : List Value) (M : Mem) (Q : Outcome → Mem → Prop), Wp d 218 82 [l0, some (.int v), l2] st M Q = Wp d 218 83 [l0, some (.int v), l2] (.int v :: st) M Q := fun d l0 l2 v st M Q => wA (show ins 218 82 = some (.iload_n 1, 1) by decide +kernel) rfl
set_option maxRecDepth 100000 in
theorem r_218_83 : ∀ (d : Nat) (ls : Lc) (a b : Int) (st : List Value) (M : Mem) (Q : Outcome → Mem → Prop), Wp d 218 83 ls (.int (I b) :: .int (I a) :: st) M Q = Wp d 218 84 ls (.int (I (a + b)) :: st) M Q := fun d ls a b st M Q => w_iadd (show ins 218 83 = some (.iadd, 1) by decide +kernel)
set_option maxRecDepth 100000 in
theorem r_218_84 : ∀ (d : Nat) (ls : Lc) (a : Nat) (j : Int32) (st : List Value) (M : Mem) (Q : Outcome → Mem → Prop), Wp d 218 84 ls (.int j :: .ref a :: st) M Q = ((((kX M a).1 = 0 ∨ (kX M a).1 = 8) ∧ inB j (kX M a).2 = true) ∧ Wp d 218 85 ls (.int (mA M a j.toNatClampNeg) :: st) M Q) := fun d ls a j st M Q => w_iaload (show ins 218 84 = some (.iaload, 1) by decide +kernel)
set_option maxRecDepth 100000 in
theorem r_218_85 : ∀ (d : Nat) (ls : Lc) (v0 v1 : Value) (a : Nat) (st : List Value) (M : Mem) (Q : Outcome → Mem → Prop), (smallR st = true) → Wp d 218 85 ls (v1 :: v0 :: .ref a :: st) M Q = (kO M a = 8 ∧ Ca d 218 85 ls 216 (.ref a :: [v0, v1]) st M Q) := fun d ls v0 v1 a st M Q h0 => w_virt1 (as := [v0, v1]) (show ins 218 85 = some (.invokevirtual 198, 3) by decide +kernel) (show mRes (mC 218) 198 = some (3, 8, [(8, 216)]) by decide +kernel) (by decide +kernel) rfl (by decide +kernel) (by decide +kernel) h0
set_option maxRecDepth 100000 in
theorem r_218_88 : ∀ (d : Nat) (ls : Lc) (a : Int32) (st : List Value) (M : Mem) (Q : Outcome → Mem → Prop), Wp d 218 88 ls (.int a :: st) M Q = Br (a = I 0) d 218 95 91 ls st M Q := fun d ls a st M Q => w_if (show ins 218 88 = some (.ifCond .eq 7, 3) by decide +kernel) rfl rfl
set_option maxRecDepth 100000 in
theorem r_218_91 : ∀ (d : Nat) (ls : Lc) (st : List Value) (M : Mem) (Q : Outcome → Mem → Prop), Wp d 218 91 ls st M Q = Wp d 218 92 ls (.int (I 1) :: st) M Q := fun d ls st M Q => w_iconst (show ins 218 91 = some (.iconst 1, 1) by decide +kernel)
set_option maxRecDepth 100000 in
theorem r_218_92 : ∀ (d : Nat) (ls : Lc) (st : List Value) (M : Mem) (Q : Outcome → Mem → Prop), Wp d 218 92 ls st M Q = Wp d 218 126 ls st M Q := fun d ls st M Q => w_goto (show ins 218 92 = some (.goto 34, 3) by decide +kernel) rfl
set_option maxRecDepth 100000 in
theorem r_218_95 : ∀ (d : Nat) (ls : Lc) (st : List Value) (M : Mem) (Q : Outcome → Mem → Prop), Wp d 218 95 ls st M Q = Wp d 218 96 ls (.int (I 0) :: st) M Q := fun d ls st M Q => w_iconst (show ins 218 95 = some (.iconst 0, 1) by decide +kernel)
set_option maxRecDepth 100000 in
theorem r_218_96 : ∀ (d : Nat) (ls : Lc) (st : List Value) (M : Mem) (Q : Outcome → Mem → Prop), Wp d 218 96 ls st M Q = Wp d 218 126 ls st M Q := fun d ls st M Q => w_goto (show ins 218 96 = some (.goto 30, 3) by decide +kernel) rfl
set_option maxRecDepth 100000 in
theorem r_218_99 : ∀ (d : Nat) (l0 l1 : Option Value) (v : Int32) (st : List Value) (M : Mem) (Q : Outcome → Mem → Prop), Wp d 218 99 [l0, l1, some (.int v)] st M Q = Wp d 218 100 [l0, l1, some (.int v)] (.int v :: st) M Q := fun d l0 l1 v st M Q => wA (show ins 218 99 = some (.iload_n 2, 1) by decide +kernel) rfl
set_option maxRecDepth 100000 in
theorem r_218_100 : ∀ (d : Nat) (ls : Lc) (st : List Value) (M : Mem) (Q : Outcome → Mem → Prop), Wp d 218 100 ls st M Q = Wp d 218 101 ls (.int (I 1) :: st) M Q := fun d ls st M Q => w_iconst (show ins 218 100 = some (.iconst 1, 1) by decide +kernel)
set_option maxRecDepth 100000 in
theorem r_218_101 : ∀ (d : Nat) (ls : Lc) (a b : Int32) (st : List Value) (M : Mem) (Q : Outcome → Mem → Prop), Wp d 218 101 ls (.int b :: .int a :: st) M Q = Br (a = b) d 218 121 104 ls st M Q := fun d ls a b st M Q => w_icmp (show ins 218 101 = some (.if_icmp .eq 20, 3) by decide +kernel) rfl rfl
set_option maxRecDepth 100000 in
theorem r_218_104 : ∀ (d : Nat) (l1 l2 : Option Value) (v : Nat) (st : List Value) (M : Mem) (Q : Outcome → Mem → Prop), Wp d 218 104 [some (.ref v), l1, l2] st M Q = Wp d 218 105 [some (.ref v), l1, l2] (.ref v :: st) M Q := fun d l1 l2 v st M Q => wA (show ins 218 104 = some (.aload_n 0, 1) by decide +kernel) rfl
set_option maxRecDepth 100000 in
theorem r_218_105 : ∀ (d : Nat) (ls : Lc) (st : List Value) (M : Mem) (Q : Outcome → Mem → Prop), Wp d 218 105 ls st M Q = Wp d 218 108 ls (.int (I 1316) :: st) M Q := fun d ls st M Q => w_sipush (show ins 218 105 = some (.sipush 1316, 3) by decide +kernel) (by decide)
set_option maxRecDepth 100000 in
theorem r_218_108 : ∀ (d : Nat) (ls : Lc) (st : List Value) (M : Mem) (Q : Outcome → Mem → Prop), Wp d 218 108 ls st M Q = Wp d 218 110 ls (.int (I 40) :: st) M Q := fun d ls st M Q => w_bipush (show ins 218 108 = some (.bipush 40, 2) by decide +kernel) (by decide)
set_option maxRecDepth 100000 in
theorem r_218_110 : ∀ (d : Nat) (l0 l2 : Option Value) (v : Int32) (st : List Value) (M : Mem) (Q : Outcome → Mem → Prop), Wp d 218 110 [l0, some (.int v), l2] st M Q = Wp d 218 111 [l0, some (.int v), l2] (.int v :: st) M Q := fun d l0 l2 v st M Q => wA (show ins 218 110 = some (.iload_n 1, 1) by decide +kernel) rfl
set_option maxRecDepth 100000 in
theorem r_218_111 : ∀ (d : Nat) (ls : Lc) (a b : Int) (st : List Value) (M : Mem) (Q : Outcome → Mem → Prop), Wp d 218 111 ls (.int (I b) :: .int (I a) :: st) M Q = Wp d 218 112 ls (.int (I (a * b)) :: st) M Q := fun d ls a b st M Q => w_imul (show ins 218 111 = some (.imul, 1) by decide +kernel)
set_option maxRecDepth 100000 in
theorem r_218_112 : ∀ (d : Nat) (ls : Lc) (a b : Int) (st : List Value) (M : Mem) (Q : Outcome → Mem → Prop), Wp d 218 112 ls (.int (I b) :: .int (I a) :: st) M Q = Wp d 218 113 ls (.int (I (a + b)) :: st) M Q := fun d ls a b st M Q => w_iadd (show ins 218 112 = some (.iadd, 1) by decide +kernel)
set_option maxRecDepth 100000 in
theorem r_218_113 : ∀ (d : Nat) (ls : Lc) (st : List Value) (M : Mem) (Q : Outcome → Mem → Prop), Wp d 218 113 ls st M Q = Wp d 218 115 ls (.int (I 40) :: st) M Q := fun d ls st M Q => w_bipush (show ins 218 113 = some (.bipush 40, 2) by decide +kernel) (by decide)
set_option maxRecDepth 100000 in
theorem r_218_115 : ∀ (d : Nat) (ls : Lc) (v0 v1 : Value) (a : Nat) (st : List Value) (M : Mem) (Q : Outcome → Mem → Prop), (smallR st = true) → Wp d 218 115 ls (v1 :: v0 :: .ref a :: st) M Q = (kO M a = 8 ∧ Ca d 218 115 ls 216 (.ref a :: [v0, v1]) st M Q) := fun d ls v0 v1 a st M Q h0 => w_virt1 (as := [v0, v1]) (show ins 218 115 = some (.invokevirtual 198, 3) by decide +kernel) (show mRes (mC 218) 198 = some (3, 8, [(8, 216)]) by decide +kernel) (by decide +kernel) rfl (by decide +kernel) (by decide +kernel) h0
set_option maxRecDepth 100000 in
theorem r_218_118 : ∀ (d : Nat) (ls : Lc) (a : Int32) (st : List Value) (M : Mem) (Q : Outcome → Mem → Prop), Wp d 218 118 ls (.int a :: st) M Q = Br (a = I 0) d 218 125 121 ls st M Q := fun d ls a st M Q => w_if (show ins 218 118 = some (.ifCond .eq 7, 3) by decide +kernel) rfl rfl
set_option maxRecDepth 100000 in
theorem r_218_121 : ∀ (d : Nat) (ls : Lc) (st : List Value) (M : Mem) (Q : Outcome → Mem → Prop), Wp d 218 121 ls st M Q = Wp d 218 122 ls (.int (I 1) :: st) M Q := fun d ls st M Q => w_iconst (show ins 218 121 = some (.iconst 1, 1) by decide +kernel)
set_option maxRecDepth 100000 in
theorem r_218_122 : ∀ (d : Nat) (ls : Lc) (st : List Value) (M : Mem) (Q : Outcome → Mem → Prop), Wp d 218 122 ls st M Q = Wp d 218 126 ls st M Q := fun d ls st M Q => w_goto (show ins 218 122 = some (.goto 4, 3) by decide +kernel) rfl
set_option maxRecDepth 100000 in
theorem r_218_125 : ∀ (d : Nat) (ls : Lc) (st : List Value) (M : Mem) (Q : Outcome → Mem → Prop), Wp d 218 125 ls st M Q = Wp d 218 126 ls (.int (I 0) :: st) M Q := fun d ls st M Q => w_iconst (show ins 218 125 = some (.iconst 0, 1) by decide +kernel)
set_option maxRecDepth 100000 in
theorem r_218_126 : ∀ (d : Nat) (ls : Lc) (z : Int) (M : Mem) (Q : Outcome → Mem → Prop), (z = 0 ∨ z = 1) → Wp d 218 126 ls [.int (I z)] M Q = Q (.returned (some (.int (I z)))) M := fun d ls z M Q h0 => w_zretI (show ins 218 126 = some (.ireturn, 1) by decide +kernel) (by decide +kernel) h0
set_option maxRecDepth 100000 in
theorem r_218_126_1 : ∀ (d : Nat) (ls : Lc) (b : Bool) (M : Mem) (Q : Outcome → Mem → Prop), Wp d 218 126 ls [.int (I (bI b))] M Q = Q (.returned (some (.int (I (bI b))))) M := fun d ls b M Q => w_zretB (show ins 218 126 = some (.ireturn, 1) by decide +kernel) (by decide +kernel)
set_option maxRecDepth 100000 in
theorem W_218 : (type_of% r_218_0) ∧ (type_of% r_218_1) ∧ (type_of% r_218_4) ∧ (type_of% r_218_5) ∧ (type_of% r_218_7) ∧ (type_of% r_218_8) ∧ (type_of% r_218_9) ∧ (type_of% r_218_10) ∧ (type_of% r_218_13) ∧ (type_of% r_218_16) ∧ (type_of% r_218_17) ∧ (type_of% r_218_20) ∧ (type_of% r_218_21) ∧ (type_of% r_218_22) ∧ (type_of% r_218_23) ∧ (type_of% r_218_26) ∧ (type_of% r_218_29) ∧ (type_of% r_218_30) ∧ (type_of% r_218_33) ∧ (type_of% r_218_34) ∧ (type_of% r_218_35) ∧ (type_of% r_218_36) ∧ (type_of% r_218_39) ∧ (type_of% r_218_42) ∧ (type_of% r_218_43) ∧ (type_of% r_218_46) ∧ (type_of% r_218_47) ∧ (type_of% r_218_47_1) ∧ (type_of% r_218_48) ∧ (type_of% r_218_49) ∧ (type_of% r_218_50) ∧ (type_of% r_218_53) ∧ (type_of% r_218_54) ∧ (type_of% r_218_57) ∧ (type_of% r_218_58) ∧ (type_of% r_218_59) ∧ (type_of% r_218_60) ∧ (type_of% r_218_63) ∧ (type_of% r_218_66) ∧ (type_of% r_218_67) ∧ (type_of% r_218_70) ∧ (type_of% r_218_72) ∧ (type_of% r_218_73) ∧ (type_of% r_218_74) ∧ (type_of% r_218_75) ∧ (type_of% r_218_76) ∧ (type_of% r_218_79) ∧ (type_of% r_218_82) ∧ (type_of% r_218_83) ∧ (type_of% r_218_84) ∧ (type_of% r_218_85) ∧ (type_of% r_218_88) ∧ (type_of% r_218_91) ∧ (type_of% r_218_92) ∧ (type_of% r_218_95) ∧ (type_of% r_218_96) ∧ (type_of% r_218_99) ∧ (type_of% r_218_100) ∧ (type_of% r_218_101) ∧ (type_of% r_218_104) ∧ (type_of% r_218_105) ∧ (type_of% r_218_108) ∧ (type_of% r_218_110) ∧ (type_of% r_218_111) ∧ (type_of% r_218_112) ∧ (type_of% r_218_113) ∧ (type_of% r_218_115) ∧ (type_of% r_218_118) ∧ (type_of% r_218_121) ∧ (type_of% r_218_122) ∧ (type_of% r_218_125) ∧ (type_of% r_218_126) ∧ (type_of% r_218_126_1) := ⟨r_218_0, r_218_1, r_218_4, r_218_5, r_218_7, r_218_8, r_218_9, r_218_10, r_218_13, r_218_16, r_218_17, r_218_20, r_218_21, r_218_22, r_218_23, r_218_26, r_218_29, r_218_30, r_218_33, r_218_34, r_218_35, r_218_36, r_218_39, r_218_42, r_218_43, r_218_46, r_218_47, r_218_47_1, r_218_48, r_218_49, r_218_50, r_218_53, r_218_54, r_218_57, r_218_58, r_218_59, r_218_60, r_218_63, r_218_66, r_218_67, r_218_70, r_218_72, r_218_73, r_218_74, r_218_75, r_218_76, r_218_79, r_218_82, r_218_83, r_218_84, r_218_85, r_218_88, r_218_91, r_218_92, r_218_95, r_218_96, r_218_99, r_218_100, r_218_101, r_218_104, r_218_105, r_218_108, r_218_110, r_218_111, r_218_112, r_218_113, r_218_115, r_218_118, r_218_121, r_218_122, r_218_125, r_218_126, r_218_126_1⟩
set_option maxRecDepth 100000 in
theorem ca_218 {d y pc : Nat} {ls : Lc} {a : Nat} {z0 : Int32} {z1 : Int32} {r : List Value} {M : Mem} {Q : Outcome → Mem → Prop} (hd : 0 < d) (hw : Wp (d - 1) 218 0 [some (.ref a), some (.int z0), some (.int z1)] [] M (Cq d y pc ls r Q)) : Ca d y pc ls 218 [.ref a, .int z0, .int z1] r M Q := ca_of (mq_get (by decide)) (by rfl) hd hw
/-! 219 PackedTreeModel.isInnerAlike(I)Z; loop heads [28] -/
set_option maxRecDepth 100000 in
theorem r_219_0 : ∀ (d : Nat) (l1 l2 l3 l4 l5 l6 : Option Value) (v : Nat) (st : List Value) (M : Mem) (Q : Outcome → Mem → Prop), Wp d 219 0 [some (.ref v), l1, l2, l3, l4, l5, l6] st M Q = Wp d 219 1 [some (.ref v), l1, l2, l3, l4, l5, l6] (.ref v :: st) M Q := fun d l1 l2 l3 l4 l5 l6 v st M Q => wA (show ins 219 0 = some (.aload_n 0, 1) by decide +kernel) rfl
set_option maxRecDepth 100000 in
theorem r_219_1 : ∀ (d : Nat) (ls : Lc) (a : Nat) (st : List Value) (M : Mem) (Q : Outcome → Mem → Prop), Wp d 219 1 ls (.ref a :: st) M Q = (fk 53 (kO M a) = true ∧ Wp d 219 4 ls (va_rf (mR M 53 a) :: st) M Q) := fun d ls a st M Q => w_getR (show ins 219 1 = some (.getfield 7, 3) by decide +kernel) (show fRes (mC 219) 7 = some (53, 8, false) by decide +kernel) (by decide +kernel)
set_option maxRecDepth 100000 in
theorem r_219_4 : ∀ (d : Nat) (ls : Lc) (st : List Value) (M : Mem) (Q : Outcome → Mem → Prop), Wp d 219 4 ls st M Q = Wp d 219 7 ls (.int (I 3852) :: st) M Q := fun d ls st M Q => w_sipush (show ins 219 4 = some (.sipush 3852, 3) by decide +kernel) (by decide)
set_option maxRecDepth 100000 in
theorem r_219_7 : ∀ (d : Nat) (l0 l2 l3 l4 l5 l6 : Option Value) (v : Int32) (st : List Value) (M : Mem) (Q : Outcome → Mem → Prop), Wp d 219 7 [l0, some (.int v), l2, l3, l4, l5, l6] st M Q = Wp d 219 8 [l0, some (.int v), l2, l3, l4, l5, l6] (.int v :: st) M Q := fun d l0 l2 l3 l4 l5 l6 v st M Q => wA (show ins 219 7 = some (.iload_n 1, 1) by decide +kernel) rfl
set_option maxRecDepth 100000 in
theorem r_219_8 : ∀ (d : Nat) (ls : Lc) (a b : Int) (st : List Value) (M : Mem) (Q : Outcome → Mem → Prop), Wp d 219 8 ls (.int (I b) :: .int (I a) :: st) M Q = Wp d 219 9 ls (.int (I (a + b)) :: st) M Q := fun d ls a b st M Q => w_iadd (show ins 219 8 = some (.iadd, 1) by decide +kernel)
set_option maxRecDepth 100000 in
theorem r_219_9 : ∀ (d : Nat) (ls : Lc) (a : Nat) (j : Int32) (st : List Value) (M : Mem) (Q : Outcome → Mem → Prop), Wp d 219 9 ls (.int j :: .ref a :: st) M Q = ((((kX M a).1 = 0 ∨ (kX M a).1 = 8) ∧ inB j (kX M a).2 = true) ∧ Wp d 219 10 ls (.int (mA M a j.toNatClampNeg) :: st) M Q) := fun d ls a j st M Q => w_iaload (show ins 219 9 = some (.iaload, 1) by decide +kernel)
set_option maxRecDepth 100000 in
theorem r_219_10 : ∀ (d : Nat) (l0 l1 l2 l3 l4 l5 l6 : Option Value) (v : Int32) (st : List Value) (M : Mem) (Q : Outcome → Mem → Prop), (lo l1 = false) → Wp d 219 10 [l0, l1, l2, l3, l4, l5, l6] (.int v :: st) M Q = Wp d 219 11 [l0, l1, some (.int v), l3, l4, l5, l6] st M Q := fun d l0 l1 l2 l3 l4 l5 l6 v st M Q hl => w_istore_n (show ins 219 10 = some (.istore_n 2, 1) by decide +kernel) (st1_S rfl rfl hl)
set_option maxRecDepth 100000 in
theorem r_219_11 : ∀ (d : Nat) (l1 l2 l3 l4 l5 l6 : Option Value) (v : Nat) (st : List Value) (M : Mem) (Q : Outcome → Mem → Prop), Wp d 219 11 [some (.ref v), l1, l2, l3, l4, l5, l6] st M Q = Wp d 219 12 [some (.ref v), l1, l2, l3, l4, l5, l6] (.ref v :: st) M Q := fun d l1 l2 l3 l4 l5 l6 v st M Q => wA (show ins 219 11 = some (.aload_n 0, 1) by decide +kernel) rfl
set_option maxRecDepth 100000 in
theorem r_219_12 : ∀ (d : Nat) (ls : Lc) (st : List Value) (M : Mem) (Q : Outcome → Mem → Prop), Wp d 219 12 ls st M Q = Wp d 219 15 ls (.int (I 4044) :: st) M Q := fun d ls st M Q => w_sipush (show ins 219 12 = some (.sipush 4044, 3) by decide +kernel) (by decide)
set_option maxRecDepth 100000 in
theorem r_219_15 : ∀ (d : Nat) (ls : Lc) (st : List Value) (M : Mem) (Q : Outcome → Mem → Prop), Wp d 219 15 ls st M Q = Wp d 219 17 ls (.int (I 6) :: st) M Q := fun d ls st M Q => w_bipush (show ins 219 15 = some (.bipush 6, 2) by decide +kernel) (by decide)
set_option maxRecDepth 100000 in
theorem r_219_17 : ∀ (d : Nat) (l0 l2 l3 l4 l5 l6 : Option Value) (v : Int32) (st : List Value) (M : Mem) (Q : Outcome → Mem → Prop), Wp d 219 17 [l0, some (.int v), l2, l3, l4, l5, l6] st M Q = Wp d 219 18 [l0, some (.int v), l2, l3, l4, l5, l6] (.int v :: st) M Q := fun d l0 l2 l3 l4 l5 l6 v st M Q => wA (show ins 219 17 = some (.iload_n 1, 1) by decide +kernel) rfl
set_option maxRecDepth 100000 in
theorem r_219_18 : ∀ (d : Nat) (ls : Lc) (a b : Int) (st : List Value) (M : Mem) (Q : Outcome → Mem → Prop), Wp d 219 18 ls (.int (I b) :: .int (I a) :: st) M Q = Wp d 219 19 ls (.int (I (a * b)) :: st) M Q := fun d ls a b st M Q => w_imul (show ins 219 18 = some (.imul, 1) by decide +kernel)
set_option maxRecDepth 100000 in
theorem r_219_19 : ∀ (d : Nat) (ls : Lc) (a b : Int) (st : List Value) (M : Mem) (Q : Outcome → Mem → Prop), Wp d 219 19 ls (.int (I b) :: .int (I a) :: st) M Q = Wp d 219 20 ls (.int (I (a + b)) :: st) M Q := fun d ls a b st M Q => w_iadd (show ins 219 19 = some (.iadd, 1) by decide +kernel)
set_option maxRecDepth 100000 in
theorem r_219_20 : ∀ (d : Nat) (l0 l1 l3 l4 l5 l6 : Option Value) (v : Int32) (st : List Value) (M : Mem) (Q : Outcome → Mem → Prop), Wp d 219 20 [l0, l1, some (.int v), l3, l4, l5, l6] st M Q = Wp d 219 21 [l0, l1, some (.int v), l3, l4, l5, l6] (.int v :: st) M Q := fun d l0 l1 l3 l4 l5 l6 v st M Q => wA (show ins 219 20 = some (.iload_n 2, 1) by decide +kernel) rfl
set_option maxRecDepth 100000 in
theorem r_219_21 : ∀ (d : Nat) (ls : Lc) (v0 v1 : Value) (a : Nat) (st : List Value) (M : Mem) (Q : Outcome → Mem → Prop), (smallR st = true) → Wp d 219 21 ls (v1 :: v0 :: .ref a :: st) M Q = (kO M a = 8 ∧ Ca d 219 21 ls 216 (.ref a :: [v0, v1]) st M Q) := fun d ls v0 v1 a st M Q h0 => w_virt1 (as := [v0, v1]) (show ins 219 21 = some (.invokevirtual 198, 3) by decide +kernel) (show mRes (mC 219) 198 = some (3, 8, [(8, 216)]) by decide +kernel) (by decide +kernel) rfl (by decide +kernel) (by decide +kernel) h0
set_option maxRecDepth 100000 in
theorem r_219_24 : ∀ (d : Nat) (l0 l1 l2 l3 l4 l5 l6 : Option Value) (v : Int32) (st : List Value) (M : Mem) (Q : Outcome → Mem → Prop), (lo l2 = false) → Wp d 219 24 [l0, l1, l2, l3, l4, l5, l6] (.int v :: st) M Q = Wp d 219 25 [l0, l1, l2, some (.int v), l4, l5, l6] st M Q := fun d l0 l1 l2 l3 l4 l5 l6 v st M Q hl => w_istore_n (show ins 219 24 = some (.istore_n 3, 1) by decide +kernel) (st1_S rfl rfl hl)
set_option maxRecDepth 100000 in
theorem r_219_25 : ∀ (d : Nat) (ls : Lc) (st : List Value) (M : Mem) (Q : Outcome → Mem → Prop), Wp d 219 25 ls st M Q = Wp d 219 26 ls (.int (I 0) :: st) M Q := fun d ls st M Q => w_iconst (show ins 219 25 = some (.iconst 0, 1) by decide +kernel)
set_option maxRecDepth 100000 in
theorem r_219_26 : ∀ (d : Nat) (l0 l1 l2 l3 l4 l5 l6 : Option Value) (v : Int32) (st : List Value) (M : Mem) (Q : Outcome → Mem → Prop), (lo l3 = false) → Wp d 219 26 [l0, l1, l2, l3, l4, l5, l6] (.int v :: st) M Q = Wp d 219 28 [l0, l1, l2, l3, some (.int v), l5, l6] st M Q := fun d l0 l1 l2 l3 l4 l5 l6 v st M Q hl => w_istore (show ins 219 26 = some (.istore 4, 2) by decide +kernel) (st1_S rfl rfl hl)
set_option maxRecDepth 100000 in
theorem r_219_28 : ∀ (d : Nat) (l0 l1 l2 l3 l5 l6 : Option Value) (v : Int32) (st : List Value) (M : Mem) (Q : Outcome → Mem → Prop), Wp d 219 28 [l0, l1, l2, l3, some (.int v), l5, l6] st M Q = Wp d 219 30 [l0, l1, l2, l3, some (.int v), l5, l6] (.int v :: st) M Q := fun d l0 l1 l2 l3 l5 l6 v st M Q => wA (show ins 219 28 = some (.iload 4, 2) by decide +kernel) rfl
set_option maxRecDepth 100000 in
theorem r_219_30 : ∀ (d : Nat) (l0 l1 l3 l4 l5 l6 : Option Value) (v : Int32) (st : List Value) (M : Mem) (Q : Outcome → Mem → Prop), Wp d 219 30 [l0, l1, some (.int v), l3, l4, l5, l6] st M Q = Wp d 219 31 [l0, l1, some (.int v), l3, l4, l5, l6] (.int v :: st) M Q := fun d l0 l1 l3 l4 l5 l6 v st M Q => wA (show ins 219 30 = some (.iload_n 2, 1) by decide +kernel) rfl
set_option maxRecDepth 100000 in
theorem r_219_31 : ∀ (d : Nat) (ls : Lc) (a b : Int32) (st : List Value) (M : Mem) (Q : Outcome → Mem → Prop), Wp d 219 31 ls (.int b :: .int a :: st) M Q = Br (b ≤ a) d 219 175 34 ls st M Q := fun d ls a b st M Q => w_icmp (show ins 219 31 = some (.if_icmp .ge 144, 3) by decide +kernel) rfl rfl
set_option maxRecDepth 100000 in
theorem r_219_34 : ∀ (d : Nat) (l0 l1 l2 l4 l5 l6 : Option Value) (v : Int32) (st : List Value) (M : Mem) (Q : Outcome → Mem → Prop), Wp d 219 34 [l0, l1, l2, some (.int v), l4, l5, l6] st M Q = Wp d 219 35 [l0, l1, l2, some (.int v), l4, l5, l6] (.int v :: st) M Q := fun d l0 l1 l2 l4 l5 l6 v st M Q => wA (show ins 219 34 = some (.iload_n 3, 1) by decide +kernel) rfl
set_option maxRecDepth 100000 in
theorem r_219_35 : ∀ (d : Nat) (ls : Lc) (a : Int32) (st : List Value) (M : Mem) (Q : Outcome → Mem → Prop), Wp d 219 35 ls (.int a :: st) M Q = Br (a = I 0) d 219 175 38 ls st M Q := fun d ls a st M Q => w_if (show ins 219 35 = some (.ifCond .eq 140, 3) by decide +kernel) rfl rfl
set_option maxRecDepth 100000 in
theorem r_219_38 : ∀ (d : Nat) (l1 l2 l3 l4 l5 l6 : Option Value) (v : Nat) (st : List Value) (M : Mem) (Q : Outcome → Mem → Prop), Wp d 219 38 [some (.ref v), l1, l2, l3, l4, l5, l6] st M Q = Wp d 219 39 [some (.ref v), l1, l2, l3, l4, l5, l6] (.ref v :: st) M Q := fun d l1 l2 l3 l4 l5 l6 v st M Q => wA (show ins 219 38 = some (.aload_n 0, 1) by decide +kernel) rfl
set_option maxRecDepth 100000 in
theorem r_219_39 : ∀ (d : Nat) (ls : Lc) (a : Nat) (st : List Value) (M : Mem) (Q : Outcome → Mem → Prop), Wp d 219 39 ls (.ref a :: st) M Q = (fk 53 (kO M a) = true ∧ Wp d 219 42 ls (va_rf (mR M 53 a) :: st) M Q) := fun d ls a st M Q => w_getR (show ins 219 39 = some (.getfield 7, 3) by decide +kernel) (show fRes (mC 219) 7 = some (53, 8, false) by decide +kernel) (by decide +kernel)
set_option maxRecDepth 100000 in
theorem r_219_42 : ∀ (d : Nat) (l1 l2 l3 l4 l5 l6 : Option Value) (v : Nat) (st : List Value) (M : Mem) (Q : Outcome → Mem → Prop), Wp d 219 42 [some (.ref v), l1, l2, l3, l4, l5, l6] st M Q = Wp d 219 43 [some (.ref v), l1, l2, l3, l4, l5, l6] (.ref v :: st) M Q := fun d l1 l2 l3 l4 l5 l6 v st M Q => wA (show ins 219 42 = some (.aload_n 0, 1) by decide +kernel) rfl
set_option maxRecDepth 100000 in
theorem r_219_43 : ∀ (d : Nat) (ls : Lc) (a : Nat) (st : List Value) (M : Mem) (Q : Outcome → Mem → Prop), Wp d 219 43 ls (.ref a :: st) M Q = (fk 53 (kO M a) = true ∧ Wp d 219 46 ls (va_rf (mR M 53 a) :: st) M Q) := fun d ls a st M Q => w_getR (show ins 219 43 = some (.getfield 7, 3) by decide +kernel) (show fRes (mC 219) 7 = some (53, 8, false) by decide +kernel) (by decide +kernel)
set_option maxRecDepth 100000 in
theorem r_219_46 : ∀ (d : Nat) (ls : Lc) (st : List Value) (M : Mem) (Q : Outcome → Mem → Prop), Wp d 219 46 ls st M Q = Wp d 219 49 ls (.int (I 4044) :: st) M Q := fun d ls st M Q => w_sipush (show ins 219 46 = some (.sipush 4044, 3) by decide +kernel) (by decide)
set_option maxRecDepth 100000 in
theorem r_219_49 : ∀ (d : Nat) (ls : Lc) (st : List Value) (M : Mem) (Q : Outcome → Mem → Prop), Wp d 219 49 ls st M Q = Wp d 219 51 ls (.int (I 6) :: st) M Q := fun d ls st M Q => w_bipush (show ins 219 49 = some (.bipush 6, 2) by decide +kernel) (by decide)
set_option maxRecDepth 100000 in
theorem r_219_51 : ∀ (d : Nat) (l0 l2 l3 l4 l5 l6 : Option Value) (v : Int32) (st : List Value) (M : Mem) (Q : Outcome → Mem → Prop), Wp d 219 51 [l0, some (.int v), l2, l3, l4, l5, l6] st M Q = Wp d 219 52 [l0, some (.int v), l2, l3, l4, l5, l6] (.int v :: st) M Q := fun d l0 l2 l3 l4 l5 l6 v st M Q => wA (show ins 219 51 = some (.iload_n 1, 1) by decide +kernel) rfl
set_option maxRecDepth 100000 in
theorem r_219_52 : ∀ (d : Nat) (ls : Lc) (a b : Int) (st : List Value) (M : Mem) (Q : Outcome → Mem → Prop), Wp d 219 52 ls (.int (I b) :: .int (I a) :: st) M Q = Wp d 219 53 ls (.int (I (a * b)) :: st) M Q := fun d ls a b st M Q => w_imul (show ins 219 52 = some (.imul, 1) by decide +kernel)
set_option maxRecDepth 100000 in
theorem r_219_53 : ∀ (d : Nat) (ls : Lc) (a b : Int) (st : List Value) (M : Mem) (Q : Outcome → Mem → Prop), Wp d 219 53 ls (.int (I b) :: .int (I a) :: st) M Q = Wp d 219 54 ls (.int (I (a + b)) :: st) M Q := fun d ls a b st M Q => w_iadd (show ins 219 53 = some (.iadd, 1) by decide +kernel)
set_option maxRecDepth 100000 in
theorem r_219_54 : ∀ (d : Nat) (l0 l1 l2 l3 l5 l6 : Option Value) (v : Int32) (st : List Value) (M : Mem) (Q : Outcome → Mem → Prop), Wp d 219 54 [l0, l1, l2, l3, some (.int v), l5, l6] st M Q = Wp d 219 56 [l0, l1, l2, l3, some (.int v), l5, l6] (.int v :: st) M Q := fun d l0 l1 l2 l3 l5 l6 v st M Q => wA (show ins 219 54 = some (.iload 4, 2) by decide +kernel) rfl
set_option maxRecDepth 100000 in
theorem r_219_56 : ∀ (d : Nat) (ls : Lc) (a b : Int) (st : List Value) (M : Mem) (Q : Outcome → Mem → Prop), Wp d 219 56 ls (.int (I b) :: .int (I a) :: st) M Q = Wp d 219 57 ls (.int (I (a + b)) :: st) M Q := fun d ls a b st M Q => w_iadd (show ins 219 56 = some (.iadd, 1) by decide +kernel)
set_option maxRecDepth 100000 in
theorem r_219_57 : ∀ (d : Nat) (ls : Lc) (a : Nat) (j : Int32) (st : List Value) (M : Mem) (Q : Outcome → Mem → Prop), Wp d 219 57 ls (.int j :: .ref a :: st) M Q = ((((kX M a).1 = 0 ∨ (kX M a).1 = 8) ∧ inB j (kX M a).2 = true) ∧ Wp d 219 58 ls (.int (mA M a j.toNatClampNeg) :: st) M Q) := fun d ls a j st M Q => w_iaload (show ins 219 57 = some (.iaload, 1) by decide +kernel)
set_option maxRecDepth 100000 in
theorem r_219_58 : ∀ (d : Nat) (ls : Lc) (v0 v1 : Value)  (st : List Value) (M : Mem) (Q : Outcome → Mem → Prop), (smallR st = true) → Wp d 219 58 ls (v1 :: v0 :: st) M Q = Ca d 219 58 ls 220 [v0, v1] st M Q := fun d ls v0 v1 st M Q h0 => w_stat (as := [v0, v1]) (show ins 219 58 = some (.invokestatic 204, 3) by decide +kernel) (show mRes (mC 219) 204 = some (0, 8, [(0, 220)]) by decide +kernel) (by decide +kernel) (by decide +kernel) rfl h0
set_option maxRecDepth 100000 in
theorem r_219_61 : ∀ (d : Nat) (l0 l1 l2 l3 l4 l5 l6 : Option Value) (v : Int32) (st : List Value) (M : Mem) (Q : Outcome → Mem → Prop), (lo l4 = false) → Wp d 219 61 [l0, l1, l2, l3, l4, l5, l6] (.int v :: st) M Q = Wp d 219 63 [l0, l1, l2, l3, l4, some (.int v), l6] st M Q := fun d l0 l1 l2 l3 l4 l5 l6 v st M Q hl => w_istore (show ins 219 61 = some (.istore 5, 2) by decide +kernel) (st1_S rfl rfl hl)
set_option maxRecDepth 100000 in
theorem r_219_63 : ∀ (d : Nat) (l1 l2 l3 l4 l5 l6 : Option Value) (v : Nat) (st : List Value) (M : Mem) (Q : Outcome → Mem → Prop), Wp d 219 63 [some (.ref v), l1, l2, l3, l4, l5, l6] st M Q = Wp d 219 64 [some (.ref v), l1, l2, l3, l4, l5, l6] (.ref v :: st) M Q := fun d l1 l2 l3 l4 l5 l6 v st M Q => wA (show ins 219 63 = some (.aload_n 0, 1) by decide +kernel) rfl
set_option maxRecDepth 100000 in
theorem r_219_64 : ∀ (d : Nat) (ls : Lc) (a : Nat) (st : List Value) (M : Mem) (Q : Outcome → Mem → Prop), Wp d 219 64 ls (.ref a :: st) M Q = (fk 45 (kO M a) = true ∧ Wp d 219 67 ls (va_rf (mR M 45 a) :: st) M Q) := fun d ls a st M Q => w_getR (show ins 219 64 = some (.getfield 16, 3) by decide +kernel) (show fRes (mC 219) 16 = some (45, 8, false) by decide +kernel) (by decide +kernel)
set_option maxRecDepth 100000 in
theorem r_219_67 : ∀ (d : Nat) (l1 l2 l3 l4 l5 l6 : Option Value) (v : Nat) (st : List Value) (M : Mem) (Q : Outcome → Mem → Prop), Wp d 219 67 [some (.ref v), l1, l2, l3, l4, l5, l6] st M Q = Wp d 219 68 [some (.ref v), l1, l2, l3, l4, l5, l6] (.ref v :: st) M Q := fun d l1 l2 l3 l4 l5 l6 v st M Q => wA (show ins 219 67 = some (.aload_n 0, 1) by decide +kernel) rfl
set_option maxRecDepth 100000 in
theorem r_219_68 : ∀ (d : Nat) (ls : Lc) (a : Nat) (st : List Value) (M : Mem) (Q : Outcome → Mem → Prop), Wp d 219 68 ls (.ref a :: st) M Q = (fk 45 (kO M a) = true ∧ Wp d 219 71 ls (va_rf (mR M 45 a) :: st) M Q) := fun d ls a st M Q => w_getR (show ins 219 68 = some (.getfield 16, 3) by decide +kernel) (show fRes (mC 219) 16 = some (45, 8, false) by decide +kernel) (by decide +kernel)
set_option maxRecDepth 100000 in
theorem r_219_71 : ∀ (d : Nat) (ls : Lc) (st : List Value) (M : Mem) (Q : Outcome → Mem → Prop), Wp d 219 71 ls st M Q = Wp d 219 74 ls (.int (I 4044) :: st) M Q := fun d ls st M Q => w_sipush (show ins 219 71 = some (.sipush 4044, 3) by decide +kernel) (by decide)
set_option maxRecDepth 100000 in
theorem r_219_74 : ∀ (d : Nat) (ls : Lc) (st : List Value) (M : Mem) (Q : Outcome → Mem → Prop), Wp d 219 74 ls st M Q = Wp d 219 76 ls (.int (I 6) :: st) M Q := fun d ls st M Q => w_bipush (show ins 219 74 = some (.bipush 6, 2) by decide +kernel) (by decide)
set_option maxRecDepth 100000 in
theorem r_219_76 : ∀ (d : Nat) (l0 l2 l3 l4 l5 l6 : Option Value) (v : Int32) (st : List Value) (M : Mem) (Q : Outcome → Mem → Prop), Wp d 219 76 [l0, some (.int v), l2, l3, l4, l5, l6] st M Q = Wp d 219 77 [l0, some (.int v), l2, l3, l4, l5, l6] (.int v :: st) M Q := fun d l0 l2 l3 l4 l5 l6 v st M Q => wA (show ins 219 76 = some (.iload_n 1, 1) by decide +kernel) rfl
set_option maxRecDepth 100000 in
theorem r_219_77 : ∀ (d : Nat) (ls : Lc) (a b : Int) (st : List Value) (M : Mem) (Q : Outcome → Mem → Prop), Wp d 219 77 ls (.int (I b) :: .int (I a) :: st) M Q = Wp d 219 78 ls (.int (I (a * b)) :: st) M Q := fun d ls a b st M Q => w_imul (show ins 219 77 = some (.imul, 1) by decide +kernel)
set_option maxRecDepth 100000 in
theorem r_219_78 : ∀ (d : Nat) (ls : Lc) (a b : Int) (st : List Value) (M : Mem) (Q : Outcome → Mem → Prop), Wp d 219 78 ls (.int (I b) :: .int (I a) :: st) M Q = Wp d 219 79 ls (.int (I (a + b)) :: st) M Q := fun d ls a b st M Q => w_iadd (show ins 219 78 = some (.iadd, 1) by decide +kernel)
set_option maxRecDepth 100000 in
theorem r_219_79 : ∀ (d : Nat) (l0 l1 l2 l3 l5 l6 : Option Value) (v : Int32) (st : List Value) (M : Mem) (Q : Outcome → Mem → Prop), Wp d 219 79 [l0, l1, l2, l3, some (.int v), l5, l6] st M Q = Wp d 219 81 [l0, l1, l2, l3, some (.int v), l5, l6] (.int v :: st) M Q := fun d l0 l1 l2 l3 l5 l6 v st M Q => wA (show ins 219 79 = some (.iload 4, 2) by decide +kernel) rfl
set_option maxRecDepth 100000 in
theorem r_219_81 : ∀ (d : Nat) (ls : Lc) (a b : Int) (st : List Value) (M : Mem) (Q : Outcome → Mem → Prop), Wp d 219 81 ls (.int (I b) :: .int (I a) :: st) M Q = Wp d 219 82 ls (.int (I (a + b)) :: st) M Q := fun d ls a b st M Q => w_iadd (show ins 219 81 = some (.iadd, 1) by decide +kernel)
set_option maxRecDepth 100000 in
theorem r_219_82 : ∀ (d : Nat) (ls : Lc) (a : Nat) (j : Int32) (st : List Value) (M : Mem) (Q : Outcome → Mem → Prop), Wp d 219 82 ls (.int j :: .ref a :: st) M Q = ((((kX M a).1 = 0 ∨ (kX M a).1 = 8) ∧ inB j (kX M a).2 = true) ∧ Wp d 219 83 ls (.int (mA M a j.toNatClampNeg) :: st) M Q) := fun d ls a j st M Q => w_iaload (show ins 219 82 = some (.iaload, 1) by decide +kernel)
set_option maxRecDepth 100000 in
theorem r_219_83 : ∀ (d : Nat) (ls : Lc) (v0 v1 : Value)  (st : List Value) (M : Mem) (Q : Outcome → Mem → Prop), (smallR st = true) → Wp d 219 83 ls (v1 :: v0 :: st) M Q = Ca d 219 83 ls 220 [v0, v1] st M Q := fun d ls v0 v1 st M Q h0 => w_stat (as := [v0, v1]) (show ins 219 83 = some (.invokestatic 204, 3) by decide +kernel) (show mRes (mC 219) 204 = some (0, 8, [(0, 220)]) by decide +kernel) (by decide +kernel) (by decide +kernel) rfl h0
set_option maxRecDepth 100000 in
theorem r_219_86 : ∀ (d : Nat) (l0 l1 l2 l3 l4 l5 l6 : Option Value) (v : Int32) (st : List Value) (M : Mem) (Q : Outcome → Mem → Prop), (lo l5 = false) → Wp d 219 86 [l0, l1, l2, l3, l4, l5, l6] (.int v :: st) M Q = Wp d 219 88 [l0, l1, l2, l3, l4, l5, some (.int v)] st M Q := fun d l0 l1 l2 l3 l4 l5 l6 v st M Q hl => w_istore (show ins 219 86 = some (.istore 6, 2) by decide +kernel) (st1_S rfl rfl hl)
set_option maxRecDepth 100000 in
theorem r_219_88 : ∀ (d : Nat) (l1 l2 l3 l4 l5 l6 : Option Value) (v : Nat) (st : List Value) (M : Mem) (Q : Outcome → Mem → Prop), Wp d 219 88 [some (.ref v), l1, l2, l3, l4, l5, l6] st M Q = Wp d 219 89 [some (.ref v), l1, l2, l3, l4, l5, l6] (.ref v :: st) M Q := fun d l1 l2 l3 l4 l5 l6 v st M Q => wA (show ins 219 88 = some (.aload_n 0, 1) by decide +kernel) rfl
set_option maxRecDepth 100000 in
theorem r_219_89 : ∀ (d : Nat) (ls : Lc) (a : Nat) (st : List Value) (M : Mem) (Q : Outcome → Mem → Prop), Wp d 219 89 ls (.ref a :: st) M Q = (fk 53 (kO M a) = true ∧ Wp d 219 92 ls (va_rf (mR M 53 a) :: st) M Q) := fun d ls a st M Q => w_getR (show ins 219 89 = some (.getfield 7, 3) by decide +kernel) (show fRes (mC 219) 7 = some (53, 8, false) by decide +kernel) (by decide +kernel)
set_option maxRecDepth 100000 in
theorem r_219_92 : ∀ (d : Nat) (ls : Lc) (st : List Value) (M : Mem) (Q : Outcome → Mem → Prop), Wp d 219 92 ls st M Q = Wp d 219 95 ls (.int (I 4620) :: st) M Q := fun d ls st M Q => w_sipush (show ins 219 92 = some (.sipush 4620, 3) by decide +kernel) (by decide)
set_option maxRecDepth 100000 in
theorem r_219_95 : ∀ (d : Nat) (l0 l1 l2 l3 l4 l6 : Option Value) (v : Int32) (st : List Value) (M : Mem) (Q : Outcome → Mem → Prop), Wp d 219 95 [l0, l1, l2, l3, l4, some (.int v), l6] st M Q = Wp d 219 97 [l0, l1, l2, l3, l4, some (.int v), l6] (.int v :: st) M Q := fun d l0 l1 l2 l3 l4 l6 v st M Q => wA (show ins 219 95 = some (.iload 5, 2) by decide +kernel) rfl
set_option maxRecDepth 100000 in
theorem r_219_97 : ∀ (d : Nat) (ls : Lc) (a b : Int) (st : List Value) (M : Mem) (Q : Outcome → Mem → Prop), Wp d 219 97 ls (.int (I b) :: .int (I a) :: st) M Q = Wp d 219 98 ls (.int (I (a + b)) :: st) M Q := fun d ls a b st M Q => w_iadd (show ins 219 97 = some (.iadd, 1) by decide +kernel)
set_option maxRecDepth 100000 in
theorem r_219_98 : ∀ (d : Nat) (ls : Lc) (a : Nat) (j : Int32) (st : List Value) (M : Mem) (Q : Outcome → Mem → Prop), Wp d 219 98 ls (.int j :: .ref a :: st) M Q = ((((kX M a).1 = 0 ∨ (kX M a).1 = 8) ∧ inB j (kX M a).2 = true) ∧ Wp d 219 99 ls (.int (mA M a j.toNatClampNeg) :: st) M Q) := fun d ls a j st M Q => w_iaload (show ins 219 98 = some (.iaload, 1) by decide +kernel)
set_option maxRecDepth 100000 in
theorem r_219_99 : ∀ (d : Nat) (l1 l2 l3 l4 l5 l6 : Option Value) (v : Nat) (st : List Value) (M : Mem) (Q : Outcome → Mem → Prop), Wp d 219 99 [some (.ref v), l1, l2, l3, l4, l5, l6] st M Q = Wp d 219 100 [some (.ref v), l1, l2, l3, l4, l5, l6] (.ref v :: st) M Q := fun d l1 l2 l3 l4 l5 l6 v st M Q => wA (show ins 219 99 = some (.aload_n 0, 1) by decide +kernel) rfl
set_option maxRecDepth 100000 in
theorem r_219_100 : ∀ (d : Nat) (ls : Lc) (a : Nat) (st : List Value) (M : Mem) (Q : Outcome → Mem → Prop), Wp d 219 100 ls (.ref a :: st) M Q = (fk 45 (kO M a) = true ∧ Wp d 219 103 ls (va_rf (mR M 45 a) :: st) M Q) := fun d ls a st M Q => w_getR (show ins 219 100 = some (.getfield 16, 3) by decide +kernel) (show fRes (mC 219) 16 = some (45, 8, false) by decide +kernel) (by decide +kernel)
set_option maxRecDepth 100000 in
theorem r_219_103 : ∀ (d : Nat) (ls : Lc) (st : List Value) (M : Mem) (Q : Outcome → Mem → Prop), Wp d 219 103 ls st M Q = Wp d 219 106 ls (.int (I 4620) :: st) M Q := fun d ls st M Q => w_sipush (show ins 219 103 = some (.sipush 4620, 3) by decide +kernel) (by decide)
set_option maxRecDepth 100000 in
theorem r_219_106 : ∀ (d : Nat) (l0 l1 l2 l3 l4 l5 : Option Value) (v : Int32) (st : List Value) (M : Mem) (Q : Outcome → Mem → Prop), Wp d 219 106 [l0, l1, l2, l3, l4, l5, some (.int v)] st M Q = Wp d 219 108 [l0, l1, l2, l3, l4, l5, some (.int v)] (.int v :: st) M Q := fun d l0 l1 l2 l3 l4 l5 v st M Q => wA (show ins 219 106 = some (.iload 6, 2) by decide +kernel) rfl
set_option maxRecDepth 100000 in
theorem r_219_108 : ∀ (d : Nat) (ls : Lc) (a b : Int) (st : List Value) (M : Mem) (Q : Outcome → Mem → Prop), Wp d 219 108 ls (.int (I b) :: .int (I a) :: st) M Q = Wp d 219 109 ls (.int (I (a + b)) :: st) M Q := fun d ls a b st M Q => w_iadd (show ins 219 108 = some (.iadd, 1) by decide +kernel)
set_option maxRecDepth 100000 in
theorem r_219_109 : ∀ (d : Nat) (ls : Lc) (a : Nat) (j : Int32) (st : List Value) (M : Mem) (Q : Outcome → Mem → Prop), Wp d 219 109 ls (.int j :: .ref a :: st) M Q = ((((kX M a).1 = 0 ∨ (kX M a).1 = 8) ∧ inB j (kX M a).2 = true) ∧ Wp d 219 110 ls (.int (mA M a j.toNatClampNeg) :: st) M Q) := fun d ls a j st M Q => w_iaload (show ins 219 109 = some (.iaload, 1) by decide +kernel)
set_option maxRecDepth 100000 in
theorem r_219_110 : ∀ (d : Nat) (ls : Lc) (a b : Int32) (st : List Value) (M : Mem) (Q : Outcome → Mem → Prop), Wp d 219 110 ls (.int b :: .int a :: st) M Q = Br (¬ a = b) d 219 167 113 ls st M Q := fun d ls a b st M Q => w_icmp (show ins 219 110 = some (.if_icmp .ne 57, 3) by decide +kernel) rfl rfl
set_option maxRecDepth 100000 in
theorem r_219_113 : ∀ (d : Nat) (l1 l2 l3 l4 l5 l6 : Option Value) (v : Nat) (st : List Value) (M : Mem) (Q : Outcome → Mem → Prop), Wp d 219 113 [some (.ref v), l1, l2, l3, l4, l5, l6] st M Q = Wp d 219 114 [some (.ref v), l1, l2, l3, l4, l5, l6] (.ref v :: st) M Q := fun d l1 l2 l3 l4 l5 l6 v st M Q => wA (show ins 219 113 = some (.aload_n 0, 1) by decide +kernel) rfl
set_option maxRecDepth 100000 in
theorem r_219_114 : ∀ (d : Nat) (ls : Lc) (a : Nat) (st : List Value) (M : Mem) (Q : Outcome → Mem → Prop), Wp d 219 114 ls (.ref a :: st) M Q = (fk 53 (kO M a) = true ∧ Wp d 219 117 ls (va_rf (mR M 53 a) :: st) M Q) := fun d ls a st M Q => w_getR (show ins 219 114 = some (.getfield 7, 3) by decide +kernel) (show fRes (mC 219) 7 = some (53, 8, false) by decide +kernel) (by decide +kernel)
set_option maxRecDepth 100000 in
theorem r_219_117 : ∀ (d : Nat) (ls : Lc) (st : List Value) (M : Mem) (Q : Outcome → Mem → Prop), Wp d 219 117 ls st M Q = Wp d 219 120 ls (.int (I 6156) :: st) M Q := fun d ls st M Q => w_sipush (show ins 219 117 = some (.sipush 6156, 3) by decide +kernel) (by decide)
set_option maxRecDepth 100000 in
theorem r_219_120 : ∀ (d : Nat) (l0 l1 l2 l3 l4 l6 : Option Value) (v : Int32) (st : List Value) (M : Mem) (Q : Outcome → Mem → Prop), Wp d 219 120 [l0, l1, l2, l3, l4, some (.int v), l6] st M Q = Wp d 219 122 [l0, l1, l2, l3, l4, some (.int v), l6] (.int v :: st) M Q := fun d l0 l1 l2 l3 l4 l6 v st M Q => wA (show ins 219 120 = some (.iload 5, 2) by decide +kernel) rfl
set_option maxRecDepth 100000 in
theorem r_219_122 : ∀ (d : Nat) (ls : Lc) (a b : Int) (st : List Value) (M : Mem) (Q : Outcome → Mem → Prop), Wp d 219 122 ls (.int (I b) :: .int (I a) :: st) M Q = Wp d 219 123 ls (.int (I (a + b)) :: st) M Q := fun d ls a b st M Q => w_iadd (show ins 219 122 = some (.iadd, 1) by decide +kernel)
set_option maxRecDepth 100000 in
theorem r_219_123 : ∀ (d : Nat) (ls : Lc) (a : Nat) (j : Int32) (st : List Value) (M : Mem) (Q : Outcome → Mem → Prop), Wp d 219 123 ls (.int j :: .ref a :: st) M Q = ((((kX M a).1 = 0 ∨ (kX M a).1 = 8) ∧ inB j (kX M a).2 = true) ∧ Wp d 219 124 ls (.int (mA M a j.toNatClampNeg) :: st) M Q) := fun d ls a j st M Q => w_iaload (show ins 219 123 = some (.iaload, 1) by decide +kernel)
set_option maxRecDepth 100000 in
theorem r_219_124 : ∀ (d : Nat) (l1 l2 l3 l4 l5 l6 : Option Value) (v : Nat) (st : List Value) (M : Mem) (Q : Outcome → Mem → Prop), Wp d 219 124 [some (.ref v), l1, l2, l3, l4, l5, l6] st M Q = Wp d 219 125 [some (.ref v), l1, l2, l3, l4, l5, l6] (.ref v :: st) M Q := fun d l1 l2 l3 l4 l5 l6 v st M Q => wA (show ins 219 124 = some (.aload_n 0, 1) by decide +kernel) rfl
set_option maxRecDepth 100000 in
theorem r_219_125 : ∀ (d : Nat) (ls : Lc) (a : Nat) (st : List Value) (M : Mem) (Q : Outcome → Mem → Prop), Wp d 219 125 ls (.ref a :: st) M Q = (fk 45 (kO M a) = true ∧ Wp d 219 128 ls (va_rf (mR M 45 a) :: st) M Q) := fun d ls a st M Q => w_getR (show ins 219 125 = some (.getfield 16, 3) by decide +kernel) (show fRes (mC 219) 16 = some (45, 8, false) by decide +kernel) (by decide +kernel)
set_option maxRecDepth 100000 in
theorem r_219_128 : ∀ (d : Nat) (ls : Lc) (st : List Value) (M : Mem) (Q : Outcome → Mem → Prop), Wp d 219 128 ls st M Q = Wp d 219 131 ls (.int (I 6156) :: st) M Q := fun d ls st M Q => w_sipush (show ins 219 128 = some (.sipush 6156, 3) by decide +kernel) (by decide)
set_option maxRecDepth 100000 in
theorem r_219_131 : ∀ (d : Nat) (l0 l1 l2 l3 l4 l5 : Option Value) (v : Int32) (st : List Value) (M : Mem) (Q : Outcome → Mem → Prop), Wp d 219 131 [l0, l1, l2, l3, l4, l5, some (.int v)] st M Q = Wp d 219 133 [l0, l1, l2, l3, l4, l5, some (.int v)] (.int v :: st) M Q := fun d l0 l1 l2 l3 l4 l5 v st M Q => wA (show ins 219 131 = some (.iload 6, 2) by decide +kernel) rfl
set_option maxRecDepth 100000 in
theorem r_219_133 : ∀ (d : Nat) (ls : Lc) (a b : Int) (st : List Value) (M : Mem) (Q : Outcome → Mem → Prop), Wp d 219 133 ls (.int (I b) :: .int (I a) :: st) M Q = Wp d 219 134 ls (.int (I (a + b)) :: st) M Q := fun d ls a b st M Q => w_iadd (show ins 219 133 = some (.iadd, 1) by decide +kernel)
set_option maxRecDepth 100000 in
theorem r_219_134 : ∀ (d : Nat) (ls : Lc) (a : Nat) (j : Int32) (st : List Value) (M : Mem) (Q : Outcome → Mem → Prop), Wp d 219 134 ls (.int j :: .ref a :: st) M Q = ((((kX M a).1 = 0 ∨ (kX M a).1 = 8) ∧ inB j (kX M a).2 = true) ∧ Wp d 219 135 ls (.int (mA M a j.toNatClampNeg) :: st) M Q) := fun d ls a j st M Q => w_iaload (show ins 219 134 = some (.iaload, 1) by decide +kernel)
set_option maxRecDepth 100000 in
theorem r_219_135 : ∀ (d : Nat) (ls : Lc) (a b : Int32) (st : List Value) (M : Mem) (Q : Outcome → Mem → Prop), Wp d 219 135 ls (.int b :: .int a :: st) M Q = Br (¬ a = b) d 219 167 138 ls st M Q := fun d ls a b st M Q => w_icmp (show ins 219 135 = some (.if_icmp .ne 32, 3) by decide +kernel) rfl rfl
set_option maxRecDepth 100000 in
theorem r_219_138 : ∀ (d : Nat) (l1 l2 l3 l4 l5 l6 : Option Value) (v : Nat) (st : List Value) (M : Mem) (Q : Outcome → Mem → Prop), Wp d 219 138 [some (.ref v), l1, l2, l3, l4, l5, l6] st M Q = Wp d 219 139 [some (.ref v), l1, l2, l3, l4, l5, l6] (.ref v :: st) M Q := fun d l1 l2 l3 l4 l5 l6 v st M Q => wA (show ins 219 138 = some (.aload_n 0, 1) by decide +kernel) rfl
set_option maxRecDepth 100000 in
theorem r_219_139 : ∀ (d : Nat) (ls : Lc) (a : Nat) (st : List Value) (M : Mem) (Q : Outcome → Mem → Prop), Wp d 219 139 ls (.ref a :: st) M Q = (fk 53 (kO M a) = true ∧ Wp d 219 142 ls (va_rf (mR M 53 a) :: st) M Q) := fun d ls a st M Q => w_getR (show ins 219 139 = some (.getfield 7, 3) by decide +kernel) (show fRes (mC 219) 7 = some (53, 8, false) by decide +kernel) (by decide +kernel)
set_option maxRecDepth 100000 in
theorem r_219_142 : ∀ (d : Nat) (ls : Lc) (st : List Value) (M : Mem) (Q : Outcome → Mem → Prop), Wp d 219 142 ls st M Q = Wp d 219 145 ls (.int (I 7692) :: st) M Q := fun d ls st M Q => w_sipush (show ins 219 142 = some (.sipush 7692, 3) by decide +kernel) (by decide)
set_option maxRecDepth 100000 in
theorem r_219_145 : ∀ (d : Nat) (l0 l1 l2 l3 l4 l6 : Option Value) (v : Int32) (st : List Value) (M : Mem) (Q : Outcome → Mem → Prop), Wp d 219 145 [l0, l1, l2, l3, l4, some (.int v), l6] st M Q = Wp d 219 147 [l0, l1, l2, l3, l4, some (.int v), l6] (.int v :: st) M Q := fun d l0 l1 l2 l3 l4 l6 v st M Q => wA (show ins 219 145 = some (.iload 5, 2) by decide +kernel) rfl
set_option maxRecDepth 100000 in
theorem r_219_147 : ∀ (d : Nat) (ls : Lc) (a b : Int) (st : List Value) (M : Mem) (Q : Outcome → Mem → Prop), Wp d 219 147 ls (.int (I b) :: .int (I a) :: st) M Q = Wp d 219 148 ls (.int (I (a + b)) :: st) M Q := fun d ls a b st M Q => w_iadd (show ins 219 147 = some (.iadd, 1) by decide +kernel)
set_option maxRecDepth 100000 in
theorem r_219_148 : ∀ (d : Nat) (ls : Lc) (a : Nat) (j : Int32) (st : List Value) (M : Mem) (Q : Outcome → Mem → Prop), Wp d 219 148 ls (.int j :: .ref a :: st) M Q = ((((kX M a).1 = 0 ∨ (kX M a).1 = 8) ∧ inB j (kX M a).2 = true) ∧ Wp d 219 149 ls (.int (mA M a j.toNatClampNeg) :: st) M Q) := fun d ls a j st M Q => w_iaload (show ins 219 148 = some (.iaload, 1) by decide +kernel)
set_option maxRecDepth 100000 in
theorem r_219_149 : ∀ (d : Nat) (l1 l2 l3 l4 l5 l6 : Option Value) (v : Nat) (st : List Value) (M : Mem) (Q : Outcome → Mem → Prop), Wp d 219 149 [some (.ref v), l1, l2, l3, l4, l5, l6] st M Q = Wp d 219 150 [some (.ref v), l1, l2, l3, l4, l5, l6] (.ref v :: st) M Q := fun d l1 l2 l3 l4 l5 l6 v st M Q => wA (show ins 219 149 = some (.aload_n 0, 1) by decide +kernel) rfl
set_option maxRecDepth 100000 in
theorem r_219_150 : ∀ (d : Nat) (ls : Lc) (a : Nat) (st : List Value) (M : Mem) (Q : Outcome → Mem → Prop), Wp d 219 150 ls (.ref a :: st) M Q = (fk 45 (kO M a) = true ∧ Wp d 219 153 ls (va_rf (mR M 45 a) :: st) M Q) := fun d ls a st M Q => w_getR (show ins 219 150 = some (.getfield 16, 3) by decide +kernel) (show fRes (mC 219) 16 = some (45, 8, false) by decide +kernel) (by decide +kernel)
set_option maxRecDepth 100000 in
theorem r_219_153 : ∀ (d : Nat) (ls : Lc) (st : List Value) (M : Mem) (Q : Outcome → Mem → Prop), Wp d 219 153 ls st M Q = Wp d 219 156 ls (.int (I 7692) :: st) M Q := fun d ls st M Q => w_sipush (show ins 219 153 = some (.sipush 7692, 3) by decide +kernel) (by decide)
set_option maxRecDepth 100000 in
theorem r_219_156 : ∀ (d : Nat) (l0 l1 l2 l3 l4 l5 : Option Value) (v : Int32) (st : List Value) (M : Mem) (Q : Outcome → Mem → Prop), Wp d 219 156 [l0, l1, l2, l3, l4, l5, some (.int v)] st M Q = Wp d 219 158 [l0, l1, l2, l3, l4, l5, some (.int v)] (.int v :: st) M Q := fun d l0 l1 l2 l3 l4 l5 v st M Q => wA (show ins 219 156 = some (.iload 6, 2) by decide +kernel) rfl
set_option maxRecDepth 100000 in
theorem r_219_158 : ∀ (d : Nat) (ls : Lc) (a b : Int) (st : List Value) (M : Mem) (Q : Outcome → Mem → Prop), Wp d 219 158 ls (.int (I b) :: .int (I a) :: st) M Q = Wp d 219 159 ls (.int (I (a + b)) :: st) M Q := fun d ls a b st M Q => w_iadd (show ins 219 158 = some (.iadd, 1) by decide +kernel)
set_option maxRecDepth 100000 in
theorem r_219_159 : ∀ (d : Nat) (ls : Lc) (a : Nat) (j : Int32) (st : List Value) (M : Mem) (Q : Outcome → Mem → Prop), Wp d 219 159 ls (.int j :: .ref a :: st) M Q = ((((kX M a).1 = 0 ∨ (kX M a).1 = 8) ∧ inB j (kX M a).2 = true) ∧ Wp d 219 160 ls (.int (mA M a j.toNatClampNeg) :: st) M Q) := fun d ls a j st M Q => w_iaload (show ins 219 159 = some (.iaload, 1) by decide +kernel)
set_option maxRecDepth 100000 in
theorem r_219_160 : ∀ (d : Nat) (ls : Lc) (a b : Int32) (st : List Value) (M : Mem) (Q : Outcome → Mem → Prop), Wp d 219 160 ls (.int b :: .int a :: st) M Q = Br (¬ a = b) d 219 167 163 ls st M Q := fun d ls a b st M Q => w_icmp (show ins 219 160 = some (.if_icmp .ne 7, 3) by decide +kernel) rfl rfl
set_option maxRecDepth 100000 in
theorem r_219_163 : ∀ (d : Nat) (ls : Lc) (st : List Value) (M : Mem) (Q : Outcome → Mem → Prop), Wp d 219 163 ls st M Q = Wp d 219 164 ls (.int (I 1) :: st) M Q := fun d ls st M Q => w_iconst (show ins 219 163 = some (.iconst 1, 1) by decide +kernel)
set_option maxRecDepth 100000 in
theorem r_219_164 : ∀ (d : Nat) (ls : Lc) (st : List Value) (M : Mem) (Q : Outcome → Mem → Prop), Wp d 219 164 ls st M Q = Wp d 219 168 ls st M Q := fun d ls st M Q => w_goto (show ins 219 164 = some (.goto 4, 3) by decide +kernel) rfl
set_option maxRecDepth 100000 in
theorem r_219_167 : ∀ (d : Nat) (ls : Lc) (st : List Value) (M : Mem) (Q : Outcome → Mem → Prop), Wp d 219 167 ls st M Q = Wp d 219 168 ls (.int (I 0) :: st) M Q := fun d ls st M Q => w_iconst (show ins 219 167 = some (.iconst 0, 1) by decide +kernel)
set_option maxRecDepth 100000 in
theorem r_219_168 : ∀ (d : Nat) (l0 l1 l2 l3 l4 l5 l6 : Option Value) (v : Int32) (st : List Value) (M : Mem) (Q : Outcome → Mem → Prop), (lo l2 = false) → Wp d 219 168 [l0, l1, l2, l3, l4, l5, l6] (.int v :: st) M Q = Wp d 219 169 [l0, l1, l2, some (.int v), l4, l5, l6] st M Q := fun d l0 l1 l2 l3 l4 l5 l6 v st M Q hl => w_istore_n (show ins 219 168 = some (.istore_n 3, 1) by decide +kernel) (st1_S rfl rfl hl)
set_option maxRecDepth 100000 in
theorem r_219_169 : ∀ (d : Nat) (l0 l1 l2 l3 l5 l6 : Option Value) (z : Int) (st : List Value) (M : Mem) (Q : Outcome → Mem → Prop), (lo l3 = false) → Wp d 219 169 [l0, l1, l2, l3, some (.int (I z)), l5, l6] st M Q = Wp d 219 172 [l0, l1, l2, l3, some (.int (I (z + 1))), l5, l6] st M Q := fun d l0 l1 l2 l3 l5 l6 z st M Q hl => w_iinc (show ins 219 169 = some (.iinc 4 1, 3) by decide +kernel) rfl (st1_S rfl rfl hl)
set_option maxRecDepth 100000 in
theorem r_219_172 : ∀ (d : Nat) (ls : Lc) (st : List Value) (M : Mem) (Q : Outcome → Mem → Prop), Wp d 219 172 ls st M Q = Wp d 219 28 ls st M Q := fun d ls st M Q => w_goto (show ins 219 172 = some (.goto (-144), 3) by decide +kernel) rfl
set_option maxRecDepth 100000 in
theorem r_219_175 : ∀ (d : Nat) (l0 l1 l2 l4 l5 l6 : Option Value) (v : Int32) (st : List Value) (M : Mem) (Q : Outcome → Mem → Prop), Wp d 219 175 [l0, l1, l2, some (.int v), l4, l5, l6] st M Q = Wp d 219 176 [l0, l1, l2, some (.int v), l4, l5, l6] (.int v :: st) M Q := fun d l0 l1 l2 l4 l5 l6 v st M Q => wA (show ins 219 175 = some (.iload_n 3, 1) by decide +kernel) rfl
set_option maxRecDepth 100000 in
theorem r_219_176 : ∀ (d : Nat) (ls : Lc) (z : Int) (M : Mem) (Q : Outcome → Mem → Prop), (z = 0 ∨ z = 1) → Wp d 219 176 ls [.int (I z)] M Q = Q (.returned (some (.int (I z)))) M := fun d ls z M Q h0 => w_zretI (show ins 219 176 = some (.ireturn, 1) by decide +kernel) (by decide +kernel) h0
set_option maxRecDepth 100000 in
theorem r_219_176_1 : ∀ (d : Nat) (ls : Lc) (b : Bool) (M : Mem) (Q : Outcome → Mem → Prop), Wp d 219 176 ls [.int (I (bI b))] M Q = Q (.returned (some (.int (I (bI b))))) M := fun d ls b M Q => w_zretB (show ins 219 176 = some (.ireturn, 1) by decide +kernel) (by decide +kernel)
set_option maxRecDepth 100000 in
theorem w_219_28 : (type_of% r_219_28) := r_219_28
set_option maxRecDepth 100000 in
theorem W_219 : (type_of% r_219_0) ∧ (type_of% r_219_1) ∧ (type_of% r_219_4) ∧ (type_of% r_219_7) ∧ (type_of% r_219_8) ∧ (type_of% r_219_9) ∧ (type_of% r_219_10) ∧ (type_of% r_219_11) ∧ (type_of% r_219_12) ∧ (type_of% r_219_15) ∧ (type_of% r_219_17) ∧ (type_of% r_219_18) ∧ (type_of% r_219_19) ∧ (type_of% r_219_20) ∧ (type_of% r_219_21) ∧ (type_of% r_219_24) ∧ (type_of% r_219_25) ∧ (type_of% r_219_26) ∧ (type_of% r_219_30) ∧ (type_of% r_219_31) ∧ (type_of% r_219_34) ∧ (type_of% r_219_35) ∧ (type_of% r_219_38) ∧ (type_of% r_219_39) ∧ (type_of% r_219_42) ∧ (type_of% r_219_43) ∧ (type_of% r_219_46) ∧ (type_of% r_219_49) ∧ (type_of% r_219_51) ∧ (type_of% r_219_52) ∧ (type_of% r_219_53) ∧ (type_of% r_219_54) ∧ (type_of% r_219_56) ∧ (type_of% r_219_57) ∧ (type_of% r_219_58) ∧ (type_of% r_219_61) ∧ (type_of% r_219_63) ∧ (type_of% r_219_64) ∧ (type_of% r_219_67) ∧ (type_of% r_219_68) ∧ (type_of% r_219_71) ∧ (type_of% r_219_74) ∧ (type_of% r_219_76) ∧ (type_of% r_219_77) ∧ (type_of% r_219_78) ∧ (type_of% r_219_79) ∧ (type_of% r_219_81) ∧ (type_of% r_219_82) ∧ (type_of% r_219_83) ∧ (type_of% r_219_86) ∧ (type_of% r_219_88) ∧ (type_of% r_219_89) ∧ (type_of% r_219_92) ∧ (type_of% r_219_95) ∧ (type_of% r_219_97) ∧ (type_of% r_219_98) ∧ (type_of% r_219_99) ∧ (type_of% r_219_100) ∧ (type_of% r_219_103) ∧ (type_of% r_219_106) ∧ (type_of% r_219_108) ∧ (type_of% r_219_109) ∧ (type_of% r_219_110) ∧ (type_of% r_219_113) ∧ (type_of% r_219_114) ∧ (type_of% r_219_117) ∧ (type_of% r_219_120) ∧ (type_of% r_219_122) ∧ (type_of% r_219_123) ∧ (type_of% r_219_124) ∧ (type_of% r_219_125) ∧ (type_of% r_219_128) ∧ (type_of% r_219_131) ∧ (type_of% r_219_133) ∧ (type_of% r_219_134) ∧ (type_of% r_219_135) ∧ (type_of% r_219_138) ∧ (type_of% r_219_139) ∧ (type_of% r_219_142) ∧ (type_of% r_219_145) ∧ (type_of% r_219_147) ∧ (type_of% r_219_148) ∧ (type_of% r_219_149) ∧ (type_of% r_219_150) ∧ (type_of% r_219_153) ∧ (type_of% r_219_156) ∧ (type_of% r_219_158) ∧ (type_of% r_219_159) ∧ (type_of% r_219_160) ∧ (type_of% r_219_163) ∧ (type_of% r_219_164) ∧ (type_of% r_219_167) ∧ (type_of% r_219_168) ∧ (type_of% r_219_169) ∧ (type_of% r_219_172) ∧ (type_of% r_219_175) ∧ (type_of% r_219_176) ∧ (type_of% r_219_176_1) := ⟨r_219_0, r_219_1, r_219_4, r_219_7, r_219_8, r_219_9, r_219_10, r_219_11, r_219_12, r_219_15, r_219_17, r_219_18, r_219_19, r_219_20, r_219_21, r_219_24, r_219_25, r_219_26, r_219_30, r_219_31, r_219_34, r_219_35, r_219_38, r_219_39, r_219_42, r_219_43, r_219_46, r_219_49, r_219_51, r_219_52, r_219_53, r_219_54, r_219_56, r_219_57, r_219_58, r_219_61, r_219_63, r_219_64, r_219_67, r_219_68, r_219_71, r_219_74, r_219_76, r_219_77, r_219_78, r_219_79, r_219_81, r_219_82, r_219_83, r_219_86, r_219_88, r_219_89, r_219_92, r_219_95, r_219_97, r_219_98, r_219_99, r_219_100, r_219_103, r_219_106, r_219_108, r_219_109, r_219_110, r_219_113, r_219_114, r_219_117, r_219_120, r_219_122, r_219_123, r_219_124, r_219_125, r_219_128, r_219_131, r_219_133, r_219_134, r_219_135, r_219_138, r_219_139, r_219_142, r_219_145, r_219_147, r_219_148, r_219_149, r_219_150, r_219_153, r_219_156, r_219_158, r_219_159, r_219_160, r_219_163, r_219_164, r_219_167, r_219_168, r_219_169, r_219_172, r_219_175, r_219_176, r_219_176_1⟩
set_option maxRecDepth 100000 in
theorem ca_219 {d y pc : Nat} {ls : Lc} {a : Nat} {z0 : Int32} {r : List Value} {M : Mem} {Q : Outcome → Mem → Prop} (hd : 0 < d) (hw : Wp (d - 1) 219 0 [some (.ref a), some (.int z0), none, none, none, none, none] [] M (Cq d y pc ls r Q)) : Ca d y pc ls 219 [.ref a, .int z0] r M Q := ca_of (mq_get (by decide)) (by rfl) hd hw
/-! 220 PackedTreeModel.firstBelow([II)I; loop heads [2] -/
set_option maxRecDepth 100000 in
theorem r_220_0 : ∀ (d : Nat) (l0 l2 : Option Value) (v : Int32) (st : List Value) (M : Mem) (Q : Outcome → Mem → Prop), Wp d 220 0 [l0, some (.int v), l2] st M Q = Wp d 220 1 [l0, some (.int v), l2] (.int v :: st) M Q := fun d l0 l2 v st M Q => wA (show ins 220 0 = some (.iload_n 1, 1) by decide +kernel) rfl
set_option maxRecDepth 100000 in
theorem r_220_1 : ∀ (d : Nat) (l0 l1 l2 : Option Value) (v : Int32) (st : List Value) (M : Mem) (Q : Outcome → Mem → Prop), (lo l1 = false) → Wp d 220 1 [l0, l1, l2] (.int v :: st) M Q = Wp d 220 2 [l0, l1, some (.int v)] st M Q := fun d l0 l1 l2 v st M Q hl => w_istore_n (show ins 220 1 = some (.istore_n 2, 1) by decide +kernel) (st1_S rfl rfl hl)
set_option maxRecDepth 100000 in
theorem r_220_2 : ∀ (d : Nat) (l1 l2 : Option Value) (v : Nat) (st : List Value) (M : Mem) (Q : Outcome → Mem → Prop), Wp d 220 2 [some (.ref v), l1, l2] st M Q = Wp d 220 3 [some (.ref v), l1, l2] (.ref v :: st) M Q := fun d l1 l2 v st M Q => wA (show ins 220 2 = some (.aload_n 0, 1) by decide +kernel) rfl
set_option maxRecDepth 100000 in
theorem r_220_2_1 : ∀ (d : Nat) (l1 l2 : Option Value) (st : List Value) (M : Mem) (Q : Outcome → Mem → Prop), Wp d 220 2 [some .null, l1, l2] st M Q = Wp d 220 3 [some .null, l1, l2] (.null :: st) M Q := fun d l1 l2 st M Q => wA (show ins 220 2 = some (.aload_n 0, 1) by decide +kernel) rfl
set_option maxRecDepth 100000 in
theorem r_220_3 : ∀ (d : Nat) (ls : Lc) (st : List Value) (M : Mem) (Q : Outcome → Mem → Prop), Wp d 220 3 ls st M Q = Wp d 220 6 ls (.int (I 3756) :: st) M Q := fun d ls st M Q => w_sipush (show ins 220 3 = some (.sipush 3756, 3) by decide +kernel) (by decide)
set_option maxRecDepth 100000 in
theorem r_220_6 : ∀ (d : Nat) (l0 l1 : Option Value) (v : Int32) (st : List Value) (M : Mem) (Q : Outcome → Mem → Prop), Wp d 220 6 [l0, l1, some (.int v)] st M Q = Wp d 220 7 [l0, l1, some (.int v)] (.int v :: st) M Q := fun d l0 l1 v st M Q => wA (show ins 220 6 = some (.iload_n 2, 1) by decide +kernel) rfl
set_option maxRecDepth 100000 in
theorem r_220_7 : ∀ (d : Nat) (ls : Lc) (a b : Int) (st : List Value) (M : Mem) (Q : Outcome → Mem → Prop), Wp d 220 7 ls (.int (I b) :: .int (I a) :: st) M Q = Wp d 220 8 ls (.int (I (a + b)) :: st) M Q := fun d ls a b st M Q => w_iadd (show ins 220 7 = some (.iadd, 1) by decide +kernel)
set_option maxRecDepth 100000 in
theorem r_220_8 : ∀ (d : Nat) (ls : Lc) (a : Nat) (j : Int32) (st : List Value) (M : Mem) (Q : Outcome → Mem → Prop), Wp d 220 8 ls (.int j :: .ref a :: st) M Q = ((((kX M a).1 = 0 ∨ (kX M a).1 = 8) ∧ inB j (kX M a).2 = true) ∧ Wp d 220 9 ls (.int (mA M a j.toNatClampNeg) :: st) M Q) := fun d ls a j st M Q => w_iaload (show ins 220 8 = some (.iaload, 1) by decide +kernel)
set_option maxRecDepth 100000 in
theorem r_220_9 : ∀ (d : Nat) (ls : Lc) (st : List Value) (M : Mem) (Q : Outcome → Mem → Prop), Wp d 220 9 ls st M Q = Wp d 220 10 ls (.int (I 1) :: st) M Q := fun d ls st M Q => w_iconst (show ins 220 9 = some (.iconst 1, 1) by decide +kernel)
set_option maxRecDepth 100000 in
theorem r_220_10 : ∀ (d : Nat) (ls : Lc) (a b : Int32) (st : List Value) (M : Mem) (Q : Outcome → Mem → Prop), Wp d 220 10 ls (.int b :: .int a :: st) M Q = Br (a ≤ b) d 220 27 13 ls st M Q := fun d ls a b st M Q => w_icmp (show ins 220 10 = some (.if_icmp .le 17, 3) by decide +kernel) rfl rfl
set_option maxRecDepth 100000 in
theorem r_220_13 : ∀ (d : Nat) (l1 l2 : Option Value) (v : Nat) (st : List Value) (M : Mem) (Q : Outcome → Mem → Prop), Wp d 220 13 [some (.ref v), l1, l2] st M Q = Wp d 220 14 [some (.ref v), l1, l2] (.ref v :: st) M Q := fun d l1 l2 v st M Q => wA (show ins 220 13 = some (.aload_n 0, 1) by decide +kernel) rfl
set_option maxRecDepth 100000 in
theorem r_220_13_1 : ∀ (d : Nat) (l1 l2 : Option Value) (st : List Value) (M : Mem) (Q : Outcome → Mem → Prop), Wp d 220 13 [some .null, l1, l2] st M Q = Wp d 220 14 [some .null, l1, l2] (.null :: st) M Q := fun d l1 l2 st M Q => wA (show ins 220 13 = some (.aload_n 0, 1) by decide +kernel) rfl
set_option maxRecDepth 100000 in
theorem r_220_14 : ∀ (d : Nat) (ls : Lc) (st : List Value) (M : Mem) (Q : Outcome → Mem → Prop), Wp d 220 14 ls st M Q = Wp d 220 17 ls (.int (I 4044) :: st) M Q := fun d ls st M Q => w_sipush (show ins 220 14 = some (.sipush 4044, 3) by decide +kernel) (by decide)
set_option maxRecDepth 100000 in
theorem r_220_17 : ∀ (d : Nat) (ls : Lc) (st : List Value) (M : Mem) (Q : Outcome → Mem → Prop), Wp d 220 17 ls st M Q = Wp d 220 19 ls (.int (I 6) :: st) M Q := fun d ls st M Q => w_bipush (show ins 220 17 = some (.bipush 6, 2) by decide +kernel) (by decide)
set_option maxRecDepth 100000 in
theorem r_220_19 : ∀ (d : Nat) (l0 l1 : Option Value) (v : Int32) (st : List Value) (M : Mem) (Q : Outcome → Mem → Prop), Wp d 220 19 [l0, l1, some (.int v)] st M Q = Wp d 220 20 [l0, l1, some (.int v)] (.int v :: st) M Q := fun d l0 l1 v st M Q => wA (show ins 220 19 = some (.iload_n 2, 1) by decide +kernel) rfl
set_option maxRecDepth 100000 in
theorem r_220_20 : ∀ (d : Nat) (ls : Lc) (a b : Int) (st : List Value) (M : Mem) (Q : Outcome → Mem → Prop), Wp d 220 20 ls (.int (I b) :: .int (I a) :: st) M Q = Wp d 220 21 ls (.int (I (a * b)) :: st) M Q := fun d ls a b st M Q => w_imul (show ins 220 20 = some (.imul, 1) by decide +kernel)
set_option maxRecDepth 100000 in
theorem r_220_21 : ∀ (d : Nat) (ls : Lc) (a b : Int) (st : List Value) (M : Mem) (Q : Outcome → Mem → Prop), Wp d 220 21 ls (.int (I b) :: .int (I a) :: st) M Q = Wp d 220 22 ls (.int (I (a + b)) :: st) M Q := fun d ls a b st M Q => w_iadd (show ins 220 21 = some (.iadd, 1) by decide +kernel)
set_option maxRecDepth 100000 in
theorem r_220_22 : ∀ (d : Nat) (ls : Lc) (a : Nat) (j : Int32) (st : List Value) (M : Mem) (Q : Outcome → Mem → Prop), Wp d 220 22 ls (.int j :: .ref a :: st) M Q = ((((kX M a).1 = 0 ∨ (kX M a).1 = 8) ∧ inB j (kX M a).2 = true) ∧ Wp d 220 23 ls (.int (mA M a j.toNatClampNeg) :: st) M Q) := fun d ls a j st M Q => w_iaload (show ins 220 22 = some (.iaload, 1) by decide +kernel)
set_option maxRecDepth 100000 in
theorem r_220_23 : ∀ (d : Nat) (l0 l1 l2 : Option Value) (v : Int32) (st : List Value) (M : Mem) (Q : Outcome → Mem → Prop), (lo l1 = false) → Wp d 220 23 [l0, l1, l2] (.int v :: st) M Q = Wp d 220 24 [l0, l1, some (.int v)] st M Q := fun d l0 l1 l2 v st M Q hl => w_istore_n (show ins 220 23 = some (.istore_n 2, 1) by decide +kernel) (st1_S rfl rfl hl)
set_option maxRecDepth 100000 in
theorem r_220_24 : ∀ (d : Nat) (ls : Lc) (st : List Value) (M : Mem) (Q : Outcome → Mem → Prop), Wp d 220 24 ls st M Q = Wp d 220 2 ls st M Q := fun d ls st M Q => w_goto (show ins 220 24 = some (.goto (-22), 3) by decide +kernel) rfl
set_option maxRecDepth 100000 in
theorem r_220_27 : ∀ (d : Nat) (ls : Lc) (st : List Value) (M : Mem) (Q : Outcome → Mem → Prop), Wp d 220 27 ls st M Q = Wp d 220 29 ls (.int (I 16) :: st) M Q := fun d ls st M Q => w_bipush (show ins 220 27 = some (.bipush 16, 2) by decide +kernel) (by decide)
set_option maxRecDepth 100000 in
theorem r_220_29 : ∀ (d : Nat) (l0 l1 : Option Value) (v : Int32) (st : List Value) (M : Mem) (Q : Outcome → Mem → Prop), Wp d 220 29 [l0, l1, some (.int v)] st M Q = Wp d 220 30 [l0, l1, some (.int v)] (.int v :: st) M Q := fun d l0 l1 v st M Q => wA (show ins 220 29 = some (.iload_n 2, 1) by decide +kernel) rfl
set_option maxRecDepth 100000 in
theorem r_220_30 : ∀ (d : Nat) (ls : Lc) (a b : Int) (st : List Value) (M : Mem) (Q : Outcome → Mem → Prop), Wp d 220 30 ls (.int (I b) :: .int (I a) :: st) M Q = Wp d 220 31 ls (.int (I (a * b)) :: st) M Q := fun d ls a b st M Q => w_imul (show ins 220 30 = some (.imul, 1) by decide +kernel)
set_option maxRecDepth 100000 in
theorem r_220_31 : ∀ (d : Nat) (ls : Lc) (v : Int32) (M : Mem) (Q : Outcome → Mem → Prop), Wp d 220 31 ls [.int v] M Q = Q (.returned (some (.int v))) M := fun d ls v M Q => w_ireturn (show ins 220 31 = some (.ireturn, 1) by decide +kernel) (by decide +kernel)
set_option maxRecDepth 100000 in
theorem w_220_2 : (type_of% r_220_2) ∧ (type_of% r_220_2_1) := ⟨r_220_2, r_220_2_1⟩
set_option maxRecDepth 100000 in
theorem W_220 : (type_of% r_220_0) ∧ (type_of% r_220_1) ∧ (type_of% r_220_3) ∧ (type_of% r_220_6) ∧ (type_of% r_220_7) ∧ (type_of% r_220_8) ∧ (type_of% r_220_9) ∧ (type_of% r_220_10) ∧ (type_of% r_220_13) ∧ (type_of% r_220_13_1) ∧ (type_of% r_220_14) ∧ (type_of% r_220_17) ∧ (type_of% r_220_19) ∧ (type_of% r_220_20) ∧ (type_of% r_220_21) ∧ (type_of% r_220_22) ∧ (type_of% r_220_23) ∧ (type_of% r_220_24) ∧ (type_of% r_220_27) ∧ (type_of% r_220_29) ∧ (type_of% r_220_30) ∧ (type_of% r_220_31) := ⟨r_220_0, r_220_1, r_220_3, r_220_6, r_220_7, r_220_8, r_220_9, r_220_10, r_220_13, r_220_13_1, r_220_14, r_220_17, r_220_19, r_220_20, r_220_21, r_220_22, r_220_23, r_220_24, r_220_27, r_220_29, r_220_30, r_220_31⟩
set_option maxRecDepth 100000 in
theorem ca_220 {d y pc : Nat} {ls : Lc} {o0 : Option Nat} {z1 : Int32} {r : List Value} {M : Mem} {Q : Outcome → Mem → Prop} (hd : 0 < d) (hw : Wp (d - 1) 220 0 [some (va_rf o0), some (.int z1), none] [] M (Cq d y pc ls r Q)) : Ca d y pc ls 220 [va_rf o0, .int z1] r M Q := ca_of (mq_get (by decide)) (by cases o0 <;> rfl) hd hw
/-! 221 PackedTreeModel.home()Z; loop heads [11, 52] -/
set_option maxRecDepth 100000 in
theorem r_221_0 : ∀ (d : Nat) (l1 : Option Value) (v : Nat) (st : List Value) (M : Mem) (Q : Outcome → Mem → Prop), Wp d 221 0 [some (.ref v), l1] st M Q = Wp d 221 1 [some (.ref v), l1] (.ref v :: st) M Q := fun d l1 v st M Q => wA (show ins 221 0 = some (.aload_n 0, 1) by decide +kernel) rfl
set_option maxRecDepth 100000 in
theorem r_221_1 : ∀ (d : Nat) (ls : Lc) (a : Nat) (st : List Value) (M : Mem) (Q : Outcome → Mem → Prop), Wp d 221 1 ls (.ref a :: st) M Q = (fk 50 (kO M a) = true ∧ Wp d 221 4 ls (.int (mF M 50 a) :: st) M Q) := fun d ls a st M Q => w_getI (show ins 221 1 = some (.getfield 223, 3) by decide +kernel) (show fRes (mC 221) 223 = some (50, 8, false) by decide +kernel) (by decide +kernel)
set_option maxRecDepth 100000 in
theorem r_221_4 : ∀ (d : Nat) (ls : Lc) (a : Int32) (st : List Value) (M : Mem) (Q : Outcome → Mem → Prop), Wp d 221 4 ls (.int a :: st) M Q = Br (¬ a = I 0) d 221 9 7 ls st M Q := fun d ls a st M Q => w_if (show ins 221 4 = some (.ifCond .ne 5, 3) by decide +kernel) rfl rfl
set_option maxRecDepth 100000 in
theorem r_221_7 : ∀ (d : Nat) (ls : Lc) (st : List Value) (M : Mem) (Q : Outcome → Mem → Prop), Wp d 221 7 ls st M Q = Wp d 221 8 ls (.int (I 1) :: st) M Q := fun d ls st M Q => w_iconst (show ins 221 7 = some (.iconst 1, 1) by decide +kernel)
set_option maxRecDepth 100000 in
theorem r_221_8 : ∀ (d : Nat) (ls : Lc) (z : Int) (M : Mem) (Q : Outcome → Mem → Prop), (z = 0 ∨ z = 1) → Wp d 221 8 ls [.int (I z)] M Q = Q (.returned (some (.int (I z)))) M := fun d ls z M Q h0 => w_zretI (show ins 221 8 = some (.ireturn, 1) by decide +kernel) (by decide +kernel) h0
set_option maxRecDepth 100000 in
theorem r_221_8_1 : ∀ (d : Nat) (ls : Lc) (b : Bool) (M : Mem) (Q : Outcome → Mem → Prop), Wp d 221 8 ls [.int (I (bI b))] M Q = Q (.returned (some (.int (I (bI b))))) M := fun d ls b M Q => w_zretB (show ins 221 8 = some (.ireturn, 1) by decide +kernel) (by decide +kernel)
set_option maxRecDepth 100000 in
theorem r_221_9 : ∀ (d : Nat) (ls : Lc) (st : List Value) (M : Mem) (Q : Outcome → Mem → Prop), Wp d 221 9 ls st M Q = Wp d 221 10 ls (.int (I 0) :: st) M Q := fun d ls st M Q => w_iconst (show ins 221 9 = some (.iconst 0, 1) by decide +kernel)
set_option maxRecDepth 100000 in
theorem r_221_10 : ∀ (d : Nat) (l0 l1 : Option Value) (v : Int32) (st : List Value) (M : Mem) (Q : Outcome → Mem → Prop), (lo l0 = false) → Wp d 221 10 [l0, l1] (.int v :: st) M Q = Wp d 221 11 [l0, some (.int v)] st M Q := fun d l0 l1 v st M Q hl => w_istore_n (show ins 221 10 = some (.istore_n 1, 1) by decide +kernel) (st1_S rfl rfl hl)
set_option maxRecDepth 100000 in
theorem r_221_11 : ∀ (d : Nat) (l0 : Option Value) (v : Int32) (st : List Value) (M : Mem) (Q : Outcome → Mem → Prop), Wp d 221 11 [l0, some (.int v)] st M Q = Wp d 221 12 [l0, some (.int v)] (.int v :: st) M Q := fun d l0 v st M Q => wA (show ins 221 11 = some (.iload_n 1, 1) by decide +kernel) rfl
set_option maxRecDepth 100000 in
theorem r_221_12 : ∀ (d : Nat) (ls : Lc) (st : List Value) (M : Mem) (Q : Outcome → Mem → Prop), Wp d 221 12 ls st M Q = Wp d 221 14 ls (.int (I 96) :: st) M Q := fun d ls st M Q => w_bipush (show ins 221 12 = some (.bipush 96, 2) by decide +kernel) (by decide)
set_option maxRecDepth 100000 in
theorem r_221_14 : ∀ (d : Nat) (ls : Lc) (a b : Int32) (st : List Value) (M : Mem) (Q : Outcome → Mem → Prop), Wp d 221 14 ls (.int b :: .int a :: st) M Q = Br (b ≤ a) d 221 41 17 ls st M Q := fun d ls a b st M Q => w_icmp (show ins 221 14 = some (.if_icmp .ge 27, 3) by decide +kernel) rfl rfl
set_option maxRecDepth 100000 in
theorem r_221_17 : ∀ (d : Nat) (l1 : Option Value) (v : Nat) (st : List Value) (M : Mem) (Q : Outcome → Mem → Prop), Wp d 221 17 [some (.ref v), l1] st M Q = Wp d 221 18 [some (.ref v), l1] (.ref v :: st) M Q := fun d l1 v st M Q => wA (show ins 221 17 = some (.aload_n 0, 1) by decide +kernel) rfl
set_option maxRecDepth 100000 in
theorem r_221_18 : ∀ (d : Nat) (ls : Lc) (a : Nat) (st : List Value) (M : Mem) (Q : Outcome → Mem → Prop), Wp d 221 18 ls (.ref a :: st) M Q = (fk 48 (kO M a) = true ∧ Wp d 221 21 ls (va_rf (mR M 48 a) :: st) M Q) := fun d ls a st M Q => w_getR (show ins 221 18 = some (.getfield 22, 3) by decide +kernel) (show fRes (mC 221) 22 = some (48, 8, false) by decide +kernel) (by decide +kernel)
set_option maxRecDepth 100000 in
theorem r_221_21 : ∀ (d : Nat) (l0 : Option Value) (v : Int32) (st : List Value) (M : Mem) (Q : Outcome → Mem → Prop), Wp d 221 21 [l0, some (.int v)] st M Q = Wp d 221 22 [l0, some (.int v)] (.int v :: st) M Q := fun d l0 v st M Q => wA (show ins 221 21 = some (.iload_n 1, 1) by decide +kernel) rfl
set_option maxRecDepth 100000 in
theorem r_221_22 : ∀ (d : Nat) (ls : Lc) (a : Nat) (j : Int32) (st : List Value) (M : Mem) (Q : Outcome → Mem → Prop), Wp d 221 22 ls (.int j :: .ref a :: st) M Q = ((((kX M a).1 = 1 ∨ (kX M a).1 = 2) ∧ inB j (kX M a).2 = true) ∧ Wp d 221 23 ls (.int (mA M a j.toNatClampNeg) :: st) M Q) := fun d ls a j st M Q => w_baload (show ins 221 22 = some (.baload, 1) by decide +kernel)
set_option maxRecDepth 100000 in
theorem r_221_23 : ∀ (d : Nat) (ls : Lc) (a : Int32) (st : List Value) (M : Mem) (Q : Outcome → Mem → Prop), Wp d 221 23 ls (.int a :: st) M Q = Br (a = I 0) d 221 35 26 ls st M Q := fun d ls a st M Q => w_if (show ins 221 23 = some (.ifCond .eq 12, 3) by decide +kernel) rfl rfl
set_option maxRecDepth 100000 in
theorem r_221_26 : ∀ (d : Nat) (l1 : Option Value) (v : Nat) (st : List Value) (M : Mem) (Q : Outcome → Mem → Prop), Wp d 221 26 [some (.ref v), l1] st M Q = Wp d 221 27 [some (.ref v), l1] (.ref v :: st) M Q := fun d l1 v st M Q => wA (show ins 221 26 = some (.aload_n 0, 1) by decide +kernel) rfl
set_option maxRecDepth 100000 in
theorem r_221_27 : ∀ (d : Nat) (ls : Lc) (a : Nat) (st : List Value) (M : Mem) (Q : Outcome → Mem → Prop), (smallR st = true) → Wp d 221 27 ls (.ref a :: st) M Q = (kO M a = 8 ∧ Ca d 221 27 ls 222 (.ref a :: []) st M Q) := fun d ls a st M Q h0 => w_virt1 (as := []) (show ins 221 27 = some (.invokevirtual 226, 3) by decide +kernel) (show mRes (mC 221) 226 = some (3, 8, [(8, 222)]) by decide +kernel) (by decide +kernel) rfl (by decide +kernel) (by decide +kernel) h0
set_option maxRecDepth 100000 in
theorem r_221_30 : ∀ (d : Nat) (ls : Lc) (a : Int32) (st : List Value) (M : Mem) (Q : Outcome → Mem → Prop), Wp d 221 30 ls (.int a :: st) M Q = Br (¬ a = I 0) d 221 35 33 ls st M Q := fun d ls a st M Q => w_if (show ins 221 30 = some (.ifCond .ne 5, 3) by decide +kernel) rfl rfl
set_option maxRecDepth 100000 in
theorem r_221_33 : ∀ (d : Nat) (ls : Lc) (st : List Value) (M : Mem) (Q : Outcome → Mem → Prop), Wp d 221 33 ls st M Q = Wp d 221 34 ls (.int (I 0) :: st) M Q := fun d ls st M Q => w_iconst (show ins 221 33 = some (.iconst 0, 1) by decide +kernel)
set_option maxRecDepth 100000 in
theorem r_221_34 : ∀ (d : Nat) (ls : Lc) (z : Int) (M : Mem) (Q : Outcome → Mem → Prop), (z = 0 ∨ z = 1) → Wp d 221 34 ls [.int (I z)] M Q = Q (.returned (some (.int (I z)))) M := fun d ls z M Q h0 => w_zretI (show ins 221 34 = some (.ireturn, 1) by decide +kernel) (by decide +kernel) h0
set_option maxRecDepth 100000 in
theorem r_221_34_1 : ∀ (d : Nat) (ls : Lc) (b : Bool) (M : Mem) (Q : Outcome → Mem → Prop), Wp d 221 34 ls [.int (I (bI b))] M Q = Q (.returned (some (.int (I (bI b))))) M := fun d ls b M Q => w_zretB (show ins 221 34 = some (.ireturn, 1) by decide +kernel) (by decide +kernel)
set_option maxRecDepth 100000 in
theorem r_221_35 : ∀ (d : Nat) (l0 : Option Value) (z : Int) (st : List Value) (M : Mem) (Q : Outcome → Mem → Prop), (lo l0 = false) → Wp d 221 35 [l0, some (.int (I z))] st M Q = Wp d 221 38 [l0, some (.int (I (z + 1)))] st M Q := fun d l0 z st M Q hl => w_iinc (show ins 221 35 = some (.iinc 1 1, 3) by decide +kernel) rfl (st1_S rfl rfl hl)
set_option maxRecDepth 100000 in
theorem r_221_38 : ∀ (d : Nat) (ls : Lc) (st : List Value) (M : Mem) (Q : Outcome → Mem → Prop), Wp d 221 38 ls st M Q = Wp d 221 11 ls st M Q := fun d ls st M Q => w_goto (show ins 221 38 = some (.goto (-27), 3) by decide +kernel) rfl
set_option maxRecDepth 100000 in
theorem r_221_41 : ∀ (d : Nat) (l1 : Option Value) (v : Nat) (st : List Value) (M : Mem) (Q : Outcome → Mem → Prop), Wp d 221 41 [some (.ref v), l1] st M Q = Wp d 221 42 [some (.ref v), l1] (.ref v :: st) M Q := fun d l1 v st M Q => wA (show ins 221 41 = some (.aload_n 0, 1) by decide +kernel) rfl
set_option maxRecDepth 100000 in
theorem r_221_42 : ∀ (d : Nat) (ls : Lc) (a : Nat) (st : List Value) (M : Mem) (Q : Outcome → Mem → Prop), (smallR st = true) → Wp d 221 42 ls (.ref a :: st) M Q = (kO M a = 8 ∧ Ca d 221 42 ls 222 (.ref a :: []) st M Q) := fun d ls a st M Q h0 => w_virt1 (as := []) (show ins 221 42 = some (.invokevirtual 226, 3) by decide +kernel) (show mRes (mC 221) 226 = some (3, 8, [(8, 222)]) by decide +kernel) (by decide +kernel) rfl (by decide +kernel) (by decide +kernel) h0
set_option maxRecDepth 100000 in
theorem r_221_45 : ∀ (d : Nat) (ls : Lc) (a : Int32) (st : List Value) (M : Mem) (Q : Outcome → Mem → Prop), Wp d 221 45 ls (.int a :: st) M Q = Br (¬ a = I 0) d 221 50 48 ls st M Q := fun d ls a st M Q => w_if (show ins 221 45 = some (.ifCond .ne 5, 3) by decide +kernel) rfl rfl
set_option maxRecDepth 100000 in
theorem r_221_48 : ∀ (d : Nat) (ls : Lc) (st : List Value) (M : Mem) (Q : Outcome → Mem → Prop), Wp d 221 48 ls st M Q = Wp d 221 49 ls (.int (I 0) :: st) M Q := fun d ls st M Q => w_iconst (show ins 221 48 = some (.iconst 0, 1) by decide +kernel)
set_option maxRecDepth 100000 in
theorem r_221_49 : ∀ (d : Nat) (ls : Lc) (z : Int) (M : Mem) (Q : Outcome → Mem → Prop), (z = 0 ∨ z = 1) → Wp d 221 49 ls [.int (I z)] M Q = Q (.returned (some (.int (I z)))) M := fun d ls z M Q h0 => w_zretI (show ins 221 49 = some (.ireturn, 1) by decide +kernel) (by decide +kernel) h0
set_option maxRecDepth 100000 in
theorem r_221_49_1 : ∀ (d : Nat) (ls : Lc) (b : Bool) (M : Mem) (Q : Outcome → Mem → Prop), Wp d 221 49 ls [.int (I (bI b))] M Q = Q (.returned (some (.int (I (bI b))))) M := fun d ls b M Q => w_zretB (show ins 221 49 = some (.ireturn, 1) by decide +kernel) (by decide +kernel)
set_option maxRecDepth 100000 in
theorem r_221_50 : ∀ (d : Nat) (ls : Lc) (st : List Value) (M : Mem) (Q : Outcome → Mem → Prop), Wp d 221 50 ls st M Q = Wp d 221 51 ls (.int (I 0) :: st) M Q := fun d ls st M Q => w_iconst (show ins 221 50 = some (.iconst 0, 1) by decide +kernel)
set_option maxRecDepth 100000 in
theorem r_221_51 : ∀ (d : Nat) (l0 l1 : Option Value) (v : Int32) (st : List Value) (M : Mem) (Q : Outcome → Mem → Prop), (lo l0 = false) → Wp d 221 51 [l0, l1] (.int v :: st) M Q = Wp d 221 52 [l0, some (.int v)] st M Q := fun d l0 l1 v st M Q hl => w_istore_n (show ins 221 51 = some (.istore_n 1, 1) by decide +kernel) (st1_S rfl rfl hl)
set_option maxRecDepth 100000 in
theorem r_221_52 : ∀ (d : Nat) (l0 : Option Value) (v : Int32) (st : List Value) (M : Mem) (Q : Outcome → Mem → Prop), Wp d 221 52 [l0, some (.int v)] st M Q = Wp d 221 53 [l0, some (.int v)] (.int v :: st) M Q := fun d l0 v st M Q => wA (show ins 221 52 = some (.iload_n 1, 1) by decide +kernel) rfl
set_option maxRecDepth 100000 in
theorem r_221_53 : ∀ (d : Nat) (ls : Lc) (st : List Value) (M : Mem) (Q : Outcome → Mem → Prop), Wp d 221 53 ls st M Q = Wp d 221 55 ls (.int (I 96) :: st) M Q := fun d ls st M Q => w_bipush (show ins 221 53 = some (.bipush 96, 2) by decide +kernel) (by decide)
set_option maxRecDepth 100000 in
theorem r_221_55 : ∀ (d : Nat) (ls : Lc) (a b : Int32) (st : List Value) (M : Mem) (Q : Outcome → Mem → Prop), Wp d 221 55 ls (.int b :: .int a :: st) M Q = Br (b ≤ a) d 221 71 58 ls st M Q := fun d ls a b st M Q => w_icmp (show ins 221 55 = some (.if_icmp .ge 16, 3) by decide +kernel) rfl rfl
set_option maxRecDepth 100000 in
theorem r_221_58 : ∀ (d : Nat) (l1 : Option Value) (v : Nat) (st : List Value) (M : Mem) (Q : Outcome → Mem → Prop), Wp d 221 58 [some (.ref v), l1] st M Q = Wp d 221 59 [some (.ref v), l1] (.ref v :: st) M Q := fun d l1 v st M Q => wA (show ins 221 58 = some (.aload_n 0, 1) by decide +kernel) rfl
set_option maxRecDepth 100000 in
theorem r_221_59 : ∀ (d : Nat) (ls : Lc) (a : Nat) (st : List Value) (M : Mem) (Q : Outcome → Mem → Prop), Wp d 221 59 ls (.ref a :: st) M Q = (fk 48 (kO M a) = true ∧ Wp d 221 62 ls (va_rf (mR M 48 a) :: st) M Q) := fun d ls a st M Q => w_getR (show ins 221 59 = some (.getfield 22, 3) by decide +kernel) (show fRes (mC 221) 22 = some (48, 8, false) by decide +kernel) (by decide +kernel)
set_option maxRecDepth 100000 in
theorem r_221_62 : ∀ (d : Nat) (l0 : Option Value) (v : Int32) (st : List Value) (M : Mem) (Q : Outcome → Mem → Prop), Wp d 221 62 [l0, some (.int v)] st M Q = Wp d 221 63 [l0, some (.int v)] (.int v :: st) M Q := fun d l0 v st M Q => wA (show ins 221 62 = some (.iload_n 1, 1) by decide +kernel) rfl
set_option maxRecDepth 100000 in
theorem r_221_63 : ∀ (d : Nat) (ls : Lc) (st : List Value) (M : Mem) (Q : Outcome → Mem → Prop), Wp d 221 63 ls st M Q = Wp d 221 64 ls (.int (I 0) :: st) M Q := fun d ls st M Q => w_iconst (show ins 221 63 = some (.iconst 0, 1) by decide +kernel)
set_option maxRecDepth 100000 in
theorem r_221_64 : ∀ (d : Nat) (ls : Lc) (a : Nat) (j v : Int32) (st : List Value) (M : Mem) (Q : Outcome → Mem → Prop), Wp d 221 64 ls (.int v :: .int j :: .ref a :: st) M Q = ((((kX M a).1 = 1 ∨ (kX M a).1 = 2) ∧ inB j (kX M a).2 = true) ∧ Wp d 221 65 ls st (sA M a j.toNatClampNeg (nrw (kX M a).1 v)) Q) := fun d ls a j v st M Q => w_bastore (show ins 221 64 = some (.bastore, 1) by decide +kernel)
set_option maxRecDepth 100000 in
theorem r_221_65 : ∀ (d : Nat) (l0 : Option Value) (z : Int) (st : List Value) (M : Mem) (Q : Outcome → Mem → Prop), (lo l0 = false) → Wp d 221 65 [l0, some (.int (I z))] st M Q = Wp d 221 68 [l0, some (.int (I (z + 1)))] st M Q := fun d l0 z st M Q hl => w_iinc (show ins 221 65 = some (.iinc 1 1, 3) by decide +kernel) rfl (st1_S rfl rfl hl)
set_option maxRecDepth 100000 in
theorem r_221_68 : ∀ (d : Nat) (ls : Lc) (st : List Value) (M : Mem) (Q : Outcome → Mem → Prop), Wp d 221 68 ls st M Q = Wp d 221 52 ls st M Q := fun d ls st M Q => w_goto (show ins 221 68 = some (.goto (-16), 3) by decide +kernel) rfl
set_option maxRecDepth 100000 in
theorem r_221_71 : ∀ (d : Nat) (l1 : Option Value) (v : Nat) (st : List Value) (M : Mem) (Q : Outcome → Mem → Prop), Wp d 221 71 [some (.ref v), l1] st M Q = Wp d 221 72 [some (.ref v), l1] (.ref v :: st) M Q := fun d l1 v st M Q => wA (show ins 221 71 = some (.aload_n 0, 1) by decide +kernel) rfl
set_option maxRecDepth 100000 in
theorem r_221_72 : ∀ (d : Nat) (ls : Lc) (st : List Value) (M : Mem) (Q : Outcome → Mem → Prop), Wp d 221 72 ls st M Q = Wp d 221 73 ls (.int (I 0) :: st) M Q := fun d ls st M Q => w_iconst (show ins 221 72 = some (.iconst 0, 1) by decide +kernel)
set_option maxRecDepth 100000 in
theorem r_221_73 : ∀ (d : Nat) (ls : Lc) (a : Nat) (v : Int32) (st : List Value) (M : Mem) (Q : Outcome → Mem → Prop), Wp d 221 73 ls (.int v :: .ref a :: st) M Q = (fk 50 (kO M a) = true ∧ Wp d 221 76 ls st (sF M 50 a v) Q) := fun d ls a v st M Q => w_putI (show ins 221 73 = some (.putfield 223, 3) by decide +kernel) (show fRes (mC 221) 223 = some (50, 8, false) by decide +kernel) (by decide +kernel) (by decide +kernel)
set_option maxRecDepth 100000 in
theorem r_221_76 : ∀ (d : Nat) (ls : Lc) (st : List Value) (M : Mem) (Q : Outcome → Mem → Prop), Wp d 221 76 ls st M Q = Wp d 221 77 ls (.int (I 1) :: st) M Q := fun d ls st M Q => w_iconst (show ins 221 76 = some (.iconst 1, 1) by decide +kernel)
set_option maxRecDepth 100000 in
theorem r_221_77 : ∀ (d : Nat) (ls : Lc) (z : Int) (M : Mem) (Q : Outcome → Mem → Prop), (z = 0 ∨ z = 1) → Wp d 221 77 ls [.int (I z)] M Q = Q (.returned (some (.int (I z)))) M := fun d ls z M Q h0 => w_zretI (show ins 221 77 = some (.ireturn, 1) by decide +kernel) (by decide +kernel) h0
set_option maxRecDepth 100000 in
theorem r_221_77_1 : ∀ (d : Nat) (ls : Lc) (b : Bool) (M : Mem) (Q : Outcome → Mem → Prop), Wp d 221 77 ls [.int (I (bI b))] M Q = Q (.returned (some (.int (I (bI b))))) M := fun d ls b M Q => w_zretB (show ins 221 77 = some (.ireturn, 1) by decide +kernel) (by decide +kernel)
set_option maxRecDepth 100000 in
theorem w_221_11 : (type_of% r_221_11) := r_221_11
set_option maxRecDepth 100000 in
theorem w_221_52 : (type_of% r_221_52) := r_221_52
set_option maxRecDepth 100000 in
theorem W_221 : (type_of% r_221_0) ∧ (type_of% r_221_1) ∧ (type_of% r_221_4) ∧ (type_of% r_221_7) ∧ (type_of% r_221_8) ∧ (type_of% r_221_8_1) ∧ (type_of% r_221_9) ∧ (type_of% r_221_10) ∧ (type_of% r_221_12) ∧ (type_of% r_221_14) ∧ (type_of% r_221_17) ∧ (type_of% r_221_18) ∧ (type_of% r_221_21) ∧ (type_of% r_221_22) ∧ (type_of% r_221_23) ∧ (type_of% r_221_26) ∧ (type_of% r_221_27) ∧ (type_of% r_221_30) ∧ (type_of% r_221_33) ∧ (type_of% r_221_34) ∧ (type_of% r_221_34_1) ∧ (type_of% r_221_35) ∧ (type_of% r_221_38) ∧ (type_of% r_221_41) ∧ (type_of% r_221_42) ∧ (type_of% r_221_45) ∧ (type_of% r_221_48) ∧ (type_of% r_221_49) ∧ (type_of% r_221_49_1) ∧ (type_of% r_221_50) ∧ (type_of% r_221_51) ∧ (type_of% r_221_53) ∧ (type_of% r_221_55) ∧ (type_of% r_221_58) ∧ (type_of% r_221_59) ∧ (type_of% r_221_62) ∧ (type_of% r_221_63) ∧ (type_of% r_221_64) ∧ (type_of% r_221_65) ∧ (type_of% r_221_68) ∧ (type_of% r_221_71) ∧ (type_of% r_221_72) ∧ (type_of% r_221_73) ∧ (type_of% r_221_76) ∧ (type_of% r_221_77) ∧ (type_of% r_221_77_1) := ⟨r_221_0, r_221_1, r_221_4, r_221_7, r_221_8, r_221_8_1, r_221_9, r_221_10, r_221_12, r_221_14, r_221_17, r_221_18, r_221_21, r_221_22, r_221_23, r_221_26, r_221_27, r_221_30, r_221_33, r_221_34, r_221_34_1, r_221_35, r_221_38, r_221_41, r_221_42, r_221_45, r_221_48, r_221_49, r_221_49_1, r_221_50, r_221_51, r_221_53, r_221_55, r_221_58, r_221_59, r_221_62, r_221_63, r_221_64, r_221_65, r_221_68, r_221_71, r_221_72, r_221_73, r_221_76, r_221_77, r_221_77_1⟩
set_option maxRecDepth 100000 in
theorem ca_221 {d y pc : Nat} {ls : Lc} {a : Nat} {r : List Value} {M : Mem} {Q : Outcome → Mem → Prop} (hd : 0 < d) (hw : Wp (d - 1) 221 0 [some (.ref a), none] [] M (Cq d y pc ls r Q)) : Ca d y pc ls 221 [.ref a] r M Q := ca_of (mq_get (by decide)) (by rfl) hd hw
/-! 222 PackedTreeModel.goes()Z; loop heads [] -/
set_option maxRecDepth 100000 in
theorem r_222_0 : ∀ (d : Nat) (v : Nat) (st : List Value) (M : Mem) (Q : Outcome → Mem → Prop), Wp d 222 0 [some (.ref v)] st M Q = Wp d 222 1 [some (.ref v)] (.ref v :: st) M Q := fun d v st M Q => wA (show ins 222 0 = some (.aload_n 0, 1) by decide +kernel) rfl
set_option maxRecDepth 100000 in
theorem r_222_1 : ∀ (d : Nat) (ls : Lc) (a : Nat) (st : List Value) (M : Mem) (Q : Outcome → Mem → Prop), Wp d 222 1 ls (.ref a :: st) M Q = (fk 46 (kO M a) = true ∧ Wp d 222 4 ls (.int (mF M 46 a) :: st) M Q) := fun d ls a st M Q => w_getI (show ins 222 1 = some (.getfield 26, 3) by decide +kernel) (show fRes (mC 222) 26 = some (46, 8, false) by decide +kernel) (by decide +kernel)
set_option maxRecDepth 100000 in
theorem r_222_4 : ∀ (d : Nat) (ls : Lc) (a : Int32) (st : List Value) (M : Mem) (Q : Outcome → Mem → Prop), Wp d 222 4 ls (.int a :: st) M Q = Br (¬ a = I 0) d 222 19 7 ls st M Q := fun d ls a st M Q => w_if (show ins 222 4 = some (.ifCond .ne 15, 3) by decide +kernel) rfl rfl
set_option maxRecDepth 100000 in
theorem r_222_7 : ∀ (d : Nat) (v : Nat) (st : List Value) (M : Mem) (Q : Outcome → Mem → Prop), Wp d 222 7 [some (.ref v)] st M Q = Wp d 222 8 [some (.ref v)] (.ref v :: st) M Q := fun d v st M Q => wA (show ins 222 7 = some (.aload_n 0, 1) by decide +kernel) rfl
set_option maxRecDepth 100000 in
theorem r_222_8 : ∀ (d : Nat) (ls : Lc) (st : List Value) (M : Mem) (Q : Outcome → Mem → Prop), Wp d 222 8 ls st M Q = Wp d 222 9 ls (.int (I 1) :: st) M Q := fun d ls st M Q => w_iconst (show ins 222 8 = some (.iconst 1, 1) by decide +kernel)
set_option maxRecDepth 100000 in
theorem r_222_9 : ∀ (d : Nat) (ls : Lc) (a : Nat) (v : Int) (st : List Value) (M : Mem) (Q : Outcome → Mem → Prop), (v = 0 ∨ v = 1) → Wp d 222 9 ls (.int (I v) :: .ref a :: st) M Q = (fk 52 (kO M a) = true ∧ Wp d 222 12 ls st (sF M 52 a (I v)) Q) := fun d ls a v st M Q h0 => w_putZ (show ins 222 9 = some (.putfield 149, 3) by decide +kernel) (show fRes (mC 222) 149 = some (52, 8, false) by decide +kernel) (by decide +kernel) (by decide +kernel) h0
set_option maxRecDepth 100000 in
theorem r_222_12 : ∀ (d : Nat) (v : Nat) (st : List Value) (M : Mem) (Q : Outcome → Mem → Prop), Wp d 222 12 [some (.ref v)] st M Q = Wp d 222 13 [some (.ref v)] (.ref v :: st) M Q := fun d v st M Q => wA (show ins 222 12 = some (.aload_n 0, 1) by decide +kernel) rfl
set_option maxRecDepth 100000 in
theorem r_222_13 : ∀ (d : Nat) (ls : Lc) (st : List Value) (M : Mem) (Q : Outcome → Mem → Prop), Wp d 222 13 ls st M Q = Wp d 222 14 ls (.int (I (-1)) :: st) M Q := fun d ls st M Q => w_iconst (show ins 222 13 = some (.iconst (-1), 1) by decide +kernel)
set_option maxRecDepth 100000 in
theorem r_222_14 : ∀ (d : Nat) (ls : Lc) (a : Nat) (v : Int32) (st : List Value) (M : Mem) (Q : Outcome → Mem → Prop), Wp d 222 14 ls (.int v :: .ref a :: st) M Q = (fk 46 (kO M a) = true ∧ Wp d 222 17 ls st (sF M 46 a v) Q) := fun d ls a v st M Q => w_putI (show ins 222 14 = some (.putfield 26, 3) by decide +kernel) (show fRes (mC 222) 26 = some (46, 8, false) by decide +kernel) (by decide +kernel) (by decide +kernel)
set_option maxRecDepth 100000 in
theorem r_222_17 : ∀ (d : Nat) (ls : Lc) (st : List Value) (M : Mem) (Q : Outcome → Mem → Prop), Wp d 222 17 ls st M Q = Wp d 222 18 ls (.int (I 0) :: st) M Q := fun d ls st M Q => w_iconst (show ins 222 17 = some (.iconst 0, 1) by decide +kernel)
set_option maxRecDepth 100000 in
theorem r_222_18 : ∀ (d : Nat) (ls : Lc) (z : Int) (M : Mem) (Q : Outcome → Mem → Prop), (z = 0 ∨ z = 1) → Wp d 222 18 ls [.int (I z)] M Q = Q (.returned (some (.int (I z)))) M := fun d ls z M Q h0 => w_zretI (show ins 222 18 = some (.ireturn, 1) by decide +kernel) (by decide +kernel) h0
set_option maxRecDepth 100000 in
theorem r_222_18_1 : ∀ (d : Nat) (ls : Lc) (b : Bool) (M : Mem) (Q : Outcome → Mem → Prop), Wp d 222 18 ls [.int (I (bI b))] M Q = Q (.returned (some (.int (I (bI b))))) M := fun d ls b M Q => w_zretB (show ins 222 18 = some (.ireturn, 1) by decide +kernel) (by decide +kernel)
set_option maxRecDepth 100000 in
theorem r_222_19 : ∀ (d : Nat) (v : Nat) (st : List Value) (M : Mem) (Q : Outcome → Mem → Prop), Wp d 222 19 [some (.ref v)] st M Q = Wp d 222 20 [some (.ref v)] (.ref v :: st) M Q := fun d v st M Q => wA (show ins 222 19 = some (.aload_n 0, 1) by decide +kernel) rfl
set_option maxRecDepth 100000 in
theorem r_222_20 : ∀ (d : Nat) (ls : Lc) (v : Nat) (st : List Value) (M : Mem) (Q : Outcome → Mem → Prop), Wp d 222 20 ls (.ref v :: st) M Q = Wp d 222 21 ls (.ref v :: .ref v :: st) M Q := fun d ls v st M Q => wA (show ins 222 20 = some (.dup, 1) by decide +kernel) rfl
set_option maxRecDepth 100000 in
theorem r_222_20_1 : ∀ (d : Nat) (ls : Lc) (v : Int32) (st : List Value) (M : Mem) (Q : Outcome → Mem → Prop), Wp d 222 20 ls (.int v :: st) M Q = Wp d 222 21 ls (.int v :: .int v :: st) M Q := fun d ls v st M Q => wA (show ins 222 20 = some (.dup, 1) by decide +kernel) rfl
set_option maxRecDepth 100000 in
theorem r_222_21 : ∀ (d : Nat) (ls : Lc) (a : Nat) (st : List Value) (M : Mem) (Q : Outcome → Mem → Prop), Wp d 222 21 ls (.ref a :: st) M Q = (fk 46 (kO M a) = true ∧ Wp d 222 24 ls (.int (mF M 46 a) :: st) M Q) := fun d ls a st M Q => w_getI (show ins 222 21 = some (.getfield 26, 3) by decide +kernel) (show fRes (mC 222) 26 = some (46, 8, false) by decide +kernel) (by decide +kernel)
set_option maxRecDepth 100000 in
theorem r_222_24 : ∀ (d : Nat) (v : Nat) (st : List Value) (M : Mem) (Q : Outcome → Mem → Prop), Wp d 222 24 [some (.ref v)] st M Q = Wp d 222 25 [some (.ref v)] (.ref v :: st) M Q := fun d v st M Q => wA (show ins 222 24 = some (.aload_n 0, 1) by decide +kernel) rfl
set_option maxRecDepth 100000 in
theorem r_222_25 : ∀ (d : Nat) (ls : Lc) (a : Nat) (st : List Value) (M : Mem) (Q : Outcome → Mem → Prop), Wp d 222 25 ls (.ref a :: st) M Q = (fk 46 (kO M a) = true ∧ Wp d 222 28 ls (.int (mF M 46 a) :: st) M Q) := fun d ls a st M Q => w_getI (show ins 222 25 = some (.getfield 26, 3) by decide +kernel) (show fRes (mC 222) 26 = some (46, 8, false) by decide +kernel) (by decide +kernel)
set_option maxRecDepth 100000 in
theorem r_222_28 : ∀ (d : Nat) (ls : Lc) (a : Int32) (st : List Value) (M : Mem) (Q : Outcome → Mem → Prop), Wp d 222 28 ls (.int a :: st) M Q = Br (a ≤ I 0) d 222 35 31 ls st M Q := fun d ls a st M Q => w_if (show ins 222 28 = some (.ifCond .le 7, 3) by decide +kernel) rfl rfl
set_option maxRecDepth 100000 in
theorem r_222_31 : ∀ (d : Nat) (ls : Lc) (st : List Value) (M : Mem) (Q : Outcome → Mem → Prop), Wp d 222 31 ls st M Q = Wp d 222 32 ls (.int (I 1) :: st) M Q := fun d ls st M Q => w_iconst (show ins 222 31 = some (.iconst 1, 1) by decide +kernel)
set_option maxRecDepth 100000 in
theorem r_222_32 : ∀ (d : Nat) (ls : Lc) (st : List Value) (M : Mem) (Q : Outcome → Mem → Prop), Wp d 222 32 ls st M Q = Wp d 222 36 ls st M Q := fun d ls st M Q => w_goto (show ins 222 32 = some (.goto 4, 3) by decide +kernel) rfl
set_option maxRecDepth 100000 in
theorem r_222_35 : ∀ (d : Nat) (ls : Lc) (st : List Value) (M : Mem) (Q : Outcome → Mem → Prop), Wp d 222 35 ls st M Q = Wp d 222 36 ls (.int (I 0) :: st) M Q := fun d ls st M Q => w_iconst (show ins 222 35 = some (.iconst 0, 1) by decide +kernel)
set_option maxRecDepth 100000 in
theorem r_222_36 : ∀ (d : Nat) (ls : Lc) (a b : Int) (st : List Value) (M : Mem) (Q : Outcome → Mem → Prop), Wp d 222 36 ls (.int (I b) :: .int (I a) :: st) M Q = Wp d 222 37 ls (.int (I (a - b)) :: st) M Q := fun d ls a b st M Q => w_isub (show ins 222 36 = some (.isub, 1) by decide +kernel)
set_option maxRecDepth 100000 in
theorem r_222_37 : ∀ (d : Nat) (ls : Lc) (a : Nat) (v : Int32) (st : List Value) (M : Mem) (Q : Outcome → Mem → Prop), Wp d 222 37 ls (.int v :: .ref a :: st) M Q = (fk 46 (kO M a) = true ∧ Wp d 222 40 ls st (sF M 46 a v) Q) := fun d ls a v st M Q => w_putI (show ins 222 37 = some (.putfield 26, 3) by decide +kernel) (show fRes (mC 222) 26 = some (46, 8, false) by decide +kernel) (by decide +kernel) (by decide +kernel)
set_option maxRecDepth 100000 in
theorem r_222_40 : ∀ (d : Nat) (v : Nat) (st : List Value) (M : Mem) (Q : Outcome → Mem → Prop), Wp d 222 40 [some (.ref v)] st M Q = Wp d 222 41 [some (.ref v)] (.ref v :: st) M Q := fun d v st M Q => wA (show ins 222 40 = some (.aload_n 0, 1) by decide +kernel) rfl
set_option maxRecDepth 100000 in
theorem r_222_41 : ∀ (d : Nat) (ls : Lc) (v : Nat) (st : List Value) (M : Mem) (Q : Outcome → Mem → Prop), Wp d 222 41 ls (.ref v :: st) M Q = Wp d 222 42 ls (.ref v :: .ref v :: st) M Q := fun d ls v st M Q => wA (show ins 222 41 = some (.dup, 1) by decide +kernel) rfl
set_option maxRecDepth 100000 in
theorem r_222_41_1 : ∀ (d : Nat) (ls : Lc) (v : Int32) (st : List Value) (M : Mem) (Q : Outcome → Mem → Prop), Wp d 222 41 ls (.int v :: st) M Q = Wp d 222 42 ls (.int v :: .int v :: st) M Q := fun d ls v st M Q => wA (show ins 222 41 = some (.dup, 1) by decide +kernel) rfl
set_option maxRecDepth 100000 in
theorem r_222_42 : ∀ (d : Nat) (ls : Lc) (a : Nat) (st : List Value) (M : Mem) (Q : Outcome → Mem → Prop), Wp d 222 42 ls (.ref a :: st) M Q = (fk 56 (kO M a) = true ∧ Wp d 222 45 ls (.int (mF M 56 a) :: st) M Q) := fun d ls a st M Q => w_getI (show ins 222 42 = some (.getfield 217, 3) by decide +kernel) (show fRes (mC 222) 217 = some (56, 8, false) by decide +kernel) (by decide +kernel)
set_option maxRecDepth 100000 in
theorem r_222_45 : ∀ (d : Nat) (ls : Lc) (st : List Value) (M : Mem) (Q : Outcome → Mem → Prop), Wp d 222 45 ls st M Q = Wp d 222 46 ls (.int (I 1) :: st) M Q := fun d ls st M Q => w_iconst (show ins 222 45 = some (.iconst 1, 1) by decide +kernel)
set_option maxRecDepth 100000 in
theorem r_222_46 : ∀ (d : Nat) (ls : Lc) (a b : Int) (st : List Value) (M : Mem) (Q : Outcome → Mem → Prop), Wp d 222 46 ls (.int (I b) :: .int (I a) :: st) M Q = Wp d 222 47 ls (.int (I (a + b)) :: st) M Q := fun d ls a b st M Q => w_iadd (show ins 222 46 = some (.iadd, 1) by decide +kernel)
set_option maxRecDepth 100000 in
theorem r_222_47 : ∀ (d : Nat) (ls : Lc) (a : Nat) (v : Int32) (st : List Value) (M : Mem) (Q : Outcome → Mem → Prop), Wp d 222 47 ls (.int v :: .ref a :: st) M Q = (fk 56 (kO M a) = true ∧ Wp d 222 50 ls st (sF M 56 a v) Q) := fun d ls a v st M Q => w_putI (show ins 222 47 = some (.putfield 217, 3) by decide +kernel) (show fRes (mC 222) 217 = some (56, 8, false) by decide +kernel) (by decide +kernel) (by decide +kernel)
set_option maxRecDepth 100000 in
theorem r_222_50 : ∀ (d : Nat) (v : Nat) (st : List Value) (M : Mem) (Q : Outcome → Mem → Prop), Wp d 222 50 [some (.ref v)] st M Q = Wp d 222 51 [some (.ref v)] (.ref v :: st) M Q := fun d v st M Q => wA (show ins 222 50 = some (.aload_n 0, 1) by decide +kernel) rfl
set_option maxRecDepth 100000 in
theorem r_222_51 : ∀ (d : Nat) (ls : Lc) (v : Nat) (st : List Value) (M : Mem) (Q : Outcome → Mem → Prop), Wp d 222 51 ls (.ref v :: st) M Q = Wp d 222 52 ls (.ref v :: .ref v :: st) M Q := fun d ls v st M Q => wA (show ins 222 51 = some (.dup, 1) by decide +kernel) rfl
set_option maxRecDepth 100000 in
theorem r_222_51_1 : ∀ (d : Nat) (ls : Lc) (v : Int32) (st : List Value) (M : Mem) (Q : Outcome → Mem → Prop), Wp d 222 51 ls (.int v :: st) M Q = Wp d 222 52 ls (.int v :: .int v :: st) M Q := fun d ls v st M Q => wA (show ins 222 51 = some (.dup, 1) by decide +kernel) rfl
set_option maxRecDepth 100000 in
theorem r_222_52 : ∀ (d : Nat) (ls : Lc) (a : Nat) (st : List Value) (M : Mem) (Q : Outcome → Mem → Prop), Wp d 222 52 ls (.ref a :: st) M Q = (fk 55 (kO M a) = true ∧ Wp d 222 55 ls (.int (mF M 55 a) :: st) M Q) := fun d ls a st M Q => w_getI (show ins 222 52 = some (.getfield 220, 3) by decide +kernel) (show fRes (mC 222) 220 = some (55, 8, false) by decide +kernel) (by decide +kernel)
set_option maxRecDepth 100000 in
theorem r_222_55 : ∀ (d : Nat) (ls : Lc) (st : List Value) (M : Mem) (Q : Outcome → Mem → Prop), Wp d 222 55 ls st M Q = Wp d 222 56 ls (.int (I 1) :: st) M Q := fun d ls st M Q => w_iconst (show ins 222 55 = some (.iconst 1, 1) by decide +kernel)
set_option maxRecDepth 100000 in
theorem r_222_56 : ∀ (d : Nat) (ls : Lc) (a b : Int) (st : List Value) (M : Mem) (Q : Outcome → Mem → Prop), Wp d 222 56 ls (.int (I b) :: .int (I a) :: st) M Q = Wp d 222 57 ls (.int (I (a + b)) :: st) M Q := fun d ls a b st M Q => w_iadd (show ins 222 56 = some (.iadd, 1) by decide +kernel)
set_option maxRecDepth 100000 in
theorem r_222_57 : ∀ (d : Nat) (ls : Lc) (a : Nat) (v : Int32) (st : List Value) (M : Mem) (Q : Outcome → Mem → Prop), Wp d 222 57 ls (.int v :: .ref a :: st) M Q = (fk 55 (kO M a) = true ∧ Wp d 222 60 ls st (sF M 55 a v) Q) := fun d ls a v st M Q => w_putI (show ins 222 57 = some (.putfield 220, 3) by decide +kernel) (show fRes (mC 222) 220 = some (55, 8, false) by decide +kernel) (by decide +kernel) (by decide +kernel)
set_option maxRecDepth 100000 in
theorem r_222_60 : ∀ (d : Nat) (ls : Lc) (st : List Value) (M : Mem) (Q : Outcome → Mem → Prop), Wp d 222 60 ls st M Q = Wp d 222 61 ls (.int (I 1) :: st) M Q := fun d ls st M Q => w_iconst (show ins 222 60 = some (.iconst 1, 1) by decide +kernel)
set_option maxRecDepth 100000 in
theorem r_222_61 : ∀ (d : Nat) (ls : Lc) (z : Int) (M : Mem) (Q : Outcome → Mem → Prop), (z = 0 ∨ z = 1) → Wp d 222 61 ls [.int (I z)] M Q = Q (.returned (some (.int (I z)))) M := fun d ls z M Q h0 => w_zretI (show ins 222 61 = some (.ireturn, 1) by decide +kernel) (by decide +kernel) h0
set_option maxRecDepth 100000 in
theorem r_222_61_1 : ∀ (d : Nat) (ls : Lc) (b : Bool) (M : Mem) (Q : Outcome → Mem → Prop), Wp d 222 61 ls [.int (I (bI b))] M Q = Q (.returned (some (.int (I (bI b))))) M := fun d ls b M Q => w_zretB (show ins 222 61 = some (.ireturn, 1) by decide +kernel) (by decide +kernel)
set_option maxRecDepth 100000 in
theorem W_222 : (type_of% r_222_0) ∧ (type_of% r_222_1) ∧ (type_of% r_222_4) ∧ (type_of% r_222_7) ∧ (type_of% r_222_8) ∧ (type_of% r_222_9) ∧ (type_of% r_222_12) ∧ (type_of% r_222_13) ∧ (type_of% r_222_14) ∧ (type_of% r_222_17) ∧ (type_of% r_222_18) ∧ (type_of% r_222_18_1) ∧ (type_of% r_222_19) ∧ (type_of% r_222_20) ∧ (type_of% r_222_20_1) ∧ (type_of% r_222_21) ∧ (type_of% r_222_24) ∧ (type_of% r_222_25) ∧ (type_of% r_222_28) ∧ (type_of% r_222_31) ∧ (type_of% r_222_32) ∧ (type_of% r_222_35) ∧ (type_of% r_222_36) ∧ (type_of% r_222_37) ∧ (type_of% r_222_40) ∧ (type_of% r_222_41) ∧ (type_of% r_222_41_1) ∧ (type_of% r_222_42) ∧ (type_of% r_222_45) ∧ (type_of% r_222_46) ∧ (type_of% r_222_47) ∧ (type_of% r_222_50) ∧ (type_of% r_222_51) ∧ (type_of% r_222_51_1) ∧ (type_of% r_222_52) ∧ (type_of% r_222_55) ∧ (type_of% r_222_56) ∧ (type_of% r_222_57) ∧ (type_of% r_222_60) ∧ (type_of% r_222_61) ∧ (type_of% r_222_61_1) := ⟨r_222_0, r_222_1, r_222_4, r_222_7, r_222_8, r_222_9, r_222_12, r_222_13, r_222_14, r_222_17, r_222_18, r_222_18_1, r_222_19, r_222_20, r_222_20_1, r_222_21, r_222_24, r_222_25, r_222_28, r_222_31, r_222_32, r_222_35, r_222_36, r_222_37, r_222_40, r_222_41, r_222_41_1, r_222_42, r_222_45, r_222_46, r_222_47, r_222_50, r_222_51, r_222_51_1, r_222_52, r_222_55, r_222_56, r_222_57, r_222_60, r_222_61, r_222_61_1⟩
set_option maxRecDepth 100000 in
theorem ca_222 {d y pc : Nat} {ls : Lc} {a : Nat} {r : List Value} {M : Mem} {Q : Outcome → Mem → Prop} (hd : 0 < d) (hw : Wp (d - 1) 222 0 [some (.ref a)] [] M (Cq d y pc ls r Q)) : Ca d y pc ls 222 [.ref a] r M Q := ca_of (mq_get (by decide)) (by rfl) hd hw
/-! 223 PackedTreeModel.checkpoint()I; loop heads [] -/
set_option maxRecDepth 100000 in
theorem r_223_0 : ∀ (d : Nat) (l1 : Option Value) (v : Nat) (st : List Value) (M : Mem) (Q : Outcome → Mem → Prop), Wp d 223 0 [some (.ref v), l1] st M Q = Wp d 223 1 [some (.ref v), l1] (.ref v :: st) M Q := fun d l1 v st M Q => wA (show ins 223 0 = some (.aload_n 0, 1) by decide +kernel) rfl
set_option maxRecDepth 100000 in
theorem r_223_1 : ∀ (d : Nat) (l1 : Option Value) (v : Nat) (st : List Value) (M : Mem) (Q : Outcome → Mem → Prop), Wp d 223 1 [some (.ref v), l1] st M Q = Wp d 223 2 [some (.ref v), l1] (.ref v :: st) M Q := fun d l1 v st M Q => wA (show ins 223 1 = some (.aload_n 0, 1) by decide +kernel) rfl
set_option maxRecDepth 100000 in
theorem r_223_2 : ∀ (d : Nat) (ls : Lc) (a : Nat) (st : List Value) (M : Mem) (Q : Outcome → Mem → Prop), Wp d 223 2 ls (.ref a :: st) M Q = (fk 52 (kO M a) = true ∧ Wp d 223 5 ls (.int (mF M 52 a) :: st) M Q) := fun d ls a st M Q => w_getI (show ins 223 2 = some (.getfield 149, 3) by decide +kernel) (show fRes (mC 223) 149 = some (52, 8, false) by decide +kernel) (by decide +kernel)
set_option maxRecDepth 100000 in
theorem r_223_5 : ∀ (d : Nat) (ls : Lc) (a : Int32) (st : List Value) (M : Mem) (Q : Outcome → Mem → Prop), Wp d 223 5 ls (.int a :: st) M Q = Br (a = I 0) d 223 12 8 ls st M Q := fun d ls a st M Q => w_if (show ins 223 5 = some (.ifCond .eq 7, 3) by decide +kernel) rfl rfl
set_option maxRecDepth 100000 in
theorem r_223_8 : ∀ (d : Nat) (ls : Lc) (st : List Value) (M : Mem) (Q : Outcome → Mem → Prop), Wp d 223 8 ls st M Q = Wp d 223 9 ls (.int (I 1) :: st) M Q := fun d ls st M Q => w_iconst (show ins 223 8 = some (.iconst 1, 1) by decide +kernel)
set_option maxRecDepth 100000 in
theorem r_223_9 : ∀ (d : Nat) (ls : Lc) (st : List Value) (M : Mem) (Q : Outcome → Mem → Prop), Wp d 223 9 ls st M Q = Wp d 223 13 ls st M Q := fun d ls st M Q => w_goto (show ins 223 9 = some (.goto 4, 3) by decide +kernel) rfl
set_option maxRecDepth 100000 in
theorem r_223_12 : ∀ (d : Nat) (ls : Lc) (st : List Value) (M : Mem) (Q : Outcome → Mem → Prop), Wp d 223 12 ls st M Q = Wp d 223 13 ls (.int (I 0) :: st) M Q := fun d ls st M Q => w_iconst (show ins 223 12 = some (.iconst 0, 1) by decide +kernel)
set_option maxRecDepth 100000 in
theorem r_223_13 : ∀ (d : Nat) (ls : Lc) (a : Nat) (v : Int32) (st : List Value) (M : Mem) (Q : Outcome → Mem → Prop), Wp d 223 13 ls (.int v :: .ref a :: st) M Q = (fk 54 (kO M a) = true ∧ Wp d 223 16 ls st (sF M 54 a v) Q) := fun d ls a v st M Q => w_putI (show ins 223 13 = some (.putfield 40, 3) by decide +kernel) (show fRes (mC 223) 40 = some (54, 8, false) by decide +kernel) (by decide +kernel) (by decide +kernel)
set_option maxRecDepth 100000 in
theorem r_223_16 : ∀ (d : Nat) (l1 : Option Value) (v : Nat) (st : List Value) (M : Mem) (Q : Outcome → Mem → Prop), Wp d 223 16 [some (.ref v), l1] st M Q = Wp d 223 17 [some (.ref v), l1] (.ref v :: st) M Q := fun d l1 v st M Q => wA (show ins 223 16 = some (.aload_n 0, 1) by decide +kernel) rfl
set_option maxRecDepth 100000 in
theorem r_223_17 : ∀ (d : Nat) (ls : Lc) (a : Nat) (st : List Value) (M : Mem) (Q : Outcome → Mem → Prop), Wp d 223 17 ls (.ref a :: st) M Q = (fk 54 (kO M a) = true ∧ Wp d 223 20 ls (.int (mF M 54 a) :: st) M Q) := fun d ls a st M Q => w_getI (show ins 223 17 = some (.getfield 40, 3) by decide +kernel) (show fRes (mC 223) 40 = some (54, 8, false) by decide +kernel) (by decide +kernel)
set_option maxRecDepth 100000 in
theorem r_223_20 : ∀ (d : Nat) (ls : Lc) (a : Int32) (st : List Value) (M : Mem) (Q : Outcome → Mem → Prop), Wp d 223 20 ls (.int a :: st) M Q = Br (a ≤ I 0) d 223 25 23 ls st M Q := fun d ls a st M Q => w_if (show ins 223 20 = some (.ifCond .le 5, 3) by decide +kernel) rfl rfl
set_option maxRecDepth 100000 in
theorem r_223_23 : ∀ (d : Nat) (ls : Lc) (st : List Value) (M : Mem) (Q : Outcome → Mem → Prop), Wp d 223 23 ls st M Q = Wp d 223 24 ls (.int (I 0) :: st) M Q := fun d ls st M Q => w_iconst (show ins 223 23 = some (.iconst 0, 1) by decide +kernel)
set_option maxRecDepth 100000 in
theorem r_223_24 : ∀ (d : Nat) (ls : Lc) (v : Int32) (M : Mem) (Q : Outcome → Mem → Prop), Wp d 223 24 ls [.int v] M Q = Q (.returned (some (.int v))) M := fun d ls v M Q => w_ireturn (show ins 223 24 = some (.ireturn, 1) by decide +kernel) (by decide +kernel)
set_option maxRecDepth 100000 in
theorem r_223_25 : ∀ (d : Nat) (l1 : Option Value) (v : Nat) (st : List Value) (M : Mem) (Q : Outcome → Mem → Prop), Wp d 223 25 [some (.ref v), l1] st M Q = Wp d 223 26 [some (.ref v), l1] (.ref v :: st) M Q := fun d l1 v st M Q => wA (show ins 223 25 = some (.aload_n 0, 1) by decide +kernel) rfl
set_option maxRecDepth 100000 in
theorem r_223_26 : ∀ (d : Nat) (ls : Lc) (st : List Value) (M : Mem) (Q : Outcome → Mem → Prop), Wp d 223 26 ls st M Q = Wp d 223 27 ls (.int (I 0) :: st) M Q := fun d ls st M Q => w_iconst (show ins 223 26 = some (.iconst 0, 1) by decide +kernel)
set_option maxRecDepth 100000 in
theorem r_223_27 : ∀ (d : Nat) (ls : Lc) (a : Nat) (v : Int32) (st : List Value) (M : Mem) (Q : Outcome → Mem → Prop), Wp d 223 27 ls (.int v :: .ref a :: st) M Q = (fk 56 (kO M a) = true ∧ Wp d 223 30 ls st (sF M 56 a v) Q) := fun d ls a v st M Q => w_putI (show ins 223 27 = some (.putfield 217, 3) by decide +kernel) (show fRes (mC 223) 217 = some (56, 8, false) by decide +kernel) (by decide +kernel) (by decide +kernel)
set_option maxRecDepth 100000 in
theorem r_223_30 : ∀ (d : Nat) (l1 : Option Value) (v : Nat) (st : List Value) (M : Mem) (Q : Outcome → Mem → Prop), Wp d 223 30 [some (.ref v), l1] st M Q = Wp d 223 31 [some (.ref v), l1] (.ref v :: st) M Q := fun d l1 v st M Q => wA (show ins 223 30 = some (.aload_n 0, 1) by decide +kernel) rfl
set_option maxRecDepth 100000 in
theorem r_223_31 : ∀ (d : Nat) (ls : Lc) (a : Nat) (st : List Value) (M : Mem) (Q : Outcome → Mem → Prop), (smallR st = true) → Wp d 223 31 ls (.ref a :: st) M Q = (kO M a = 8 ∧ Ca d 223 31 ls 221 (.ref a :: []) st M Q) := fun d ls a st M Q h0 => w_virt1 (as := []) (show ins 223 31 = some (.invokevirtual 233, 3) by decide +kernel) (show mRes (mC 223) 233 = some (3, 8, [(8, 221)]) by decide +kernel) (by decide +kernel) rfl (by decide +kernel) (by decide +kernel) h0
set_option maxRecDepth 100000 in
theorem r_223_34 : ∀ (d : Nat) (l0 l1 : Option Value) (v : Int32) (st : List Value) (M : Mem) (Q : Outcome → Mem → Prop), (lo l0 = false) → Wp d 223 34 [l0, l1] (.int v :: st) M Q = Wp d 223 35 [l0, some (.int v)] st M Q := fun d l0 l1 v st M Q hl => w_istore_n (show ins 223 34 = some (.istore_n 1, 1) by decide +kernel) (st1_S rfl rfl hl)
set_option maxRecDepth 100000 in
theorem r_223_35 : ∀ (d : Nat) (l1 : Option Value) (v : Nat) (st : List Value) (M : Mem) (Q : Outcome → Mem → Prop), Wp d 223 35 [some (.ref v), l1] st M Q = Wp d 223 36 [some (.ref v), l1] (.ref v :: st) M Q := fun d l1 v st M Q => wA (show ins 223 35 = some (.aload_n 0, 1) by decide +kernel) rfl
set_option maxRecDepth 100000 in
theorem r_223_36 : ∀ (d : Nat) (ls : Lc) (a : Nat) (st : List Value) (M : Mem) (Q : Outcome → Mem → Prop), Wp d 223 36 ls (.ref a :: st) M Q = (fk 56 (kO M a) = true ∧ Wp d 223 39 ls (.int (mF M 56 a) :: st) M Q) := fun d ls a st M Q => w_getI (show ins 223 36 = some (.getfield 217, 3) by decide +kernel) (show fRes (mC 223) 217 = some (56, 8, false) by decide +kernel) (by decide +kernel)
set_option maxRecDepth 100000 in
theorem r_223_39 : ∀ (d : Nat) (ls : Lc) (v : Int32) (M : Mem) (Q : Outcome → Mem → Prop), Wp d 223 39 ls [.int v] M Q = Q (.returned (some (.int v))) M := fun d ls v M Q => w_ireturn (show ins 223 39 = some (.ireturn, 1) by decide +kernel) (by decide +kernel)
set_option maxRecDepth 100000 in
theorem W_223 : (type_of% r_223_0) ∧ (type_of% r_223_1) ∧ (type_of% r_223_2) ∧ (type_of% r_223_5) ∧ (type_of% r_223_8) ∧ (type_of% r_223_9) ∧ (type_of% r_223_12) ∧ (type_of% r_223_13) ∧ (type_of% r_223_16) ∧ (type_of% r_223_17) ∧ (type_of% r_223_20) ∧ (type_of% r_223_23) ∧ (type_of% r_223_24) ∧ (type_of% r_223_25) ∧ (type_of% r_223_26) ∧ (type_of% r_223_27) ∧ (type_of% r_223_30) ∧ (type_of% r_223_31) ∧ (type_of% r_223_34) ∧ (type_of% r_223_35) ∧ (type_of% r_223_36) ∧ (type_of% r_223_39) := ⟨r_223_0, r_223_1, r_223_2, r_223_5, r_223_8, r_223_9, r_223_12, r_223_13, r_223_16, r_223_17, r_223_20, r_223_23, r_223_24, r_223_25, r_223_26, r_223_27, r_223_30, r_223_31, r_223_34, r_223_35, r_223_36, r_223_39⟩
set_option maxRecDepth 100000 in
theorem ca_223 {d y pc : Nat} {ls : Lc} {a : Nat} {r : List Value} {M : Mem} {Q : Outcome → Mem → Prop} (hd : 0 < d) (hw : Wp (d - 1) 223 0 [some (.ref a), none] [] M (Cq d y pc ls r Q)) : Ca d y pc ls 223 [.ref a] r M Q := ca_of (mq_get (by decide)) (by rfl) hd hw
/-! 224 PackedTreeModel.back()I; loop heads [] -/
set_option maxRecDepth 100000 in
theorem r_224_0 : ∀ (d : Nat) (l1 : Option Value) (v : Nat) (st : List Value) (M : Mem) (Q : Outcome → Mem → Prop), Wp d 224 0 [some (.ref v), l1] st M Q = Wp d 224 1 [some (.ref v), l1] (.ref v :: st) M Q := fun d l1 v st M Q => wA (show ins 224 0 = some (.aload_n 0, 1) by decide +kernel) rfl
set_option maxRecDepth 100000 in
theorem r_224_1 : ∀ (d : Nat) (l1 : Option Value) (v : Nat) (st : List Value) (M : Mem) (Q : Outcome → Mem → Prop), Wp d 224 1 [some (.ref v), l1] st M Q = Wp d 224 2 [some (.ref v), l1] (.ref v :: st) M Q := fun d l1 v st M Q => wA (show ins 224 1 = some (.aload_n 0, 1) by decide +kernel) rfl
set_option maxRecDepth 100000 in
theorem r_224_2 : ∀ (d : Nat) (ls : Lc) (a : Nat) (st : List Value) (M : Mem) (Q : Outcome → Mem → Prop), Wp d 224 2 ls (.ref a :: st) M Q = (fk 52 (kO M a) = true ∧ Wp d 224 5 ls (.int (mF M 52 a) :: st) M Q) := fun d ls a st M Q => w_getI (show ins 224 2 = some (.getfield 149, 3) by decide +kernel) (show fRes (mC 224) 149 = some (52, 8, false) by decide +kernel) (by decide +kernel)
set_option maxRecDepth 100000 in
theorem r_224_5 : ∀ (d : Nat) (ls : Lc) (a : Int32) (st : List Value) (M : Mem) (Q : Outcome → Mem → Prop), Wp d 224 5 ls (.int a :: st) M Q = Br (a = I 0) d 224 12 8 ls st M Q := fun d ls a st M Q => w_if (show ins 224 5 = some (.ifCond .eq 7, 3) by decide +kernel) rfl rfl
set_option maxRecDepth 100000 in
theorem r_224_8 : ∀ (d : Nat) (ls : Lc) (st : List Value) (M : Mem) (Q : Outcome → Mem → Prop), Wp d 224 8 ls st M Q = Wp d 224 9 ls (.int (I 1) :: st) M Q := fun d ls st M Q => w_iconst (show ins 224 8 = some (.iconst 1, 1) by decide +kernel)
set_option maxRecDepth 100000 in
theorem r_224_9 : ∀ (d : Nat) (ls : Lc) (st : List Value) (M : Mem) (Q : Outcome → Mem → Prop), Wp d 224 9 ls st M Q = Wp d 224 13 ls st M Q := fun d ls st M Q => w_goto (show ins 224 9 = some (.goto 4, 3) by decide +kernel) rfl
set_option maxRecDepth 100000 in
theorem r_224_12 : ∀ (d : Nat) (ls : Lc) (st : List Value) (M : Mem) (Q : Outcome → Mem → Prop), Wp d 224 12 ls st M Q = Wp d 224 13 ls (.int (I 0) :: st) M Q := fun d ls st M Q => w_iconst (show ins 224 12 = some (.iconst 0, 1) by decide +kernel)
set_option maxRecDepth 100000 in
theorem r_224_13 : ∀ (d : Nat) (ls : Lc) (a : Nat) (v : Int32) (st : List Value) (M : Mem) (Q : Outcome → Mem → Prop), Wp d 224 13 ls (.int v :: .ref a :: st) M Q = (fk 54 (kO M a) = true ∧ Wp d 224 16 ls st (sF M 54 a v) Q) := fun d ls a v st M Q => w_putI (show ins 224 13 = some (.putfield 40, 3) by decide +kernel) (show fRes (mC 224) 40 = some (54, 8, false) by decide +kernel) (by decide +kernel) (by decide +kernel)
set_option maxRecDepth 100000 in
theorem r_224_16 : ∀ (d : Nat) (l1 : Option Value) (v : Nat) (st : List Value) (M : Mem) (Q : Outcome → Mem → Prop), Wp d 224 16 [some (.ref v), l1] st M Q = Wp d 224 17 [some (.ref v), l1] (.ref v :: st) M Q := fun d l1 v st M Q => wA (show ins 224 16 = some (.aload_n 0, 1) by decide +kernel) rfl
set_option maxRecDepth 100000 in
theorem r_224_17 : ∀ (d : Nat) (ls : Lc) (a : Nat) (st : List Value) (M : Mem) (Q : Outcome → Mem → Prop), Wp d 224 17 ls (.ref a :: st) M Q = (fk 54 (kO M a) = true ∧ Wp d 224 20 ls (.int (mF M 54 a) :: st) M Q) := fun d ls a st M Q => w_getI (show ins 224 17 = some (.getfield 40, 3) by decide +kernel) (show fRes (mC 224) 40 = some (54, 8, false) by decide +kernel) (by decide +kernel)
set_option maxRecDepth 100000 in
theorem r_224_20 : ∀ (d : Nat) (ls : Lc) (a : Int32) (st : List Value) (M : Mem) (Q : Outcome → Mem → Prop), Wp d 224 20 ls (.int a :: st) M Q = Br (a ≤ I 0) d 224 25 23 ls st M Q := fun d ls a st M Q => w_if (show ins 224 20 = some (.ifCond .le 5, 3) by decide +kernel) rfl rfl
set_option maxRecDepth 100000 in
theorem r_224_23 : ∀ (d : Nat) (ls : Lc) (st : List Value) (M : Mem) (Q : Outcome → Mem → Prop), Wp d 224 23 ls st M Q = Wp d 224 24 ls (.int (I 0) :: st) M Q := fun d ls st M Q => w_iconst (show ins 224 23 = some (.iconst 0, 1) by decide +kernel)
set_option maxRecDepth 100000 in
theorem r_224_24 : ∀ (d : Nat) (ls : Lc) (v : Int32) (M : Mem) (Q : Outcome → Mem → Prop), Wp d 224 24 ls [.int v] M Q = Q (.returned (some (.int v))) M := fun d ls v M Q => w_ireturn (show ins 224 24 = some (.ireturn, 1) by decide +kernel) (by decide +kernel)
set_option maxRecDepth 100000 in
theorem r_224_25 : ∀ (d : Nat) (l1 : Option Value) (v : Nat) (st : List Value) (M : Mem) (Q : Outcome → Mem → Prop), Wp d 224 25 [some (.ref v), l1] st M Q = Wp d 224 26 [some (.ref v), l1] (.ref v :: st) M Q := fun d l1 v st M Q => wA (show ins 224 25 = some (.aload_n 0, 1) by decide +kernel) rfl
set_option maxRecDepth 100000 in
theorem r_224_26 : ∀ (d : Nat) (ls : Lc) (a : Nat) (st : List Value) (M : Mem) (Q : Outcome → Mem → Prop), (smallR st = true) → Wp d 224 26 ls (.ref a :: st) M Q = (kO M a = 8 ∧ Ca d 224 26 ls 214 (.ref a :: []) st M Q) := fun d ls a st M Q h0 => w_virt1 (as := []) (show ins 224 26 = some (.invokevirtual 230, 3) by decide +kernel) (show mRes (mC 224) 230 = some (3, 8, [(8, 214)]) by decide +kernel) (by decide +kernel) rfl (by decide +kernel) (by decide +kernel) h0
set_option maxRecDepth 100000 in
theorem r_224_29 : ∀ (d : Nat) (l0 l1 : Option Value) (v : Int32) (st : List Value) (M : Mem) (Q : Outcome → Mem → Prop), (lo l0 = false) → Wp d 224 29 [l0, l1] (.int v :: st) M Q = Wp d 224 30 [l0, some (.int v)] st M Q := fun d l0 l1 v st M Q hl => w_istore_n (show ins 224 29 = some (.istore_n 1, 1) by decide +kernel) (st1_S rfl rfl hl)
set_option maxRecDepth 100000 in
theorem r_224_30 : ∀ (d : Nat) (l1 : Option Value) (v : Nat) (st : List Value) (M : Mem) (Q : Outcome → Mem → Prop), Wp d 224 30 [some (.ref v), l1] st M Q = Wp d 224 31 [some (.ref v), l1] (.ref v :: st) M Q := fun d l1 v st M Q => wA (show ins 224 30 = some (.aload_n 0, 1) by decide +kernel) rfl
set_option maxRecDepth 100000 in
theorem r_224_31 : ∀ (d : Nat) (ls : Lc) (a : Nat) (st : List Value) (M : Mem) (Q : Outcome → Mem → Prop), Wp d 224 31 ls (.ref a :: st) M Q = (fk 45 (kO M a) = true ∧ Wp d 224 34 ls (va_rf (mR M 45 a) :: st) M Q) := fun d ls a st M Q => w_getR (show ins 224 31 = some (.getfield 16, 3) by decide +kernel) (show fRes (mC 224) 16 = some (45, 8, false) by decide +kernel) (by decide +kernel)
set_option maxRecDepth 100000 in
theorem r_224_34 : ∀ (d : Nat) (l1 : Option Value) (v : Nat) (st : List Value) (M : Mem) (Q : Outcome → Mem → Prop), Wp d 224 34 [some (.ref v), l1] st M Q = Wp d 224 35 [some (.ref v), l1] (.ref v :: st) M Q := fun d l1 v st M Q => wA (show ins 224 34 = some (.aload_n 0, 1) by decide +kernel) rfl
set_option maxRecDepth 100000 in
theorem r_224_35 : ∀ (d : Nat) (ls : Lc) (a : Nat) (st : List Value) (M : Mem) (Q : Outcome → Mem → Prop), Wp d 224 35 ls (.ref a :: st) M Q = (fk 53 (kO M a) = true ∧ Wp d 224 38 ls (va_rf (mR M 53 a) :: st) M Q) := fun d ls a st M Q => w_getR (show ins 224 35 = some (.getfield 7, 3) by decide +kernel) (show fRes (mC 224) 7 = some (53, 8, false) by decide +kernel) (by decide +kernel)
set_option maxRecDepth 100000 in
theorem r_224_38 : ∀ (d : Nat) (ls : Lc) (v0 v1 : Value)  (st : List Value) (M : Mem) (Q : Outcome → Mem → Prop), (smallR st = true) → Wp d 224 38 ls (v1 :: v0 :: st) M Q = Ca d 224 38 ls 154 [v0, v1] st M Q := fun d ls v0 v1 st M Q h0 => w_stat (as := [v0, v1]) (show ins 224 38 = some (.invokestatic 36, 3) by decide +kernel) (show mRes (mC 224) 36 = some (0, 8, [(0, 154)]) by decide +kernel) (by decide +kernel) (by decide +kernel) rfl h0
set_option maxRecDepth 100000 in
theorem r_224_41 : ∀ (d : Nat) (l0 : Option Value) (v : Int32) (st : List Value) (M : Mem) (Q : Outcome → Mem → Prop), Wp d 224 41 [l0, some (.int v)] st M Q = Wp d 224 42 [l0, some (.int v)] (.int v :: st) M Q := fun d l0 v st M Q => wA (show ins 224 41 = some (.iload_n 1, 1) by decide +kernel) rfl
set_option maxRecDepth 100000 in
theorem r_224_42 : ∀ (d : Nat) (ls : Lc) (v : Int32) (M : Mem) (Q : Outcome → Mem → Prop), Wp d 224 42 ls [.int v] M Q = Q (.returned (some (.int v))) M := fun d ls v M Q => w_ireturn (show ins 224 42 = some (.ireturn, 1) by decide +kernel) (by decide +kernel)
set_option maxRecDepth 100000 in
theorem W_224 : (type_of% r_224_0) ∧ (type_of% r_224_1) ∧ (type_of% r_224_2) ∧ (type_of% r_224_5) ∧ (type_of% r_224_8) ∧ (type_of% r_224_9) ∧ (type_of% r_224_12) ∧ (type_of% r_224_13) ∧ (type_of% r_224_16) ∧ (type_of% r_224_17) ∧ (type_of% r_224_20) ∧ (type_of% r_224_23) ∧ (type_of% r_224_24) ∧ (type_of% r_224_25) ∧ (type_of% r_224_26) ∧ (type_of% r_224_29) ∧ (type_of% r_224_30) ∧ (type_of% r_224_31) ∧ (type_of% r_224_34) ∧ (type_of% r_224_35) ∧ (type_of% r_224_38) ∧ (type_of% r_224_41) ∧ (type_of% r_224_42) := ⟨r_224_0, r_224_1, r_224_2, r_224_5, r_224_8, r_224_9, r_224_12, r_224_13, r_224_16, r_224_17, r_224_20, r_224_23, r_224_24, r_224_25, r_224_26, r_224_29, r_224_30, r_224_31, r_224_34, r_224_35, r_224_38, r_224_41, r_224_42⟩
set_option maxRecDepth 100000 in
theorem ca_224 {d y pc : Nat} {ls : Lc} {a : Nat} {r : List Value} {M : Mem} {Q : Outcome → Mem → Prop} (hd : 0 < d) (hw : Wp (d - 1) 224 0 [some (.ref a), none] [] M (Cq d y pc ls r Q)) : Ca d y pc ls 224 [.ref a] r M Q := ca_of (mq_get (by decide)) (by rfl) hd hw
/-! 225 PackedTreeModel.fail(I)V; loop heads [] -/
set_option maxRecDepth 100000 in
theorem r_225_0 : ∀ (d : Nat) (l1 : Option Value) (v : Nat) (st : List Value) (M : Mem) (Q : Outcome → Mem → Prop), Wp d 225 0 [some (.ref v), l1] st M Q = Wp d 225 1 [some (.ref v), l1] (.ref v :: st) M Q := fun d l1 v st M Q => wA (show ins 225 0 = some (.aload_n 0, 1) by decide +kernel) rfl
set_option maxRecDepth 100000 in
theorem r_225_1 : ∀ (d : Nat) (l0 : Option Value) (v : Int32) (st : List Value) (M : Mem) (Q : Outcome → Mem → Prop), Wp d 225 1 [l0, some (.int v)] st M Q = Wp d 225 2 [l0, some (.int v)] (.int v :: st) M Q := fun d l0 v st M Q => wA (show ins 225 1 = some (.iload_n 1, 1) by decide +kernel) rfl
set_option maxRecDepth 100000 in
theorem r_225_2 : ∀ (d : Nat) (ls : Lc) (st : List Value) (M : Mem) (Q : Outcome → Mem → Prop), Wp d 225 2 ls st M Q = Wp d 225 3 ls (.int (I (-1)) :: st) M Q := fun d ls st M Q => w_iconst (show ins 225 2 = some (.iconst (-1), 1) by decide +kernel)
set_option maxRecDepth 100000 in
theorem r_225_3 : ∀ (d : Nat) (ls : Lc) (a b : Int32) (st : List Value) (M : Mem) (Q : Outcome → Mem → Prop), Wp d 225 3 ls (.int b :: .int a :: st) M Q = Br (b ≤ a) d 225 10 6 ls st M Q := fun d ls a b st M Q => w_icmp (show ins 225 3 = some (.if_icmp .ge 7, 3) by decide +kernel) rfl rfl
set_option maxRecDepth 100000 in
theorem r_225_6 : ∀ (d : Nat) (ls : Lc) (st : List Value) (M : Mem) (Q : Outcome → Mem → Prop), Wp d 225 6 ls st M Q = Wp d 225 7 ls (.int (I 1) :: st) M Q := fun d ls st M Q => w_iconst (show ins 225 6 = some (.iconst 1, 1) by decide +kernel)
set_option maxRecDepth 100000 in
theorem r_225_7 : ∀ (d : Nat) (ls : Lc) (st : List Value) (M : Mem) (Q : Outcome → Mem → Prop), Wp d 225 7 ls st M Q = Wp d 225 11 ls st M Q := fun d ls st M Q => w_goto (show ins 225 7 = some (.goto 4, 3) by decide +kernel) rfl
set_option maxRecDepth 100000 in
theorem r_225_10 : ∀ (d : Nat) (ls : Lc) (st : List Value) (M : Mem) (Q : Outcome → Mem → Prop), Wp d 225 10 ls st M Q = Wp d 225 11 ls (.int (I 0) :: st) M Q := fun d ls st M Q => w_iconst (show ins 225 10 = some (.iconst 0, 1) by decide +kernel)
set_option maxRecDepth 100000 in
theorem r_225_11 : ∀ (d : Nat) (ls : Lc) (a : Nat) (v : Int32) (st : List Value) (M : Mem) (Q : Outcome → Mem → Prop), Wp d 225 11 ls (.int v :: .ref a :: st) M Q = (fk 54 (kO M a) = true ∧ Wp d 225 14 ls st (sF M 54 a v) Q) := fun d ls a v st M Q => w_putI (show ins 225 11 = some (.putfield 40, 3) by decide +kernel) (show fRes (mC 225) 40 = some (54, 8, false) by decide +kernel) (by decide +kernel) (by decide +kernel)
set_option maxRecDepth 100000 in
theorem r_225_14 : ∀ (d : Nat) (l1 : Option Value) (v : Nat) (st : List Value) (M : Mem) (Q : Outcome → Mem → Prop), Wp d 225 14 [some (.ref v), l1] st M Q = Wp d 225 15 [some (.ref v), l1] (.ref v :: st) M Q := fun d l1 v st M Q => wA (show ins 225 14 = some (.aload_n 0, 1) by decide +kernel) rfl
set_option maxRecDepth 100000 in
theorem r_225_15 : ∀ (d : Nat) (l1 : Option Value) (v : Nat) (st : List Value) (M : Mem) (Q : Outcome → Mem → Prop), Wp d 225 15 [some (.ref v), l1] st M Q = Wp d 225 16 [some (.ref v), l1] (.ref v :: st) M Q := fun d l1 v st M Q => wA (show ins 225 15 = some (.aload_n 0, 1) by decide +kernel) rfl
set_option maxRecDepth 100000 in
theorem r_225_16 : ∀ (d : Nat) (ls : Lc) (a : Nat) (st : List Value) (M : Mem) (Q : Outcome → Mem → Prop), Wp d 225 16 ls (.ref a :: st) M Q = (fk 54 (kO M a) = true ∧ Wp d 225 19 ls (.int (mF M 54 a) :: st) M Q) := fun d ls a st M Q => w_getI (show ins 225 16 = some (.getfield 40, 3) by decide +kernel) (show fRes (mC 225) 40 = some (54, 8, false) by decide +kernel) (by decide +kernel)
set_option maxRecDepth 100000 in
theorem r_225_19 : ∀ (d : Nat) (ls : Lc) (a : Int32) (st : List Value) (M : Mem) (Q : Outcome → Mem → Prop), Wp d 225 19 ls (.int a :: st) M Q = Br (a ≤ I 0) d 225 29 22 ls st M Q := fun d ls a st M Q => w_if (show ins 225 19 = some (.ifCond .le 10, 3) by decide +kernel) rfl rfl
set_option maxRecDepth 100000 in
theorem r_225_22 : ∀ (d : Nat) (l1 : Option Value) (v : Nat) (st : List Value) (M : Mem) (Q : Outcome → Mem → Prop), Wp d 225 22 [some (.ref v), l1] st M Q = Wp d 225 23 [some (.ref v), l1] (.ref v :: st) M Q := fun d l1 v st M Q => wA (show ins 225 22 = some (.aload_n 0, 1) by decide +kernel) rfl
set_option maxRecDepth 100000 in
theorem r_225_23 : ∀ (d : Nat) (ls : Lc) (a : Nat) (st : List Value) (M : Mem) (Q : Outcome → Mem → Prop), Wp d 225 23 ls (.ref a :: st) M Q = (fk 46 (kO M a) = true ∧ Wp d 225 26 ls (.int (mF M 46 a) :: st) M Q) := fun d ls a st M Q => w_getI (show ins 225 23 = some (.getfield 26, 3) by decide +kernel) (show fRes (mC 225) 26 = some (46, 8, false) by decide +kernel) (by decide +kernel)
set_option maxRecDepth 100000 in
theorem r_225_26 : ∀ (d : Nat) (ls : Lc) (st : List Value) (M : Mem) (Q : Outcome → Mem → Prop), Wp d 225 26 ls st M Q = Wp d 225 30 ls st M Q := fun d ls st M Q => w_goto (show ins 225 26 = some (.goto 4, 3) by decide +kernel) rfl
set_option maxRecDepth 100000 in
theorem r_225_29 : ∀ (d : Nat) (l0 : Option Value) (v : Int32) (st : List Value) (M : Mem) (Q : Outcome → Mem → Prop), Wp d 225 29 [l0, some (.int v)] st M Q = Wp d 225 30 [l0, some (.int v)] (.int v :: st) M Q := fun d l0 v st M Q => wA (show ins 225 29 = some (.iload_n 1, 1) by decide +kernel) rfl
set_option maxRecDepth 100000 in
theorem r_225_30 : ∀ (d : Nat) (ls : Lc) (a : Nat) (v : Int32) (st : List Value) (M : Mem) (Q : Outcome → Mem → Prop), Wp d 225 30 ls (.int v :: .ref a :: st) M Q = (fk 46 (kO M a) = true ∧ Wp d 225 33 ls st (sF M 46 a v) Q) := fun d ls a v st M Q => w_putI (show ins 225 30 = some (.putfield 26, 3) by decide +kernel) (show fRes (mC 225) 26 = some (46, 8, false) by decide +kernel) (by decide +kernel) (by decide +kernel)
set_option maxRecDepth 100000 in
theorem r_225_33 : ∀ (d : Nat) (ls : Lc) (M : Mem) (Q : Outcome → Mem → Prop), Wp d 225 33 ls [] M Q = Q (.returned none) M := fun d ls M Q => w_return (show ins 225 33 = some (.return_, 1) by decide +kernel) (by decide +kernel)
set_option maxRecDepth 100000 in
theorem W_225 : (type_of% r_225_0) ∧ (type_of% r_225_1) ∧ (type_of% r_225_2) ∧ (type_of% r_225_3) ∧ (type_of% r_225_6) ∧ (type_of% r_225_7) ∧ (type_of% r_225_10) ∧ (type_of% r_225_11) ∧ (type_of% r_225_14) ∧ (type_of% r_225_15) ∧ (type_of% r_225_16) ∧ (type_of% r_225_19) ∧ (type_of% r_225_22) ∧ (type_of% r_225_23) ∧ (type_of% r_225_26) ∧ (type_of% r_225_29) ∧ (type_of% r_225_30) ∧ (type_of% r_225_33) := ⟨r_225_0, r_225_1, r_225_2, r_225_3, r_225_6, r_225_7, r_225_10, r_225_11, r_225_14, r_225_15, r_225_16, r_225_19, r_225_22, r_225_23, r_225_26, r_225_29, r_225_30, r_225_33⟩
set_option maxRecDepth 100000 in
theorem ca_225 {d y pc : Nat} {ls : Lc} {a : Nat} {z0 : Int32} {r : List Value} {M : Mem} {Q : Outcome → Mem → Prop} (hd : 0 < d) (hw : Wp (d - 1) 225 0 [some (.ref a), some (.int z0)] [] M (Cq d y pc ls r Q)) : Ca d y pc ls 225 [.ref a, .int z0] r M Q := ca_of (mq_get (by decide)) (by rfl) hd hw
/-! 226 PackedTreeModel.off()Z; loop heads [] -/
set_option maxRecDepth 100000 in
theorem r_226_0 : ∀ (d : Nat) (v : Nat) (st : List Value) (M : Mem) (Q : Outcome → Mem → Prop), Wp d 226 0 [some (.ref v)] st M Q = Wp d 226 1 [some (.ref v)] (.ref v :: st) M Q := fun d v st M Q => wA (show ins 226 0 = some (.aload_n 0, 1) by decide +kernel) rfl
set_option maxRecDepth 100000 in
theorem r_226_1 : ∀ (d : Nat) (ls : Lc) (st : List Value) (M : Mem) (Q : Outcome → Mem → Prop), Wp d 226 1 ls st M Q = Wp d 226 2 ls (.int (I 0) :: st) M Q := fun d ls st M Q => w_iconst (show ins 226 1 = some (.iconst 0, 1) by decide +kernel)
set_option maxRecDepth 100000 in
theorem r_226_2 : ∀ (d : Nat) (ls : Lc) (a : Nat) (v : Int32) (st : List Value) (M : Mem) (Q : Outcome → Mem → Prop), Wp d 226 2 ls (.int v :: .ref a :: st) M Q = (fk 54 (kO M a) = true ∧ Wp d 226 5 ls st (sF M 54 a v) Q) := fun d ls a v st M Q => w_putI (show ins 226 2 = some (.putfield 40, 3) by decide +kernel) (show fRes (mC 226) 40 = some (54, 8, false) by decide +kernel) (by decide +kernel) (by decide +kernel)
set_option maxRecDepth 100000 in
theorem r_226_5 : ∀ (d : Nat) (v : Nat) (st : List Value) (M : Mem) (Q : Outcome → Mem → Prop), Wp d 226 5 [some (.ref v)] st M Q = Wp d 226 6 [some (.ref v)] (.ref v :: st) M Q := fun d v st M Q => wA (show ins 226 5 = some (.aload_n 0, 1) by decide +kernel) rfl
set_option maxRecDepth 100000 in
theorem r_226_6 : ∀ (d : Nat) (ls : Lc) (a : Nat) (st : List Value) (M : Mem) (Q : Outcome → Mem → Prop), Wp d 226 6 ls (.ref a :: st) M Q = (fk 52 (kO M a) = true ∧ Wp d 226 9 ls (.int (mF M 52 a) :: st) M Q) := fun d ls a st M Q => w_getI (show ins 226 6 = some (.getfield 149, 3) by decide +kernel) (show fRes (mC 226) 149 = some (52, 8, false) by decide +kernel) (by decide +kernel)
set_option maxRecDepth 100000 in
theorem r_226_9 : ∀ (d : Nat) (ls : Lc) (z : Int) (M : Mem) (Q : Outcome → Mem → Prop), (z = 0 ∨ z = 1) → Wp d 226 9 ls [.int (I z)] M Q = Q (.returned (some (.int (I z)))) M := fun d ls z M Q h0 => w_zretI (show ins 226 9 = some (.ireturn, 1) by decide +kernel) (by decide +kernel) h0
set_option maxRecDepth 100000 in
theorem r_226_9_1 : ∀ (d : Nat) (ls : Lc) (b : Bool) (M : Mem) (Q : Outcome → Mem → Prop), Wp d 226 9 ls [.int (I (bI b))] M Q = Q (.returned (some (.int (I (bI b))))) M := fun d ls b M Q => w_zretB (show ins 226 9 = some (.ireturn, 1) by decide +kernel) (by decide +kernel)
set_option maxRecDepth 100000 in
theorem W_226 : (type_of% r_226_0) ∧ (type_of% r_226_1) ∧ (type_of% r_226_2) ∧ (type_of% r_226_5) ∧ (type_of% r_226_6) ∧ (type_of% r_226_9) ∧ (type_of% r_226_9_1) := ⟨r_226_0, r_226_1, r_226_2, r_226_5, r_226_6, r_226_9, r_226_9_1⟩
set_option maxRecDepth 100000 in
theorem ca_226 {d y pc : Nat} {ls : Lc} {a : Nat} {r : List Value} {M : Mem} {Q : Outcome → Mem → Prop} (hd : 0 < d) (hw : Wp (d - 1) 226 0 [some (.ref a)] [] M (Cq d y pc ls r Q)) : Ca d y pc ls 226 [.ref a] r M Q := ca_of (mq_get (by decide)) (by rfl) hd hw
/-! 227 PackedTreeModel.recover()I; loop heads [] -/
set_option maxRecDepth 100000 in
theorem r_227_0 : ∀ (d : Nat) (l1 : Option Value) (v : Nat) (st : List Value) (M : Mem) (Q : Outcome → Mem → Prop), Wp d 227 0 [some (.ref v), l1] st M Q = Wp d 227 1 [some (.ref v), l1] (.ref v :: st) M Q := fun d l1 v st M Q => wA (show ins 227 0 = some (.aload_n 0, 1) by decide +kernel) rfl
set_option maxRecDepth 100000 in
theorem r_227_1 : ∀ (d : Nat) (l1 : Option Value) (v : Nat) (st : List Value) (M : Mem) (Q : Outcome → Mem → Prop), Wp d 227 1 [some (.ref v), l1] st M Q = Wp d 227 2 [some (.ref v), l1] (.ref v :: st) M Q := fun d l1 v st M Q => wA (show ins 227 1 = some (.aload_n 0, 1) by decide +kernel) rfl
set_option maxRecDepth 100000 in
theorem r_227_2 : ∀ (d : Nat) (ls : Lc) (a : Nat) (st : List Value) (M : Mem) (Q : Outcome → Mem → Prop), Wp d 227 2 ls (.ref a :: st) M Q = (fk 52 (kO M a) = true ∧ Wp d 227 5 ls (.int (mF M 52 a) :: st) M Q) := fun d ls a st M Q => w_getI (show ins 227 2 = some (.getfield 149, 3) by decide +kernel) (show fRes (mC 227) 149 = some (52, 8, false) by decide +kernel) (by decide +kernel)
set_option maxRecDepth 100000 in
theorem r_227_5 : ∀ (d : Nat) (ls : Lc) (a : Int32) (st : List Value) (M : Mem) (Q : Outcome → Mem → Prop), Wp d 227 5 ls (.int a :: st) M Q = Br (a = I 0) d 227 12 8 ls st M Q := fun d ls a st M Q => w_if (show ins 227 5 = some (.ifCond .eq 7, 3) by decide +kernel) rfl rfl
set_option maxRecDepth 100000 in
theorem r_227_8 : ∀ (d : Nat) (ls : Lc) (st : List Value) (M : Mem) (Q : Outcome → Mem → Prop), Wp d 227 8 ls st M Q = Wp d 227 9 ls (.int (I 0) :: st) M Q := fun d ls st M Q => w_iconst (show ins 227 8 = some (.iconst 0, 1) by decide +kernel)
set_option maxRecDepth 100000 in
theorem r_227_9 : ∀ (d : Nat) (ls : Lc) (st : List Value) (M : Mem) (Q : Outcome → Mem → Prop), Wp d 227 9 ls st M Q = Wp d 227 13 ls st M Q := fun d ls st M Q => w_goto (show ins 227 9 = some (.goto 4, 3) by decide +kernel) rfl
set_option maxRecDepth 100000 in
theorem r_227_12 : ∀ (d : Nat) (ls : Lc) (st : List Value) (M : Mem) (Q : Outcome → Mem → Prop), Wp d 227 12 ls st M Q = Wp d 227 13 ls (.int (I 1) :: st) M Q := fun d ls st M Q => w_iconst (show ins 227 12 = some (.iconst 1, 1) by decide +kernel)
set_option maxRecDepth 100000 in
theorem r_227_13 : ∀ (d : Nat) (ls : Lc) (a : Nat) (v : Int32) (st : List Value) (M : Mem) (Q : Outcome → Mem → Prop), Wp d 227 13 ls (.int v :: .ref a :: st) M Q = (fk 54 (kO M a) = true ∧ Wp d 227 16 ls st (sF M 54 a v) Q) := fun d ls a v st M Q => w_putI (show ins 227 13 = some (.putfield 40, 3) by decide +kernel) (show fRes (mC 227) 40 = some (54, 8, false) by decide +kernel) (by decide +kernel) (by decide +kernel)
set_option maxRecDepth 100000 in
theorem r_227_16 : ∀ (d : Nat) (l1 : Option Value) (v : Nat) (st : List Value) (M : Mem) (Q : Outcome → Mem → Prop), Wp d 227 16 [some (.ref v), l1] st M Q = Wp d 227 17 [some (.ref v), l1] (.ref v :: st) M Q := fun d l1 v st M Q => wA (show ins 227 16 = some (.aload_n 0, 1) by decide +kernel) rfl
set_option maxRecDepth 100000 in
theorem r_227_17 : ∀ (d : Nat) (ls : Lc) (a : Nat) (st : List Value) (M : Mem) (Q : Outcome → Mem → Prop), Wp d 227 17 ls (.ref a :: st) M Q = (fk 54 (kO M a) = true ∧ Wp d 227 20 ls (.int (mF M 54 a) :: st) M Q) := fun d ls a st M Q => w_getI (show ins 227 17 = some (.getfield 40, 3) by decide +kernel) (show fRes (mC 227) 40 = some (54, 8, false) by decide +kernel) (by decide +kernel)
set_option maxRecDepth 100000 in
theorem r_227_20 : ∀ (d : Nat) (ls : Lc) (a : Int32) (st : List Value) (M : Mem) (Q : Outcome → Mem → Prop), Wp d 227 20 ls (.int a :: st) M Q = Br (a ≤ I 0) d 227 25 23 ls st M Q := fun d ls a st M Q => w_if (show ins 227 20 = some (.ifCond .le 5, 3) by decide +kernel) rfl rfl
set_option maxRecDepth 100000 in
theorem r_227_23 : ∀ (d : Nat) (ls : Lc) (st : List Value) (M : Mem) (Q : Outcome → Mem → Prop), Wp d 227 23 ls st M Q = Wp d 227 24 ls (.int (I 0) :: st) M Q := fun d ls st M Q => w_iconst (show ins 227 23 = some (.iconst 0, 1) by decide +kernel)
set_option maxRecDepth 100000 in
theorem r_227_24 : ∀ (d : Nat) (ls : Lc) (v : Int32) (M : Mem) (Q : Outcome → Mem → Prop), Wp d 227 24 ls [.int v] M Q = Q (.returned (some (.int v))) M := fun d ls v M Q => w_ireturn (show ins 227 24 = some (.ireturn, 1) by decide +kernel) (by decide +kernel)
set_option maxRecDepth 100000 in
theorem r_227_25 : ∀ (d : Nat) (l1 : Option Value) (v : Nat) (st : List Value) (M : Mem) (Q : Outcome → Mem → Prop), Wp d 227 25 [some (.ref v), l1] st M Q = Wp d 227 26 [some (.ref v), l1] (.ref v :: st) M Q := fun d l1 v st M Q => wA (show ins 227 25 = some (.aload_n 0, 1) by decide +kernel) rfl
set_option maxRecDepth 100000 in
theorem r_227_26 : ∀ (d : Nat) (ls : Lc) (st : List Value) (M : Mem) (Q : Outcome → Mem → Prop), Wp d 227 26 ls st M Q = Wp d 227 27 ls (.int (I 0) :: st) M Q := fun d ls st M Q => w_iconst (show ins 227 26 = some (.iconst 0, 1) by decide +kernel)
set_option maxRecDepth 100000 in
theorem r_227_27 : ∀ (d : Nat) (ls : Lc) (a : Nat) (v : Int) (st : List Value) (M : Mem) (Q : Outcome → Mem → Prop), (v = 0 ∨ v = 1) → Wp d 227 27 ls (.int (I v) :: .ref a :: st) M Q = (fk 52 (kO M a) = true ∧ Wp d 227 30 ls st (sF M 52 a (I v)) Q) := fun d ls a v st M Q h0 => w_putZ (show ins 227 27 = some (.putfield 149, 3) by decide +kernel) (show fRes (mC 227) 149 = some (52, 8, false) by decide +kernel) (by decide +kernel) (by decide +kernel) h0
set_option maxRecDepth 100000 in
theorem r_227_30 : ∀ (d : Nat) (l1 : Option Value) (v : Nat) (st : List Value) (M : Mem) (Q : Outcome → Mem → Prop), Wp d 227 30 [some (.ref v), l1] st M Q = Wp d 227 31 [some (.ref v), l1] (.ref v :: st) M Q := fun d l1 v st M Q => wA (show ins 227 30 = some (.aload_n 0, 1) by decide +kernel) rfl
set_option maxRecDepth 100000 in
theorem r_227_31 : ∀ (d : Nat) (ls : Lc) (a : Nat) (st : List Value) (M : Mem) (Q : Outcome → Mem → Prop), Wp d 227 31 ls (.ref a :: st) M Q = (fk 45 (kO M a) = true ∧ Wp d 227 34 ls (va_rf (mR M 45 a) :: st) M Q) := fun d ls a st M Q => w_getR (show ins 227 31 = some (.getfield 16, 3) by decide +kernel) (show fRes (mC 227) 16 = some (45, 8, false) by decide +kernel) (by decide +kernel)
set_option maxRecDepth 100000 in
theorem r_227_34 : ∀ (d : Nat) (l1 : Option Value) (v : Nat) (st : List Value) (M : Mem) (Q : Outcome → Mem → Prop), Wp d 227 34 [some (.ref v), l1] st M Q = Wp d 227 35 [some (.ref v), l1] (.ref v :: st) M Q := fun d l1 v st M Q => wA (show ins 227 34 = some (.aload_n 0, 1) by decide +kernel) rfl
set_option maxRecDepth 100000 in
theorem r_227_35 : ∀ (d : Nat) (ls : Lc) (a : Nat) (st : List Value) (M : Mem) (Q : Outcome → Mem → Prop), Wp d 227 35 ls (.ref a :: st) M Q = (fk 53 (kO M a) = true ∧ Wp d 227 38 ls (va_rf (mR M 53 a) :: st) M Q) := fun d ls a st M Q => w_getR (show ins 227 35 = some (.getfield 7, 3) by decide +kernel) (show fRes (mC 227) 7 = some (53, 8, false) by decide +kernel) (by decide +kernel)
set_option maxRecDepth 100000 in
theorem r_227_38 : ∀ (d : Nat) (ls : Lc) (v0 v1 : Value)  (st : List Value) (M : Mem) (Q : Outcome → Mem → Prop), (smallR st = true) → Wp d 227 38 ls (v1 :: v0 :: st) M Q = Ca d 227 38 ls 154 [v0, v1] st M Q := fun d ls v0 v1 st M Q h0 => w_stat (as := [v0, v1]) (show ins 227 38 = some (.invokestatic 36, 3) by decide +kernel) (show mRes (mC 227) 36 = some (0, 8, [(0, 154)]) by decide +kernel) (by decide +kernel) (by decide +kernel) rfl h0
set_option maxRecDepth 100000 in
theorem r_227_41 : ∀ (d : Nat) (l1 : Option Value) (v : Nat) (st : List Value) (M : Mem) (Q : Outcome → Mem → Prop), Wp d 227 41 [some (.ref v), l1] st M Q = Wp d 227 42 [some (.ref v), l1] (.ref v :: st) M Q := fun d l1 v st M Q => wA (show ins 227 41 = some (.aload_n 0, 1) by decide +kernel) rfl
set_option maxRecDepth 100000 in
theorem r_227_42 : ∀ (d : Nat) (ls : Lc) (st : List Value) (M : Mem) (Q : Outcome → Mem → Prop), Wp d 227 42 ls st M Q = Wp d 227 43 ls (.int (I 0) :: st) M Q := fun d ls st M Q => w_iconst (show ins 227 42 = some (.iconst 0, 1) by decide +kernel)
set_option maxRecDepth 100000 in
theorem r_227_43 : ∀ (d : Nat) (ls : Lc) (a : Nat) (v : Int32) (st : List Value) (M : Mem) (Q : Outcome → Mem → Prop), Wp d 227 43 ls (.int v :: .ref a :: st) M Q = (fk 56 (kO M a) = true ∧ Wp d 227 46 ls st (sF M 56 a v) Q) := fun d ls a v st M Q => w_putI (show ins 227 43 = some (.putfield 217, 3) by decide +kernel) (show fRes (mC 227) 217 = some (56, 8, false) by decide +kernel) (by decide +kernel) (by decide +kernel)
set_option maxRecDepth 100000 in
theorem r_227_46 : ∀ (d : Nat) (l1 : Option Value) (v : Nat) (st : List Value) (M : Mem) (Q : Outcome → Mem → Prop), Wp d 227 46 [some (.ref v), l1] st M Q = Wp d 227 47 [some (.ref v), l1] (.ref v :: st) M Q := fun d l1 v st M Q => wA (show ins 227 46 = some (.aload_n 0, 1) by decide +kernel) rfl
set_option maxRecDepth 100000 in
theorem r_227_47 : ∀ (d : Nat) (ls : Lc) (a : Nat) (st : List Value) (M : Mem) (Q : Outcome → Mem → Prop), (smallR st = true) → Wp d 227 47 ls (.ref a :: st) M Q = (kO M a = 8 ∧ Ca d 227 47 ls 221 (.ref a :: []) st M Q) := fun d ls a st M Q h0 => w_virt1 (as := []) (show ins 227 47 = some (.invokevirtual 233, 3) by decide +kernel) (show mRes (mC 227) 233 = some (3, 8, [(8, 221)]) by decide +kernel) (by decide +kernel) rfl (by decide +kernel) (by decide +kernel) h0
set_option maxRecDepth 100000 in
theorem r_227_50 : ∀ (d : Nat) (l0 l1 : Option Value) (v : Int32) (st : List Value) (M : Mem) (Q : Outcome → Mem → Prop), (lo l0 = false) → Wp d 227 50 [l0, l1] (.int v :: st) M Q = Wp d 227 51 [l0, some (.int v)] st M Q := fun d l0 l1 v st M Q hl => w_istore_n (show ins 227 50 = some (.istore_n 1, 1) by decide +kernel) (st1_S rfl rfl hl)
set_option maxRecDepth 100000 in
theorem r_227_51 : ∀ (d : Nat) (l1 : Option Value) (v : Nat) (st : List Value) (M : Mem) (Q : Outcome → Mem → Prop), Wp d 227 51 [some (.ref v), l1] st M Q = Wp d 227 52 [some (.ref v), l1] (.ref v :: st) M Q := fun d l1 v st M Q => wA (show ins 227 51 = some (.aload_n 0, 1) by decide +kernel) rfl
set_option maxRecDepth 100000 in
theorem r_227_52 : ∀ (d : Nat) (ls : Lc) (a : Nat) (st : List Value) (M : Mem) (Q : Outcome → Mem → Prop), Wp d 227 52 ls (.ref a :: st) M Q = (fk 56 (kO M a) = true ∧ Wp d 227 55 ls (.int (mF M 56 a) :: st) M Q) := fun d ls a st M Q => w_getI (show ins 227 52 = some (.getfield 217, 3) by decide +kernel) (show fRes (mC 227) 217 = some (56, 8, false) by decide +kernel) (by decide +kernel)
set_option maxRecDepth 100000 in
theorem r_227_55 : ∀ (d : Nat) (ls : Lc) (v : Int32) (M : Mem) (Q : Outcome → Mem → Prop), Wp d 227 55 ls [.int v] M Q = Q (.returned (some (.int v))) M := fun d ls v M Q => w_ireturn (show ins 227 55 = some (.ireturn, 1) by decide +kernel) (by decide +kernel)
set_option maxRecDepth 100000 in
theorem W_227 : (type_of% r_227_0) ∧ (type_of% r_227_1) ∧ (type_of% r_227_2) ∧ (type_of% r_227_5) ∧ (type_of% r_227_8) ∧ (type_of% r_227_9) ∧ (type_of% r_227_12) ∧ (type_of% r_227_13) ∧ (type_of% r_227_16) ∧ (type_of% r_227_17) ∧ (type_of% r_227_20) ∧ (type_of% r_227_23) ∧ (type_of% r_227_24) ∧ (type_of% r_227_25) ∧ (type_of% r_227_26) ∧ (type_of% r_227_27) ∧ (type_of% r_227_30) ∧ (type_of% r_227_31) ∧ (type_of% r_227_34) ∧ (type_of% r_227_35) ∧ (type_of% r_227_38) ∧ (type_of% r_227_41) ∧ (type_of% r_227_42) ∧ (type_of% r_227_43) ∧ (type_of% r_227_46) ∧ (type_of% r_227_47) ∧ (type_of% r_227_50) ∧ (type_of% r_227_51) ∧ (type_of% r_227_52) ∧ (type_of% r_227_55) := ⟨r_227_0, r_227_1, r_227_2, r_227_5, r_227_8, r_227_9, r_227_12, r_227_13, r_227_16, r_227_17, r_227_20, r_227_23, r_227_24, r_227_25, r_227_26, r_227_27, r_227_30, r_227_31, r_227_34, r_227_35, r_227_38, r_227_41, r_227_42, r_227_43, r_227_46, r_227_47, r_227_50, r_227_51, r_227_52, r_227_55⟩
set_option maxRecDepth 100000 in
theorem ca_227 {d y pc : Nat} {ls : Lc} {a : Nat} {r : List Value} {M : Mem} {Q : Outcome → Mem → Prop} (hd : 0 < d) (hw : Wp (d - 1) 227 0 [some (.ref a), none] [] M (Cq d y pc ls r Q)) : Ca d y pc ls 227 [.ref a] r M Q := ca_of (mq_get (by decide)) (by rfl) hd hw
/-! 228 PackedTreeModel.count(I)I; loop heads [] -/
set_option maxRecDepth 100000 in
theorem r_228_0 : ∀ (d : Nat) (l1 : Option Value) (v : Nat) (st : List Value) (M : Mem) (Q : Outcome → Mem → Prop), Wp d 228 0 [some (.ref v), l1] st M Q = Wp d 228 1 [some (.ref v), l1] (.ref v :: st) M Q := fun d l1 v st M Q => wA (show ins 228 0 = some (.aload_n 0, 1) by decide +kernel) rfl
set_option maxRecDepth 100000 in
theorem r_228_1 : ∀ (d : Nat) (l1 : Option Value) (v : Nat) (st : List Value) (M : Mem) (Q : Outcome → Mem → Prop), Wp d 228 1 [some (.ref v), l1] st M Q = Wp d 228 2 [some (.ref v), l1] (.ref v :: st) M Q := fun d l1 v st M Q => wA (show ins 228 1 = some (.aload_n 0, 1) by decide +kernel) rfl
set_option maxRecDepth 100000 in
theorem r_228_2 : ∀ (d : Nat) (ls : Lc) (a : Nat) (st : List Value) (M : Mem) (Q : Outcome → Mem → Prop), Wp d 228 2 ls (.ref a :: st) M Q = (fk 52 (kO M a) = true ∧ Wp d 228 5 ls (.int (mF M 52 a) :: st) M Q) := fun d ls a st M Q => w_getI (show ins 228 2 = some (.getfield 149, 3) by decide +kernel) (show fRes (mC 228) 149 = some (52, 8, false) by decide +kernel) (by decide +kernel)
set_option maxRecDepth 100000 in
theorem r_228_5 : ∀ (d : Nat) (ls : Lc) (a : Int32) (st : List Value) (M : Mem) (Q : Outcome → Mem → Prop), Wp d 228 5 ls (.int a :: st) M Q = Br (a = I 0) d 228 12 8 ls st M Q := fun d ls a st M Q => w_if (show ins 228 5 = some (.ifCond .eq 7, 3) by decide +kernel) rfl rfl
set_option maxRecDepth 100000 in
theorem r_228_8 : ∀ (d : Nat) (ls : Lc) (st : List Value) (M : Mem) (Q : Outcome → Mem → Prop), Wp d 228 8 ls st M Q = Wp d 228 9 ls (.int (I 1) :: st) M Q := fun d ls st M Q => w_iconst (show ins 228 8 = some (.iconst 1, 1) by decide +kernel)
set_option maxRecDepth 100000 in
theorem r_228_9 : ∀ (d : Nat) (ls : Lc) (st : List Value) (M : Mem) (Q : Outcome → Mem → Prop), Wp d 228 9 ls st M Q = Wp d 228 27 ls st M Q := fun d ls st M Q => w_goto (show ins 228 9 = some (.goto 18, 3) by decide +kernel) rfl
set_option maxRecDepth 100000 in
theorem r_228_12 : ∀ (d : Nat) (l0 : Option Value) (v : Int32) (st : List Value) (M : Mem) (Q : Outcome → Mem → Prop), Wp d 228 12 [l0, some (.int v)] st M Q = Wp d 228 13 [l0, some (.int v)] (.int v :: st) M Q := fun d l0 v st M Q => wA (show ins 228 12 = some (.iload_n 1, 1) by decide +kernel) rfl
set_option maxRecDepth 100000 in
theorem r_228_13 : ∀ (d : Nat) (ls : Lc) (st : List Value) (M : Mem) (Q : Outcome → Mem → Prop), Wp d 228 13 ls st M Q = Wp d 228 14 ls (.int (I 0) :: st) M Q := fun d ls st M Q => w_iconst (show ins 228 13 = some (.iconst 0, 1) by decide +kernel)
set_option maxRecDepth 100000 in
theorem r_228_14 : ∀ (d : Nat) (ls : Lc) (st : List Value) (M : Mem) (Q : Outcome → Mem → Prop), Wp d 228 14 ls st M Q = Wp d 228 16 ls (.int (I 9) :: st) M Q := fun d ls st M Q => w_bipush (show ins 228 14 = some (.bipush 9, 2) by decide +kernel) (by decide)
set_option maxRecDepth 100000 in
theorem r_228_16 : ∀ (d : Nat) (ls : Lc) (v0 v1 v2 : Value)  (st : List Value) (M : Mem) (Q : Outcome → Mem → Prop), (smallR st = true) → Wp d 228 16 ls (v2 :: v1 :: v0 :: st) M Q = Ca d 228 16 ls 159 [v0, v1, v2] st M Q := fun d ls v0 v1 v2 st M Q h0 => w_stat (as := [v0, v1, v2]) (show ins 228 16 = some (.invokestatic 43, 3) by decide +kernel) (show mRes (mC 228) 43 = some (0, 8, [(0, 159)]) by decide +kernel) (by decide +kernel) (by decide +kernel) rfl h0
set_option maxRecDepth 100000 in
theorem r_228_19 : ∀ (d : Nat) (ls : Lc) (a : Int32) (st : List Value) (M : Mem) (Q : Outcome → Mem → Prop), Wp d 228 19 ls (.int a :: st) M Q = Br (¬ a = I 0) d 228 26 22 ls st M Q := fun d ls a st M Q => w_if (show ins 228 19 = some (.ifCond .ne 7, 3) by decide +kernel) rfl rfl
set_option maxRecDepth 100000 in
theorem r_228_22 : ∀ (d : Nat) (ls : Lc) (st : List Value) (M : Mem) (Q : Outcome → Mem → Prop), Wp d 228 22 ls st M Q = Wp d 228 23 ls (.int (I 2) :: st) M Q := fun d ls st M Q => w_iconst (show ins 228 22 = some (.iconst 2, 1) by decide +kernel)
set_option maxRecDepth 100000 in
theorem r_228_23 : ∀ (d : Nat) (ls : Lc) (st : List Value) (M : Mem) (Q : Outcome → Mem → Prop), Wp d 228 23 ls st M Q = Wp d 228 27 ls st M Q := fun d ls st M Q => w_goto (show ins 228 23 = some (.goto 4, 3) by decide +kernel) rfl
set_option maxRecDepth 100000 in
theorem r_228_26 : ∀ (d : Nat) (ls : Lc) (st : List Value) (M : Mem) (Q : Outcome → Mem → Prop), Wp d 228 26 ls st M Q = Wp d 228 27 ls (.int (I 0) :: st) M Q := fun d ls st M Q => w_iconst (show ins 228 26 = some (.iconst 0, 1) by decide +kernel)
set_option maxRecDepth 100000 in
theorem r_228_27 : ∀ (d : Nat) (ls : Lc) (a : Nat) (v : Int32) (st : List Value) (M : Mem) (Q : Outcome → Mem → Prop), Wp d 228 27 ls (.int v :: .ref a :: st) M Q = (fk 54 (kO M a) = true ∧ Wp d 228 30 ls st (sF M 54 a v) Q) := fun d ls a v st M Q => w_putI (show ins 228 27 = some (.putfield 40, 3) by decide +kernel) (show fRes (mC 228) 40 = some (54, 8, false) by decide +kernel) (by decide +kernel) (by decide +kernel)
set_option maxRecDepth 100000 in
theorem r_228_30 : ∀ (d : Nat) (l1 : Option Value) (v : Nat) (st : List Value) (M : Mem) (Q : Outcome → Mem → Prop), Wp d 228 30 [some (.ref v), l1] st M Q = Wp d 228 31 [some (.ref v), l1] (.ref v :: st) M Q := fun d l1 v st M Q => wA (show ins 228 30 = some (.aload_n 0, 1) by decide +kernel) rfl
set_option maxRecDepth 100000 in
theorem r_228_31 : ∀ (d : Nat) (ls : Lc) (a : Nat) (st : List Value) (M : Mem) (Q : Outcome → Mem → Prop), Wp d 228 31 ls (.ref a :: st) M Q = (fk 54 (kO M a) = true ∧ Wp d 228 34 ls (.int (mF M 54 a) :: st) M Q) := fun d ls a st M Q => w_getI (show ins 228 31 = some (.getfield 40, 3) by decide +kernel) (show fRes (mC 228) 40 = some (54, 8, false) by decide +kernel) (by decide +kernel)
set_option maxRecDepth 100000 in
theorem r_228_34 : ∀ (d : Nat) (ls : Lc) (a : Int32) (st : List Value) (M : Mem) (Q : Outcome → Mem → Prop), Wp d 228 34 ls (.int a :: st) M Q = Br (a ≤ I 0) d 228 39 37 ls st M Q := fun d ls a st M Q => w_if (show ins 228 34 = some (.ifCond .le 5, 3) by decide +kernel) rfl rfl
set_option maxRecDepth 100000 in
theorem r_228_37 : ∀ (d : Nat) (ls : Lc) (st : List Value) (M : Mem) (Q : Outcome → Mem → Prop), Wp d 228 37 ls st M Q = Wp d 228 38 ls (.int (I 0) :: st) M Q := fun d ls st M Q => w_iconst (show ins 228 37 = some (.iconst 0, 1) by decide +kernel)
set_option maxRecDepth 100000 in
theorem r_228_38 : ∀ (d : Nat) (ls : Lc) (v : Int32) (M : Mem) (Q : Outcome → Mem → Prop), Wp d 228 38 ls [.int v] M Q = Q (.returned (some (.int v))) M := fun d ls v M Q => w_ireturn (show ins 228 38 = some (.ireturn, 1) by decide +kernel) (by decide +kernel)
set_option maxRecDepth 100000 in
theorem r_228_39 : ∀ (d : Nat) (l0 : Option Value) (v : Int32) (st : List Value) (M : Mem) (Q : Outcome → Mem → Prop), Wp d 228 39 [l0, some (.int v)] st M Q = Wp d 228 40 [l0, some (.int v)] (.int v :: st) M Q := fun d l0 v st M Q => wA (show ins 228 39 = some (.iload_n 1, 1) by decide +kernel) rfl
set_option maxRecDepth 100000 in
theorem r_228_40 : ∀ (d : Nat) (ls : Lc) (st : List Value) (M : Mem) (Q : Outcome → Mem → Prop), Wp d 228 40 ls (.int (I 0) :: st) M Q = Wp d 228 92 ls st M Q := fun d ls st M Q => w_tswK (show ins 228 40 = some (.tableswitch 105 0 8 #[52, 57, 66, 75, 80, 85, 90, 95, 100], 52) by decide +kernel) (by decide) rfl rfl
set_option maxRecDepth 100000 in
theorem r_228_40_1 : ∀ (d : Nat) (ls : Lc) (st : List Value) (M : Mem) (Q : Outcome → Mem → Prop), Wp d 228 40 ls (.int (I 1) :: st) M Q = Wp d 228 97 ls st M Q := fun d ls st M Q => w_tswK (show ins 228 40 = some (.tableswitch 105 0 8 #[52, 57, 66, 75, 80, 85, 90, 95, 100], 52) by decide +kernel) (by decide) rfl rfl
set_option maxRecDepth 100000 in
theorem r_228_40_2 : ∀ (d : Nat) (ls : Lc) (st : List Value) (M : Mem) (Q : Outcome → Mem → Prop), Wp d 228 40 ls (.int (I 2) :: st) M Q = Wp d 228 106 ls st M Q := fun d ls st M Q => w_tswK (show ins 228 40 = some (.tableswitch 105 0 8 #[52, 57, 66, 75, 80, 85, 90, 95, 100], 52) by decide +kernel) (by decide) rfl rfl
set_option maxRecDepth 100000 in
theorem r_228_40_3 : ∀ (d : Nat) (ls : Lc) (st : List Value) (M : Mem) (Q : Outcome → Mem → Prop), Wp d 228 40 ls (.int (I 3) :: st) M Q = Wp d 228 115 ls st M Q := fun d ls st M Q => w_tswK (show ins 228 40 = some (.tableswitch 105 0 8 #[52, 57, 66, 75, 80, 85, 90, 95, 100], 52) by decide +kernel) (by decide) rfl rfl
set_option maxRecDepth 100000 in
theorem r_228_40_4 : ∀ (d : Nat) (ls : Lc) (st : List Value) (M : Mem) (Q : Outcome → Mem → Prop), Wp d 228 40 ls (.int (I 4) :: st) M Q = Wp d 228 120 ls st M Q := fun d ls st M Q => w_tswK (show ins 228 40 = some (.tableswitch 105 0 8 #[52, 57, 66, 75, 80, 85, 90, 95, 100], 52) by decide +kernel) (by decide) rfl rfl
set_option maxRecDepth 100000 in
theorem r_228_40_5 : ∀ (d : Nat) (ls : Lc) (st : List Value) (M : Mem) (Q : Outcome → Mem → Prop), Wp d 228 40 ls (.int (I 5) :: st) M Q = Wp d 228 125 ls st M Q := fun d ls st M Q => w_tswK (show ins 228 40 = some (.tableswitch 105 0 8 #[52, 57, 66, 75, 80, 85, 90, 95, 100], 52) by decide +kernel) (by decide) rfl rfl
set_option maxRecDepth 100000 in
theorem r_228_40_6 : ∀ (d : Nat) (ls : Lc) (st : List Value) (M : Mem) (Q : Outcome → Mem → Prop), Wp d 228 40 ls (.int (I 6) :: st) M Q = Wp d 228 130 ls st M Q := fun d ls st M Q => w_tswK (show ins 228 40 = some (.tableswitch 105 0 8 #[52, 57, 66, 75, 80, 85, 90, 95, 100], 52) by decide +kernel) (by decide) rfl rfl
set_option maxRecDepth 100000 in
theorem r_228_40_7 : ∀ (d : Nat) (ls : Lc) (st : List Value) (M : Mem) (Q : Outcome → Mem → Prop), Wp d 228 40 ls (.int (I 7) :: st) M Q = Wp d 228 135 ls st M Q := fun d ls st M Q => w_tswK (show ins 228 40 = some (.tableswitch 105 0 8 #[52, 57, 66, 75, 80, 85, 90, 95, 100], 52) by decide +kernel) (by decide) rfl rfl
set_option maxRecDepth 100000 in
theorem r_228_40_8 : ∀ (d : Nat) (ls : Lc) (st : List Value) (M : Mem) (Q : Outcome → Mem → Prop), Wp d 228 40 ls (.int (I 8) :: st) M Q = Wp d 228 140 ls st M Q := fun d ls st M Q => w_tswK (show ins 228 40 = some (.tableswitch 105 0 8 #[52, 57, 66, 75, 80, 85, 90, 95, 100], 52) by decide +kernel) (by decide) rfl rfl
set_option maxRecDepth 100000 in
theorem r_228_40_9 : ∀ (d : Nat) (ls : Lc) (z : Int) (st : List Value) (M : Mem) (Q : Outcome → Mem → Prop), (-2147483648 ≤ z) → (z < 2147483648) → (z < 0 ∨ 8 < z) → Wp d 228 40 ls (.int (I z) :: st) M Q = Wp d 228 145 ls st M Q := fun d ls z st M Q h0 h1 h2 => w_tswD (show ins 228 40 = some (.tableswitch 105 0 8 #[52, 57, 66, 75, 80, 85, 90, 95, 100], 52) by decide +kernel) (by rw [I_toInt h0 h1]; exact h2) rfl
set_option maxRecDepth 100000 in
theorem r_228_92 : ∀ (d : Nat) (l1 : Option Value) (v : Nat) (st : List Value) (M : Mem) (Q : Outcome → Mem → Prop), Wp d 228 92 [some (.ref v), l1] st M Q = Wp d 228 93 [some (.ref v), l1] (.ref v :: st) M Q := fun d l1 v st M Q => wA (show ins 228 92 = some (.aload_n 0, 1) by decide +kernel) rfl
set_option maxRecDepth 100000 in
theorem r_228_93 : ∀ (d : Nat) (ls : Lc) (a : Nat) (st : List Value) (M : Mem) (Q : Outcome → Mem → Prop), (smallR st = true) → Wp d 228 93 ls (.ref a :: st) M Q = (kO M a = 8 ∧ Ca d 228 93 ls 229 (.ref a :: []) st M Q) := fun d ls a st M Q h0 => w_virt1 (as := []) (show ins 228 93 = some (.invokevirtual 239, 3) by decide +kernel) (show mRes (mC 228) 239 = some (3, 8, [(8, 229)]) by decide +kernel) (by decide +kernel) rfl (by decide +kernel) (by decide +kernel) h0
set_option maxRecDepth 100000 in
theorem r_228_96 : ∀ (d : Nat) (ls : Lc) (v : Int32) (M : Mem) (Q : Outcome → Mem → Prop), Wp d 228 96 ls [.int v] M Q = Q (.returned (some (.int v))) M := fun d ls v M Q => w_ireturn (show ins 228 96 = some (.ireturn, 1) by decide +kernel) (by decide +kernel)
set_option maxRecDepth 100000 in
theorem r_228_97 : ∀ (d : Nat) (l1 : Option Value) (v : Nat) (st : List Value) (M : Mem) (Q : Outcome → Mem → Prop), Wp d 228 97 [some (.ref v), l1] st M Q = Wp d 228 98 [some (.ref v), l1] (.ref v :: st) M Q := fun d l1 v st M Q => wA (show ins 228 97 = some (.aload_n 0, 1) by decide +kernel) rfl
set_option maxRecDepth 100000 in
theorem r_228_98 : ∀ (d : Nat) (ls : Lc) (a : Nat) (st : List Value) (M : Mem) (Q : Outcome → Mem → Prop), Wp d 228 98 ls (.ref a :: st) M Q = (fk 53 (kO M a) = true ∧ Wp d 228 101 ls (va_rf (mR M 53 a) :: st) M Q) := fun d ls a st M Q => w_getR (show ins 228 98 = some (.getfield 7, 3) by decide +kernel) (show fRes (mC 228) 7 = some (53, 8, false) by decide +kernel) (by decide +kernel)
set_option maxRecDepth 100000 in
theorem r_228_101 : ∀ (d : Nat) (ls : Lc) (st : List Value) (M : Mem) (Q : Outcome → Mem → Prop), Wp d 228 101 ls st M Q = Wp d 228 104 ls (.int (I 13068) :: st) M Q := fun d ls st M Q => w_sipush (show ins 228 101 = some (.sipush 13068, 3) by decide +kernel) (by decide)
set_option maxRecDepth 100000 in
theorem r_228_104 : ∀ (d : Nat) (ls : Lc) (a : Nat) (j : Int32) (st : List Value) (M : Mem) (Q : Outcome → Mem → Prop), Wp d 228 104 ls (.int j :: .ref a :: st) M Q = ((((kX M a).1 = 0 ∨ (kX M a).1 = 8) ∧ inB j (kX M a).2 = true) ∧ Wp d 228 105 ls (.int (mA M a j.toNatClampNeg) :: st) M Q) := fun d ls a j st M Q => w_iaload (show ins 228 104 = some (.iaload, 1) by decide +kernel)
set_option maxRecDepth 100000 in
theorem r_228_105 : ∀ (d : Nat) (ls : Lc) (v : Int32) (M : Mem) (Q : Outcome → Mem → Prop), Wp d 228 105 ls [.int v] M Q = Q (.returned (some (.int v))) M := fun d ls v M Q => w_ireturn (show ins 228 105 = some (.ireturn, 1) by decide +kernel) (by decide +kernel)
set_option maxRecDepth 100000 in
theorem r_228_106 : ∀ (d : Nat) (l1 : Option Value) (v : Nat) (st : List Value) (M : Mem) (Q : Outcome → Mem → Prop), Wp d 228 106 [some (.ref v), l1] st M Q = Wp d 228 107 [some (.ref v), l1] (.ref v :: st) M Q := fun d l1 v st M Q => wA (show ins 228 106 = some (.aload_n 0, 1) by decide +kernel) rfl
set_option maxRecDepth 100000 in
theorem r_228_107 : ∀ (d : Nat) (ls : Lc) (a : Nat) (st : List Value) (M : Mem) (Q : Outcome → Mem → Prop), Wp d 228 107 ls (.ref a :: st) M Q = (fk 53 (kO M a) = true ∧ Wp d 228 110 ls (va_rf (mR M 53 a) :: st) M Q) := fun d ls a st M Q => w_getR (show ins 228 107 = some (.getfield 7, 3) by decide +kernel) (show fRes (mC 228) 7 = some (53, 8, false) by decide +kernel) (by decide +kernel)
set_option maxRecDepth 100000 in
theorem r_228_110 : ∀ (d : Nat) (ls : Lc) (st : List Value) (M : Mem) (Q : Outcome → Mem → Prop), Wp d 228 110 ls st M Q = Wp d 228 113 ls (.int (I 13077) :: st) M Q := fun d ls st M Q => w_sipush (show ins 228 110 = some (.sipush 13077, 3) by decide +kernel) (by decide)
set_option maxRecDepth 100000 in
theorem r_228_113 : ∀ (d : Nat) (ls : Lc) (a : Nat) (j : Int32) (st : List Value) (M : Mem) (Q : Outcome → Mem → Prop), Wp d 228 113 ls (.int j :: .ref a :: st) M Q = ((((kX M a).1 = 0 ∨ (kX M a).1 = 8) ∧ inB j (kX M a).2 = true) ∧ Wp d 228 114 ls (.int (mA M a j.toNatClampNeg) :: st) M Q) := fun d ls a j st M Q => w_iaload (show ins 228 113 = some (.iaload, 1) by decide +kernel)
set_option maxRecDepth 100000 in
theorem r_228_114 : ∀ (d : Nat) (ls : Lc) (v : Int32) (M : Mem) (Q : Outcome → Mem → Prop), Wp d 228 114 ls [.int v] M Q = Q (.returned (some (.int v))) M := fun d ls v M Q => w_ireturn (show ins 228 114 = some (.ireturn, 1) by decide +kernel) (by decide +kernel)
set_option maxRecDepth 100000 in
theorem r_228_115 : ∀ (d : Nat) (l1 : Option Value) (v : Nat) (st : List Value) (M : Mem) (Q : Outcome → Mem → Prop), Wp d 228 115 [some (.ref v), l1] st M Q = Wp d 228 116 [some (.ref v), l1] (.ref v :: st) M Q := fun d l1 v st M Q => wA (show ins 228 115 = some (.aload_n 0, 1) by decide +kernel) rfl
set_option maxRecDepth 100000 in
theorem r_228_116 : ∀ (d : Nat) (ls : Lc) (a : Nat) (st : List Value) (M : Mem) (Q : Outcome → Mem → Prop), (smallR st = true) → Wp d 228 116 ls (.ref a :: st) M Q = (kO M a = 8 ∧ Ca d 228 116 ls 165 (.ref a :: []) st M Q) := fun d ls a st M Q h0 => w_virt1 (as := []) (show ins 228 116 = some (.invokevirtual 161, 3) by decide +kernel) (show mRes (mC 228) 161 = some (3, 8, [(8, 165)]) by decide +kernel) (by decide +kernel) rfl (by decide +kernel) (by decide +kernel) h0
set_option maxRecDepth 100000 in
theorem r_228_119 : ∀ (d : Nat) (ls : Lc) (v : Int32) (M : Mem) (Q : Outcome → Mem → Prop), Wp d 228 119 ls [.int v] M Q = Q (.returned (some (.int v))) M := fun d ls v M Q => w_ireturn (show ins 228 119 = some (.ireturn, 1) by decide +kernel) (by decide +kernel)
set_option maxRecDepth 100000 in
theorem r_228_120 : ∀ (d : Nat) (l1 : Option Value) (v : Nat) (st : List Value) (M : Mem) (Q : Outcome → Mem → Prop), Wp d 228 120 [some (.ref v), l1] st M Q = Wp d 228 121 [some (.ref v), l1] (.ref v :: st) M Q := fun d l1 v st M Q => wA (show ins 228 120 = some (.aload_n 0, 1) by decide +kernel) rfl
set_option maxRecDepth 100000 in
theorem r_228_121 : ∀ (d : Nat) (ls : Lc) (a : Nat) (st : List Value) (M : Mem) (Q : Outcome → Mem → Prop), (smallR st = true) → Wp d 228 121 ls (.ref a :: st) M Q = (kO M a = 8 ∧ Ca d 228 121 ls 212 (.ref a :: []) st M Q) := fun d ls a st M Q h0 => w_virt1 (as := []) (show ins 228 121 = some (.invokevirtual 195, 3) by decide +kernel) (show mRes (mC 228) 195 = some (3, 8, [(8, 212)]) by decide +kernel) (by decide +kernel) rfl (by decide +kernel) (by decide +kernel) h0
set_option maxRecDepth 100000 in
theorem r_228_124 : ∀ (d : Nat) (ls : Lc) (v : Int32) (M : Mem) (Q : Outcome → Mem → Prop), Wp d 228 124 ls [.int v] M Q = Q (.returned (some (.int v))) M := fun d ls v M Q => w_ireturn (show ins 228 124 = some (.ireturn, 1) by decide +kernel) (by decide +kernel)
set_option maxRecDepth 100000 in
theorem r_228_125 : ∀ (d : Nat) (l1 : Option Value) (v : Nat) (st : List Value) (M : Mem) (Q : Outcome → Mem → Prop), Wp d 228 125 [some (.ref v), l1] st M Q = Wp d 228 126 [some (.ref v), l1] (.ref v :: st) M Q := fun d l1 v st M Q => wA (show ins 228 125 = some (.aload_n 0, 1) by decide +kernel) rfl
set_option maxRecDepth 100000 in
theorem r_228_126 : ∀ (d : Nat) (ls : Lc) (a : Nat) (st : List Value) (M : Mem) (Q : Outcome → Mem → Prop), (smallR st = true) → Wp d 228 126 ls (.ref a :: st) M Q = (kO M a = 8 ∧ Ca d 228 126 ls 230 (.ref a :: []) st M Q) := fun d ls a st M Q h0 => w_virt1 (as := []) (show ins 228 126 = some (.invokevirtual 242, 3) by decide +kernel) (show mRes (mC 228) 242 = some (3, 8, [(8, 230)]) by decide +kernel) (by decide +kernel) rfl (by decide +kernel) (by decide +kernel) h0
set_option maxRecDepth 100000 in
theorem r_228_129 : ∀ (d : Nat) (ls : Lc) (v : Int32) (M : Mem) (Q : Outcome → Mem → Prop), Wp d 228 129 ls [.int v] M Q = Q (.returned (some (.int v))) M := fun d ls v M Q => w_ireturn (show ins 228 129 = some (.ireturn, 1) by decide +kernel) (by decide +kernel)
set_option maxRecDepth 100000 in
theorem r_228_130 : ∀ (d : Nat) (l1 : Option Value) (v : Nat) (st : List Value) (M : Mem) (Q : Outcome → Mem → Prop), Wp d 228 130 [some (.ref v), l1] st M Q = Wp d 228 131 [some (.ref v), l1] (.ref v :: st) M Q := fun d l1 v st M Q => wA (show ins 228 130 = some (.aload_n 0, 1) by decide +kernel) rfl
set_option maxRecDepth 100000 in
theorem r_228_131 : ∀ (d : Nat) (ls : Lc) (a : Nat) (st : List Value) (M : Mem) (Q : Outcome → Mem → Prop), (smallR st = true) → Wp d 228 131 ls (.ref a :: st) M Q = (kO M a = 8 ∧ Ca d 228 131 ls 214 (.ref a :: []) st M Q) := fun d ls a st M Q h0 => w_virt1 (as := []) (show ins 228 131 = some (.invokevirtual 230, 3) by decide +kernel) (show mRes (mC 228) 230 = some (3, 8, [(8, 214)]) by decide +kernel) (by decide +kernel) rfl (by decide +kernel) (by decide +kernel) h0
set_option maxRecDepth 100000 in
theorem r_228_134 : ∀ (d : Nat) (ls : Lc) (v : Int32) (M : Mem) (Q : Outcome → Mem → Prop), Wp d 228 134 ls [.int v] M Q = Q (.returned (some (.int v))) M := fun d ls v M Q => w_ireturn (show ins 228 134 = some (.ireturn, 1) by decide +kernel) (by decide +kernel)
set_option maxRecDepth 100000 in
theorem r_228_135 : ∀ (d : Nat) (l1 : Option Value) (v : Nat) (st : List Value) (M : Mem) (Q : Outcome → Mem → Prop), Wp d 228 135 [some (.ref v), l1] st M Q = Wp d 228 136 [some (.ref v), l1] (.ref v :: st) M Q := fun d l1 v st M Q => wA (show ins 228 135 = some (.aload_n 0, 1) by decide +kernel) rfl
set_option maxRecDepth 100000 in
theorem r_228_136 : ∀ (d : Nat) (ls : Lc) (a : Nat) (st : List Value) (M : Mem) (Q : Outcome → Mem → Prop), Wp d 228 136 ls (.ref a :: st) M Q = (fk 50 (kO M a) = true ∧ Wp d 228 139 ls (.int (mF M 50 a) :: st) M Q) := fun d ls a st M Q => w_getI (show ins 228 136 = some (.getfield 223, 3) by decide +kernel) (show fRes (mC 228) 223 = some (50, 8, false) by decide +kernel) (by decide +kernel)
set_option maxRecDepth 100000 in
theorem r_228_139 : ∀ (d : Nat) (ls : Lc) (v : Int32) (M : Mem) (Q : Outcome → Mem → Prop), Wp d 228 139 ls [.int v] M Q = Q (.returned (some (.int v))) M := fun d ls v M Q => w_ireturn (show ins 228 139 = some (.ireturn, 1) by decide +kernel) (by decide +kernel)
set_option maxRecDepth 100000 in
theorem r_228_140 : ∀ (d : Nat) (l1 : Option Value) (v : Nat) (st : List Value) (M : Mem) (Q : Outcome → Mem → Prop), Wp d 228 140 [some (.ref v), l1] st M Q = Wp d 228 141 [some (.ref v), l1] (.ref v :: st) M Q := fun d l1 v st M Q => wA (show ins 228 140 = some (.aload_n 0, 1) by decide +kernel) rfl
set_option maxRecDepth 100000 in
theorem r_228_141 : ∀ (d : Nat) (ls : Lc) (a : Nat) (st : List Value) (M : Mem) (Q : Outcome → Mem → Prop), Wp d 228 141 ls (.ref a :: st) M Q = (fk 55 (kO M a) = true ∧ Wp d 228 144 ls (.int (mF M 55 a) :: st) M Q) := fun d ls a st M Q => w_getI (show ins 228 141 = some (.getfield 220, 3) by decide +kernel) (show fRes (mC 228) 220 = some (55, 8, false) by decide +kernel) (by decide +kernel)
set_option maxRecDepth 100000 in
theorem r_228_144 : ∀ (d : Nat) (ls : Lc) (v : Int32) (M : Mem) (Q : Outcome → Mem → Prop), Wp d 228 144 ls [.int v] M Q = Q (.returned (some (.int v))) M := fun d ls v M Q => w_ireturn (show ins 228 144 = some (.ireturn, 1) by decide +kernel) (by decide +kernel)
set_option maxRecDepth 100000 in
theorem r_228_145 : ∀ (d : Nat) (l1 : Option Value) (v : Nat) (st : List Value) (M : Mem) (Q : Outcome → Mem → Prop), Wp d 228 145 [some (.ref v), l1] st M Q = Wp d 228 146 [some (.ref v), l1] (.ref v :: st) M Q := fun d l1 v st M Q => wA (show ins 228 145 = some (.aload_n 0, 1) by decide +kernel) rfl
set_option maxRecDepth 100000 in
theorem r_228_146 : ∀ (d : Nat) (ls : Lc) (a : Nat) (st : List Value) (M : Mem) (Q : Outcome → Mem → Prop), Wp d 228 146 ls (.ref a :: st) M Q = (fk 44 (kO M a) = true ∧ Wp d 228 149 ls (.int (mF M 44 a) :: st) M Q) := fun d ls a st M Q => w_getI (show ins 228 146 = some (.getfield 236, 3) by decide +kernel) (show fRes (mC 228) 236 = some (44, 8, false) by decide +kernel) (by decide +kernel)
set_option maxRecDepth 100000 in
theorem r_228_149 : ∀ (d : Nat) (ls : Lc) (v : Int32) (M : Mem) (Q : Outcome → Mem → Prop), Wp d 228 149 ls [.int v] M Q = Q (.returned (some (.int v))) M := fun d ls v M Q => w_ireturn (show ins 228 149 = some (.ireturn, 1) by decide +kernel) (by decide +kernel)
set_option maxRecDepth 100000 in
theorem W_228 : (type_of% r_228_0) ∧ (type_of% r_228_1) ∧ (type_of% r_228_2) ∧ (type_of% r_228_5) ∧ (type_of% r_228_8) ∧ (type_of% r_228_9) ∧ (type_of% r_228_12) ∧ (type_of% r_228_13) ∧ (type_of% r_228_14) ∧ (type_of% r_228_16) ∧ (type_of% r_228_19) ∧ (type_of% r_228_22) ∧ (type_of% r_228_23) ∧ (type_of% r_228_26) ∧ (type_of% r_228_27) ∧ (type_of% r_228_30) ∧ (type_of% r_228_31) ∧ (type_of% r_228_34) ∧ (type_of% r_228_37) ∧ (type_of% r_228_38) ∧ (type_of% r_228_39) ∧ (type_of% r_228_40) ∧ (type_of% r_228_40_1) ∧ (type_of% r_228_40_2) ∧ (type_of% r_228_40_3) ∧ (type_of% r_228_40_4) ∧ (type_of% r_228_40_5) ∧ (type_of% r_228_40_6) ∧ (type_of% r_228_40_7) ∧ (type_of% r_228_40_8) ∧ (type_of% r_228_40_9) ∧ (type_of% r_228_92) ∧ (type_of% r_228_93) ∧ (type_of% r_228_96) ∧ (type_of% r_228_97) ∧ (type_of% r_228_98) ∧ (type_of% r_228_101) ∧ (type_of% r_228_104) ∧ (type_of% r_228_105) ∧ (type_of% r_228_106) ∧ (type_of% r_228_107) ∧ (type_of% r_228_110) ∧ (type_of% r_228_113) ∧ (type_of% r_228_114) ∧ (type_of% r_228_115) ∧ (type_of% r_228_116) ∧ (type_of% r_228_119) ∧ (type_of% r_228_120) ∧ (type_of% r_228_121) ∧ (type_of% r_228_124) ∧ (type_of% r_228_125) ∧ (type_of% r_228_126) ∧ (type_of% r_228_129) ∧ (type_of% r_228_130) ∧ (type_of% r_228_131) ∧ (type_of% r_228_134) ∧ (type_of% r_228_135) ∧ (type_of% r_228_136) ∧ (type_of% r_228_139) ∧ (type_of% r_228_140) ∧ (type_of% r_228_141) ∧ (type_of% r_228_144) ∧ (type_of% r_228_145) ∧ (type_of% r_228_146) ∧ (type_of% r_228_149) := ⟨r_228_0, r_228_1, r_228_2, r_228_5, r_228_8, r_228_9, r_228_12, r_228_13, r_228_14, r_228_16, r_228_19, r_228_22, r_228_23, r_228_26, r_228_27, r_228_30, r_228_31, r_228_34, r_228_37, r_228_38, r_228_39, r_228_40, r_228_40_1, r_228_40_2, r_228_40_3, r_228_40_4, r_228_40_5, r_228_40_6, r_228_40_7, r_228_40_8, r_228_40_9, r_228_92, r_228_93, r_228_96, r_228_97, r_228_98, r_228_101, r_228_104, r_228_105, r_228_106, r_228_107, r_228_110, r_228_113, r_228_114, r_228_115, r_228_116, r_228_119, r_228_120, r_228_121, r_228_124, r_228_125, r_228_126, r_228_129, r_228_130, r_228_131, r_228_134, r_228_135, r_228_136, r_228_139, r_228_140, r_228_141, r_228_144, r_228_145, r_228_146, r_228_149⟩
set_option maxRecDepth 100000 in
theorem ca_228 {d y pc : Nat} {ls : Lc} {a : Nat} {z0 : Int32} {r : List Value} {M : Mem} {Q : Outcome → Mem → Prop} (hd : 0 < d) (hw : Wp (d - 1) 228 0 [some (.ref a), some (.int z0)] [] M (Cq d y pc ls r Q)) : Ca d y pc ls 228 [.ref a, .int z0] r M Q := ca_of (mq_get (by decide)) (by rfl) hd hw
/-! 229 PackedTreeModel.inUse()I; loop heads [4] -/
set_option maxRecDepth 100000 in
theorem r_229_0 : ∀ (d : Nat) (ls : Lc) (st : List Value) (M : Mem) (Q : Outcome → Mem → Prop), Wp d 229 0 ls st M Q = Wp d 229 1 ls (.int (I 0) :: st) M Q := fun d ls st M Q => w_iconst (show ins 229 0 = some (.iconst 0, 1) by decide +kernel)
set_option maxRecDepth 100000 in
theorem r_229_1 : ∀ (d : Nat) (l0 l1 l2 : Option Value) (v : Int32) (st : List Value) (M : Mem) (Q : Outcome → Mem → Prop), (lo l0 = false) → Wp d 229 1 [l0, l1, l2] (.int v :: st) M Q = Wp d 229 2 [l0, some (.int v), l2] st M Q := fun d l0 l1 l2 v st M Q hl => w_istore_n (show ins 229 1 = some (.istore_n 1, 1) by decide +kernel) (st1_S rfl rfl hl)
set_option maxRecDepth 100000 in
theorem r_229_2 : ∀ (d : Nat) (ls : Lc) (st : List Value) (M : Mem) (Q : Outcome → Mem → Prop), Wp d 229 2 ls st M Q = Wp d 229 3 ls (.int (I 0) :: st) M Q := fun d ls st M Q => w_iconst (show ins 229 2 = some (.iconst 0, 1) by decide +kernel)
set_option maxRecDepth 100000 in
theorem r_229_3 : ∀ (d : Nat) (l0 l1 l2 : Option Value) (v : Int32) (st : List Value) (M : Mem) (Q : Outcome → Mem → Prop), (lo l1 = false) → Wp d 229 3 [l0, l1, l2] (.int v :: st) M Q = Wp d 229 4 [l0, l1, some (.int v)] st M Q := fun d l0 l1 l2 v st M Q hl => w_istore_n (show ins 229 3 = some (.istore_n 2, 1) by decide +kernel) (st1_S rfl rfl hl)
set_option maxRecDepth 100000 in
theorem r_229_4 : ∀ (d : Nat) (l0 l1 : Option Value) (v : Int32) (st : List Value) (M : Mem) (Q : Outcome → Mem → Prop), Wp d 229 4 [l0, l1, some (.int v)] st M Q = Wp d 229 5 [l0, l1, some (.int v)] (.int v :: st) M Q := fun d l0 l1 v st M Q => wA (show ins 229 4 = some (.iload_n 2, 1) by decide +kernel) rfl
set_option maxRecDepth 100000 in
theorem r_229_5 : ∀ (d : Nat) (l1 l2 : Option Value) (v : Nat) (st : List Value) (M : Mem) (Q : Outcome → Mem → Prop), Wp d 229 5 [some (.ref v), l1, l2] st M Q = Wp d 229 6 [some (.ref v), l1, l2] (.ref v :: st) M Q := fun d l1 l2 v st M Q => wA (show ins 229 5 = some (.aload_n 0, 1) by decide +kernel) rfl
set_option maxRecDepth 100000 in
theorem r_229_6 : ∀ (d : Nat) (ls : Lc) (a : Nat) (st : List Value) (M : Mem) (Q : Outcome → Mem → Prop), Wp d 229 6 ls (.ref a :: st) M Q = (fk 43 (kO M a) = true ∧ Wp d 229 9 ls (.int (mF M 43 a) :: st) M Q) := fun d ls a st M Q => w_getI (show ins 229 6 = some (.getfield 30, 3) by decide +kernel) (show fRes (mC 229) 30 = some (43, 8, false) by decide +kernel) (by decide +kernel)
set_option maxRecDepth 100000 in
theorem r_229_9 : ∀ (d : Nat) (ls : Lc) (a b : Int32) (st : List Value) (M : Mem) (Q : Outcome → Mem → Prop), Wp d 229 9 ls (.int b :: .int a :: st) M Q = Br (b ≤ a) d 229 29 12 ls st M Q := fun d ls a b st M Q => w_icmp (show ins 229 9 = some (.if_icmp .ge 20, 3) by decide +kernel) rfl rfl
set_option maxRecDepth 100000 in
theorem r_229_12 : ∀ (d : Nat) (l0 l2 : Option Value) (v : Int32) (st : List Value) (M : Mem) (Q : Outcome → Mem → Prop), Wp d 229 12 [l0, some (.int v), l2] st M Q = Wp d 229 13 [l0, some (.int v), l2] (.int v :: st) M Q := fun d l0 l2 v st M Q => wA (show ins 229 12 = some (.iload_n 1, 1) by decide +kernel) rfl
set_option maxRecDepth 100000 in
theorem r_229_13 : ∀ (d : Nat) (l1 l2 : Option Value) (v : Nat) (st : List Value) (M : Mem) (Q : Outcome → Mem → Prop), Wp d 229 13 [some (.ref v), l1, l2] st M Q = Wp d 229 14 [some (.ref v), l1, l2] (.ref v :: st) M Q := fun d l1 l2 v st M Q => wA (show ins 229 13 = some (.aload_n 0, 1) by decide +kernel) rfl
set_option maxRecDepth 100000 in
theorem r_229_14 : ∀ (d : Nat) (ls : Lc) (a : Nat) (st : List Value) (M : Mem) (Q : Outcome → Mem → Prop), Wp d 229 14 ls (.ref a :: st) M Q = (fk 53 (kO M a) = true ∧ Wp d 229 17 ls (va_rf (mR M 53 a) :: st) M Q) := fun d ls a st M Q => w_getR (show ins 229 14 = some (.getfield 7, 3) by decide +kernel) (show fRes (mC 229) 7 = some (53, 8, false) by decide +kernel) (by decide +kernel)
set_option maxRecDepth 100000 in
theorem r_229_17 : ∀ (d : Nat) (ls : Lc) (st : List Value) (M : Mem) (Q : Outcome → Mem → Prop), Wp d 229 17 ls st M Q = Wp d 229 18 ls (.int (I 0) :: st) M Q := fun d ls st M Q => w_iconst (show ins 229 17 = some (.iconst 0, 1) by decide +kernel)
set_option maxRecDepth 100000 in
theorem r_229_18 : ∀ (d : Nat) (l0 l1 : Option Value) (v : Int32) (st : List Value) (M : Mem) (Q : Outcome → Mem → Prop), Wp d 229 18 [l0, l1, some (.int v)] st M Q = Wp d 229 19 [l0, l1, some (.int v)] (.int v :: st) M Q := fun d l0 l1 v st M Q => wA (show ins 229 18 = some (.iload_n 2, 1) by decide +kernel) rfl
set_option maxRecDepth 100000 in
theorem r_229_19 : ∀ (d : Nat) (ls : Lc) (a b : Int) (st : List Value) (M : Mem) (Q : Outcome → Mem → Prop), Wp d 229 19 ls (.int (I b) :: .int (I a) :: st) M Q = Wp d 229 20 ls (.int (I (a + b)) :: st) M Q := fun d ls a b st M Q => w_iadd (show ins 229 19 = some (.iadd, 1) by decide +kernel)
set_option maxRecDepth 100000 in
theorem r_229_20 : ∀ (d : Nat) (ls : Lc) (a : Nat) (j : Int32) (st : List Value) (M : Mem) (Q : Outcome → Mem → Prop), Wp d 229 20 ls (.int j :: .ref a :: st) M Q = ((((kX M a).1 = 0 ∨ (kX M a).1 = 8) ∧ inB j (kX M a).2 = true) ∧ Wp d 229 21 ls (.int (mA M a j.toNatClampNeg) :: st) M Q) := fun d ls a j st M Q => w_iaload (show ins 229 20 = some (.iaload, 1) by decide +kernel)
set_option maxRecDepth 100000 in
theorem r_229_21 : ∀ (d : Nat) (ls : Lc) (a b : Int) (st : List Value) (M : Mem) (Q : Outcome → Mem → Prop), Wp d 229 21 ls (.int (I b) :: .int (I a) :: st) M Q = Wp d 229 22 ls (.int (I (a + b)) :: st) M Q := fun d ls a b st M Q => w_iadd (show ins 229 21 = some (.iadd, 1) by decide +kernel)
set_option maxRecDepth 100000 in
theorem r_229_22 : ∀ (d : Nat) (l0 l1 l2 : Option Value) (v : Int32) (st : List Value) (M : Mem) (Q : Outcome → Mem → Prop), (lo l0 = false) → Wp d 229 22 [l0, l1, l2] (.int v :: st) M Q = Wp d 229 23 [l0, some (.int v), l2] st M Q := fun d l0 l1 l2 v st M Q hl => w_istore_n (show ins 229 22 = some (.istore_n 1, 1) by decide +kernel) (st1_S rfl rfl hl)
set_option maxRecDepth 100000 in
theorem r_229_23 : ∀ (d : Nat) (l0 l1 : Option Value) (z : Int) (st : List Value) (M : Mem) (Q : Outcome → Mem → Prop), (lo l1 = false) → Wp d 229 23 [l0, l1, some (.int (I z))] st M Q = Wp d 229 26 [l0, l1, some (.int (I (z + 1)))] st M Q := fun d l0 l1 z st M Q hl => w_iinc (show ins 229 23 = some (.iinc 2 1, 3) by decide +kernel) rfl (st1_S rfl rfl hl)
set_option maxRecDepth 100000 in
theorem r_229_26 : ∀ (d : Nat) (ls : Lc) (st : List Value) (M : Mem) (Q : Outcome → Mem → Prop), Wp d 229 26 ls st M Q = Wp d 229 4 ls st M Q := fun d ls st M Q => w_goto (show ins 229 26 = some (.goto (-22), 3) by decide +kernel) rfl
set_option maxRecDepth 100000 in
theorem r_229_29 : ∀ (d : Nat) (l0 l2 : Option Value) (v : Int32) (st : List Value) (M : Mem) (Q : Outcome → Mem → Prop), Wp d 229 29 [l0, some (.int v), l2] st M Q = Wp d 229 30 [l0, some (.int v), l2] (.int v :: st) M Q := fun d l0 l2 v st M Q => wA (show ins 229 29 = some (.iload_n 1, 1) by decide +kernel) rfl
set_option maxRecDepth 100000 in
theorem r_229_30 : ∀ (d : Nat) (ls : Lc) (v : Int32) (M : Mem) (Q : Outcome → Mem → Prop), Wp d 229 30 ls [.int v] M Q = Q (.returned (some (.int v))) M := fun d ls v M Q => w_ireturn (show ins 229 30 = some (.ireturn, 1) by decide +kernel) (by decide +kernel)
set_option maxRecDepth 100000 in
theorem w_229_4 : (type_of% r_229_4) := r_229_4
set_option maxRecDepth 100000 in
theorem W_229 : (type_of% r_229_0) ∧ (type_of% r_229_1) ∧ (type_of% r_229_2) ∧ (type_of% r_229_3) ∧ (type_of% r_229_5) ∧ (type_of% r_229_6) ∧ (type_of% r_229_9) ∧ (type_of% r_229_12) ∧ (type_of% r_229_13) ∧ (type_of% r_229_14) ∧ (type_of% r_229_17) ∧ (type_of% r_229_18) ∧ (type_of% r_229_19) ∧ (type_of% r_229_20) ∧ (type_of% r_229_21) ∧ (type_of% r_229_22) ∧ (type_of% r_229_23) ∧ (type_of% r_229_26) ∧ (type_of% r_229_29) ∧ (type_of% r_229_30) := ⟨r_229_0, r_229_1, r_229_2, r_229_3, r_229_5, r_229_6, r_229_9, r_229_12, r_229_13, r_229_14, r_229_17, r_229_18, r_229_19, r_229_20, r_229_21, r_229_22, r_229_23, r_229_26, r_229_29, r_229_30⟩
set_option maxRecDepth 100000 in
theorem ca_229 {d y pc : Nat} {ls : Lc} {a : Nat} {r : List Value} {M : Mem} {Q : Outcome → Mem → Prop} (hd : 0 < d) (hw : Wp (d - 1) 229 0 [some (.ref a), none, none] [] M (Cq d y pc ls r Q)) : Ca d y pc ls 229 [.ref a] r M Q := ca_of (mq_get (by decide)) (by rfl) hd hw
/-! 230 PackedTreeModel.usedOfAll()I; loop heads [4] -/
set_option maxRecDepth 100000 in
theorem r_230_0 : ∀ (d : Nat) (ls : Lc) (st : List Value) (M : Mem) (Q : Outcome → Mem → Prop), Wp d 230 0 ls st M Q = Wp d 230 1 ls (.int (I 0) :: st) M Q := fun d ls st M Q => w_iconst (show ins 230 0 = some (.iconst 0, 1) by decide +kernel)
set_option maxRecDepth 100000 in
theorem r_230_1 : ∀ (d : Nat) (l0 l1 l2 : Option Value) (v : Int32) (st : List Value) (M : Mem) (Q : Outcome → Mem → Prop), (lo l0 = false) → Wp d 230 1 [l0, l1, l2] (.int v :: st) M Q = Wp d 230 2 [l0, some (.int v), l2] st M Q := fun d l0 l1 l2 v st M Q hl => w_istore_n (show ins 230 1 = some (.istore_n 1, 1) by decide +kernel) (st1_S rfl rfl hl)
set_option maxRecDepth 100000 in
theorem r_230_2 : ∀ (d : Nat) (ls : Lc) (st : List Value) (M : Mem) (Q : Outcome → Mem → Prop), Wp d 230 2 ls st M Q = Wp d 230 3 ls (.int (I 0) :: st) M Q := fun d ls st M Q => w_iconst (show ins 230 2 = some (.iconst 0, 1) by decide +kernel)
set_option maxRecDepth 100000 in
theorem r_230_3 : ∀ (d : Nat) (l0 l1 l2 : Option Value) (v : Int32) (st : List Value) (M : Mem) (Q : Outcome → Mem → Prop), (lo l1 = false) → Wp d 230 3 [l0, l1, l2] (.int v :: st) M Q = Wp d 230 4 [l0, l1, some (.int v)] st M Q := fun d l0 l1 l2 v st M Q hl => w_istore_n (show ins 230 3 = some (.istore_n 2, 1) by decide +kernel) (st1_S rfl rfl hl)
set_option maxRecDepth 100000 in
theorem r_230_4 : ∀ (d : Nat) (l0 l1 : Option Value) (v : Int32) (st : List Value) (M : Mem) (Q : Outcome → Mem → Prop), Wp d 230 4 [l0, l1, some (.int v)] st M Q = Wp d 230 5 [l0, l1, some (.int v)] (.int v :: st) M Q := fun d l0 l1 v st M Q => wA (show ins 230 4 = some (.iload_n 2, 1) by decide +kernel) rfl
set_option maxRecDepth 100000 in
theorem r_230_5 : ∀ (d : Nat) (l1 l2 : Option Value) (v : Nat) (st : List Value) (M : Mem) (Q : Outcome → Mem → Prop), Wp d 230 5 [some (.ref v), l1, l2] st M Q = Wp d 230 6 [some (.ref v), l1, l2] (.ref v :: st) M Q := fun d l1 l2 v st M Q => wA (show ins 230 5 = some (.aload_n 0, 1) by decide +kernel) rfl
set_option maxRecDepth 100000 in
theorem r_230_6 : ∀ (d : Nat) (ls : Lc) (a : Nat) (st : List Value) (M : Mem) (Q : Outcome → Mem → Prop), Wp d 230 6 ls (.ref a :: st) M Q = (fk 53 (kO M a) = true ∧ Wp d 230 9 ls (va_rf (mR M 53 a) :: st) M Q) := fun d ls a st M Q => w_getR (show ins 230 6 = some (.getfield 7, 3) by decide +kernel) (show fRes (mC 230) 7 = some (53, 8, false) by decide +kernel) (by decide +kernel)
set_option maxRecDepth 100000 in
theorem r_230_9 : ∀ (d : Nat) (ls : Lc) (st : List Value) (M : Mem) (Q : Outcome → Mem → Prop), Wp d 230 9 ls st M Q = Wp d 230 12 ls (.int (I 13068) :: st) M Q := fun d ls st M Q => w_sipush (show ins 230 9 = some (.sipush 13068, 3) by decide +kernel) (by decide)
set_option maxRecDepth 100000 in
theorem r_230_12 : ∀ (d : Nat) (ls : Lc) (a : Nat) (j : Int32) (st : List Value) (M : Mem) (Q : Outcome → Mem → Prop), Wp d 230 12 ls (.int j :: .ref a :: st) M Q = ((((kX M a).1 = 0 ∨ (kX M a).1 = 8) ∧ inB j (kX M a).2 = true) ∧ Wp d 230 13 ls (.int (mA M a j.toNatClampNeg) :: st) M Q) := fun d ls a j st M Q => w_iaload (show ins 230 12 = some (.iaload, 1) by decide +kernel)
set_option maxRecDepth 100000 in
theorem r_230_13 : ∀ (d : Nat) (ls : Lc) (a b : Int32) (st : List Value) (M : Mem) (Q : Outcome → Mem → Prop), Wp d 230 13 ls (.int b :: .int a :: st) M Q = Br (b ≤ a) d 230 39 16 ls st M Q := fun d ls a b st M Q => w_icmp (show ins 230 13 = some (.if_icmp .ge 26, 3) by decide +kernel) rfl rfl
set_option maxRecDepth 100000 in
theorem r_230_16 : ∀ (d : Nat) (l0 l2 : Option Value) (v : Int32) (st : List Value) (M : Mem) (Q : Outcome → Mem → Prop), Wp d 230 16 [l0, some (.int v), l2] st M Q = Wp d 230 17 [l0, some (.int v), l2] (.int v :: st) M Q := fun d l0 l2 v st M Q => wA (show ins 230 16 = some (.iload_n 1, 1) by decide +kernel) rfl
set_option maxRecDepth 100000 in
theorem r_230_17 : ∀ (d : Nat) (l1 l2 : Option Value) (v : Nat) (st : List Value) (M : Mem) (Q : Outcome → Mem → Prop), Wp d 230 17 [some (.ref v), l1, l2] st M Q = Wp d 230 18 [some (.ref v), l1, l2] (.ref v :: st) M Q := fun d l1 l2 v st M Q => wA (show ins 230 17 = some (.aload_n 0, 1) by decide +kernel) rfl
set_option maxRecDepth 100000 in
theorem r_230_18 : ∀ (d : Nat) (l1 l2 : Option Value) (v : Nat) (st : List Value) (M : Mem) (Q : Outcome → Mem → Prop), Wp d 230 18 [some (.ref v), l1, l2] st M Q = Wp d 230 19 [some (.ref v), l1, l2] (.ref v :: st) M Q := fun d l1 l2 v st M Q => wA (show ins 230 18 = some (.aload_n 0, 1) by decide +kernel) rfl
set_option maxRecDepth 100000 in
theorem r_230_19 : ∀ (d : Nat) (ls : Lc) (a : Nat) (st : List Value) (M : Mem) (Q : Outcome → Mem → Prop), Wp d 230 19 ls (.ref a :: st) M Q = (fk 53 (kO M a) = true ∧ Wp d 230 22 ls (va_rf (mR M 53 a) :: st) M Q) := fun d ls a st M Q => w_getR (show ins 230 19 = some (.getfield 7, 3) by decide +kernel) (show fRes (mC 230) 7 = some (53, 8, false) by decide +kernel) (by decide +kernel)
set_option maxRecDepth 100000 in
theorem r_230_22 : ∀ (d : Nat) (ls : Lc) (st : List Value) (M : Mem) (Q : Outcome → Mem → Prop), Wp d 230 22 ls st M Q = Wp d 230 25 ls (.int (I 12300) :: st) M Q := fun d ls st M Q => w_sipush (show ins 230 22 = some (.sipush 12300, 3) by decide +kernel) (by decide)
set_option maxRecDepth 100000 in
theorem r_230_25 : ∀ (d : Nat) (l0 l1 : Option Value) (v : Int32) (st : List Value) (M : Mem) (Q : Outcome → Mem → Prop), Wp d 230 25 [l0, l1, some (.int v)] st M Q = Wp d 230 26 [l0, l1, some (.int v)] (.int v :: st) M Q := fun d l0 l1 v st M Q => wA (show ins 230 25 = some (.iload_n 2, 1) by decide +kernel) rfl
set_option maxRecDepth 100000 in
theorem r_230_26 : ∀ (d : Nat) (ls : Lc) (a b : Int) (st : List Value) (M : Mem) (Q : Outcome → Mem → Prop), Wp d 230 26 ls (.int (I b) :: .int (I a) :: st) M Q = Wp d 230 27 ls (.int (I (a + b)) :: st) M Q := fun d ls a b st M Q => w_iadd (show ins 230 26 = some (.iadd, 1) by decide +kernel)
set_option maxRecDepth 100000 in
theorem r_230_27 : ∀ (d : Nat) (ls : Lc) (a : Nat) (j : Int32) (st : List Value) (M : Mem) (Q : Outcome → Mem → Prop), Wp d 230 27 ls (.int j :: .ref a :: st) M Q = ((((kX M a).1 = 0 ∨ (kX M a).1 = 8) ∧ inB j (kX M a).2 = true) ∧ Wp d 230 28 ls (.int (mA M a j.toNatClampNeg) :: st) M Q) := fun d ls a j st M Q => w_iaload (show ins 230 27 = some (.iaload, 1) by decide +kernel)
set_option maxRecDepth 100000 in
theorem r_230_28 : ∀ (d : Nat) (ls : Lc) (v0 : Value) (a : Nat) (st : List Value) (M : Mem) (Q : Outcome → Mem → Prop), (smallR st = true) → Wp d 230 28 ls (v0 :: .ref a :: st) M Q = (kO M a = 8 ∧ Ca d 230 28 ls 173 (.ref a :: [v0]) st M Q) := fun d ls v0 a st M Q h0 => w_virt1 (as := [v0]) (show ins 230 28 = some (.invokevirtual 97, 3) by decide +kernel) (show mRes (mC 230) 97 = some (3, 8, [(8, 173)]) by decide +kernel) (by decide +kernel) rfl (by decide +kernel) (by decide +kernel) h0
set_option maxRecDepth 100000 in
theorem r_230_31 : ∀ (d : Nat) (ls : Lc) (a b : Int) (st : List Value) (M : Mem) (Q : Outcome → Mem → Prop), Wp d 230 31 ls (.int (I b) :: .int (I a) :: st) M Q = Wp d 230 32 ls (.int (I (a + b)) :: st) M Q := fun d ls a b st M Q => w_iadd (show ins 230 31 = some (.iadd, 1) by decide +kernel)
set_option maxRecDepth 100000 in
theorem r_230_32 : ∀ (d : Nat) (l0 l1 l2 : Option Value) (v : Int32) (st : List Value) (M : Mem) (Q : Outcome → Mem → Prop), (lo l0 = false) → Wp d 230 32 [l0, l1, l2] (.int v :: st) M Q = Wp d 230 33 [l0, some (.int v), l2] st M Q := fun d l0 l1 l2 v st M Q hl => w_istore_n (show ins 230 32 = some (.istore_n 1, 1) by decide +kernel) (st1_S rfl rfl hl)
set_option maxRecDepth 100000 in
theorem r_230_33 : ∀ (d : Nat) (l0 l1 : Option Value) (z : Int) (st : List Value) (M : Mem) (Q : Outcome → Mem → Prop), (lo l1 = false) → Wp d 230 33 [l0, l1, some (.int (I z))] st M Q = Wp d 230 36 [l0, l1, some (.int (I (z + 1)))] st M Q := fun d l0 l1 z st M Q hl => w_iinc (show ins 230 33 = some (.iinc 2 1, 3) by decide +kernel) rfl (st1_S rfl rfl hl)
set_option maxRecDepth 100000 in
theorem r_230_36 : ∀ (d : Nat) (ls : Lc) (st : List Value) (M : Mem) (Q : Outcome → Mem → Prop), Wp d 230 36 ls st M Q = Wp d 230 4 ls st M Q := fun d ls st M Q => w_goto (show ins 230 36 = some (.goto (-32), 3) by decide +kernel) rfl
set_option maxRecDepth 100000 in
theorem r_230_39 : ∀ (d : Nat) (l0 l2 : Option Value) (v : Int32) (st : List Value) (M : Mem) (Q : Outcome → Mem → Prop), Wp d 230 39 [l0, some (.int v), l2] st M Q = Wp d 230 40 [l0, some (.int v), l2] (.int v :: st) M Q := fun d l0 l2 v st M Q => wA (show ins 230 39 = some (.iload_n 1, 1) by decide +kernel) rfl
set_option maxRecDepth 100000 in
theorem r_230_40 : ∀ (d : Nat) (ls : Lc) (v : Int32) (M : Mem) (Q : Outcome → Mem → Prop), Wp d 230 40 ls [.int v] M Q = Q (.returned (some (.int v))) M := fun d ls v M Q => w_ireturn (show ins 230 40 = some (.ireturn, 1) by decide +kernel) (by decide +kernel)
set_option maxRecDepth 100000 in
theorem w_230_4 : (type_of% r_230_4) := r_230_4
set_option maxRecDepth 100000 in
theorem W_230 : (type_of% r_230_0) ∧ (type_of% r_230_1) ∧ (type_of% r_230_2) ∧ (type_of% r_230_3) ∧ (type_of% r_230_5) ∧ (type_of% r_230_6) ∧ (type_of% r_230_9) ∧ (type_of% r_230_12) ∧ (type_of% r_230_13) ∧ (type_of% r_230_16) ∧ (type_of% r_230_17) ∧ (type_of% r_230_18) ∧ (type_of% r_230_19) ∧ (type_of% r_230_22) ∧ (type_of% r_230_25) ∧ (type_of% r_230_26) ∧ (type_of% r_230_27) ∧ (type_of% r_230_28) ∧ (type_of% r_230_31) ∧ (type_of% r_230_32) ∧ (type_of% r_230_33) ∧ (type_of% r_230_36) ∧ (type_of% r_230_39) ∧ (type_of% r_230_40) := ⟨r_230_0, r_230_1, r_230_2, r_230_3, r_230_5, r_230_6, r_230_9, r_230_12, r_230_13, r_230_16, r_230_17, r_230_18, r_230_19, r_230_22, r_230_25, r_230_26, r_230_27, r_230_28, r_230_31, r_230_32, r_230_33, r_230_36, r_230_39, r_230_40⟩
set_option maxRecDepth 100000 in
theorem ca_230 {d y pc : Nat} {ls : Lc} {a : Nat} {r : List Value} {M : Mem} {Q : Outcome → Mem → Prop} (hd : 0 < d) (hw : Wp (d - 1) 230 0 [some (.ref a), none, none] [] M (Cq d y pc ls r Q)) : Ca d y pc ls 230 [.ref a] r M Q := ca_of (mq_get (by decide)) (by rfl) hd hw
